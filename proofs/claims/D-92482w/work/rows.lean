section
set_option maxRecDepth 100000
/-! the abstract heap: kinds of cells, ints, references, longs, the next address -/
abbrev Kd : Type := Nat ⊕ (Nat × Nat)
abbrev Hp : Type := (Nat → Option Kd) × (Nat → Nat → Int32) × (Nat → Nat → Option Nat) × (Nat → Nat → Int64) × Nat
def hT (σ : Hp) (a : Nat) : Option Kd := σ.1 a
def hI (σ : Hp) (a k : Nat) : Int32 := σ.2.1 a k
def hR (σ : Hp) (a k : Nat) : Option Nat := σ.2.2.1 a k
def hL (σ : Hp) (a k : Nat) : Int64 := σ.2.2.2.1 a k
def hZ (σ : Hp) : Nat := σ.2.2.2.2
def u2 {α : Type} (f : Nat → Nat → α) (a k : Nat) (v : α) : Nat → Nat → α := fun b j => if b = a ∧ j = k then v else f b j
def setI (σ : Hp) (a k : Nat) (v : Int32) : Hp := (σ.1, u2 σ.2.1 a k v, σ.2.2)
def setR (σ : Hp) (a k : Nat) (v : Option Nat) : Hp := (σ.1, σ.2.1, u2 σ.2.2.1 a k v, σ.2.2.2)
def setL (σ : Hp) (a k : Nat) (v : Int64) : Hp := (σ.1, σ.2.1, σ.2.2.1, u2 σ.2.2.2.1 a k v, σ.2.2.2.2)
def born (σ : Hp) (kd : Kd) : Hp := (fun b => if b = hZ σ then some kd else hT σ b, fun b j => if b = hZ σ then 0 else hI σ b j, fun b j => if b = hZ σ then none else hR σ b j, fun b j => if b = hZ σ then 0 else hL σ b j, hZ σ + 1)
theorem hT_setI (σ : Hp) (a k : Nat) (v : Int32) (b : Nat) : hT (setI σ a k v) b = hT σ b := rfl
theorem hT_setR (σ : Hp) (a k : Nat) (v : Option Nat) (b : Nat) : hT (setR σ a k v) b = hT σ b := rfl
theorem hT_setL (σ : Hp) (a k : Nat) (v : Int64) (b : Nat) : hT (setL σ a k v) b = hT σ b := rfl
theorem hI_setI (σ : Hp) (a k : Nat) (v : Int32) (b j : Nat) : hI (setI σ a k v) b j = if b = a ∧ j = k then v else hI σ b j := rfl
theorem hI_setR (σ : Hp) (a k : Nat) (v : Option Nat) (b j : Nat) : hI (setR σ a k v) b j = hI σ b j := rfl
theorem hI_setL (σ : Hp) (a k : Nat) (v : Int64) (b j : Nat) : hI (setL σ a k v) b j = hI σ b j := rfl
theorem hR_setI (σ : Hp) (a k : Nat) (v : Int32) (b j : Nat) : hR (setI σ a k v) b j = hR σ b j := rfl
theorem hR_setR (σ : Hp) (a k : Nat) (v : Option Nat) (b j : Nat) : hR (setR σ a k v) b j = if b = a ∧ j = k then v else hR σ b j := rfl
theorem hR_setL (σ : Hp) (a k : Nat) (v : Int64) (b j : Nat) : hR (setL σ a k v) b j = hR σ b j := rfl
theorem hL_setI (σ : Hp) (a k : Nat) (v : Int32) (b j : Nat) : hL (setI σ a k v) b j = hL σ b j := rfl
theorem hL_setR (σ : Hp) (a k : Nat) (v : Option Nat) (b j : Nat) : hL (setR σ a k v) b j = hL σ b j := rfl
theorem hL_setL (σ : Hp) (a k : Nat) (v : Int64) (b j : Nat) : hL (setL σ a k v) b j = if b = a ∧ j = k then v else hL σ b j := rfl
theorem hZ_setI (σ : Hp) (a k : Nat) (v : Int32) : hZ (setI σ a k v) = hZ σ := rfl
theorem hZ_setR (σ : Hp) (a k : Nat) (v : Option Nat) : hZ (setR σ a k v) = hZ σ := rfl
theorem hZ_setL (σ : Hp) (a k : Nat) (v : Int64) : hZ (setL σ a k v) = hZ σ := rfl
theorem hT_born (σ : Hp) (kd : Kd) (b : Nat) : hT (born σ kd) b = if b = hZ σ then some kd else hT σ b := rfl
theorem hI_born (σ : Hp) (kd : Kd) (b j : Nat) : hI (born σ kd) b j = if b = hZ σ then 0 else hI σ b j := rfl
theorem hR_born (σ : Hp) (kd : Kd) (b j : Nat) : hR (born σ kd) b j = if b = hZ σ then none else hR σ b j := rfl
theorem hL_born (σ : Hp) (kd : Kd) (b j : Nat) : hL (born σ kd) b j = if b = hZ σ then 0 else hL σ b j := rfl
theorem hZ_born (σ : Hp) (kd : Kd) : hZ (born σ kd) = hZ σ + 1 := rfl
/-- the empty abstract heap over an old heap of n cells -/
def hp0 (n : Nat) : Hp := (fun _ => none, fun _ _ => 0, fun _ _ => none, fun _ _ => 0, n)
/-! steps that may fail -/
def b1 {α ρ : Type} (x : Option α) (k : α → Option ρ) : Option ρ := match x with
  | none => none
  | some a => k a
def b2 {α β ρ : Type} (x : Option (α × β)) (k : α → β → Option ρ) : Option ρ := match x with
  | none => none
  | some a => k a.1 a.2
theorem b1_some {α ρ : Type} (a : α) (k : α → Option ρ) : b1 (some a) k = k a := rfl
theorem b1_none {α ρ : Type} (k : α → Option ρ) : b1 none k = none := rfl
theorem b2_some {α β ρ : Type} (a : α) (b : β) (k : α → β → Option ρ) : b2 (some (a, b)) k = k a b := rfl
theorem b2_none {α β ρ : Type} (k : α → β → Option ρ) : b2 none k = none := rfl
theorem b1_inv {α ρ : Type} {x : Option α} {k : α → Option ρ} {r : ρ} (h : b1 x k = some r) : ∃ a, x = some a ∧ k a = some r := by
  cases x with
  | none => cases h
  | some a => exact ⟨a, rfl, h⟩
theorem b2_inv {α β ρ : Type} {x : Option (α × β)} {k : α → β → Option ρ} {r : ρ} (h : b2 x k = some r) : ∃ a b, x = some (a, b) ∧ k a b = some r := by
  cases x with
  | none => cases h
  | some a => exact ⟨a.1, a.2, rfl, h⟩
def gd {ρ : Type} (ci a : Nat) (σ : Hp) (x : Option ρ) : Option ρ := if hT σ a = some (.inl ci) then x else none
theorem gd_inv {ρ : Type} {ci a : Nat} {σ : Hp} {x : Option ρ} {r : ρ} (h : gd ci a σ x = some r) : hT σ a = some (.inl ci) ∧ x = some r := by
  unfold gd at h
  split at h
  · exact ⟨by assumption, h⟩
  · cases h
def gI (ci k a : Nat) (σ : Hp) : Option Int32 := if hT σ a = some (.inl ci) then some (hI σ a k) else none
def gL (ci k a : Nat) (σ : Hp) : Option Int64 := if hT σ a = some (.inl ci) then some (hL σ a k) else none
def gR (ci k a : Nat) (σ : Hp) : Option Nat := if hT σ a = some (.inl ci) then hR σ a k else none
def pI (ci k a : Nat) (v : Int32) (σ : Hp) : Option Hp := if hT σ a = some (.inl ci) then some (setI σ a k v) else none
def pL (ci k a : Nat) (v : Int64) (σ : Hp) : Option Hp := if hT σ a = some (.inl ci) then some (setL σ a k v) else none
def pR (ci k a : Nat) (v : Nat) (σ : Hp) : Option Hp := if hT σ a = some (.inl ci) then some (setR σ a k (some v)) else none
def aN (t a : Nat) (σ : Hp) : Option Nat := match hT σ a with
  | some (.inr x) => if x.1 = t then some x.2 else none
  | _ => none
def aL (t a : Nat) (σ : Hp) : Option Int32 := b1 (aN t a σ) fun n => some (Int32.ofNat n)
def aI (t a : Nat) (j : Int32) (σ : Hp) : Option Int32 := b1 (aN t a σ) fun n => if j < 0 ∨ n ≤ j.toNatClampNeg then none else some (hI σ a j.toNatClampNeg)
def aR (t a : Nat) (j : Int32) (σ : Hp) : Option Nat := b1 (aN t a σ) fun n => if j < 0 ∨ n ≤ j.toNatClampNeg then none else hR σ a j.toNatClampNeg
def sI (t a : Nat) (j v : Int32) (σ : Hp) : Option Hp := b1 (aN t a σ) fun n => if j < 0 ∨ n ≤ j.toNatClampNeg then none else some (setI σ a j.toNatClampNeg v)
def sR (t a : Nat) (j : Int32) (v : Nat) (σ : Hp) : Option Hp := b1 (aN t a σ) fun n => if j < 0 ∨ n ≤ j.toNatClampNeg then none else some (setR σ a j.toNatClampNeg (some v))
def dz {ρ : Type} (y : Int32) (k : Option ρ) : Option ρ := if y = 0 then none else k
/-- a boolean answer -/
def zr {ρ : Type} (y : Int32) (k : Option ρ) : Option ρ := if y = 0 ∨ y = 1 then k else none
theorem zr_inv {ρ : Type} {y : Int32} {k : Option ρ} {r : ρ} (h : zr y k = some r) : (y = 0 ∨ y = 1) ∧ k = some r := by
  unfold zr at h
  split at h
  · exact ⟨by assumption, h⟩
  · cases h
theorem aN_inv {t a n : Nat} {σ : Hp} (h : aN t a σ = some n) : hT σ a = some (.inr (t, n)) := by
  unfold aN at h
  split at h
  · rename_i x hx
    split at h
    · rename_i e
      cases h
      rw [hx, ← e]
    · cases h
  · cases h
theorem aN_of {t a n : Nat} {σ : Hp} (h : hT σ a = some (.inr (t, n))) : aN t a σ = some n := by
  unfold aN
  rw [h]
  simp
theorem aL_inv {t a : Nat} {v : Int32} {σ : Hp} (h : aL t a σ = some v) : ∃ n, hT σ a = some (.inr (t, n)) ∧ v = Int32.ofNat n := by
  obtain ⟨n, h1, h2⟩ := b1_inv h
  cases h2
  exact ⟨n, aN_inv h1, rfl⟩
theorem aI_inv {t a : Nat} {j v : Int32} {σ : Hp} (h : aI t a j σ = some v) : ∃ n, hT σ a = some (.inr (t, n)) ∧ vp_in j n ∧ v = hI σ a j.toNatClampNeg := by
  obtain ⟨n, h1, h2⟩ := b1_inv h
  split at h2
  · cases h2
  · rename_i q
    cases h2
    exact ⟨n, aN_inv h1, q, rfl⟩
theorem aR_inv {t a v : Nat} {j : Int32} {σ : Hp} (h : aR t a j σ = some v) : ∃ n, hT σ a = some (.inr (t, n)) ∧ vp_in j n ∧ hR σ a j.toNatClampNeg = some v := by
  obtain ⟨n, h1, h2⟩ := b1_inv h
  split at h2
  · cases h2
  · rename_i q
    exact ⟨n, aN_inv h1, q, h2⟩
theorem sI_inv {t a : Nat} {j v : Int32} {σ σ1 : Hp} (h : sI t a j v σ = some σ1) : ∃ n, hT σ a = some (.inr (t, n)) ∧ vp_in j n ∧ σ1 = setI σ a j.toNatClampNeg v := by
  obtain ⟨n, h1, h2⟩ := b1_inv h
  split at h2
  · cases h2
  · rename_i q
    cases h2
    exact ⟨n, aN_inv h1, q, rfl⟩
theorem sR_inv {t a v : Nat} {j : Int32} {σ σ1 : Hp} (h : sR t a j v σ = some σ1) : ∃ n, hT σ a = some (.inr (t, n)) ∧ vp_in j n ∧ σ1 = setR σ a j.toNatClampNeg (some v) := by
  obtain ⟨n, h1, h2⟩ := b1_inv h
  split at h2
  · cases h2
  · rename_i q
    cases h2
    exact ⟨n, aN_inv h1, q, rfl⟩
theorem gI_inv {ci k a : Nat} {v : Int32} {σ : Hp} (h : gI ci k a σ = some v) : hT σ a = some (.inl ci) ∧ v = hI σ a k := by
  unfold gI at h
  split at h
  · cases h
    exact ⟨by assumption, rfl⟩
  · cases h
theorem gL_inv {ci k a : Nat} {v : Int64} {σ : Hp} (h : gL ci k a σ = some v) : hT σ a = some (.inl ci) ∧ v = hL σ a k := by
  unfold gL at h
  split at h
  · cases h
    exact ⟨by assumption, rfl⟩
  · cases h
theorem gR_inv {ci k a v : Nat} {σ : Hp} (h : gR ci k a σ = some v) : hT σ a = some (.inl ci) ∧ hR σ a k = some v := by
  unfold gR at h
  split at h
  · exact ⟨by assumption, h⟩
  · cases h
theorem pI_inv {ci k a : Nat} {v : Int32} {σ σ1 : Hp} (h : pI ci k a v σ = some σ1) : hT σ a = some (.inl ci) ∧ σ1 = setI σ a k v := by
  unfold pI at h
  split at h
  · cases h
    exact ⟨by assumption, rfl⟩
  · cases h
theorem pL_inv {ci k a : Nat} {v : Int64} {σ σ1 : Hp} (h : pL ci k a v σ = some σ1) : hT σ a = some (.inl ci) ∧ σ1 = setL σ a k v := by
  unfold pL at h
  split at h
  · cases h
    exact ⟨by assumption, rfl⟩
  · cases h
theorem pR_inv {ci k a v : Nat} {σ σ1 : Hp} (h : pR ci k a v σ = some σ1) : hT σ a = some (.inl ci) ∧ σ1 = setR σ a k (some v) := by
  unfold pR at h
  split at h
  · cases h
    exact ⟨by assumption, rfl⟩
  · cases h
/-- a char answer -/
def cr {ρ : Type} (y : Int32) (k : Option ρ) : Option ρ := if (y.toUInt32 % 65536).toInt32 = y then k else none
theorem cr_inv {ρ : Type} {y : Int32} {k : Option ρ} {r : ρ} (h : cr y k = some r) : (y.toUInt32 % 65536).toInt32 = y ∧ k = some r := by
  unfold cr at h
  split at h
  · exact ⟨by assumption, h⟩
  · cases h
/-- a stretch of an int array copied -/
def cpH (a0 sp a dp n : Nat) (σ : Hp) : Hp := (σ.1, fun b j => if b = a ∧ dp ≤ j ∧ j < dp + n then hI σ a0 (sp + (j - dp)) else hI σ b j, σ.2.2)
theorem hI_cpH (a0 sp a dp n : Nat) (σ : Hp) (b j : Nat) : hI (cpH a0 sp a dp n σ) b j = if b = a ∧ dp ≤ j ∧ j < dp + n then hI σ a0 (sp + (j - dp)) else hI σ b j := rfl
theorem hT_cpH (a0 sp a dp n : Nat) (σ : Hp) (b : Nat) : hT (cpH a0 sp a dp n σ) b = hT σ b := rfl
theorem hR_cpH (a0 sp a dp n : Nat) (σ : Hp) (b j : Nat) : hR (cpH a0 sp a dp n σ) b j = hR σ b j := rfl
theorem hL_cpH (a0 sp a dp n : Nat) (σ : Hp) (b j : Nat) : hL (cpH a0 sp a dp n σ) b j = hL σ b j := rfl
theorem hZ_cpH (a0 sp a dp n : Nat) (σ : Hp) : hZ (cpH a0 sp a dp n σ) = hZ σ := rfl
def cpI (a0 : Nat) (sp : Int32) (a : Nat) (dp n : Int32) (σ : Hp) : Option Hp := b1 (aN 0 a0 σ) fun n0 => b1 (aN 0 a σ) fun n1 => if sp < 0 ∨ dp < 0 ∨ n < 0 ∨ n0 < sp.toNatClampNeg + n.toNatClampNeg ∨ n1 < dp.toNatClampNeg + n.toNatClampNeg then none else some (cpH a0 sp.toNatClampNeg a dp.toNatClampNeg n.toNatClampNeg σ)
theorem cpI_inv {a0 a : Nat} {sp dp n : Int32} {σ σ1 : Hp} (h : cpI a0 sp a dp n σ = some σ1) : ∃ n0 n1, hT σ a0 = some (.inr (0, n0)) ∧ hT σ a = some (.inr (0, n1)) ∧ ¬ sp < 0 ∧ ¬ dp < 0 ∧ ¬ n < 0 ∧ sp.toNatClampNeg + n.toNatClampNeg ≤ n0 ∧ dp.toNatClampNeg + n.toNatClampNeg ≤ n1 ∧ σ1 = cpH a0 sp.toNatClampNeg a dp.toNatClampNeg n.toNatClampNeg σ := by
  obtain ⟨n0, h1, h2⟩ := b1_inv h
  obtain ⟨n1, h3, h4⟩ := b1_inv h2
  split at h4
  · cases h4
  · rename_i q
    cases h4
    refine ⟨n0, n1, aN_inv h1, aN_inv h3, fun z => q (Or.inl z), fun z => q (Or.inr (Or.inl z)), fun z => q (Or.inr (Or.inr (Or.inl z))), ?_, ?_, rfl⟩
    · exact Nat.not_lt.mp fun z => q (Or.inr (Or.inr (Or.inr (Or.inl z))))
    · exact Nat.not_lt.mp fun z => q (Or.inr (Or.inr (Or.inr (Or.inr z))))
/-! String constants: their lengths and bytes -/
def slen : List Nat := [4, 5, 5, 4, 5, 1, 0]
def sbyt : List (List Int32) := [[114, 111, 111, 109], [97, 103, 97, 105, 110], [97, 112, 97, 114, 116], [119, 97, 108, 107], [101, 118, 101, 114, 121], [59], []]
def sK {ρ : Type} (i : Nat) (x : Option ρ) : Option ρ := if i < 7 then x else none
theorem sK_inv {ρ : Type} {r : ρ} {i : Nat} {x : Option ρ} (h : sK i x = some r) : i < 7 ∧ x = some r := by
  unfold sK at h
  split at h
  · exact ⟨by assumption, h⟩
  · cases h
def sLn {ρ : Type} (i : Nat) (K : Int32 → Option ρ) : Option ρ := sK i (K (Int32.ofNat (slen.getD i 0)))
def sB {ρ : Type} (i : Nat) (j : Int32) (K : Int32 → Option ρ) : Option ρ := if j < 0 ∨ slen.getD i 0 ≤ j.toNatClampNeg then none else sK i (K ((sbyt.getD i []).getD j.toNatClampNeg 0))
/-- a Line of one of its four kinds -/
def lk {ρ : Type} (v : Nat) (σ : Hp) (x : Option ρ) : Option ρ := if hT σ v = some (.inl 13) ∨ hT σ v = some (.inl 14) ∨ hT σ v = some (.inl 15) ∨ hT σ v = some (.inl 16) then x else none
theorem lk_inv {ρ : Type} {v : Nat} {σ : Hp} {x : Option ρ} {r : ρ} (h : lk v σ x = some r) : (hT σ v = some (.inl 13) ∨ hT σ v = some (.inl 14) ∨ hT σ v = some (.inl 15) ∨ hT σ v = some (.inl 16)) ∧ x = some r := by
  unfold lk at h
  split at h
  · exact ⟨by assumption, h⟩
  · cases h
/-- a callee's answer, or what it threw -/
def tx {α ρ : Type} (v : α ⊕ Nat) (k : α → Option ρ) (t : Nat → Option ρ) : Option ρ := match v with
  | .inl x => k x
  | .inr a => t a
theorem tx_l {α ρ : Type} {x : α} {k : α → Option ρ} {t : Nat → Option ρ} {r : ρ} (h : tx (.inl x) k t = some r) : k x = some r := h
theorem tx_r {α ρ : Type} {a : Nat} {k : α → Option ρ} {t : Nat → Option ρ} {r : ρ} (h : tx (.inr a) k t = some r) : t a = some r := h
/-- the law's script -/
def sX {ρ : Type} (L : Nat) (xs : Nat → Int32) (j : Int32) (K : Int32 → Option ρ) : Option ρ := if j < 0 ∨ L ≤ j.toNatClampNeg then none else K (xs j.toNatClampNeg)
/-- an array of arrays -/
def mkR (ti M Z : Nat) : Nat → Hp → Hp
  | 0, σ => σ
  | i + 1, σ => setR (born (mkR ti M Z i σ) (.inr (ti, M))) Z i (some (hZ (mkR ti M Z i σ)))
def mk2 (to ti N M : Nat) (σ : Hp) : Hp := mkR ti M (hZ σ) N (born σ (.inr (to, N)))
/-! loops: n turns at most -/
def it {α β : Type} (body : (α → Option β) → α → Option β) : Nat → α → Option β
  | 0 => fun _ => none
  | n + 1 => fun s => body (it body n) s
theorem it_0 {α β : Type} (body : (α → Option β) → α → Option β) (s : α) : it body 0 s = none := rfl
theorem it_s {α β : Type} (body : (α → Option β) → α → Option β) (n : Nat) (s : α) : it body (n + 1) s = body (it body n) s := rfl
theorem FU_ex : ∃ n : Nat, 2 ^ 60 ≤ n := ⟨_, Nat.le_refl _⟩
noncomputable def FU : Nat := Classical.choose FU_ex
theorem FU_ge : 2 ^ 60 ≤ FU := Classical.choose_spec FU_ex
end
section
set_option maxRecDepth 100000
/-! PalaceOfRoomsModel.<init> -/
noncomputable def B_X10_init_273 (x0 : Nat) (rec273 : Hp × Int32 → Option (Hp)) (σ : Hp) (x1 : Int32) : Option (Hp) := (if 8 ≤ x1 then some σ else b1 (gR 10 14 x0 σ) (fun v1 => b1 (sI 0 v1 x1 (-1) σ) (fun s1 => rec273 (s1, x1 + 1))))
noncomputable def L_X10_init_273 (x0 : Nat) : Nat → (Hp × Int32) → Option (Hp) := it (fun rec273 st => B_X10_init_273 x0 rec273 st.1 st.2)
theorem L_X10_init_273_0 (x0 : Nat) (st : Hp × Int32) : L_X10_init_273 x0 0 st = none := rfl
theorem L_X10_init_273_s (x0 : Nat) (n : Nat) (st : Hp × Int32) : L_X10_init_273 x0 (n + 1) st = B_X10_init_273 x0 (L_X10_init_273 x0 n) st.1 st.2 := rfl
noncomputable def B_X10_init_238 (x0 : Nat) (rec238 : Hp × Int32 → Option (Hp)) (σ : Hp) (x1 : Int32) : Option (Hp) := (if 48 ≤ x1 then L_X10_init_273 x0 FU (σ, 0) else b1 (gR 10 9 x0 σ) (fun v1 => b1 (sI 0 v1 x1 (-1) σ) (fun s1 => b1 (gR 10 11 x0 s1) (fun v2 => b1 (sI 0 v2 x1 (-1) s1) (fun s2 => b1 (gR 10 13 x0 s2) (fun v3 => b1 (sI 0 v3 x1 (-1) s2) (fun s3 => rec238 (s3, x1 + 1))))))))
noncomputable def L_X10_init_238 (x0 : Nat) : Nat → (Hp × Int32) → Option (Hp) := it (fun rec238 st => B_X10_init_238 x0 rec238 st.1 st.2)
theorem L_X10_init_238_0 (x0 : Nat) (st : Hp × Int32) : L_X10_init_238 x0 0 st = none := rfl
theorem L_X10_init_238_s (x0 : Nat) (n : Nat) (st : Hp × Int32) : L_X10_init_238 x0 (n + 1) st = B_X10_init_238 x0 (L_X10_init_238 x0 n) st.1 st.2 := rfl
noncomputable def B_X10_init_217 (x0 : Nat) (rec217 : Hp × Int32 → Option (Hp)) (σ : Hp) (x1 : Int32) : Option (Hp) := (if 11 ≤ x1 then L_X10_init_238 x0 FU (σ, 0) else b1 (gR 10 8 x0 σ) (fun v1 => b1 (sI 0 v1 x1 5 σ) (fun s1 => rec217 (s1, x1 + 1))))
noncomputable def L_X10_init_217 (x0 : Nat) : Nat → (Hp × Int32) → Option (Hp) := it (fun rec217 st => B_X10_init_217 x0 rec217 st.1 st.2)
theorem L_X10_init_217_0 (x0 : Nat) (st : Hp × Int32) : L_X10_init_217 x0 0 st = none := rfl
theorem L_X10_init_217_s (x0 : Nat) (n : Nat) (st : Hp × Int32) : L_X10_init_217 x0 (n + 1) st = B_X10_init_217 x0 (L_X10_init_217 x0 n) st.1 st.2 := rfl
noncomputable def F_X10_init (σ : Hp) (x0 : Nat) : Option (Hp) := b1 (pR 10 2 x0 (hZ σ) (born σ (.inr (0, 14)))) (fun s1 => b1 (pR 10 3 x0 (hZ s1) (born s1 (.inr (0, 14)))) (fun s2 => b1 (pR 10 4 x0 (hZ s2) (born s2 (.inr (0, 8)))) (fun s3 => b1 (pR 10 5 x0 (hZ s3) (born s3 (.inr (0, 24)))) (fun s4 => b1 (pI 10 6 x0 4 s4) (fun s5 => b1 (pI 10 7 x0 50 s5) (fun s6 => b1 (pR 10 8 x0 (hZ s6) (born s6 (.inr (0, 11)))) (fun s7 => b1 (pR 10 9 x0 (hZ s7) (born s7 (.inr (0, 48)))) (fun s8 => b1 (pR 10 10 x0 (hZ s8) (born s8 (.inr (0, 48)))) (fun s9 => b1 (pR 10 11 x0 (hZ s9) (born s9 (.inr (0, 48)))) (fun s10 => b1 (pR 10 12 x0 (hZ s10) (born s10 (.inr (0, 48)))) (fun s11 => b1 (pR 10 13 x0 (hZ s11) (born s11 (.inr (0, 48)))) (fun s12 => b1 (pR 10 14 x0 (hZ s12) (born s12 (.inr (0, 8)))) (fun s13 => b1 (pR 10 15 x0 (hZ s13) (born s13 (.inr (0, 240)))) (fun s14 => b1 (pR 10 16 x0 (hZ s14) (born s14 (.inr (0, 240)))) (fun s15 => b1 (pR 10 17 x0 (hZ s15) (born s15 (.inr (0, 5)))) (fun s16 => b1 (pR 10 18 x0 (hZ s16) (born s16 (.inr (0, 4)))) (fun s17 => b1 (pR 10 20 x0 (hZ s17) (born s17 (.inr (0, 160)))) (fun s18 => b1 (pR 10 28 x0 (hZ s18) (born s18 (.inr (0, 30)))) (fun s19 => b1 (pR 10 30 x0 (hZ s19) (born s19 (.inr (0, 30)))) (fun s20 => b1 (pR 10 31 x0 (hZ s20) (born s20 (.inr (0, 8)))) (fun s21 => b1 (pR 10 32 x0 (hZ s21) (born s21 (.inr (0, 8)))) (fun s22 => b1 (pR 10 33 x0 (hZ s22) (born s22 (.inr (0, 8)))) (fun s23 => b1 (pR 10 35 x0 (hZ s23) (born s23 (.inr (0, 4)))) (fun s24 => b1 (pR 10 36 x0 (hZ s24) (born s24 (.inr (0, 48)))) (fun s25 => b1 (pR 10 37 x0 (hZ s25) (born s25 (.inr (1, 48)))) (fun s26 => b1 (pR 10 38 x0 (hZ s26) (born s26 (.inr (0, 100)))) (fun s27 => L_X10_init_217 x0 FU (s27, 0))))))))))))))))))))))))))))
/-! PalaceOfRoomsModel.in -/
noncomputable def F_X10_in (σ : Hp) (x0 : Int32) (x1 : Int32) (x2 : Int32) : Option (Int32 × Hp) := (if x0 < x1 then some (0, σ) else (if x2 < x0 then some (0, σ) else some (1, σ)))
/-! PalaceOfRoomsModel.isRoom -/
noncomputable def F_X10_isRoom (σ : Hp) (x0 : Int32) : Option (Int32 × Hp) := b2 (F_X10_in σ x0 0 7) (fun v1 s1 => zr v1 (some (v1, s1)))
/-! PalaceOfRoomsModel.areJoined -/
noncomputable def F_X10_areJoined_40 (rec5 : Int32 × Int32 → Option (Int32 × Hp)) (σ : Hp) (x0 : Nat) (x1 : Int32) (x2 : Int32) (x4 : Int32) : Option (Int32 × Hp) := b1 (gR 10 2 x0 σ) (fun v1 => b1 (aI 0 v1 x4 σ) (fun v2 => (if v2 = x2 then b1 (gR 10 3 x0 σ) (fun v3 => b1 (aI 0 v3 x4 σ) (fun v4 => (if v4 = x1 then rec5 (1, x4 + 1) else rec5 (0, x4 + 1)))) else rec5 (0, x4 + 1))))
noncomputable def B_X10_areJoined_5 (σ : Hp) (x0 : Nat) (x1 : Int32) (x2 : Int32) (rec5 : Int32 × Int32 → Option (Int32 × Hp)) (x3 : Int32) (x4 : Int32) : Option (Int32 × Hp) := b1 (gI 10 1 x0 σ) (fun v1 => (if v1 ≤ x4 then zr x3 (some (x3, σ)) else (if x3 = 0 then b1 (gR 10 2 x0 σ) (fun v2 => b1 (aI 0 v2 x4 σ) (fun v3 => (if v3 = x1 then b1 (gR 10 3 x0 σ) (fun v4 => b1 (aI 0 v4 x4 σ) (fun v5 => (if v5 = x2 then rec5 (1, x4 + 1) else F_X10_areJoined_40 rec5 σ x0 x1 x2 x4))) else F_X10_areJoined_40 rec5 σ x0 x1 x2 x4))) else rec5 (1, x4 + 1))))
noncomputable def L_X10_areJoined_5 (σ : Hp) (x0 : Nat) (x1 : Int32) (x2 : Int32) : Nat → (Int32 × Int32) → Option (Int32 × Hp) := it (fun rec5 st => B_X10_areJoined_5 σ x0 x1 x2 rec5 st.1 st.2)
theorem L_X10_areJoined_5_0 (σ : Hp) (x0 : Nat) (x1 : Int32) (x2 : Int32) (st : Int32 × Int32) : L_X10_areJoined_5 σ x0 x1 x2 0 st = none := rfl
theorem L_X10_areJoined_5_s (σ : Hp) (x0 : Nat) (x1 : Int32) (x2 : Int32) (n : Nat) (st : Int32 × Int32) : L_X10_areJoined_5 σ x0 x1 x2 (n + 1) st = B_X10_areJoined_5 σ x0 x1 x2 (L_X10_areJoined_5 σ x0 x1 x2 n) st.1 st.2 := rfl
noncomputable def F_X10_areJoined (σ : Hp) (x0 : Nat) (x1 : Int32) (x2 : Int32) : Option (Int32 × Hp) := gd 10 x0 σ (L_X10_areJoined_5 σ x0 x1 x2 FU (0, 0))
theorem F_X10_areJoined_g {σ : Hp} {x0 : Nat} {x1 : Int32} {x2 : Int32} {r : Int32 × Hp} (h : F_X10_areJoined σ x0 x1 x2 = some r) : hT σ x0 = some (.inl 10) := (gd_inv h).1
/-! PalaceOfRoomsModel.door -/
noncomputable def F_X10_door (σ : Hp) (x0 : Nat) (x1 : Int32) (x2 : Int32) : Option (Int32 × Hp) := gd 10 x0 σ (b2 (F_X10_isRoom σ x1) (fun v1 s1 => (if v1 = 0 then some ((-2), s1) else b2 (F_X10_isRoom s1 x2) (fun v2 s2 => (if v2 = 0 then some ((-2), s2) else (if x1 = x2 then some ((-2), s2) else b2 (F_X10_areJoined s2 x0 x1 x2) (fun v3 s3 => (if v3 = 0 then b1 (gI 10 1 x0 s3) (fun v4 => (if v4 = 14 then some ((-5), s3) else b1 (gR 10 2 x0 s3) (fun v5 => b1 (gI 10 1 x0 s3) (fun v6 => b1 (sI 0 v5 v6 x1 s3) (fun s4 => b1 (gR 10 3 x0 s4) (fun v7 => b1 (gI 10 1 x0 s4) (fun v8 => b1 (sI 0 v7 v8 x2 s4) (fun s5 => b1 (gI 10 1 x0 s5) (fun v9 => b1 (pI 10 1 x0 (v9 + 1) s5) (fun s6 => b1 (gI 10 1 x0 s6) (fun v10 => some (v10, s6)))))))))))) else some ((-4), s3)))))))))
theorem F_X10_door_g {σ : Hp} {x0 : Nat} {x1 : Int32} {x2 : Int32} {r : Int32 × Hp} (h : F_X10_door σ x0 x1 x2 = some r) : hT σ x0 = some (.inl 10) := (gd_inv h).1
/-! PalaceOfRoomsModel.doorsTo -/
noncomputable def F_X10_doorsTo_171 (σ : Hp) (x0 : Nat) (x2 : Int32) : Option (Int32 × Hp) := b1 (gR 10 4 x0 σ) (fun v1 => b1 (aI 0 v1 x2 σ) (fun v2 => (if v2 < 100 then b1 (gR 10 4 x0 σ) (fun v3 => b1 (aI 0 v3 x2 σ) (fun v4 => some (v4, σ))) else some ((-1), σ))))
noncomputable def F_X10_doorsTo_113 (rec33 : Hp × Int32 → Option (Int32 × Hp)) (rec42 : Hp × Int32 → Option (Int32 × Hp)) (σ : Hp) (x0 : Nat) (x2 : Int32) (x3 : Int32) (x4 : Int32) (x5 : Int32) (x6 : Int32) (y0 : Int32) (y1 : Int32) (y2 : Nat) : Option (Int32 × Hp) := b1 (sI 0 y2 y1 y0 σ) (fun s1 => b1 (gR 10 4 x0 s1) (fun v1 => b1 (gR 10 4 x0 s1) (fun v2 => b1 (aI 0 v2 x5 s1) (fun v3 => b1 (gR 10 4 x0 s1) (fun v4 => b1 (aI 0 v4 x6 s1) (fun v5 => (if v5 ≤ (v3 + 1) then b1 (gR 10 4 x0 s1) (fun v6 => b1 (aI 0 v6 x6 s1) (fun v7 => b1 (sI 0 v1 x6 v7 s1) (fun s2 => rec42 (s2, x4 + 1)))) else b1 (gR 10 4 x0 s1) (fun v8 => b1 (aI 0 v8 x5 s1) (fun v9 => b1 (sI 0 v1 x6 (v9 + 1) s1) (fun s3 => rec42 (s3, x4 + 1)))))))))))
noncomputable def B_X10_doorsTo_42 (rec33 : Hp × Int32 → Option (Int32 × Hp)) (x0 : Nat) (x2 : Int32) (x3 : Int32) (rec42 : Hp × Int32 → Option (Int32 × Hp)) (σ : Hp) (x4 : Int32) : Option (Int32 × Hp) := b1 (gI 10 1 x0 σ) (fun v1 => (if v1 ≤ x4 then rec33 (σ, x3 + 1) else b1 (gR 10 2 x0 σ) (fun v2 => b1 (aI 0 v2 x4 σ) (fun v3 => b1 (gR 10 3 x0 σ) (fun v4 => b1 (aI 0 v4 x4 σ) (fun v5 => b1 (gR 10 4 x0 σ) (fun v6 => b1 (gR 10 4 x0 σ) (fun v7 => b1 (aI 0 v7 v5 σ) (fun v8 => b1 (gR 10 4 x0 σ) (fun v9 => b1 (aI 0 v9 v3 σ) (fun v10 => (if v10 ≤ (v8 + 1) then b1 (gR 10 4 x0 σ) (fun v11 => b1 (aI 0 v11 v3 σ) (fun v12 => F_X10_doorsTo_113 rec33 rec42 σ x0 x2 x3 x4 v3 v5 v12 v3 v6)) else b1 (gR 10 4 x0 σ) (fun v13 => b1 (aI 0 v13 v5 σ) (fun v14 => F_X10_doorsTo_113 rec33 rec42 σ x0 x2 x3 x4 v3 v5 (v14 + 1) v3 v6))))))))))))))
noncomputable def L_X10_doorsTo_42 (rec33 : Hp × Int32 → Option (Int32 × Hp)) (x0 : Nat) (x2 : Int32) (x3 : Int32) : Nat → (Hp × Int32) → Option (Int32 × Hp) := it (fun rec42 st => B_X10_doorsTo_42 rec33 x0 x2 x3 rec42 st.1 st.2)
theorem L_X10_doorsTo_42_0 (rec33 : Hp × Int32 → Option (Int32 × Hp)) (x0 : Nat) (x2 : Int32) (x3 : Int32) (st : Hp × Int32) : L_X10_doorsTo_42 rec33 x0 x2 x3 0 st = none := rfl
theorem L_X10_doorsTo_42_s (rec33 : Hp × Int32 → Option (Int32 × Hp)) (x0 : Nat) (x2 : Int32) (x3 : Int32) (n : Nat) (st : Hp × Int32) : L_X10_doorsTo_42 rec33 x0 x2 x3 (n + 1) st = B_X10_doorsTo_42 rec33 x0 x2 x3 (L_X10_doorsTo_42 rec33 x0 x2 x3 n) st.1 st.2 := rfl
noncomputable def B_X10_doorsTo_33 (x0 : Nat) (x2 : Int32) (rec33 : Hp × Int32 → Option (Int32 × Hp)) (σ : Hp) (x3 : Int32) : Option (Int32 × Hp) := (if 8 ≤ x3 then F_X10_doorsTo_171 σ x0 x2 else L_X10_doorsTo_42 rec33 x0 x2 x3 FU (σ, 0))
noncomputable def L_X10_doorsTo_33 (x0 : Nat) (x2 : Int32) : Nat → (Hp × Int32) → Option (Int32 × Hp) := it (fun rec33 st => B_X10_doorsTo_33 x0 x2 rec33 st.1 st.2)
theorem L_X10_doorsTo_33_0 (x0 : Nat) (x2 : Int32) (st : Hp × Int32) : L_X10_doorsTo_33 x0 x2 0 st = none := rfl
theorem L_X10_doorsTo_33_s (x0 : Nat) (x2 : Int32) (n : Nat) (st : Hp × Int32) : L_X10_doorsTo_33 x0 x2 (n + 1) st = B_X10_doorsTo_33 x0 x2 (L_X10_doorsTo_33 x0 x2 n) st.1 st.2 := rfl
noncomputable def B_X10_doorsTo_2 (x0 : Nat) (x1 : Int32) (x2 : Int32) (rec2 : Hp × Int32 → Option (Int32 × Hp)) (σ : Hp) (x3 : Int32) : Option (Int32 × Hp) := (if 8 ≤ x3 then L_X10_doorsTo_33 x0 x2 FU (σ, 0) else b1 (gR 10 4 x0 σ) (fun v1 => (if x3 = x1 then b1 (sI 0 v1 x3 0 σ) (fun s2 => rec2 (s2, x3 + 1)) else b1 (sI 0 v1 x3 100 σ) (fun s1 => rec2 (s1, x3 + 1)))))
noncomputable def L_X10_doorsTo_2 (x0 : Nat) (x1 : Int32) (x2 : Int32) : Nat → (Hp × Int32) → Option (Int32 × Hp) := it (fun rec2 st => B_X10_doorsTo_2 x0 x1 x2 rec2 st.1 st.2)
theorem L_X10_doorsTo_2_0 (x0 : Nat) (x1 : Int32) (x2 : Int32) (st : Hp × Int32) : L_X10_doorsTo_2 x0 x1 x2 0 st = none := rfl
theorem L_X10_doorsTo_2_s (x0 : Nat) (x1 : Int32) (x2 : Int32) (n : Nat) (st : Hp × Int32) : L_X10_doorsTo_2 x0 x1 x2 (n + 1) st = B_X10_doorsTo_2 x0 x1 x2 (L_X10_doorsTo_2 x0 x1 x2 n) st.1 st.2 := rfl
noncomputable def F_X10_doorsTo (σ : Hp) (x0 : Nat) (x1 : Int32) (x2 : Int32) : Option (Int32 × Hp) := gd 10 x0 σ (L_X10_doorsTo_2 x0 x1 x2 FU (σ, 0))
theorem F_X10_doorsTo_g {σ : Hp} {x0 : Nat} {x1 : Int32} {x2 : Int32} {r : Int32 × Hp} (h : F_X10_doorsTo σ x0 x1 x2 = some r) : hT σ x0 = some (.inl 10) := (gd_inv h).1
/-! PalaceOfRoomsModel.away -/
noncomputable def F_X10_away (σ : Hp) (x0 : Nat) (x1 : Int32) (x2 : Int32) : Option (Int32 × Hp) := gd 10 x0 σ (b2 (F_X10_isRoom σ x1) (fun v1 s1 => (if v1 = 0 then some ((-2), s1) else b2 (F_X10_isRoom s1 x2) (fun v2 s2 => (if v2 = 0 then some ((-2), s2) else b2 (F_X10_doorsTo s2 x0 x1 x2) (fun v3 s3 => some (v3, s3)))))))
theorem F_X10_away_g {σ : Hp} {x0 : Nat} {x1 : Int32} {x2 : Int32} {r : Int32 × Hp} (h : F_X10_away σ x0 x1 x2 = some r) : hT σ x0 = some (.inl 10) := (gd_inv h).1
/-! PalaceOfRoomsModel.isThing -/
noncomputable def F_X10_isThing (σ : Hp) (x0 : Int32) : Option (Int32 × Hp) := b2 (F_X10_in σ x0 0 23) (fun v1 s1 => zr v1 (some (v1, s1)))
/-! PalaceOfRoomsModel.marks -/
noncomputable def F_X10_marks (σ : Hp) (x0 : Nat) (x1 : Int32) (x2 : Int32) : Option (Int32 × Hp) := gd 10 x0 σ (b2 (F_X10_isThing σ x1) (fun v1 s1 => (if v1 = 0 then some ((-2), s1) else b2 (F_X10_in s1 x2 0 255) (fun v2 s2 => (if v2 = 0 then some ((-3), s2) else b1 (gR 10 5 x0 s2) (fun v3 => b1 (aI 0 v3 x1 s2) (fun v4 => b1 (gR 10 5 x0 s2) (fun v5 => b1 (sI 0 v5 x1 x2 s2) (fun s3 => some (v4, s3))))))))))
theorem F_X10_marks_g {σ : Hp} {x0 : Nat} {x1 : Int32} {x2 : Int32} {r : Int32 × Hp} (h : F_X10_marks σ x0 x1 x2 = some r) : hT σ x0 = some (.inl 10) := (gd_inv h).1
/-! PalaceOfRoomsModel.likeness -/
noncomputable def B_X10_likeness_20 (σ : Hp) (x3 : Int32) (rec20 : Int32 × Int32 → Option (Int32 × Hp)) (x4 : Int32) (x5 : Int32) : Option (Int32 × Hp) := (if 8 ≤ x5 then some (x4, σ) else rec20 (x4 + ((x3 >>> (x5 &&& 31)) &&& 1), x5 + 1))
noncomputable def L_X10_likeness_20 (σ : Hp) (x3 : Int32) : Nat → (Int32 × Int32) → Option (Int32 × Hp) := it (fun rec20 st => B_X10_likeness_20 σ x3 rec20 st.1 st.2)
theorem L_X10_likeness_20_0 (σ : Hp) (x3 : Int32) (st : Int32 × Int32) : L_X10_likeness_20 σ x3 0 st = none := rfl
theorem L_X10_likeness_20_s (σ : Hp) (x3 : Int32) (n : Nat) (st : Int32 × Int32) : L_X10_likeness_20 σ x3 (n + 1) st = B_X10_likeness_20 σ x3 (L_X10_likeness_20 σ x3 n) st.1 st.2 := rfl
noncomputable def F_X10_likeness (σ : Hp) (x0 : Nat) (x1 : Int32) (x2 : Int32) : Option (Int32 × Hp) := gd 10 x0 σ (b1 (gR 10 5 x0 σ) (fun v1 => b1 (aI 0 v1 x1 σ) (fun v2 => b1 (gR 10 5 x0 σ) (fun v3 => b1 (aI 0 v3 x2 σ) (fun v4 => L_X10_likeness_20 σ (v2 &&& v4) FU (0, 0))))))
theorem F_X10_likeness_g {σ : Hp} {x0 : Nat} {x1 : Int32} {x2 : Int32} {r : Int32 × Hp} (h : F_X10_likeness σ x0 x1 x2 = some r) : hT σ x0 = some (.inl 10) := (gd_inv h).1
/-! PalaceOfRoomsModel.like -/
noncomputable def F_X10_like (σ : Hp) (x0 : Nat) (x1 : Int32) (x2 : Int32) : Option (Int32 × Hp) := gd 10 x0 σ (b2 (F_X10_isThing σ x1) (fun v1 s1 => (if v1 = 0 then some ((-2), s1) else b2 (F_X10_isThing s1 x2) (fun v2 s2 => (if v2 = 0 then some ((-2), s2) else b2 (F_X10_likeness s2 x0 x1 x2) (fun v3 s3 => some (v3, s3)))))))
theorem F_X10_like_g {σ : Hp} {x0 : Nat} {x1 : Int32} {x2 : Int32} {r : Int32 × Hp} (h : F_X10_like σ x0 x1 x2 = some r) : hT σ x0 = some (.inl 10) := (gd_inv h).1
/-! PalaceOfRoomsModel.set -/
noncomputable def F_X10_set_26 (σ : Hp) (x0 : Nat) (x1 : Int32) (x2 : Int32) : Option (Int32 × Hp) := (if x1 = 1 then b2 (F_X10_in σ x2 0 100) (fun v1 s1 => (if v1 = 0 then some ((-3), s1) else b1 (gI 10 7 x0 s1) (fun v2 => b1 (pI 10 7 x0 x2 s1) (fun s2 => some (v2, s2))))) else some ((-3), σ))
noncomputable def F_X10_set (σ : Hp) (x0 : Nat) (x1 : Int32) (x2 : Int32) : Option (Int32 × Hp) := gd 10 x0 σ ((if x1 = 0 then b2 (F_X10_in σ x2 1 8) (fun v1 s1 => (if v1 = 0 then F_X10_set_26 s1 x0 x1 x2 else b1 (gI 10 6 x0 s1) (fun v2 => b1 (pI 10 6 x0 x2 s1) (fun s2 => some (v2, s2))))) else F_X10_set_26 σ x0 x1 x2))
theorem F_X10_set_g {σ : Hp} {x0 : Nat} {x1 : Int32} {x2 : Int32} {r : Int32 × Hp} (h : F_X10_set σ x0 x1 x2 = some r) : hT σ x0 = some (.inl 10) := (gd_inv h).1
/-! PalaceOfRoomsModel.fall -/
noncomputable def F_X10_fall (σ : Hp) (x0 : Nat) (x1 : Int32) (x2 : Int32) : Option (Int32 × Hp) := gd 10 x0 σ (b2 (F_X10_in σ x1 0 10) (fun v1 s1 => (if v1 = 0 then some ((-3), s1) else b2 (F_X10_in s1 x2 0 30) (fun v2 s2 => (if v2 = 0 then some ((-3), s2) else b1 (gR 10 8 x0 s2) (fun v3 => b1 (aI 0 v3 x1 s2) (fun v4 => b1 (gR 10 8 x0 s2) (fun v5 => b1 (sI 0 v5 x1 x2 s2) (fun s3 => some (v4, s3))))))))))
theorem F_X10_fall_g {σ : Hp} {x0 : Nat} {x1 : Int32} {x2 : Int32} {r : Int32 × Hp} (h : F_X10_fall σ x0 x1 x2 = some r) : hT σ x0 = some (.inl 10) := (gd_inv h).1
/-! PalaceOfRoomsModel.isCorner -/
noncomputable def F_X10_isCorner (σ : Hp) (x0 : Int32) : Option (Int32 × Hp) := b2 (F_X10_in σ x0 0 47) (fun v1 s1 => zr v1 (some (v1, s1)))
/-! PalaceOfRoomsModel.cornerOf -/
noncomputable def B_X10_cornerOf_4 (σ : Hp) (x0 : Nat) (x1 : Int32) (rec4 : Int32 × Int32 → Option (Int32 × Hp)) (x2 : Int32) (x3 : Int32) : Option (Int32 × Hp) := (if 48 ≤ x3 then some (x2, σ) else b1 (gR 10 9 x0 σ) (fun v1 => b1 (aI 0 v1 x3 σ) (fun v2 => (if v2 = x1 then rec4 (x3, x3 + 1) else rec4 (x2, x3 + 1)))))
noncomputable def L_X10_cornerOf_4 (σ : Hp) (x0 : Nat) (x1 : Int32) : Nat → (Int32 × Int32) → Option (Int32 × Hp) := it (fun rec4 st => B_X10_cornerOf_4 σ x0 x1 rec4 st.1 st.2)
theorem L_X10_cornerOf_4_0 (σ : Hp) (x0 : Nat) (x1 : Int32) (st : Int32 × Int32) : L_X10_cornerOf_4 σ x0 x1 0 st = none := rfl
theorem L_X10_cornerOf_4_s (σ : Hp) (x0 : Nat) (x1 : Int32) (n : Nat) (st : Int32 × Int32) : L_X10_cornerOf_4 σ x0 x1 (n + 1) st = B_X10_cornerOf_4 σ x0 x1 (L_X10_cornerOf_4 σ x0 x1 n) st.1 st.2 := rfl
noncomputable def F_X10_cornerOf (σ : Hp) (x0 : Nat) (x1 : Int32) : Option (Int32 × Hp) := gd 10 x0 σ (L_X10_cornerOf_4 σ x0 x1 FU ((-1), 0))
theorem F_X10_cornerOf_g {σ : Hp} {x0 : Nat} {x1 : Int32} {r : Int32 × Hp} (h : F_X10_cornerOf σ x0 x1 = some r) : hT σ x0 = some (.inl 10) := (gd_inv h).1
/-! PalaceOfRoomsModel.put -/
noncomputable def F_X10_put_93 (σ : Hp) (x0 : Nat) (x1 : Int32) (x2 : Int32) (x3 : Int32) (y0 : Int32) (y1 : Int32) (y2 : Nat) : Option (Int32 × Hp) := b1 (sI 0 y2 y1 y0 σ) (fun s1 => b1 (gR 10 9 x0 s1) (fun v1 => b1 (sI 0 v1 x2 x1 s1) (fun s2 => b1 (gR 10 10 x0 s2) (fun v2 => b1 (sI 0 v2 x2 100 s2) (fun s3 => b1 (gR 10 13 x0 s3) (fun v3 => b1 (gI 10 0 x0 s3) (fun v4 => b1 (sI 0 v3 x2 v4 s3) (fun s4 => some (x3, s4)))))))))
noncomputable def F_X10_put_72 (σ : Hp) (x0 : Nat) (x1 : Int32) (x2 : Int32) (x3 : Int32) (x4 : Int32) (y0 : Int32) (y1 : Int32) (y2 : Nat) : Option (Int32 × Hp) := b1 (sI 0 y2 y1 y0 σ) (fun s1 => b1 (gR 10 12 x0 s1) (fun v1 => (if x4 = 0 then F_X10_put_93 s1 x0 x1 x2 x3 0 x2 v1 else b1 (gR 10 10 x0 s1) (fun v2 => b1 (aI 0 v2 x2 s1) (fun v3 => F_X10_put_93 s1 x0 x1 x2 x3 v3 x2 v1)))))
noncomputable def F_X10_put_55 (σ : Hp) (x0 : Nat) (x1 : Int32) (x2 : Int32) (x3 : Int32) (y0 : Int32) : Option (Int32 × Hp) := b1 (gR 10 11 x0 σ) (fun v1 => (if y0 = 0 then F_X10_put_72 σ x0 x1 x2 x3 y0 (-1) x2 v1 else F_X10_put_72 σ x0 x1 x2 x3 y0 x3 x2 v1))
noncomputable def F_X10_put_54 (σ : Hp) (x0 : Nat) (x1 : Int32) (x2 : Int32) (x3 : Int32) : Option (Int32 × Hp) := F_X10_put_55 σ x0 x1 x2 x3 0
noncomputable def F_X10_put (σ : Hp) (x0 : Nat) (x1 : Int32) (x2 : Int32) : Option (Int32 × Hp) := gd 10 x0 σ (b2 (F_X10_isThing σ x1) (fun v1 s1 => (if v1 = 0 then some ((-2), s1) else b2 (F_X10_isCorner s1 x2) (fun v2 s2 => (if v2 = 0 then some ((-2), s2) else b2 (F_X10_cornerOf s2 x0 x1) (fun v3 s3 => (if v3 = (-1) then b1 (gR 10 9 x0 s3) (fun v4 => b1 (aI 0 v4 x2 s3) (fun v5 => (if v5 = (-1) then F_X10_put_54 s3 x0 x1 x2 v5 else b1 (gR 10 10 x0 s3) (fun v6 => b1 (aI 0 v6 x2 s3) (fun v7 => (if v7 ≤ 0 then F_X10_put_54 s3 x0 x1 x2 v5 else F_X10_put_55 s3 x0 x1 x2 v5 1)))))) else some ((-4), s3))))))))
theorem F_X10_put_g {σ : Hp} {x0 : Nat} {x1 : Int32} {x2 : Int32} {r : Int32 × Hp} (h : F_X10_put σ x0 x1 x2 = some r) : hT σ x0 = some (.inl 10) := (gd_inv h).1
/-! PalaceOfRoomsModel.clear -/
noncomputable def F_X10_clear (σ : Hp) (x0 : Nat) (x1 : Int32) : Option (Int32 × Hp) := gd 10 x0 σ (b2 (F_X10_isCorner σ x1) (fun v1 s1 => (if v1 = 0 then some ((-2), s1) else b1 (gR 10 9 x0 s1) (fun v2 => b1 (aI 0 v2 x1 s1) (fun v3 => (if v3 = (-1) then some ((-4), s1) else b1 (gR 10 9 x0 s1) (fun v4 => b1 (aI 0 v4 x1 s1) (fun v5 => b1 (gR 10 9 x0 s1) (fun v6 => b1 (sI 0 v6 x1 (-1) s1) (fun s2 => b1 (gR 10 11 x0 s2) (fun v7 => b1 (sI 0 v7 x1 (-1) s2) (fun s3 => b1 (gR 10 10 x0 s3) (fun v8 => b1 (sI 0 v8 x1 0 s3) (fun s4 => b1 (gR 10 12 x0 s4) (fun v9 => b1 (sI 0 v9 x1 0 s4) (fun s5 => some (v5, s5)))))))))))))))))
theorem F_X10_clear_g {σ : Hp} {x0 : Nat} {x1 : Int32} {r : Int32 × Hp} (h : F_X10_clear σ x0 x1 = some r) : hT σ x0 = some (.inl 10) := (gd_inv h).1
/-! PalaceOfRoomsModel.corner -/
noncomputable def F_X10_corner (σ : Hp) (x0 : Nat) (x1 : Int32) (x2 : Int32) : Option (Int32 × Hp) := gd 10 x0 σ (b2 (F_X10_isCorner σ x1) (fun v1 s1 => (if v1 = 0 then some ((-2), s1) else (if x2 = 0 then b1 (gR 10 9 x0 s1) (fun v2 => b1 (aI 0 v2 x1 s1) (fun v3 => some (v3, s1))) else (if x2 = 1 then b1 (gR 10 9 x0 s1) (fun v4 => b1 (aI 0 v4 x1 s1) (fun v5 => (if v5 = (-1) then some ((-1), s1) else b1 (gR 10 10 x0 s1) (fun v6 => b1 (aI 0 v6 x1 s1) (fun v7 => some (v7, s1)))))) else (if x2 = 2 then b1 (gR 10 11 x0 s1) (fun v8 => b1 (aI 0 v8 x1 s1) (fun v9 => some (v9, s1))) else (if x2 = 3 then b1 (gR 10 11 x0 s1) (fun v10 => b1 (aI 0 v10 x1 s1) (fun v11 => (if v11 = (-1) then some ((-1), s1) else b1 (gR 10 12 x0 s1) (fun v12 => b1 (aI 0 v12 x1 s1) (fun v13 => some (v13, s1)))))) else (if x2 = 4 then b1 (gR 10 13 x0 s1) (fun v14 => b1 (aI 0 v14 x1 s1) (fun v15 => some (v15, s1))) else some ((-3), s1)))))))))
theorem F_X10_corner_g {σ : Hp} {x0 : Nat} {x1 : Int32} {x2 : Int32} {r : Int32 × Hp} (h : F_X10_corner σ x0 x1 x2 = some r) : hT σ x0 = some (.inl 10) := (gd_inv h).1
/-! PalaceOfRoomsModel.where -/
noncomputable def F_X10_where (σ : Hp) (x0 : Nat) (x1 : Int32) : Option (Int32 × Hp) := gd 10 x0 σ (b2 (F_X10_isThing σ x1) (fun v1 s1 => (if v1 = 0 then some ((-2), s1) else b2 (F_X10_cornerOf s1 x0 x1) (fun v2 s2 => some (v2, s2)))))
theorem F_X10_where_g {σ : Hp} {x0 : Nat} {x1 : Int32} {r : Int32 × Hp} (h : F_X10_where σ x0 x1 = some r) : hT σ x0 = some (.inl 10) := (gd_inv h).1
/-! PalaceOfRoomsModel.lookAhead -/
noncomputable def F_X10_lookAhead_33 (rec2 : Hp × Int32 → Option (Hp)) (σ : Hp) (x0 : Nat) (x1 : Int32) (y0 : Int32) (y1 : Int32) (y2 : Nat) : Option (Hp) := b1 (sI 0 y2 y1 y0 σ) (fun s1 => b1 (gR 10 16 x0 s1) (fun v1 => b1 (gR 10 11 x0 s1) (fun v2 => b1 (aI 0 v2 x1 s1) (fun v3 => (if v3 = (-1) then b1 (sI 0 v1 x1 0 s1) (fun s3 => rec2 (s3, x1 + 1)) else b1 (gR 10 12 x0 s1) (fun v4 => b1 (aI 0 v4 x1 s1) (fun v5 => b1 (sI 0 v1 x1 v5 s1) (fun s2 => rec2 (s2, x1 + 1)))))))))
noncomputable def B_X10_lookAhead_2 (x0 : Nat) (rec2 : Hp × Int32 → Option (Hp)) (σ : Hp) (x1 : Int32) : Option (Hp) := (if 48 ≤ x1 then some σ else b1 (gR 10 15 x0 σ) (fun v1 => b1 (gR 10 9 x0 σ) (fun v2 => b1 (aI 0 v2 x1 σ) (fun v3 => (if v3 = (-1) then F_X10_lookAhead_33 rec2 σ x0 x1 0 x1 v1 else b1 (gR 10 10 x0 σ) (fun v4 => b1 (aI 0 v4 x1 σ) (fun v5 => F_X10_lookAhead_33 rec2 σ x0 x1 v5 x1 v1)))))))
noncomputable def L_X10_lookAhead_2 (x0 : Nat) : Nat → (Hp × Int32) → Option (Hp) := it (fun rec2 st => B_X10_lookAhead_2 x0 rec2 st.1 st.2)
theorem L_X10_lookAhead_2_0 (x0 : Nat) (st : Hp × Int32) : L_X10_lookAhead_2 x0 0 st = none := rfl
theorem L_X10_lookAhead_2_s (x0 : Nat) (n : Nat) (st : Hp × Int32) : L_X10_lookAhead_2 x0 (n + 1) st = B_X10_lookAhead_2 x0 (L_X10_lookAhead_2 x0 n) st.1 st.2 := rfl
noncomputable def F_X10_lookAhead (σ : Hp) (x0 : Nat) : Option (Hp) := gd 10 x0 σ (L_X10_lookAhead_2 x0 FU (σ, 0))
theorem F_X10_lookAhead_g {σ : Hp} {x0 : Nat} {r : Hp} (h : F_X10_lookAhead σ x0 = some r) : hT σ x0 = some (.inl 10) := (gd_inv h).1
/-! PalaceOfRoomsModel.likeBeside -/
noncomputable def B_X10_likeBeside_10 (x0 : Nat) (x1 : Int32) (rec10 : Hp × Int32 × Int32 → Option (Int32 × Hp)) (σ : Hp) (x2 : Int32) (x3 : Int32) : Option (Int32 × Hp) := (if (((x1 / 6) * 6) + 6) ≤ x3 then some (x2, σ) else (if x3 = x1 then rec10 (σ, x2 + 0, x3 + 1) else b1 (gR 10 9 x0 σ) (fun v1 => b1 (aI 0 v1 x3 σ) (fun v2 => (if v2 = (-1) then rec10 (σ, x2 + 0, x3 + 1) else b1 (gR 10 9 x0 σ) (fun v3 => b1 (aI 0 v3 x3 σ) (fun v4 => b1 (gR 10 9 x0 σ) (fun v5 => b1 (aI 0 v5 x1 σ) (fun v6 => b2 (F_X10_likeness σ x0 v4 v6) (fun v7 s1 => b1 (gI 10 6 x0 s1) (fun v8 => (if v7 < v8 then rec10 (s1, x2 + 0, x3 + 1) else rec10 (s1, x2 + 1, x3 + 1)))))))))))))
noncomputable def L_X10_likeBeside_10 (x0 : Nat) (x1 : Int32) : Nat → (Hp × Int32 × Int32) → Option (Int32 × Hp) := it (fun rec10 st => B_X10_likeBeside_10 x0 x1 rec10 st.1 st.2.1 st.2.2)
theorem L_X10_likeBeside_10_0 (x0 : Nat) (x1 : Int32) (st : Hp × Int32 × Int32) : L_X10_likeBeside_10 x0 x1 0 st = none := rfl
theorem L_X10_likeBeside_10_s (x0 : Nat) (x1 : Int32) (n : Nat) (st : Hp × Int32 × Int32) : L_X10_likeBeside_10 x0 x1 (n + 1) st = B_X10_likeBeside_10 x0 x1 (L_X10_likeBeside_10 x0 x1 n) st.1 st.2.1 st.2.2 := rfl
noncomputable def F_X10_likeBeside (σ : Hp) (x0 : Nat) (x1 : Int32) : Option (Int32 × Hp) := gd 10 x0 σ (L_X10_likeBeside_10 x0 x1 FU (σ, 0, (x1 / 6) * 6))
theorem F_X10_likeBeside_g {σ : Hp} {x0 : Nat} {x1 : Int32} {r : Int32 × Hp} (h : F_X10_likeBeside σ x0 x1 = some r) : hT σ x0 = some (.inl 10) := (gd_inv h).1
/-! PalaceOfRoomsModel.goDay -/
noncomputable def F_X10_goDay_96 (rec2 : Hp × Int32 → Option (Hp)) (σ : Hp) (x0 : Nat) (x1 : Int32) (x2 : Int32) (x3 : Int32) (x5 : Int32) (y0 : Int32) (y1 : Int32) (y2 : Nat) : Option (Hp) := b1 (sI 0 y2 y1 y0 σ) (fun s1 => b1 (gR 10 16 x0 s1) (fun v1 => (if 0 ≤ x5 then b1 (sI 0 v1 (x2 + x3) x5 s1) (fun s2 => rec2 (s2, x3 + 1)) else b1 (sI 0 v1 (x2 + x3) 0 s1) (fun s3 => rec2 (s3, x3 + 1)))))
noncomputable def F_X10_goDay_61 (rec2 : Hp × Int32 → Option (Hp)) (σ : Hp) (x0 : Nat) (x1 : Int32) (x2 : Int32) (x3 : Int32) (x5 : Int32) (y0 : Int32) : Option (Hp) := b1 (gR 10 8 x0 σ) (fun v1 => b1 (aI 0 v1 (x5 / 10) σ) (fun v2 => b1 (gR 10 15 x0 σ) (fun v3 => (if 0 ≤ y0 then F_X10_goDay_96 rec2 σ x0 x1 x2 x3 (x5 - v2) y0 (x2 + x3) v3 else F_X10_goDay_96 rec2 σ x0 x1 x2 x3 (x5 - v2) 0 (x2 + x3) v3))))
noncomputable def B_X10_goDay_2 (x0 : Nat) (x1 : Int32) (x2 : Int32) (rec2 : Hp × Int32 → Option (Hp)) (σ : Hp) (x3 : Int32) : Option (Hp) := (if 48 ≤ x3 then some σ else b1 (gR 10 15 x0 σ) (fun v1 => b1 (aI 0 v1 (x1 + x3) σ) (fun v2 => b1 (gR 10 16 x0 σ) (fun v3 => b1 (aI 0 v3 (x1 + x3) σ) (fun v4 => b1 (gR 10 9 x0 σ) (fun v5 => b1 (aI 0 v5 x3 σ) (fun v6 => (if v6 = (-1) then F_X10_goDay_61 rec2 σ x0 x1 x2 x3 v4 0 else b1 (gR 10 8 x0 σ) (fun v7 => b1 (aI 0 v7 (v2 / 10) σ) (fun v8 => b2 (F_X10_likeBeside σ x0 x3) (fun v9 s1 => F_X10_goDay_61 rec2 s1 x0 x1 x2 x3 v4 ((v2 - v8) - v9))))))))))))
noncomputable def L_X10_goDay_2 (x0 : Nat) (x1 : Int32) (x2 : Int32) : Nat → (Hp × Int32) → Option (Hp) := it (fun rec2 st => B_X10_goDay_2 x0 x1 x2 rec2 st.1 st.2)
theorem L_X10_goDay_2_0 (x0 : Nat) (x1 : Int32) (x2 : Int32) (st : Hp × Int32) : L_X10_goDay_2 x0 x1 x2 0 st = none := rfl
theorem L_X10_goDay_2_s (x0 : Nat) (x1 : Int32) (x2 : Int32) (n : Nat) (st : Hp × Int32) : L_X10_goDay_2 x0 x1 x2 (n + 1) st = B_X10_goDay_2 x0 x1 x2 (L_X10_goDay_2 x0 x1 x2 n) st.1 st.2 := rfl
noncomputable def F_X10_goDay (σ : Hp) (x0 : Nat) (x1 : Int32) (x2 : Int32) : Option (Hp) := gd 10 x0 σ (L_X10_goDay_2 x0 x1 x2 FU (σ, 0))
theorem F_X10_goDay_g {σ : Hp} {x0 : Nat} {x1 : Int32} {x2 : Int32} {r : Hp} (h : F_X10_goDay σ x0 x1 x2 = some r) : hT σ x0 = some (.inl 10) := (gd_inv h).1
/-! PalaceOfRoomsModel.days -/
noncomputable def F_X10_days_111 (σ : Hp) (x0 : Nat) (x1 : Int32) : Option (Int32 × Hp) := b1 (gI 10 0 x0 σ) (fun v1 => b1 (pI 10 0 x0 (v1 + x1) σ) (fun s1 => b1 (gI 10 0 x0 s1) (fun v2 => some (v2, s1))))
noncomputable def B_X10_days_50 (x0 : Nat) (x1 : Int32) (rec50 : Hp × Int32 → Option (Int32 × Hp)) (σ : Hp) (x2 : Int32) : Option (Int32 × Hp) := (if 48 ≤ x2 then F_X10_days_111 σ x0 x1 else b1 (gR 10 10 x0 σ) (fun v1 => b1 (gR 10 15 x0 σ) (fun v2 => b1 (aI 0 v2 x2 σ) (fun v3 => b1 (sI 0 v1 x2 v3 σ) (fun s1 => b1 (gR 10 12 x0 s1) (fun v4 => b1 (gR 10 16 x0 s1) (fun v5 => b1 (aI 0 v5 x2 s1) (fun v6 => b1 (sI 0 v4 x2 v6 s1) (fun s2 => b1 (gR 10 11 x0 s2) (fun v7 => b1 (gR 10 12 x0 s2) (fun v8 => b1 (aI 0 v8 x2 s2) (fun v9 => (if v9 = 0 then b1 (sI 0 v7 x2 (-1) s2) (fun s4 => rec50 (s4, x2 + 1)) else b1 (gR 10 11 x0 s2) (fun v10 => b1 (aI 0 v10 x2 s2) (fun v11 => b1 (sI 0 v7 x2 v11 s2) (fun s3 => rec50 (s3, x2 + 1)))))))))))))))))
noncomputable def L_X10_days_50 (x0 : Nat) (x1 : Int32) : Nat → (Hp × Int32) → Option (Int32 × Hp) := it (fun rec50 st => B_X10_days_50 x0 x1 rec50 st.1 st.2)
theorem L_X10_days_50_0 (x0 : Nat) (x1 : Int32) (st : Hp × Int32) : L_X10_days_50 x0 x1 0 st = none := rfl
theorem L_X10_days_50_s (x0 : Nat) (x1 : Int32) (n : Nat) (st : Hp × Int32) : L_X10_days_50 x0 x1 (n + 1) st = B_X10_days_50 x0 x1 (L_X10_days_50 x0 x1 n) st.1 st.2 := rfl
noncomputable def B_X10_days_31 (x0 : Nat) (x1 : Int32) (rec31 : Hp × Int32 → Option (Int32 × Hp)) (σ : Hp) (x2 : Int32) : Option (Int32 × Hp) := (if x1 ≤ x2 then L_X10_days_50 x0 x1 FU (σ, 0) else b1 (F_X10_goDay σ x0 0 0) (fun s1 => rec31 (s1, x2 + 1)))
noncomputable def L_X10_days_31 (x0 : Nat) (x1 : Int32) : Nat → (Hp × Int32) → Option (Int32 × Hp) := it (fun rec31 st => B_X10_days_31 x0 x1 rec31 st.1 st.2)
theorem L_X10_days_31_0 (x0 : Nat) (x1 : Int32) (st : Hp × Int32) : L_X10_days_31 x0 x1 0 st = none := rfl
theorem L_X10_days_31_s (x0 : Nat) (x1 : Int32) (n : Nat) (st : Hp × Int32) : L_X10_days_31 x0 x1 (n + 1) st = B_X10_days_31 x0 x1 (L_X10_days_31 x0 x1 n) st.1 st.2 := rfl
noncomputable def F_X10_days (σ : Hp) (x0 : Nat) (x1 : Int32) : Option (Int32 × Hp) := gd 10 x0 σ (b2 (F_X10_in σ x1 1 60) (fun v1 s1 => (if v1 = 0 then some ((-3), s1) else b1 (gI 10 0 x0 s1) (fun v2 => (if (v2 + x1) ≤ 400 then b1 (F_X10_lookAhead s1 x0) (fun s2 => L_X10_days_31 x0 x1 FU (s2, 0)) else some ((-3), s1))))))
theorem F_X10_days_g {σ : Hp} {x0 : Nat} {x1 : Int32} {r : Int32 × Hp} (h : F_X10_days σ x0 x1 = some r) : hT σ x0 = some (.inl 10) := (gd_inv h).1
/-! PalaceOfRoomsModel.goWalk -/
noncomputable def F_X10_goWalk_55 (rec8 : Hp × Int32 × Int32 → Option (Int32 × Hp)) (σ : Hp) (x0 : Nat) (x1 : Int32) (x2 : Int32) (x3 : Int32) (x4 : Int32) (y0 : Int32) : Option (Int32 × Hp) := b1 (gR 10 15 x0 σ) (fun v1 => b1 (aI 0 v1 (x2 + x4) σ) (fun v2 => b1 (sI 0 v1 (x2 + x4) (v2 + y0) σ) (fun s1 => rec8 (s1, x3 + y0, x4 + 1))))
noncomputable def B_X10_goWalk_8 (x0 : Nat) (x1 : Int32) (x2 : Int32) (rec8 : Hp × Int32 × Int32 → Option (Int32 × Hp)) (σ : Hp) (x3 : Int32) (x4 : Int32) : Option (Int32 × Hp) := (if ((6 * x1) + 6) ≤ x4 then some (x3, σ) else b1 (gR 10 9 x0 σ) (fun v1 => b1 (aI 0 v1 x4 σ) (fun v2 => (if v2 = (-1) then F_X10_goWalk_55 rec8 σ x0 x1 x2 x3 x4 0 else b1 (gR 10 15 x0 σ) (fun v3 => b1 (aI 0 v3 (x2 + x4) σ) (fun v4 => b1 (gI 10 7 x0 σ) (fun v5 => F_X10_goWalk_55 rec8 σ x0 x1 x2 x3 x4 (((100 - v4) * v5) / 100))))))))
noncomputable def L_X10_goWalk_8 (x0 : Nat) (x1 : Int32) (x2 : Int32) : Nat → (Hp × Int32 × Int32) → Option (Int32 × Hp) := it (fun rec8 st => B_X10_goWalk_8 x0 x1 x2 rec8 st.1 st.2.1 st.2.2)
theorem L_X10_goWalk_8_0 (x0 : Nat) (x1 : Int32) (x2 : Int32) (st : Hp × Int32 × Int32) : L_X10_goWalk_8 x0 x1 x2 0 st = none := rfl
theorem L_X10_goWalk_8_s (x0 : Nat) (x1 : Int32) (x2 : Int32) (n : Nat) (st : Hp × Int32 × Int32) : L_X10_goWalk_8 x0 x1 x2 (n + 1) st = B_X10_goWalk_8 x0 x1 x2 (L_X10_goWalk_8 x0 x1 x2 n) st.1 st.2.1 st.2.2 := rfl
noncomputable def F_X10_goWalk (σ : Hp) (x0 : Nat) (x1 : Int32) (x2 : Int32) : Option (Int32 × Hp) := gd 10 x0 σ (L_X10_goWalk_8 x0 x1 x2 FU (σ, 0, 6 * x1))
theorem F_X10_goWalk_g {σ : Hp} {x0 : Nat} {x1 : Int32} {x2 : Int32} {r : Int32 × Hp} (h : F_X10_goWalk σ x0 x1 x2 = some r) : hT σ x0 = some (.inl 10) := (gd_inv h).1
/-! PalaceOfRoomsModel.walk -/
noncomputable def F_X10_walk_55 (σ : Hp) (x0 : Nat) (x1 : Int32) (x2 : Int32) : Option (Int32 × Hp) := b1 (gR 10 14 x0 σ) (fun v1 => b1 (gI 10 0 x0 σ) (fun v2 => b1 (sI 0 v1 x1 v2 σ) (fun s1 => some (x2, s1))))
noncomputable def B_X10_walk_26 (x0 : Nat) (x1 : Int32) (x2 : Int32) (rec26 : Hp × Int32 → Option (Int32 × Hp)) (σ : Hp) (x3 : Int32) : Option (Int32 × Hp) := (if ((6 * x1) + 6) ≤ x3 then F_X10_walk_55 σ x0 x1 x2 else b1 (gR 10 10 x0 σ) (fun v1 => b1 (gR 10 15 x0 σ) (fun v2 => b1 (aI 0 v2 x3 σ) (fun v3 => b1 (sI 0 v1 x3 v3 σ) (fun s1 => rec26 (s1, x3 + 1))))))
noncomputable def L_X10_walk_26 (x0 : Nat) (x1 : Int32) (x2 : Int32) : Nat → (Hp × Int32) → Option (Int32 × Hp) := it (fun rec26 st => B_X10_walk_26 x0 x1 x2 rec26 st.1 st.2)
theorem L_X10_walk_26_0 (x0 : Nat) (x1 : Int32) (x2 : Int32) (st : Hp × Int32) : L_X10_walk_26 x0 x1 x2 0 st = none := rfl
theorem L_X10_walk_26_s (x0 : Nat) (x1 : Int32) (x2 : Int32) (n : Nat) (st : Hp × Int32) : L_X10_walk_26 x0 x1 x2 (n + 1) st = B_X10_walk_26 x0 x1 x2 (L_X10_walk_26 x0 x1 x2 n) st.1 st.2 := rfl
noncomputable def F_X10_walk (σ : Hp) (x0 : Nat) (x1 : Int32) : Option (Int32 × Hp) := gd 10 x0 σ (b2 (F_X10_isRoom σ x1) (fun v1 s1 => (if v1 = 0 then some ((-2), s1) else b1 (F_X10_lookAhead s1 x0) (fun s2 => b2 (F_X10_goWalk s2 x0 x1 0) (fun v3 s3 => L_X10_walk_26 x0 x1 v3 FU (s3, 6 * x1))))))
theorem F_X10_walk_g {σ : Hp} {x0 : Nat} {x1 : Int32} {r : Int32 × Hp} (h : F_X10_walk σ x0 x1 = some r) : hT σ x0 = some (.inl 10) := (gd_inv h).1
/-! PalaceOfRoomsModel.write -/
noncomputable def F_X10_write_67 (σ : Hp) (x0 : Nat) (x3 : Int32) : Option (Int32 × Hp) := b1 (gI 10 19 x0 σ) (fun v1 => b1 (pI 10 19 x0 (v1 + x3) σ) (fun s1 => b1 (gI 10 19 x0 s1) (fun v2 => some (v2, s1))))
noncomputable def B_X10_write_31 (x0 : Nat) (x1 : Int64) (x3 : Int32) (rec31 : Hp × Int32 → Option (Int32 × Hp)) (σ : Hp) (x4 : Int32) : Option (Int32 × Hp) := (if x3 ≤ x4 then F_X10_write_67 σ x0 x3 else b1 (gR 10 20 x0 σ) (fun v1 => b1 (gI 10 19 x0 σ) (fun v2 => b1 (sI 0 v1 (v2 + x4) (((x1 >>> ((8 * x4 : Int32).toInt64 &&& 63)) &&& 255 : Int64).toInt32) σ) (fun s1 => rec31 (s1, x4 + 1)))))
noncomputable def L_X10_write_31 (x0 : Nat) (x1 : Int64) (x3 : Int32) : Nat → (Hp × Int32) → Option (Int32 × Hp) := it (fun rec31 st => B_X10_write_31 x0 x1 x3 rec31 st.1 st.2)
theorem L_X10_write_31_0 (x0 : Nat) (x1 : Int64) (x3 : Int32) (st : Hp × Int32) : L_X10_write_31 x0 x1 x3 0 st = none := rfl
theorem L_X10_write_31_s (x0 : Nat) (x1 : Int64) (x3 : Int32) (n : Nat) (st : Hp × Int32) : L_X10_write_31 x0 x1 x3 (n + 1) st = B_X10_write_31 x0 x1 x3 (L_X10_write_31 x0 x1 x3 n) st.1 st.2 := rfl
noncomputable def F_X10_write (σ : Hp) (x0 : Nat) (x1 : Int64) (x3 : Int32) : Option (Int32 × Hp) := gd 10 x0 σ (b2 (F_X10_in σ x3 1 8) (fun v1 s1 => (if v1 = 0 then some ((-3), s1) else b1 (gI 10 19 x0 s1) (fun v2 => (if (v2 + x3) ≤ 160 then L_X10_write_31 x0 x1 x3 FU (s1, 0) else some ((-5), s1))))))
theorem F_X10_write_g {σ : Hp} {x0 : Nat} {x1 : Int64} {x3 : Int32} {r : Int32 × Hp} (h : F_X10_write σ x0 x1 x3 = some r) : hT σ x0 = some (.inl 10) := (gd_inv h).1
/-! PalaceOfRoomsModel.erase -/
noncomputable def F_X10_erase (σ : Hp) (x0 : Nat) : Option (Int32 × Hp) := gd 10 x0 σ (b1 (gI 10 19 x0 σ) (fun v1 => b1 (pI 10 19 x0 0 σ) (fun s1 => some (v1, s1))))
theorem F_X10_erase_g {σ : Hp} {x0 : Nat} {r : Int32 × Hp} (h : F_X10_erase σ x0 = some r) : hT σ x0 = some (.inl 10) := (gd_inv h).1
/-! PalaceOfRoomsModel.nextToken -/
noncomputable def F_X10_nextToken_333 (σ : Hp) (x0 : Nat) : Option (Hp) := b1 (gI 10 24 x0 σ) (fun v1 => (if v1 ≤ 2 then b1 (pL 10 23 x0 (-1) σ) (fun s1 => some s1) else b1 (pL 10 23 x0 (-4) σ) (fun s2 => some s2)))
noncomputable def F_X10_nextToken_307 (rec241 : Hp → Option (Hp)) (σ : Hp) (x0 : Nat) (y0 : Int32) (y1 : Nat) : Option (Hp) := b1 (pI 10 25 y1 y0 σ) (fun s1 => b1 (gI 10 24 x0 s1) (fun v1 => b1 (pI 10 24 x0 (v1 + 1) s1) (fun s2 => b1 (gI 10 21 x0 s2) (fun v2 => b1 (pI 10 21 x0 (v2 + 1) s2) (fun s3 => rec241 s3)))))
noncomputable def B_X10_nextToken_241 (x0 : Nat) (rec241 : Hp → Option (Hp)) (σ : Hp) : Option (Hp) := b1 (gI 10 21 x0 σ) (fun v1 => b1 (gI 10 19 x0 σ) (fun v2 => (if v2 ≤ v1 then F_X10_nextToken_333 σ x0 else b1 (gR 10 20 x0 σ) (fun v3 => b1 (gI 10 21 x0 σ) (fun v4 => b1 (aI 0 v3 v4 σ) (fun v5 => b2 (F_X10_in σ v5 48 57) (fun v6 s1 => (if v6 = 0 then F_X10_nextToken_333 s1 x0 else b1 (gI 10 24 x0 s1) (fun v7 => (if 2 ≤ v7 then b1 (gI 10 25 x0 s1) (fun v8 => F_X10_nextToken_307 rec241 s1 x0 v8 x0) else b1 (gI 10 25 x0 s1) (fun v9 => b1 (gR 10 20 x0 s1) (fun v10 => b1 (gI 10 21 x0 s1) (fun v11 => b1 (aI 0 v10 v11 s1) (fun v12 => F_X10_nextToken_307 rec241 s1 x0 (((10 * v9) + v12) - 48) x0))))))))))))))
noncomputable def L_X10_nextToken_241 (x0 : Nat) : Nat → (Hp) → Option (Hp) := it (fun rec241 st => B_X10_nextToken_241 x0 rec241 st)
theorem L_X10_nextToken_241_0 (x0 : Nat) (st : Hp) : L_X10_nextToken_241 x0 0 st = none := rfl
theorem L_X10_nextToken_241_s (x0 : Nat) (n : Nat) (st : Hp) : L_X10_nextToken_241 x0 (n + 1) st = B_X10_nextToken_241 x0 (L_X10_nextToken_241 x0 n) st := rfl
noncomputable def F_X10_nextToken_191 (σ : Hp) (x0 : Nat) : Option (Hp) := b1 (gI 10 21 x0 σ) (fun v1 => b1 (gI 10 22 x0 σ) (fun v2 => (if (v1 - v2) ≤ 9 then b1 (gL 10 23 x0 σ) (fun v3 => b1 (pL 10 23 x0 v3 σ) (fun s1 => some s1)) else b1 (pL 10 23 x0 (-4) σ) (fun s2 => some s2))))
noncomputable def B_X10_nextToken_101 (x0 : Nat) (rec101 : Hp → Option (Hp)) (σ : Hp) : Option (Hp) := b1 (gI 10 21 x0 σ) (fun v1 => b1 (gI 10 19 x0 σ) (fun v2 => (if v2 ≤ v1 then F_X10_nextToken_191 σ x0 else b1 (gR 10 20 x0 σ) (fun v3 => b1 (gI 10 21 x0 σ) (fun v4 => b1 (aI 0 v3 v4 σ) (fun v5 => b2 (F_X10_in σ v5 97 122) (fun v6 s1 => (if v6 = 0 then F_X10_nextToken_191 s1 x0 else b1 (gI 10 21 x0 s1) (fun v7 => b1 (gI 10 22 x0 s1) (fun v8 => (if 9 ≤ (v7 - v8) then b1 (pL 10 23 x0 (-4) s1) (fun s2 => b1 (gI 10 21 x0 s2) (fun v9 => b1 (pI 10 21 x0 (v9 + 1) s2) (fun s3 => rec101 s3))) else b1 (gL 10 23 x0 s1) (fun v10 => b1 (gR 10 20 x0 s1) (fun v11 => b1 (gI 10 21 x0 s1) (fun v12 => b1 (aI 0 v11 v12 s1) (fun v13 => b1 (pL 10 23 x0 (((27 * v10) + ((v13 : Int32).toInt64)) - 96) s1) (fun s4 => b1 (gI 10 21 x0 s4) (fun v14 => b1 (pI 10 21 x0 (v14 + 1) s4) (fun s5 => rec101 s5))))))))))))))))))
noncomputable def L_X10_nextToken_101 (x0 : Nat) : Nat → (Hp) → Option (Hp) := it (fun rec101 st => B_X10_nextToken_101 x0 rec101 st)
theorem L_X10_nextToken_101_0 (x0 : Nat) (st : Hp) : L_X10_nextToken_101 x0 0 st = none := rfl
theorem L_X10_nextToken_101_s (x0 : Nat) (n : Nat) (st : Hp) : L_X10_nextToken_101 x0 (n + 1) st = B_X10_nextToken_101 x0 (L_X10_nextToken_101 x0 n) st := rfl
noncomputable def F_X10_nextToken_38 (σ : Hp) (x0 : Nat) : Option (Hp) := b1 (gI 10 21 x0 σ) (fun v1 => b1 (pI 10 22 x0 v1 σ) (fun s1 => b1 (pI 10 24 x0 0 s1) (fun s2 => b1 (pI 10 25 x0 0 s2) (fun s3 => b1 (gI 10 21 x0 s3) (fun v2 => b1 (gI 10 19 x0 s3) (fun v3 => (if v2 = v3 then b1 (pL 10 23 x0 (-2) s3) (fun s11 => some s11) else b1 (gR 10 20 x0 s3) (fun v4 => b1 (gI 10 21 x0 s3) (fun v5 => b1 (aI 0 v4 v5 s3) (fun v6 => b2 (F_X10_in s3 v6 97 122) (fun v7 s4 => (if v7 = 0 then b1 (gR 10 20 x0 s4) (fun v8 => b1 (gI 10 21 x0 s4) (fun v9 => b1 (aI 0 v8 v9 s4) (fun v10 => b2 (F_X10_in s4 v10 48 57) (fun v11 s5 => (if v11 = 0 then b1 (gR 10 20 x0 s5) (fun v12 => b1 (gI 10 21 x0 s5) (fun v13 => b1 (aI 0 v12 v13 s5) (fun v14 => (if v14 = 59 then b1 (pL 10 23 x0 (-3) s5) (fun s8 => b1 (gI 10 21 x0 s8) (fun v16 => b1 (pI 10 21 x0 (v16 + 1) s8) (fun s9 => some s9))) else b1 (pL 10 23 x0 (-4) s5) (fun s6 => b1 (gI 10 21 x0 s6) (fun v15 => b1 (pI 10 21 x0 (v15 + 1) s6) (fun s7 => some s7))))))) else L_X10_nextToken_241 x0 FU s5))))) else b1 (pL 10 23 x0 0 s4) (fun s10 => L_X10_nextToken_101 x0 FU s10)))))))))))))
noncomputable def B_X10_nextToken_0 (x0 : Nat) (rec0 : Hp → Option (Hp)) (σ : Hp) : Option (Hp) := b1 (gI 10 21 x0 σ) (fun v1 => b1 (gI 10 19 x0 σ) (fun v2 => (if v2 ≤ v1 then F_X10_nextToken_38 σ x0 else b1 (gR 10 20 x0 σ) (fun v3 => b1 (gI 10 21 x0 σ) (fun v4 => b1 (aI 0 v3 v4 σ) (fun v5 => (if v5 = 32 then b1 (gI 10 21 x0 σ) (fun v6 => b1 (pI 10 21 x0 (v6 + 1) σ) (fun s1 => rec0 s1)) else F_X10_nextToken_38 σ x0)))))))
noncomputable def L_X10_nextToken_0 (x0 : Nat) : Nat → (Hp) → Option (Hp) := it (fun rec0 st => B_X10_nextToken_0 x0 rec0 st)
theorem L_X10_nextToken_0_0 (x0 : Nat) (st : Hp) : L_X10_nextToken_0 x0 0 st = none := rfl
theorem L_X10_nextToken_0_s (x0 : Nat) (n : Nat) (st : Hp) : L_X10_nextToken_0 x0 (n + 1) st = B_X10_nextToken_0 x0 (L_X10_nextToken_0 x0 n) st := rfl
noncomputable def F_X10_nextToken (σ : Hp) (x0 : Nat) : Option (Hp) := gd 10 x0 σ (L_X10_nextToken_0 x0 FU σ)
theorem F_X10_nextToken_g {σ : Hp} {x0 : Nat} {r : Hp} (h : F_X10_nextToken σ x0 = some r) : hT σ x0 = some (.inl 10) := (gd_inv h).1
/-! PalaceOfRoomsModel.fails -/
noncomputable def F_X10_fails (σ : Hp) (x0 : Nat) : Option (Int32 × Hp) := gd 10 x0 σ (b1 (gI 10 22 x0 σ) (fun v1 => b1 (pI 10 26 x0 v1 σ) (fun s1 => some (0, s1))))
theorem F_X10_fails_g {σ : Hp} {x0 : Nat} {r : Int32 × Hp} (h : F_X10_fails σ x0 = some r) : hT σ x0 = some (.inl 10) := (gd_inv h).1
/-! PalaceOfRoomsModel.isNumber -/
noncomputable def F_X10_isNumber (σ : Hp) (x0 : Nat) (x1 : Int32) (x2 : Int32) (x3 : Int32) : Option (Int32 × Hp) := gd 10 x0 σ (b1 (F_X10_nextToken σ x0) (fun s1 => b1 (gL 10 23 x0 s1) (fun v2 => (if (lg_cmp v2 (-1)) = 0 then b1 (gI 10 25 x0 s1) (fun v4 => b2 (F_X10_in s1 v4 x2 x3) (fun v5 s3 => (if v5 = 0 then b2 (F_X10_fails s3 x0) (fun v8 s5 => zr v8 (some (v8, s5))) else b1 (gR 10 28 x0 s3) (fun v6 => b1 (gI 10 25 x0 s3) (fun v7 => b1 (sI 0 v6 x1 v7 s3) (fun s4 => some (1, s4))))))) else b2 (F_X10_fails s1 x0) (fun v3 s2 => zr v3 (some (v3, s2)))))))
theorem F_X10_isNumber_g {σ : Hp} {x0 : Nat} {x1 : Int32} {x2 : Int32} {x3 : Int32} {r : Int32 × Hp} (h : F_X10_isNumber σ x0 x1 x2 x3 = some r) : hT σ x0 = some (.inl 10) := (gd_inv h).1
/-! PalaceOfRoomsModel.isWord -/
noncomputable def F_X10_isWord (σ : Hp) (x0 : Nat) (x1 : Int64) : Option (Int32 × Hp) := gd 10 x0 σ (b1 (F_X10_nextToken σ x0) (fun s1 => b1 (gL 10 23 x0 s1) (fun v2 => (if (lg_cmp v2 x1) = 0 then some (1, s1) else b2 (F_X10_fails s1 x0) (fun v3 s2 => (if v3 = 0 then some (0, s2) else some (1, s2)))))))
theorem F_X10_isWord_g {σ : Hp} {x0 : Nat} {x1 : Int64} {r : Int32 × Hp} (h : F_X10_isWord σ x0 x1 = some r) : hT σ x0 = some (.inl 10) := (gd_inv h).1
/-! PalaceOfRoomsModel.isLine -/
noncomputable def F_X10_isLine_70 (σ : Hp) (x0 : Nat) (x1 : Int32) (y0 : Int32) (y1 : Int32) (y2 : Nat) : Option (Int32 × Hp) := b1 (sI 0 y2 y1 y0 σ) (fun s1 => b1 (gR 10 28 x0 s1) (fun v1 => b1 (sI 0 v1 (x1 + 1) 0 s1) (fun s2 => b1 (gR 10 28 x0 s2) (fun v2 => b1 (aI 0 v2 x1 s2) (fun v3 => (if v3 = 0 then b2 (F_X10_isNumber s2 x0 (x1 + 1) 0 7) (fun v4 s3 => (if v4 = 0 then some (0, s3) else b2 (F_X10_isNumber s3 x0 (x1 + 2) 0 8) (fun v5 s4 => (if v5 = 0 then some (0, s4) else some (1, s4))))) else (if v3 = 1 then b2 (F_X10_isNumber s2 x0 (x1 + 2) 1 99) (fun v6 s5 => zr v6 (some (v6, s5))) else (if v3 = 2 then b2 (F_X10_isNumber s2 x0 (x1 + 2) 0 8) (fun v7 s6 => zr v7 (some (v7, s6))) else (if v3 = 3 then b2 (F_X10_isNumber s2 x0 (x1 + 1) 0 7) (fun v8 s7 => (if v8 = 0 then some (0, s7) else b2 (F_X10_isWord s7 x0 3094387) (fun v9 s8 => (if v9 = 0 then some (0, s8) else b2 (F_X10_isNumber s8 x0 (x1 + 2) 1 99) (fun v10 s9 => (if v10 = 0 then some (0, s9) else some (1, s9))))))) else b2 (F_X10_fails s2 x0) (fun v11 s10 => zr v11 (some (v11, s10))))))))))))
noncomputable def F_X10_isLine (σ : Hp) (x0 : Nat) (x1 : Int32) : Option (Int32 × Hp) := gd 10 x0 σ (b1 (F_X10_nextToken σ x0) (fun s1 => b1 (gR 10 28 x0 s1) (fun v2 => b1 (gL 10 23 x0 s1) (fun v3 => (if (lg_cmp v3 365647) = 0 then F_X10_isLine_70 s1 x0 x1 0 x1 v2 else b1 (gL 10 23 x0 s1) (fun v4 => (if (lg_cmp v4 670208) = 0 then F_X10_isLine_70 s1 x0 x1 1 x1 v2 else b1 (gL 10 23 x0 s1) (fun v5 => (if (lg_cmp v5 847604) = 0 then F_X10_isLine_70 s1 x0 x1 2 x1 v2 else b1 (gL 10 23 x0 s1) (fun v6 => (if (lg_cmp v6 453773) = 0 then F_X10_isLine_70 s1 x0 x1 3 x1 v2 else F_X10_isLine_70 s1 x0 x1 (-1) x1 v2)))))))))))
theorem F_X10_isLine_g {σ : Hp} {x0 : Nat} {x1 : Int32} {r : Int32 × Hp} (h : F_X10_isLine σ x0 x1 = some r) : hT σ x0 = some (.inl 10) := (gd_inv h).1
/-! PalaceOfRoomsModel.isRead -/
noncomputable def F_X10_isRead_74 (σ : Hp) (x0 : Nat) : Option (Int32 × Hp) := b1 (gL 10 23 x0 σ) (fun v1 => (if (lg_cmp v1 (-2)) = 0 then some (1, σ) else b2 (F_X10_fails σ x0) (fun v2 s1 => (if v2 = 0 then some (0, s1) else some (1, s1)))))
noncomputable def B_X10_isRead_12 (x0 : Nat) (rec12 : Hp × Int32 → Option (Int32 × Hp)) (σ : Hp) (x1 : Int32) : Option (Int32 × Hp) := (if x1 = 0 then F_X10_isRead_74 σ x0 else b1 (gI 10 27 x0 σ) (fun v1 => b2 (F_X10_isLine σ x0 (3 * v1)) (fun v2 s1 => (if v2 = 0 then some (0, s1) else b1 (gI 10 27 x0 s1) (fun v3 => b1 (pI 10 27 x0 (v3 + 1) s1) (fun s2 => b1 (F_X10_nextToken s2 x0) (fun s3 => b1 (gL 10 23 x0 s3) (fun v5 => (if (lg_cmp v5 (-3)) = 0 then b1 (gI 10 27 x0 s3) (fun v6 => (if 10 ≤ v6 then rec12 (s3, 0) else rec12 (s3, 1))) else rec12 (s3, 0))))))))))
noncomputable def L_X10_isRead_12 (x0 : Nat) : Nat → (Hp × Int32) → Option (Int32 × Hp) := it (fun rec12 st => B_X10_isRead_12 x0 rec12 st.1 st.2)
theorem L_X10_isRead_12_0 (x0 : Nat) (st : Hp × Int32) : L_X10_isRead_12 x0 0 st = none := rfl
theorem L_X10_isRead_12_s (x0 : Nat) (n : Nat) (st : Hp × Int32) : L_X10_isRead_12 x0 (n + 1) st = B_X10_isRead_12 x0 (L_X10_isRead_12 x0 n) st.1 st.2 := rfl
noncomputable def F_X10_isRead (σ : Hp) (x0 : Nat) : Option (Int32 × Hp) := gd 10 x0 σ (b1 (pI 10 21 x0 0 σ) (fun s1 => b1 (pI 10 27 x0 0 s1) (fun s2 => L_X10_isRead_12 x0 FU (s2, 1))))
theorem F_X10_isRead_g {σ : Hp} {x0 : Nat} {r : Int32 × Hp} (h : F_X10_isRead σ x0 = some r) : hT σ x0 = some (.inl 10) := (gd_inv h).1
/-! PalaceOfRoomsModel.fault -/
noncomputable def F_X10_fault (σ : Hp) (x0 : Nat) : Option (Int32 × Hp) := gd 10 x0 σ (b2 (F_X10_isRead σ x0) (fun v1 s1 => (if v1 = 0 then b1 (gI 10 26 x0 s1) (fun v2 => some (v2, s1)) else some ((-1), s1))))
theorem F_X10_fault_g {σ : Hp} {x0 : Nat} {r : Int32 × Hp} (h : F_X10_fault σ x0 = some r) : hT σ x0 = some (.inl 10) := (gd_inv h).1
/-! PalaceOfRoomsModel.rules -/
noncomputable def F_X10_rules_36 (σ : Hp) (x0 : Nat) : Option (Int32 × Hp) := b1 (gI 10 27 x0 σ) (fun v1 => b1 (pI 10 29 x0 v1 σ) (fun s1 => b1 (pI 10 19 x0 0 s1) (fun s2 => b1 (gI 10 29 x0 s2) (fun v2 => some (v2, s2)))))
noncomputable def B_X10_rules_12 (x0 : Nat) (rec12 : Hp × Int32 → Option (Int32 × Hp)) (σ : Hp) (x1 : Int32) : Option (Int32 × Hp) := (if 30 ≤ x1 then F_X10_rules_36 σ x0 else b1 (gR 10 30 x0 σ) (fun v1 => b1 (gR 10 28 x0 σ) (fun v2 => b1 (aI 0 v2 x1 σ) (fun v3 => b1 (sI 0 v1 x1 v3 σ) (fun s1 => rec12 (s1, x1 + 1))))))
noncomputable def L_X10_rules_12 (x0 : Nat) : Nat → (Hp × Int32) → Option (Int32 × Hp) := it (fun rec12 st => B_X10_rules_12 x0 rec12 st.1 st.2)
theorem L_X10_rules_12_0 (x0 : Nat) (st : Hp × Int32) : L_X10_rules_12 x0 0 st = none := rfl
theorem L_X10_rules_12_s (x0 : Nat) (n : Nat) (st : Hp × Int32) : L_X10_rules_12 x0 (n + 1) st = B_X10_rules_12 x0 (L_X10_rules_12 x0 n) st.1 st.2 := rfl
noncomputable def F_X10_rules (σ : Hp) (x0 : Nat) : Option (Int32 × Hp) := gd 10 x0 σ (b2 (F_X10_isRead σ x0) (fun v1 s1 => (if v1 = 0 then some ((-4), s1) else L_X10_rules_12 x0 FU (s1, 0))))
theorem F_X10_rules_g {σ : Hp} {x0 : Nat} {r : Int32 × Hp} (h : F_X10_rules σ x0 = some r) : hT σ x0 = some (.inl 10) := (gd_inv h).1
/-! PalaceOfRoomsModel.standIn -/
noncomputable def B_X10_standIn_7 (σ : Hp) (x0 : Nat) (x1 : Int32) (rec7 : Int32 × Int32 → Option (Int32 × Hp)) (x2 : Int32) (x3 : Int32) : Option (Int32 × Hp) := (if ((6 * x1) + 6) ≤ x3 then some (x2, σ) else b1 (gR 10 9 x0 σ) (fun v1 => b1 (aI 0 v1 x3 σ) (fun v2 => (if v2 = (-1) then rec7 (x2 + 0, x3 + 1) else rec7 (x2 + 1, x3 + 1)))))
noncomputable def L_X10_standIn_7 (σ : Hp) (x0 : Nat) (x1 : Int32) : Nat → (Int32 × Int32) → Option (Int32 × Hp) := it (fun rec7 st => B_X10_standIn_7 σ x0 x1 rec7 st.1 st.2)
theorem L_X10_standIn_7_0 (σ : Hp) (x0 : Nat) (x1 : Int32) (st : Int32 × Int32) : L_X10_standIn_7 σ x0 x1 0 st = none := rfl
theorem L_X10_standIn_7_s (σ : Hp) (x0 : Nat) (x1 : Int32) (n : Nat) (st : Int32 × Int32) : L_X10_standIn_7 σ x0 x1 (n + 1) st = B_X10_standIn_7 σ x0 x1 (L_X10_standIn_7 σ x0 x1 n) st.1 st.2 := rfl
noncomputable def F_X10_standIn (σ : Hp) (x0 : Nat) (x1 : Int32) : Option (Int32 × Hp) := gd 10 x0 σ (L_X10_standIn_7 σ x0 x1 FU (0, 6 * x1))
theorem F_X10_standIn_g {σ : Hp} {x0 : Nat} {x1 : Int32} {r : Int32 × Hp} (h : F_X10_standIn σ x0 x1 = some r) : hT σ x0 = some (.inl 10) := (gd_inv h).1
/-! PalaceOfRoomsModel.lastOf -/
noncomputable def B_X10_lastOf_6 (σ : Hp) (x0 : Nat) (x1 : Int32) (x2 : Int32) (rec6 : Int32 × Int32 → Option (Int32 × Hp)) (x4 : Int32) (x5 : Int32) : Option (Int32 × Hp) := b1 (gI 10 29 x0 σ) (fun v1 => (if v1 ≤ x5 then some (x4, σ) else b1 (gR 10 30 x0 σ) (fun v2 => b1 (aI 0 v2 (3 * x5) σ) (fun v3 => (if v3 = x1 then b1 (gR 10 30 x0 σ) (fun v4 => b1 (aI 0 v4 ((3 * x5) + 1) σ) (fun v5 => (if v5 = x2 then b1 (gR 10 30 x0 σ) (fun v6 => b1 (aI 0 v6 ((3 * x5) + 2) σ) (fun v7 => rec6 (v7, x5 + 1))) else rec6 (x4, x5 + 1)))) else rec6 (x4, x5 + 1))))))
noncomputable def L_X10_lastOf_6 (σ : Hp) (x0 : Nat) (x1 : Int32) (x2 : Int32) : Nat → (Int32 × Int32) → Option (Int32 × Hp) := it (fun rec6 st => B_X10_lastOf_6 σ x0 x1 x2 rec6 st.1 st.2)
theorem L_X10_lastOf_6_0 (σ : Hp) (x0 : Nat) (x1 : Int32) (x2 : Int32) (st : Int32 × Int32) : L_X10_lastOf_6 σ x0 x1 x2 0 st = none := rfl
theorem L_X10_lastOf_6_s (σ : Hp) (x0 : Nat) (x1 : Int32) (x2 : Int32) (n : Nat) (st : Int32 × Int32) : L_X10_lastOf_6 σ x0 x1 x2 (n + 1) st = B_X10_lastOf_6 σ x0 x1 x2 (L_X10_lastOf_6 σ x0 x1 x2 n) st.1 st.2 := rfl
noncomputable def F_X10_lastOf (σ : Hp) (x0 : Nat) (x1 : Int32) (x2 : Int32) (x3 : Int32) : Option (Int32 × Hp) := gd 10 x0 σ (L_X10_lastOf_6 σ x0 x1 x2 FU (x3, 0))
theorem F_X10_lastOf_g {σ : Hp} {x0 : Nat} {x1 : Int32} {x2 : Int32} {x3 : Int32} {r : Int32 × Hp} (h : F_X10_lastOf σ x0 x1 x2 x3 = some r) : hT σ x0 = some (.inl 10) := (gd_inv h).1
/-! PalaceOfRoomsModel.isTooLike -/
noncomputable def F_X10_isTooLike (σ : Hp) (x0 : Nat) (x1 : Int32) (x2 : Int32) (x3 : Int32) : Option (Int32 × Hp) := gd 10 x0 σ (b1 (gR 10 9 x0 σ) (fun v1 => b1 (aI 0 v1 x2 σ) (fun v2 => (if v2 = (-1) then some (0, σ) else b1 (gR 10 9 x0 σ) (fun v3 => b1 (aI 0 v3 x2 σ) (fun v4 => b2 (F_X10_likeness σ x0 v4 x1) (fun v5 s1 => (if v5 ≤ x3 then some (0, s1) else some (1, s1)))))))))
theorem F_X10_isTooLike_g {σ : Hp} {x0 : Nat} {x1 : Int32} {x2 : Int32} {x3 : Int32} {r : Int32 × Hp} (h : F_X10_isTooLike σ x0 x1 x2 x3 = some r) : hT σ x0 = some (.inl 10) := (gd_inv h).1
/-! PalaceOfRoomsModel.bars -/
noncomputable def F_X10_bars_135 (σ : Hp) (x3 : Int32) : Option (Int32 × Hp) := (if (1 : Int32) = 0 then some (x3 + 0, σ) else some (x3 + 4, σ))
noncomputable def F_X10_bars_114 (σ : Hp) (x0 : Nat) (x1 : Int32) (x2 : Int32) (x3 : Int32) (x4 : Int32) : Option (Int32 × Hp) := (if 5 ≤ (x2 - x2 / 6 * 6) then (if (0 : Int32) = 0 then some (x3 + 0, σ) else some (x3 + 4, σ)) else b2 (F_X10_isTooLike σ x0 x1 (x2 + 1) x4) (fun v1 s1 => (if v1 = 0 then (if (0 : Int32) = 0 then some (x3 + 0, s1) else some (x3 + 4, s1)) else F_X10_bars_135 s1 x3)))
noncomputable def F_X10_bars_92 (σ : Hp) (x0 : Nat) (x1 : Int32) (x2 : Int32) (x4 : Int32) (y0 : Int32) (y1 : Int32) : Option (Int32 × Hp) := (if (x2 - x2 / 6 * 6) ≤ 0 then F_X10_bars_114 σ x0 x1 x2 (y1 + y0) x4 else b2 (F_X10_isTooLike σ x0 x1 (x2 - 1) x4) (fun v1 s1 => (if v1 = 0 then F_X10_bars_114 s1 x0 x1 x2 (y1 + y0) x4 else F_X10_bars_135 s1 (y1 + y0))))
noncomputable def F_X10_bars_91 (σ : Hp) (x0 : Nat) (x1 : Int32) (x2 : Int32) (x4 : Int32) (y0 : Int32) : Option (Int32 × Hp) := F_X10_bars_92 σ x0 x1 x2 x4 0 y0
noncomputable def F_X10_bars_44 (σ : Hp) (x0 : Nat) (x1 : Int32) (x2 : Int32) (y0 : Int32) : Option (Int32 × Hp) := b2 (F_X10_lastOf σ x0 2 0 100) (fun v1 s1 => b1 (gR 10 13 x0 s1) (fun v2 => b1 (aI 0 v2 x2 s1) (fun v3 => (if v3 = (-1) then F_X10_bars_91 s1 x0 x1 x2 v1 y0 else b1 (gI 10 0 x0 s1) (fun v4 => b1 (gR 10 13 x0 s1) (fun v5 => b1 (aI 0 v5 x2 s1) (fun v6 => b2 (F_X10_lastOf s1 x0 1 0 0) (fun v7 s2 => (if v7 ≤ (v4 - v6) then F_X10_bars_91 s2 x0 x1 x2 v1 y0 else F_X10_bars_92 s2 x0 x1 x2 v1 2 y0)))))))))
noncomputable def F_X10_bars (σ : Hp) (x0 : Nat) (x1 : Int32) (x2 : Int32) : Option (Int32 × Hp) := gd 10 x0 σ (b2 (F_X10_isThing σ x1) (fun v1 s1 => (if v1 = 0 then some ((-2), s1) else b2 (F_X10_isCorner s1 x2) (fun v2 s2 => (if v2 = 0 then some ((-2), s2) else b2 (F_X10_standIn s2 x0 (x2 / 6)) (fun v3 s3 => b2 (F_X10_lastOf s3 x0 0 (x2 / 6) 100) (fun v4 s4 => (if v3 < v4 then F_X10_bars_44 s4 x0 x1 x2 0 else F_X10_bars_44 s4 x0 x1 x2 1))))))))
theorem F_X10_bars_g {σ : Hp} {x0 : Nat} {x1 : Int32} {x2 : Int32} {r : Int32 × Hp} (h : F_X10_bars σ x0 x1 x2 = some r) : hT σ x0 = some (.inl 10) := (gd_inv h).1
/-! PalaceOfRoomsModel.due -/
noncomputable def F_X10_due_52 (rec4 : Hp × Int32 × Int32 → Option (Int32 × Hp)) (σ : Hp) (x0 : Nat) (x1 : Int32) (x2 : Int32) (y0 : Int32) : Option (Int32 × Hp) := (if y0 = 0 then rec4 (σ, x1 ||| 0, x2 + 1) else rec4 (σ, x1 ||| (1 <<< (x2 &&& 31)), x2 + 1))
noncomputable def F_X10_due_51 (rec4 : Hp × Int32 × Int32 → Option (Int32 × Hp)) (σ : Hp) (x0 : Nat) (x1 : Int32) (x2 : Int32) : Option (Int32 × Hp) := F_X10_due_52 rec4 σ x0 x1 x2 0
noncomputable def F_X10_due_47 (rec4 : Hp × Int32 × Int32 → Option (Int32 × Hp)) (σ : Hp) (x0 : Nat) (x1 : Int32) (x2 : Int32) : Option (Int32 × Hp) := F_X10_due_52 rec4 σ x0 x1 x2 1
noncomputable def B_X10_due_4 (x0 : Nat) (rec4 : Hp × Int32 × Int32 → Option (Int32 × Hp)) (σ : Hp) (x1 : Int32) (x2 : Int32) : Option (Int32 × Hp) := (if 8 ≤ x2 then some (x1, σ) else b2 (F_X10_lastOf σ x0 3 x2 0) (fun v1 s1 => (if v1 ≤ 0 then F_X10_due_51 rec4 s1 x0 x1 x2 else b1 (gR 10 14 x0 s1) (fun v2 => b1 (aI 0 v2 x2 s1) (fun v3 => (if v3 = (-1) then F_X10_due_47 rec4 s1 x0 x1 x2 else b1 (gI 10 0 x0 s1) (fun v4 => b1 (gR 10 14 x0 s1) (fun v5 => b1 (aI 0 v5 x2 s1) (fun v6 => (if (v4 - v6) < v1 then F_X10_due_51 rec4 s1 x0 x1 x2 else F_X10_due_47 rec4 s1 x0 x1 x2))))))))))
noncomputable def L_X10_due_4 (x0 : Nat) : Nat → (Hp × Int32 × Int32) → Option (Int32 × Hp) := it (fun rec4 st => B_X10_due_4 x0 rec4 st.1 st.2.1 st.2.2)
theorem L_X10_due_4_0 (x0 : Nat) (st : Hp × Int32 × Int32) : L_X10_due_4 x0 0 st = none := rfl
theorem L_X10_due_4_s (x0 : Nat) (n : Nat) (st : Hp × Int32 × Int32) : L_X10_due_4 x0 (n + 1) st = B_X10_due_4 x0 (L_X10_due_4 x0 n) st.1 st.2.1 st.2.2 := rfl
noncomputable def F_X10_due (σ : Hp) (x0 : Nat) : Option (Int32 × Hp) := gd 10 x0 σ (L_X10_due_4 x0 FU (σ, 0, 0))
theorem F_X10_due_g {σ : Hp} {x0 : Nat} {r : Int32 × Hp} (h : F_X10_due σ x0 = some r) : hT σ x0 = some (.inl 10) := (gd_inv h).1
/-! PalaceOfRoomsModel.take -/
noncomputable def F_X10_take_96 (σ : Hp) (x5 : Int32) : Option (Int32 × Hp) := (if x5 = 0 then some (1, σ) else some ((-3), σ))
noncomputable def F_X10_take_74 (rec9 : Hp × Int32 × Int32 × Int32 → Option (Int32 × Hp)) (σ : Hp) (x0 : Nat) (x1 : Int64) (x3 : Int32) (x4 : Int32) (x6 : Int32) (y0 : Int32) : Option (Int32 × Hp) := b1 (gR 10 31 x0 σ) (fun v1 => b1 (aI 0 v1 x6 σ) (fun v2 => rec9 (σ, x4 ||| (1 <<< (v2 &&& 31)), y0, x6 + 1)))
noncomputable def F_X10_take_69 (rec9 : Hp × Int32 × Int32 × Int32 → Option (Int32 × Hp)) (σ : Hp) (x0 : Nat) (x1 : Int64) (x3 : Int32) (x4 : Int32) (x6 : Int32) : Option (Int32 × Hp) := F_X10_take_74 rec9 σ x0 x1 x3 x4 x6 1
noncomputable def B_X10_take_9 (x0 : Nat) (x1 : Int64) (x3 : Int32) (rec9 : Hp × Int32 × Int32 × Int32 → Option (Int32 × Hp)) (σ : Hp) (x4 : Int32) (x5 : Int32) (x6 : Int32) : Option (Int32 × Hp) := (if x3 ≤ x6 then F_X10_take_96 σ x5 else b1 (gR 10 31 x0 σ) (fun v1 => b1 (sI 0 v1 x6 (((x1 >>> ((5 * x6 : Int32).toInt64 &&& 63)) &&& 31 : Int64).toInt32) σ) (fun s1 => b1 (gR 10 31 x0 s1) (fun v2 => b1 (aI 0 v2 x6 s1) (fun v3 => (if v3 ≤ 23 then (if x5 = 0 then b1 (gR 10 31 x0 s1) (fun v4 => b1 (aI 0 v4 x6 s1) (fun v5 => (if ((x4 >>> (v5 &&& 31)) &&& 1) = 1 then F_X10_take_69 rec9 s1 x0 x1 x3 x4 x6 else F_X10_take_74 rec9 s1 x0 x1 x3 x4 x6 0))) else F_X10_take_69 rec9 s1 x0 x1 x3 x4 x6) else some ((-2), s1)))))))
noncomputable def L_X10_take_9 (x0 : Nat) (x1 : Int64) (x3 : Int32) : Nat → (Hp × Int32 × Int32 × Int32) → Option (Int32 × Hp) := it (fun rec9 st => B_X10_take_9 x0 x1 x3 rec9 st.1 st.2.1 st.2.2.1 st.2.2.2)
theorem L_X10_take_9_0 (x0 : Nat) (x1 : Int64) (x3 : Int32) (st : Hp × Int32 × Int32 × Int32) : L_X10_take_9 x0 x1 x3 0 st = none := rfl
theorem L_X10_take_9_s (x0 : Nat) (x1 : Int64) (x3 : Int32) (n : Nat) (st : Hp × Int32 × Int32 × Int32) : L_X10_take_9 x0 x1 x3 (n + 1) st = B_X10_take_9 x0 x1 x3 (L_X10_take_9 x0 x1 x3 n) st.1 st.2.1 st.2.2.1 st.2.2.2 := rfl
noncomputable def F_X10_take (σ : Hp) (x0 : Nat) (x1 : Int64) (x3 : Int32) : Option (Int32 × Hp) := gd 10 x0 σ (L_X10_take_9 x0 x1 x3 FU (σ, 0, 0, 0))
theorem F_X10_take_g {σ : Hp} {x0 : Nat} {x1 : Int64} {x3 : Int32} {r : Int32 × Hp} (h : F_X10_take σ x0 x1 x3 = some r) : hT σ x0 = some (.inl 10) := (gd_inv h).1
/-! PalaceOfRoomsModel.speechOf -/
noncomputable def B_X10_speechOf_4 (x0 : Nat) (x1 : Int32) (rec4 : Hp × Int32 × Int32 → Option (Int32 × Hp)) (σ : Hp) (x2 : Int32) (x3 : Int32) : Option (Int32 × Hp) := (if x1 ≤ x3 then some (x2, σ) else b1 (gR 10 31 x0 σ) (fun v1 => b1 (gR 10 32 x0 σ) (fun v2 => b1 (aI 0 v2 (x3 - 1) σ) (fun v3 => b1 (aI 0 v1 v3 σ) (fun v4 => b1 (gR 10 31 x0 σ) (fun v5 => b1 (gR 10 32 x0 σ) (fun v6 => b1 (aI 0 v6 x3 σ) (fun v7 => b1 (aI 0 v5 v7 σ) (fun v8 => b2 (F_X10_likeness σ x0 v4 v8) (fun v9 s1 => rec4 (s1, x2 + v9, x3 + 1)))))))))))
noncomputable def L_X10_speechOf_4 (x0 : Nat) (x1 : Int32) : Nat → (Hp × Int32 × Int32) → Option (Int32 × Hp) := it (fun rec4 st => B_X10_speechOf_4 x0 x1 rec4 st.1 st.2.1 st.2.2)
theorem L_X10_speechOf_4_0 (x0 : Nat) (x1 : Int32) (st : Hp × Int32 × Int32) : L_X10_speechOf_4 x0 x1 0 st = none := rfl
theorem L_X10_speechOf_4_s (x0 : Nat) (x1 : Int32) (n : Nat) (st : Hp × Int32 × Int32) : L_X10_speechOf_4 x0 x1 (n + 1) st = B_X10_speechOf_4 x0 x1 (L_X10_speechOf_4 x0 x1 n) st.1 st.2.1 st.2.2 := rfl
noncomputable def F_X10_speechOf (σ : Hp) (x0 : Nat) (x1 : Int32) : Option (Int32 × Hp) := gd 10 x0 σ (L_X10_speechOf_4 x0 x1 FU (σ, 0, 1))
theorem F_X10_speechOf_g {σ : Hp} {x0 : Nat} {x1 : Int32} {r : Int32 × Hp} (h : F_X10_speechOf σ x0 x1 = some r) : hT σ x0 = some (.inl 10) := (gd_inv h).1
/-! PalaceOfRoomsModel.harmOf -/
noncomputable def B_X10_harmOf_12 (rec4 : Hp × Int32 × Int32 → Option (Int32 × Hp)) (x0 : Nat) (x1 : Int32) (x3 : Int32) (rec12 : Hp × Int32 × Int32 → Option (Int32 × Hp)) (σ : Hp) (x2 : Int32) (x4 : Int32) : Option (Int32 × Hp) := (if x3 ≤ x4 then rec4 (σ, x2, x3 + 1) else b1 (gR 10 31 x0 σ) (fun v1 => b1 (gR 10 32 x0 σ) (fun v2 => b1 (aI 0 v2 x3 σ) (fun v3 => b1 (aI 0 v1 v3 σ) (fun v4 => b1 (gR 10 31 x0 σ) (fun v5 => b1 (gR 10 32 x0 σ) (fun v6 => b1 (aI 0 v6 x4 σ) (fun v7 => b1 (aI 0 v5 v7 σ) (fun v8 => b2 (F_X10_likeness σ x0 v4 v8) (fun v9 s1 => b1 (gR 10 38 x0 s1) (fun v10 => b1 (aI 0 v10 ((10 * x3) + x4) s1) (fun v11 => rec12 (s1, x2 + (v9 * v11), x4 + 1)))))))))))))
noncomputable def L_X10_harmOf_12 (rec4 : Hp × Int32 × Int32 → Option (Int32 × Hp)) (x0 : Nat) (x1 : Int32) (x3 : Int32) : Nat → (Hp × Int32 × Int32) → Option (Int32 × Hp) := it (fun rec12 st => B_X10_harmOf_12 rec4 x0 x1 x3 rec12 st.1 st.2.1 st.2.2)
theorem L_X10_harmOf_12_0 (rec4 : Hp × Int32 × Int32 → Option (Int32 × Hp)) (x0 : Nat) (x1 : Int32) (x3 : Int32) (st : Hp × Int32 × Int32) : L_X10_harmOf_12 rec4 x0 x1 x3 0 st = none := rfl
theorem L_X10_harmOf_12_s (rec4 : Hp × Int32 × Int32 → Option (Int32 × Hp)) (x0 : Nat) (x1 : Int32) (x3 : Int32) (n : Nat) (st : Hp × Int32 × Int32) : L_X10_harmOf_12 rec4 x0 x1 x3 (n + 1) st = B_X10_harmOf_12 rec4 x0 x1 x3 (L_X10_harmOf_12 rec4 x0 x1 x3 n) st.1 st.2.1 st.2.2 := rfl
noncomputable def B_X10_harmOf_4 (x0 : Nat) (x1 : Int32) (rec4 : Hp × Int32 × Int32 → Option (Int32 × Hp)) (σ : Hp) (x2 : Int32) (x3 : Int32) : Option (Int32 × Hp) := (if x1 ≤ x3 then some (x2, σ) else L_X10_harmOf_12 rec4 x0 x1 x3 FU (σ, x2, 0))
noncomputable def L_X10_harmOf_4 (x0 : Nat) (x1 : Int32) : Nat → (Hp × Int32 × Int32) → Option (Int32 × Hp) := it (fun rec4 st => B_X10_harmOf_4 x0 x1 rec4 st.1 st.2.1 st.2.2)
theorem L_X10_harmOf_4_0 (x0 : Nat) (x1 : Int32) (st : Hp × Int32 × Int32) : L_X10_harmOf_4 x0 x1 0 st = none := rfl
theorem L_X10_harmOf_4_s (x0 : Nat) (x1 : Int32) (n : Nat) (st : Hp × Int32 × Int32) : L_X10_harmOf_4 x0 x1 (n + 1) st = B_X10_harmOf_4 x0 x1 (L_X10_harmOf_4 x0 x1 n) st.1 st.2.1 st.2.2 := rfl
noncomputable def F_X10_harmOf (σ : Hp) (x0 : Nat) (x1 : Int32) : Option (Int32 × Hp) := gd 10 x0 σ (L_X10_harmOf_4 x0 x1 FU (σ, 0, 0))
theorem F_X10_harmOf_g {σ : Hp} {x0 : Nat} {x1 : Int32} {r : Int32 × Hp} (h : F_X10_harmOf σ x0 x1 = some r) : hT σ x0 = some (.inl 10) := (gd_inv h).1
/-! PalaceOfRoomsModel.findOrder -/
noncomputable def B_X10_findOrder_147 (rec14 : Hp × Int32 → Option (Hp)) (x0 : Nat) (x1 : Int32) (x2 : Int32) (x3 : Int32) (rec147 : Hp × Int32 → Option (Hp)) (σ : Hp) (x6 : Int32) : Option (Hp) := (if x1 ≤ x6 then rec14 (σ, x3) else b1 (gR 10 33 x0 σ) (fun v1 => b1 (gR 10 31 x0 σ) (fun v2 => b1 (gR 10 32 x0 σ) (fun v3 => b1 (aI 0 v3 x6 σ) (fun v4 => b1 (aI 0 v2 v4 σ) (fun v5 => b1 (sI 0 v1 x6 v5 σ) (fun s1 => rec147 (s1, x6 + 1))))))))
noncomputable def L_X10_findOrder_147 (rec14 : Hp × Int32 → Option (Hp)) (x0 : Nat) (x1 : Int32) (x2 : Int32) (x3 : Int32) : Nat → (Hp × Int32) → Option (Hp) := it (fun rec147 st => B_X10_findOrder_147 rec14 x0 x1 x2 x3 rec147 st.1 st.2)
theorem L_X10_findOrder_147_0 (rec14 : Hp × Int32 → Option (Hp)) (x0 : Nat) (x1 : Int32) (x2 : Int32) (x3 : Int32) (st : Hp × Int32) : L_X10_findOrder_147 rec14 x0 x1 x2 x3 0 st = none := rfl
theorem L_X10_findOrder_147_s (rec14 : Hp × Int32 → Option (Hp)) (x0 : Nat) (x1 : Int32) (x2 : Int32) (x3 : Int32) (n : Nat) (st : Hp × Int32) : L_X10_findOrder_147 rec14 x0 x1 x2 x3 (n + 1) st = B_X10_findOrder_147 rec14 x0 x1 x2 x3 (L_X10_findOrder_147 rec14 x0 x1 x2 x3 n) st.1 st.2 := rfl
noncomputable def F_X10_findOrder_119 (rec14 : Hp × Int32 → Option (Hp)) (σ : Hp) (x0 : Nat) (x1 : Int32) (x2 : Int32) (x3 : Int32) (y0 : Int32) : Option (Hp) := b1 (gI 10 34 x0 σ) (fun v1 => (if v1 = (-1) then b1 (pI 10 34 x0 y0 σ) (fun s1 => L_X10_findOrder_147 rec14 x0 x1 x2 x3 FU (s1, 0)) else b1 (gI 10 34 x0 σ) (fun v2 => (if v2 ≤ y0 then rec14 (σ, x3) else b1 (pI 10 34 x0 y0 σ) (fun s2 => L_X10_findOrder_147 rec14 x0 x1 x2 x3 FU (s2, 0))))))
noncomputable def F_X10_findOrder_74 (rec14 : Hp × Int32 → Option (Hp)) (σ : Hp) (x0 : Nat) (x1 : Int32) (x2 : Int32) (x3 : Int32) (x4 : Int32) : Option (Hp) := b1 (gR 10 32 x0 σ) (fun v1 => b1 (aI 0 v1 x3 σ) (fun v2 => (if v2 = x1 then rec14 (σ, x3 + (-1)) else (if x4 = 0 then (if x4 = 0 then rec14 (σ, x3) else b1 (gR 10 32 x0 σ) (fun v3 => b1 (sI 0 v3 (x3 + 1) (-1) σ) (fun s1 => rec14 (s1, x3 + 1)))) else (if x3 = (x1 - 1) then (if x2 = 0 then b2 (F_X10_harmOf σ x0 x1) (fun v5 s3 => F_X10_findOrder_119 rec14 s3 x0 x1 x2 x3 v5) else b2 (F_X10_speechOf σ x0 x1) (fun v6 s4 => F_X10_findOrder_119 rec14 s4 x0 x1 x2 x3 v6)) else (if x4 = 0 then rec14 (σ, x3) else b1 (gR 10 32 x0 σ) (fun v4 => b1 (sI 0 v4 (x3 + 1) (-1) σ) (fun s2 => rec14 (s2, x3 + 1)))))))))
noncomputable def B_X10_findOrder_34 (rec14 : Hp × Int32 → Option (Hp)) (σ : Hp) (x0 : Nat) (x1 : Int32) (x2 : Int32) (x3 : Int32) (rec34 : Int32 × Int32 → Option (Hp)) (x4 : Int32) (x5 : Int32) : Option (Hp) := (if x3 ≤ x5 then F_X10_findOrder_74 rec14 σ x0 x1 x2 x3 x4 else (if x4 = 0 then rec34 (0, x5 + 1) else b1 (gR 10 32 x0 σ) (fun v1 => b1 (aI 0 v1 x5 σ) (fun v2 => b1 (gR 10 32 x0 σ) (fun v3 => b1 (aI 0 v3 x3 σ) (fun v4 => (if v2 = v4 then rec34 (0, x5 + 1) else rec34 (1, x5 + 1))))))))
noncomputable def L_X10_findOrder_34 (rec14 : Hp × Int32 → Option (Hp)) (σ : Hp) (x0 : Nat) (x1 : Int32) (x2 : Int32) (x3 : Int32) : Nat → (Int32 × Int32) → Option (Hp) := it (fun rec34 st => B_X10_findOrder_34 rec14 σ x0 x1 x2 x3 rec34 st.1 st.2)
theorem L_X10_findOrder_34_0 (rec14 : Hp × Int32 → Option (Hp)) (σ : Hp) (x0 : Nat) (x1 : Int32) (x2 : Int32) (x3 : Int32) (st : Int32 × Int32) : L_X10_findOrder_34 rec14 σ x0 x1 x2 x3 0 st = none := rfl
theorem L_X10_findOrder_34_s (rec14 : Hp × Int32 → Option (Hp)) (σ : Hp) (x0 : Nat) (x1 : Int32) (x2 : Int32) (x3 : Int32) (n : Nat) (st : Int32 × Int32) : L_X10_findOrder_34 rec14 σ x0 x1 x2 x3 (n + 1) st = B_X10_findOrder_34 rec14 σ x0 x1 x2 x3 (L_X10_findOrder_34 rec14 σ x0 x1 x2 x3 n) st.1 st.2 := rfl
noncomputable def B_X10_findOrder_14 (x0 : Nat) (x1 : Int32) (x2 : Int32) (rec14 : Hp × Int32 → Option (Hp)) (σ : Hp) (x3 : Int32) : Option (Hp) := (if x3 < 0 then some σ else b1 (gR 10 32 x0 σ) (fun v1 => b1 (aI 0 v1 x3 σ) (fun v2 => b1 (sI 0 v1 x3 (v2 + 1) σ) (fun s1 => L_X10_findOrder_34 rec14 s1 x0 x1 x2 x3 FU (1, 0)))))
noncomputable def L_X10_findOrder_14 (x0 : Nat) (x1 : Int32) (x2 : Int32) : Nat → (Hp × Int32) → Option (Hp) := it (fun rec14 st => B_X10_findOrder_14 x0 x1 x2 rec14 st.1 st.2)
theorem L_X10_findOrder_14_0 (x0 : Nat) (x1 : Int32) (x2 : Int32) (st : Hp × Int32) : L_X10_findOrder_14 x0 x1 x2 0 st = none := rfl
theorem L_X10_findOrder_14_s (x0 : Nat) (x1 : Int32) (x2 : Int32) (n : Nat) (st : Hp × Int32) : L_X10_findOrder_14 x0 x1 x2 (n + 1) st = B_X10_findOrder_14 x0 x1 x2 (L_X10_findOrder_14 x0 x1 x2 n) st.1 st.2 := rfl
noncomputable def F_X10_findOrder (σ : Hp) (x0 : Nat) (x1 : Int32) (x2 : Int32) : Option (Hp) := gd 10 x0 σ (b1 (pI 10 34 x0 (-1) σ) (fun s1 => b1 (gR 10 32 x0 s1) (fun v1 => b1 (sI 0 v1 0 (-1) s1) (fun s2 => L_X10_findOrder_14 x0 x1 x2 FU (s2, 0)))))
theorem F_X10_findOrder_g {σ : Hp} {x0 : Nat} {x1 : Int32} {x2 : Int32} {r : Hp} (h : F_X10_findOrder σ x0 x1 x2 = some r) : hT σ x0 = some (.inl 10) := (gd_inv h).1
/-! PalaceOfRoomsModel.laid -/
noncomputable def F_X10_laid_142 (σ : Hp) (x0 : Nat) (x3 : Int32) (x4 : Int32) : Option (Int32 × Hp) := b1 (F_X10_findOrder σ x0 x3 1) (fun s1 => (if x4 = (-1) then b1 (gI 10 34 x0 s1) (fun v4 => some (v4, s1)) else (if x3 ≤ x4 then some ((-1), s1) else b1 (gR 10 33 x0 s1) (fun v2 => b1 (aI 0 v2 x4 s1) (fun v3 => some (v3, s1))))))
noncomputable def F_X10_laid_94 (rec42 : Hp × Int32 → Option (Int32 × Hp)) (rec54 : Hp × Int32 → Option (Int32 × Hp)) (σ : Hp) (x0 : Nat) (x3 : Int32) (x4 : Int32) (x6 : Int32) (x7 : Int32) (y0 : Int32) : Option (Int32 × Hp) := b1 (gR 10 31 x0 σ) (fun v1 => b1 (gR 10 31 x0 σ) (fun v2 => b1 (aI 0 v2 x6 σ) (fun v3 => b1 (gR 10 31 x0 σ) (fun v4 => b1 (aI 0 v4 x7 σ) (fun v5 => b1 (sI 0 v1 x7 ((v3 + v5) - y0) σ) (fun s1 => b1 (gR 10 31 x0 s1) (fun v6 => b1 (sI 0 v6 x6 y0 s1) (fun s2 => rec54 (s2, x7 + 1)))))))))
noncomputable def B_X10_laid_54 (rec42 : Hp × Int32 → Option (Int32 × Hp)) (x0 : Nat) (x3 : Int32) (x4 : Int32) (x6 : Int32) (rec54 : Hp × Int32 → Option (Int32 × Hp)) (σ : Hp) (x7 : Int32) : Option (Int32 × Hp) := (if x3 ≤ x7 then rec42 (σ, x6 + 1) else b1 (gR 10 31 x0 σ) (fun v1 => b1 (aI 0 v1 x6 σ) (fun v2 => b1 (gR 10 31 x0 σ) (fun v3 => b1 (aI 0 v3 x7 σ) (fun v4 => (if v4 ≤ v2 then b1 (gR 10 31 x0 σ) (fun v5 => b1 (aI 0 v5 x7 σ) (fun v6 => F_X10_laid_94 rec42 rec54 σ x0 x3 x4 x6 x7 v6)) else b1 (gR 10 31 x0 σ) (fun v7 => b1 (aI 0 v7 x6 σ) (fun v8 => F_X10_laid_94 rec42 rec54 σ x0 x3 x4 x6 x7 v8))))))))
noncomputable def L_X10_laid_54 (rec42 : Hp × Int32 → Option (Int32 × Hp)) (x0 : Nat) (x3 : Int32) (x4 : Int32) (x6 : Int32) : Nat → (Hp × Int32) → Option (Int32 × Hp) := it (fun rec54 st => B_X10_laid_54 rec42 x0 x3 x4 x6 rec54 st.1 st.2)
theorem L_X10_laid_54_0 (rec42 : Hp × Int32 → Option (Int32 × Hp)) (x0 : Nat) (x3 : Int32) (x4 : Int32) (x6 : Int32) (st : Hp × Int32) : L_X10_laid_54 rec42 x0 x3 x4 x6 0 st = none := rfl
theorem L_X10_laid_54_s (rec42 : Hp × Int32 → Option (Int32 × Hp)) (x0 : Nat) (x3 : Int32) (x4 : Int32) (x6 : Int32) (n : Nat) (st : Hp × Int32) : L_X10_laid_54 rec42 x0 x3 x4 x6 (n + 1) st = B_X10_laid_54 rec42 x0 x3 x4 x6 (L_X10_laid_54 rec42 x0 x3 x4 x6 n) st.1 st.2 := rfl
noncomputable def B_X10_laid_42 (x0 : Nat) (x3 : Int32) (x4 : Int32) (rec42 : Hp × Int32 → Option (Int32 × Hp)) (σ : Hp) (x6 : Int32) : Option (Int32 × Hp) := (if x3 ≤ x6 then F_X10_laid_142 σ x0 x3 x4 else L_X10_laid_54 rec42 x0 x3 x4 x6 FU (σ, x6 + 1))
noncomputable def L_X10_laid_42 (x0 : Nat) (x3 : Int32) (x4 : Int32) : Nat → (Hp × Int32) → Option (Int32 × Hp) := it (fun rec42 st => B_X10_laid_42 x0 x3 x4 rec42 st.1 st.2)
theorem L_X10_laid_42_0 (x0 : Nat) (x3 : Int32) (x4 : Int32) (st : Hp × Int32) : L_X10_laid_42 x0 x3 x4 0 st = none := rfl
theorem L_X10_laid_42_s (x0 : Nat) (x3 : Int32) (x4 : Int32) (n : Nat) (st : Hp × Int32) : L_X10_laid_42 x0 x3 x4 (n + 1) st = B_X10_laid_42 x0 x3 x4 (L_X10_laid_42 x0 x3 x4 n) st.1 st.2 := rfl
noncomputable def F_X10_laid (σ : Hp) (x0 : Nat) (x1 : Int64) (x3 : Int32) (x4 : Int32) : Option (Int32 × Hp) := gd 10 x0 σ (b2 (F_X10_in σ x3 1 8) (fun v1 s1 => (if v1 = 0 then some ((-3), s1) else b2 (F_X10_take s1 x0 x1 x3) (fun v2 s2 => (if v2 = 1 then (if (-1) ≤ x4 then L_X10_laid_42 x0 x3 x4 FU (s2, 0) else some ((-3), s2)) else some (v2, s2))))))
theorem F_X10_laid_g {σ : Hp} {x0 : Nat} {x1 : Int64} {x3 : Int32} {x4 : Int32} {r : Int32 × Hp} (h : F_X10_laid σ x0 x1 x3 x4 = some r) : hT σ x0 = some (.inl 10) := (gd_inv h).1
/-! PalaceOfRoomsModel.costOf -/
noncomputable def F_X10_costOf (σ : Hp) (x0 : Nat) (x1 : Int32) : Option (Int32 × Hp) := gd 10 x0 σ (b2 (F_X10_doorsTo σ x0 0 x1) (fun v1 s1 => (if v1 = (-1) then some ((-1), s1) else b2 (F_X10_standIn s1 x0 x1) (fun v2 s2 => some ((2 * v1) + v2, s2)))))
theorem F_X10_costOf_g {σ : Hp} {x0 : Nat} {x1 : Int32} {r : Int32 × Hp} (h : F_X10_costOf σ x0 x1 = some r) : hT σ x0 = some (.inl 10) := (gd_inv h).1
/-! PalaceOfRoomsModel.cost -/
noncomputable def F_X10_cost (σ : Hp) (x0 : Nat) (x1 : Int32) : Option (Int32 × Hp) := gd 10 x0 σ (b2 (F_X10_isRoom σ x1) (fun v1 s1 => (if v1 = 0 then some ((-2), s1) else b2 (F_X10_costOf s1 x0 x1) (fun v2 s2 => some (v2, s2)))))
theorem F_X10_cost_g {σ : Hp} {x0 : Nat} {x1 : Int32} {r : Int32 × Hp} (h : F_X10_cost σ x0 x1 = some r) : hT σ x0 = some (.inl 10) := (gd_inv h).1
/-! PalaceOfRoomsModel.areMinutes -/
noncomputable def B_X10_areMinutes_9 (σ : Hp) (x0 : Int32) (x1 : Int32) (rec9 : Int32 × Int32 → Option (Int32 × Hp)) (x2 : Int32) (x3 : Int32) : Option (Int32 × Hp) := (if x0 ≤ x3 then zr x2 (some (x2, σ)) else (if x2 = 0 then zr x2 (some (x2, σ)) else (if 100 ≤ ((x1 >>> ((7 * x3) &&& 31)) &&& 127) then rec9 (0, x3 + 1) else rec9 (1, x3 + 1))))
noncomputable def L_X10_areMinutes_9 (σ : Hp) (x0 : Int32) (x1 : Int32) : Nat → (Int32 × Int32) → Option (Int32 × Hp) := it (fun rec9 st => B_X10_areMinutes_9 σ x0 x1 rec9 st.1 st.2)
theorem L_X10_areMinutes_9_0 (σ : Hp) (x0 : Int32) (x1 : Int32) (st : Int32 × Int32) : L_X10_areMinutes_9 σ x0 x1 0 st = none := rfl
theorem L_X10_areMinutes_9_s (σ : Hp) (x0 : Int32) (x1 : Int32) (n : Nat) (st : Int32 × Int32) : L_X10_areMinutes_9 σ x0 x1 (n + 1) st = B_X10_areMinutes_9 σ x0 x1 (L_X10_areMinutes_9 σ x0 x1 n) st.1 st.2 := rfl
noncomputable def F_X10_areMinutes (σ : Hp) (x0 : Int32) (x1 : Int32) : Option (Int32 × Hp) := b2 (F_X10_in σ x0 1 4) (fun v1 s1 => L_X10_areMinutes_9 s1 x0 x1 FU (v1, 0))
/-! PalaceOfRoomsModel.isGone -/
noncomputable def F_X10_isGone_134 (σ : Hp) (x0 : Nat) (x1 : Int32) : Option (Int32 × Hp) := b1 (F_X10_goDay σ x0 ((48 * x1) + 48) ((48 * x1) + 48)) (fun s1 => some (1, s1))
noncomputable def F_X10_isGone_115 (σ : Hp) (x0 : Nat) (x1 : Int32) (x2 : Int32) : Option (Int32 × Hp) := (if 8 ≤ x2 then F_X10_isGone_134 σ x0 x1 else b2 (F_X10_goWalk σ x0 x2 ((48 * x1) + 48)) (fun v1 s1 => F_X10_isGone_134 s1 x0 x1))
noncomputable def F_X10_isGone_85 (σ : Hp) (x0 : Nat) (x1 : Int32) (x2 : Int32) (x3 : Int32) (y0 : Int32) : Option (Int32 × Hp) := (if y0 = (-1) then some (0, σ) else (if y0 ≤ ((x3 >>> ((7 * x1) &&& 31)) &&& 127) then F_X10_isGone_115 σ x0 x1 x2 else (if 8 ≤ x2 then F_X10_isGone_115 σ x0 x1 x2 else some (0, σ))))
noncomputable def F_X10_isGone_70 (σ : Hp) (x0 : Nat) (x1 : Int32) (x2 : Int32) (x3 : Int32) : Option (Int32 × Hp) := (if x2 = 8 then F_X10_isGone_85 σ x0 x1 x2 x3 0 else b2 (F_X10_costOf σ x0 x2) (fun v1 s1 => F_X10_isGone_85 s1 x0 x1 x2 x3 v1))
noncomputable def B_X10_isGone_3 (x0 : Nat) (x1 : Int32) (x2 : Int32) (x3 : Int32) (rec3 : Hp × Int32 → Option (Int32 × Hp)) (σ : Hp) (x4 : Int32) : Option (Int32 × Hp) := (if 48 ≤ x4 then F_X10_isGone_70 σ x0 x1 x2 x3 else b1 (gR 10 15 x0 σ) (fun v1 => b1 (gR 10 15 x0 σ) (fun v2 => b1 (aI 0 v2 ((48 * x1) + x4) σ) (fun v3 => b1 (sI 0 v1 (((48 * x1) + 48) + x4) v3 σ) (fun s1 => b1 (gR 10 16 x0 s1) (fun v4 => b1 (gR 10 16 x0 s1) (fun v5 => b1 (aI 0 v5 ((48 * x1) + x4) s1) (fun v6 => b1 (sI 0 v4 (((48 * x1) + 48) + x4) v6 s1) (fun s2 => rec3 (s2, x4 + 1))))))))))
noncomputable def L_X10_isGone_3 (x0 : Nat) (x1 : Int32) (x2 : Int32) (x3 : Int32) : Nat → (Hp × Int32) → Option (Int32 × Hp) := it (fun rec3 st => B_X10_isGone_3 x0 x1 x2 x3 rec3 st.1 st.2)
theorem L_X10_isGone_3_0 (x0 : Nat) (x1 : Int32) (x2 : Int32) (x3 : Int32) (st : Hp × Int32) : L_X10_isGone_3 x0 x1 x2 x3 0 st = none := rfl
theorem L_X10_isGone_3_s (x0 : Nat) (x1 : Int32) (x2 : Int32) (x3 : Int32) (n : Nat) (st : Hp × Int32) : L_X10_isGone_3 x0 x1 x2 x3 (n + 1) st = B_X10_isGone_3 x0 x1 x2 x3 (L_X10_isGone_3 x0 x1 x2 x3 n) st.1 st.2 := rfl
noncomputable def F_X10_isGone (σ : Hp) (x0 : Nat) (x1 : Int32) (x2 : Int32) (x3 : Int32) : Option (Int32 × Hp) := gd 10 x0 σ (L_X10_isGone_3 x0 x1 x2 x3 FU (σ, 0))
theorem F_X10_isGone_g {σ : Hp} {x0 : Nat} {x1 : Int32} {x2 : Int32} {x3 : Int32} {r : Int32 × Hp} (h : F_X10_isGone σ x0 x1 x2 x3 = some r) : hT σ x0 = some (.inl 10) := (gd_inv h).1
/-! PalaceOfRoomsModel.allAt -/
noncomputable def B_X10_allAt_4 (σ : Hp) (x0 : Nat) (x1 : Int32) (rec4 : Int32 × Int32 → Option (Int32 × Hp)) (x2 : Int32) (x3 : Int32) : Option (Int32 × Hp) := (if 48 ≤ x3 then some (x2, σ) else b1 (gR 10 9 x0 σ) (fun v1 => b1 (aI 0 v1 x3 σ) (fun v2 => (if v2 = (-1) then rec4 (x2 + 0, x3 + 1) else b1 (gR 10 15 x0 σ) (fun v3 => b1 (aI 0 v3 (x1 + x3) σ) (fun v4 => rec4 (x2 + v4, x3 + 1)))))))
noncomputable def L_X10_allAt_4 (σ : Hp) (x0 : Nat) (x1 : Int32) : Nat → (Int32 × Int32) → Option (Int32 × Hp) := it (fun rec4 st => B_X10_allAt_4 σ x0 x1 rec4 st.1 st.2)
theorem L_X10_allAt_4_0 (σ : Hp) (x0 : Nat) (x1 : Int32) (st : Int32 × Int32) : L_X10_allAt_4 σ x0 x1 0 st = none := rfl
theorem L_X10_allAt_4_s (σ : Hp) (x0 : Nat) (x1 : Int32) (n : Nat) (st : Int32 × Int32) : L_X10_allAt_4 σ x0 x1 (n + 1) st = B_X10_allAt_4 σ x0 x1 (L_X10_allAt_4 σ x0 x1 n) st.1 st.2 := rfl
noncomputable def F_X10_allAt (σ : Hp) (x0 : Nat) (x1 : Int32) : Option (Int32 × Hp) := gd 10 x0 σ (L_X10_allAt_4 σ x0 x1 FU (0, 0))
theorem F_X10_allAt_g {σ : Hp} {x0 : Nat} {x1 : Int32} {r : Int32 × Hp} (h : F_X10_allAt σ x0 x1 = some r) : hT σ x0 = some (.inl 10) := (gd_inv h).1
/-! PalaceOfRoomsModel.plan -/
noncomputable def F_X10_plan_175 (σ : Hp) (x0 : Nat) (x3 : Int32) (x4 : Int32) : Option (Int32 × Hp) := (if x3 = (-1) then some (x4, σ) else b1 (gR 10 18 x0 σ) (fun v1 => b1 (aI 0 v1 x3 σ) (fun v2 => some (v2, σ))))
noncomputable def F_X10_plan_153 (rec39 : Hp × Int32 × Int32 → Option (Int32 × Hp)) (σ : Hp) (x0 : Nat) (x1 : Int32) (x2 : Int32) (x3 : Int32) (x4 : Int32) (x5 : Int32) (x6 : Int32) : Option (Int32 × Hp) := (if x6 ≤ x4 then rec39 (σ, x4, x5 + (-1)) else rec39 (σ, x6, x5 + (-1)))
noncomputable def B_X10_plan_120 (rec39 : Hp × Int32 × Int32 → Option (Int32 × Hp)) (x0 : Nat) (x1 : Int32) (x2 : Int32) (x3 : Int32) (x4 : Int32) (x5 : Int32) (x6 : Int32) (rec120 : Hp × Int32 → Option (Int32 × Hp)) (σ : Hp) (x7 : Int32) : Option (Int32 × Hp) := (if x1 ≤ x7 then F_X10_plan_153 rec39 σ x0 x1 x2 x3 x4 x5 x6 else (if x6 ≤ x4 then F_X10_plan_153 rec39 σ x0 x1 x2 x3 x4 x5 x6 else b1 (gR 10 18 x0 σ) (fun v1 => b1 (gR 10 17 x0 σ) (fun v2 => b1 (aI 0 v2 x7 σ) (fun v3 => b1 (sI 0 v1 x7 v3 σ) (fun s1 => rec120 (s1, x7 + 1)))))))
noncomputable def L_X10_plan_120 (rec39 : Hp × Int32 × Int32 → Option (Int32 × Hp)) (x0 : Nat) (x1 : Int32) (x2 : Int32) (x3 : Int32) (x4 : Int32) (x5 : Int32) (x6 : Int32) : Nat → (Hp × Int32) → Option (Int32 × Hp) := it (fun rec120 st => B_X10_plan_120 rec39 x0 x1 x2 x3 x4 x5 x6 rec120 st.1 st.2)
theorem L_X10_plan_120_0 (rec39 : Hp × Int32 × Int32 → Option (Int32 × Hp)) (x0 : Nat) (x1 : Int32) (x2 : Int32) (x3 : Int32) (x4 : Int32) (x5 : Int32) (x6 : Int32) (st : Hp × Int32) : L_X10_plan_120 rec39 x0 x1 x2 x3 x4 x5 x6 0 st = none := rfl
theorem L_X10_plan_120_s (rec39 : Hp × Int32 × Int32 → Option (Int32 × Hp)) (x0 : Nat) (x1 : Int32) (x2 : Int32) (x3 : Int32) (x4 : Int32) (x5 : Int32) (x6 : Int32) (n : Nat) (st : Hp × Int32) : L_X10_plan_120 rec39 x0 x1 x2 x3 x4 x5 x6 (n + 1) st = B_X10_plan_120 rec39 x0 x1 x2 x3 x4 x5 x6 (L_X10_plan_120 rec39 x0 x1 x2 x3 x4 x5 x6 n) st.1 st.2 := rfl
noncomputable def B_X10_plan_39 (x0 : Nat) (x1 : Int32) (x2 : Int32) (x3 : Int32) (rec39 : Hp × Int32 × Int32 → Option (Int32 × Hp)) (σ : Hp) (x4 : Int32) (x5 : Int32) : Option (Int32 × Hp) := (if x5 < 0 then F_X10_plan_175 σ x0 x3 x4 else b1 (gR 10 17 x0 σ) (fun v1 => b1 (aI 0 v1 x5 σ) (fun v2 => b1 (sI 0 v1 x5 (v2 + 1) σ) (fun s1 => b1 (gR 10 17 x0 s1) (fun v3 => b1 (aI 0 v3 x5 s1) (fun v4 => (if v4 ≤ 8 then b1 (gR 10 17 x0 s1) (fun v5 => b1 (aI 0 v5 x5 s1) (fun v6 => b2 (F_X10_isGone s1 x0 x5 v6 x2) (fun v7 s2 => (if v7 = 0 then rec39 (s2, x4, x5) else b1 (gR 10 17 x0 s2) (fun v8 => b1 (sI 0 v8 (x5 + 1) (-1) s2) (fun s3 => (if (x5 + 1) = x1 then b2 (F_X10_allAt s3 x0 (48 * x1)) (fun v9 s4 => L_X10_plan_120 rec39 x0 x1 x2 x3 x4 (x5 + 1) v9 FU (s4, 0)) else rec39 (s3, x4, x5 + 1)))))))) else rec39 (s1, x4, x5 + (-1)))))))))
noncomputable def L_X10_plan_39 (x0 : Nat) (x1 : Int32) (x2 : Int32) (x3 : Int32) : Nat → (Hp × Int32 × Int32) → Option (Int32 × Hp) := it (fun rec39 st => B_X10_plan_39 x0 x1 x2 x3 rec39 st.1 st.2.1 st.2.2)
theorem L_X10_plan_39_0 (x0 : Nat) (x1 : Int32) (x2 : Int32) (x3 : Int32) (st : Hp × Int32 × Int32) : L_X10_plan_39 x0 x1 x2 x3 0 st = none := rfl
theorem L_X10_plan_39_s (x0 : Nat) (x1 : Int32) (x2 : Int32) (x3 : Int32) (n : Nat) (st : Hp × Int32 × Int32) : L_X10_plan_39 x0 x1 x2 x3 (n + 1) st = B_X10_plan_39 x0 x1 x2 x3 (L_X10_plan_39 x0 x1 x2 x3 n) st.1 st.2.1 st.2.2 := rfl
noncomputable def F_X10_plan (σ : Hp) (x0 : Nat) (x1 : Int32) (x2 : Int32) (x3 : Int32) : Option (Int32 × Hp) := gd 10 x0 σ (b2 (F_X10_areMinutes σ x1 x2) (fun v1 s1 => (if v1 = 0 then some ((-3), s1) else b2 (F_X10_in s1 x3 (-1) (x1 - 1)) (fun v2 s2 => (if v2 = 0 then some ((-3), s2) else b1 (F_X10_lookAhead s2 x0) (fun s3 => b1 (gR 10 17 x0 s3) (fun v4 => b1 (sI 0 v4 0 (-1) s3) (fun s4 => L_X10_plan_39 x0 x1 x2 x3 FU (s4, (-1), 0)))))))))
theorem F_X10_plan_g {σ : Hp} {x0 : Nat} {x1 : Int32} {x2 : Int32} {x3 : Int32} {r : Int32 × Hp} (h : F_X10_plan σ x0 x1 x2 x3 = some r) : hT σ x0 = some (.inl 10) := (gd_inv h).1
/-! PalaceOfRoomsModel.judge -/
noncomputable def F_X10_judge_83 (σ : Hp) (x0 : Nat) (x2 : Int32) : Option (Int32 × Hp) := b2 (F_X10_allAt σ x0 (48 * x2)) (fun v1 s1 => some (v1, s1))
noncomputable def B_X10_judge_50 (x0 : Nat) (x1 : Int32) (x2 : Int32) (x3 : Int32) (rec50 : Hp × Int32 → Option (Int32 × Hp)) (σ : Hp) (x4 : Int32) : Option (Int32 × Hp) := (if x2 ≤ x4 then F_X10_judge_83 σ x0 x2 else b2 (F_X10_isGone σ x0 x4 ((x1 >>> ((4 * x4) &&& 31)) &&& 15) x3) (fun v1 s1 => (if v1 = 0 then some ((-1), s1) else rec50 (s1, x4 + 1))))
noncomputable def L_X10_judge_50 (x0 : Nat) (x1 : Int32) (x2 : Int32) (x3 : Int32) : Nat → (Hp × Int32) → Option (Int32 × Hp) := it (fun rec50 st => B_X10_judge_50 x0 x1 x2 x3 rec50 st.1 st.2)
theorem L_X10_judge_50_0 (x0 : Nat) (x1 : Int32) (x2 : Int32) (x3 : Int32) (st : Hp × Int32) : L_X10_judge_50 x0 x1 x2 x3 0 st = none := rfl
theorem L_X10_judge_50_s (x0 : Nat) (x1 : Int32) (x2 : Int32) (x3 : Int32) (n : Nat) (st : Hp × Int32) : L_X10_judge_50 x0 x1 x2 x3 (n + 1) st = B_X10_judge_50 x0 x1 x2 x3 (L_X10_judge_50 x0 x1 x2 x3 n) st.1 st.2 := rfl
noncomputable def B_X10_judge_14 (σ : Hp) (x0 : Nat) (x1 : Int32) (x2 : Int32) (x3 : Int32) (rec14 : Int32 → Option (Int32 × Hp)) (x4 : Int32) : Option (Int32 × Hp) := (if x2 ≤ x4 then b1 (F_X10_lookAhead σ x0) (fun s1 => L_X10_judge_50 x0 x1 x2 x3 FU (s1, 0)) else (if ((x1 >>> ((4 * x4) &&& 31)) &&& 15) ≤ 8 then rec14 (x4 + 1) else some ((-3), σ)))
noncomputable def L_X10_judge_14 (σ : Hp) (x0 : Nat) (x1 : Int32) (x2 : Int32) (x3 : Int32) : Nat → (Int32) → Option (Int32 × Hp) := it (fun rec14 st => B_X10_judge_14 σ x0 x1 x2 x3 rec14 st)
theorem L_X10_judge_14_0 (σ : Hp) (x0 : Nat) (x1 : Int32) (x2 : Int32) (x3 : Int32) (st : Int32) : L_X10_judge_14 σ x0 x1 x2 x3 0 st = none := rfl
theorem L_X10_judge_14_s (σ : Hp) (x0 : Nat) (x1 : Int32) (x2 : Int32) (x3 : Int32) (n : Nat) (st : Int32) : L_X10_judge_14 σ x0 x1 x2 x3 (n + 1) st = B_X10_judge_14 σ x0 x1 x2 x3 (L_X10_judge_14 σ x0 x1 x2 x3 n) st := rfl
noncomputable def F_X10_judge (σ : Hp) (x0 : Nat) (x1 : Int32) (x2 : Int32) (x3 : Int32) : Option (Int32 × Hp) := gd 10 x0 σ (b2 (F_X10_areMinutes σ x2 x3) (fun v1 s1 => (if v1 = 0 then some ((-3), s1) else L_X10_judge_14 s1 x0 x1 x2 x3 FU 0)))
theorem F_X10_judge_g {σ : Hp} {x0 : Nat} {x1 : Int32} {x2 : Int32} {x3 : Int32} {r : Int32 × Hp} (h : F_X10_judge σ x0 x1 x2 x3 = some r) : hT σ x0 = some (.inl 10) := (gd_inv h).1
/-! PalaceOfRoomsModel.right -/
noncomputable def F_X10_right_189 (σ : Hp) (x0 : Nat) (x1 : Int32) (x2 : Int32) (x3 : Int32) (x4 : Int32) : Option (Int32 × Hp) := (if x2 = 0 then b1 (gR 10 10 x0 σ) (fun v1 => b1 (aI 0 v1 x1 σ) (fun v2 => dz x4 (some (v2 / x4, σ)))) else dz x4 (some (x3 / x4, σ)))
noncomputable def B_X10_right_166 (σ : Hp) (x0 : Nat) (x1 : Int32) (x2 : Int32) (x3 : Int32) (rec166 : Int32 × Int32 → Option (Int32 × Hp)) (x4 : Int32) (x5 : Int32) : Option (Int32 × Hp) := (if x5 = 0 then F_X10_right_189 σ x0 x1 x2 x3 x4 else dz x5 (rec166 (x5, x4 - x4 / x5 * x5)))
noncomputable def L_X10_right_166 (σ : Hp) (x0 : Nat) (x1 : Int32) (x2 : Int32) (x3 : Int32) : Nat → (Int32 × Int32) → Option (Int32 × Hp) := it (fun rec166 st => B_X10_right_166 σ x0 x1 x2 x3 rec166 st.1 st.2)
theorem L_X10_right_166_0 (σ : Hp) (x0 : Nat) (x1 : Int32) (x2 : Int32) (x3 : Int32) (st : Int32 × Int32) : L_X10_right_166 σ x0 x1 x2 x3 0 st = none := rfl
theorem L_X10_right_166_s (σ : Hp) (x0 : Nat) (x1 : Int32) (x2 : Int32) (x3 : Int32) (n : Nat) (st : Int32 × Int32) : L_X10_right_166 σ x0 x1 x2 x3 (n + 1) st = B_X10_right_166 σ x0 x1 x2 x3 (L_X10_right_166 σ x0 x1 x2 x3 n) st.1 st.2 := rfl
noncomputable def F_X10_right_148 (σ : Hp) (x0 : Nat) (x1 : Int32) (x2 : Int32) (x3 : Int32) : Option (Int32 × Hp) := (if x3 = 0 then some ((-4), σ) else b1 (gR 10 10 x0 σ) (fun v1 => b1 (aI 0 v1 x1 σ) (fun v2 => L_X10_right_166 σ x0 x1 x2 x3 FU (x3, v2))))
noncomputable def B_X10_right_72 (x0 : Nat) (x1 : Int32) (x2 : Int32) (rec72 : Hp × Int32 × Int32 → Option (Int32 × Hp)) (σ : Hp) (x3 : Int32) (x4 : Int32) : Option (Int32 × Hp) := (if (((x1 / 6) * 6) + 6) ≤ x4 then F_X10_right_148 σ x0 x1 x2 x3 else (if x4 = x1 then rec72 (σ, x3 + 0, x4 + 1) else b1 (gR 10 9 x0 σ) (fun v1 => b1 (aI 0 v1 x4 σ) (fun v2 => (if v2 = (-1) then rec72 (σ, x3 + 0, x4 + 1) else b1 (gR 10 9 x0 σ) (fun v3 => b1 (aI 0 v3 x4 σ) (fun v4 => b1 (gR 10 9 x0 σ) (fun v5 => b1 (aI 0 v5 x1 σ) (fun v6 => b2 (F_X10_likeness σ x0 v4 v6) (fun v7 s1 => b1 (gI 10 6 x0 s1) (fun v8 => (if v7 < v8 then rec72 (s1, x3 + 0, x4 + 1) else b1 (gR 10 10 x0 s1) (fun v9 => b1 (aI 0 v9 x4 s1) (fun v10 => rec72 (s1, x3 + v10, x4 + 1)))))))))))))))
noncomputable def L_X10_right_72 (x0 : Nat) (x1 : Int32) (x2 : Int32) : Nat → (Hp × Int32 × Int32) → Option (Int32 × Hp) := it (fun rec72 st => B_X10_right_72 x0 x1 x2 rec72 st.1 st.2.1 st.2.2)
theorem L_X10_right_72_0 (x0 : Nat) (x1 : Int32) (x2 : Int32) (st : Hp × Int32 × Int32) : L_X10_right_72 x0 x1 x2 0 st = none := rfl
theorem L_X10_right_72_s (x0 : Nat) (x1 : Int32) (x2 : Int32) (n : Nat) (st : Hp × Int32 × Int32) : L_X10_right_72 x0 x1 x2 (n + 1) st = B_X10_right_72 x0 x1 x2 (L_X10_right_72 x0 x1 x2 n) st.1 st.2.1 st.2.2 := rfl
noncomputable def F_X10_right (σ : Hp) (x0 : Nat) (x1 : Int32) (x2 : Int32) : Option (Int32 × Hp) := gd 10 x0 σ (b2 (F_X10_isCorner σ x1) (fun v1 s1 => (if v1 = 0 then some ((-2), s1) else b2 (F_X10_in s1 x2 0 1) (fun v2 s2 => (if v2 = 0 then some ((-3), s2) else b1 (gR 10 9 x0 s2) (fun v3 => b1 (aI 0 v3 x1 s2) (fun v4 => (if v4 = (-1) then some ((-4), s2) else b1 (gR 10 10 x0 s2) (fun v5 => b1 (aI 0 v5 x1 s2) (fun v6 => b1 (gR 10 11 x0 s2) (fun v7 => b1 (aI 0 v7 x1 s2) (fun v8 => (if v8 = (-1) then L_X10_right_72 x0 x1 x2 FU (s2, v6 + 0, (x1 / 6) * 6) else b1 (gR 10 12 x0 s2) (fun v9 => b1 (aI 0 v9 x1 s2) (fun v10 => L_X10_right_72 x0 x1 x2 FU (s2, v6 + v10, (x1 / 6) * 6))))))))))))))))
theorem F_X10_right_g {σ : Hp} {x0 : Nat} {x1 : Int32} {x2 : Int32} {r : Int32 × Hp} (h : F_X10_right σ x0 x1 x2 = some r) : hT σ x0 = some (.inl 10) := (gd_inv h).1
/-! PalaceOfRoomsModel.causes -/
noncomputable def F_X10_causes_88 (σ : Hp) (x0 : Nat) (x1 : Int32) (x3 : Int32) (y0 : Int32) (y1 : Int32) : Option (Int32 × Hp) := (if x3 = (-1) then some ((y1 + y0) + 0, σ) else (if (x3 - x3 / 6 * 6) = (x1 - x1 / 6 * 6) then b2 (F_X10_areJoined σ x0 (x3 / 6) (x1 / 6)) (fun v1 s1 => (if v1 = 0 then some ((y1 + y0) + 0, s1) else some ((y1 + y0) + 4, s1))) else some ((y1 + y0) + 0, σ)))
noncomputable def F_X10_causes_69 (σ : Hp) (x0 : Nat) (x1 : Int32) (x2 : Int32) (x3 : Int32) (y0 : Int32) : Option (Int32 × Hp) := b1 (gR 10 11 x0 σ) (fun v1 => b1 (aI 0 v1 x1 σ) (fun v2 => (if v2 = x2 then F_X10_causes_88 σ x0 x1 x3 2 y0 else F_X10_causes_88 σ x0 x1 x3 0 y0)))
noncomputable def F_X10_causes (σ : Hp) (x0 : Nat) (x1 : Int32) (x2 : Int32) : Option (Int32 × Hp) := gd 10 x0 σ (b2 (F_X10_isCorner σ x1) (fun v1 s1 => (if v1 = 0 then some ((-2), s1) else b2 (F_X10_isThing s1 x2) (fun v2 s2 => (if v2 = 0 then some ((-2), s2) else b1 (gR 10 9 x0 s2) (fun v3 => b1 (aI 0 v3 x1 s2) (fun v4 => (if v4 = (-1) then some ((-4), s2) else b1 (gR 10 9 x0 s2) (fun v5 => b1 (aI 0 v5 x1 s2) (fun v6 => (if v6 = x2 then some ((-4), s2) else b2 (F_X10_cornerOf s2 x0 x2) (fun v7 s3 => b1 (gR 10 9 x0 s3) (fun v8 => b1 (aI 0 v8 x1 s3) (fun v9 => b2 (F_X10_likeness s3 x0 x2 v9) (fun v10 s4 => b1 (gI 10 6 x0 s4) (fun v11 => (if v10 < v11 then F_X10_causes_69 s4 x0 x1 x2 v7 0 else F_X10_causes_69 s4 x0 x1 x2 v7 1)))))))))))))))))
theorem F_X10_causes_g {σ : Hp} {x0 : Nat} {x1 : Int32} {x2 : Int32} {r : Int32 × Hp} (h : F_X10_causes σ x0 x1 x2 = some r) : hT σ x0 = some (.inl 10) := (gd_inv h).1
/-! PalaceOfRoomsModel.asked -/
noncomputable def F_X10_asked_41 (σ : Hp) (x3 : Int32) (y0 : Int32) : Option (Int32 × Hp) := (if y0 = (-1) then some ((-1), σ) else some ((y0 + (x3 - x3 / 6 * 6)) + 1, σ))
noncomputable def F_X10_asked (σ : Hp) (x0 : Nat) (x1 : Int32) (x2 : Int32) : Option (Int32 × Hp) := gd 10 x0 σ (b2 (F_X10_isThing σ x1) (fun v1 s1 => (if v1 = 0 then some ((-2), s1) else b2 (F_X10_isRoom s1 x2) (fun v2 s2 => (if v2 = 0 then some ((-2), s2) else b2 (F_X10_cornerOf s2 x0 x1) (fun v3 s3 => (if v3 = (-1) then F_X10_asked_41 s3 v3 (-1) else b2 (F_X10_doorsTo s3 x0 x2 (v3 / 6)) (fun v4 s4 => F_X10_asked_41 s4 v3 v4))))))))
theorem F_X10_asked_g {σ : Hp} {x0 : Nat} {x1 : Int32} {x2 : Int32} {r : Int32 × Hp} (h : F_X10_asked σ x0 x1 x2 = some r) : hT σ x0 = some (.inl 10) := (gd_inv h).1
/-! PalaceOfRoomsModel.beside -/
noncomputable def B_X10_beside_49 (σ : Hp) (x0 : Nat) (x2 : Int32) (x3 : Int32) (rec49 : Int32 × Int32 → Option (Int32 × Hp)) (x4 : Int32) (x5 : Int32) : Option (Int32 × Hp) := (if x5 < ((x3 / 6) * 6) then some (x4, σ) else (if (((x3 / 6) * 6) + 6) ≤ x5 then some (x4, σ) else (if x4 = (-1) then b1 (gR 10 9 x0 σ) (fun v1 => b1 (aI 0 v1 x5 σ) (fun v2 => (if x2 = 0 then rec49 (v2, x5 + (-1)) else rec49 (v2, x5 + 1)))) else some (x4, σ))))
noncomputable def L_X10_beside_49 (σ : Hp) (x0 : Nat) (x2 : Int32) (x3 : Int32) : Nat → (Int32 × Int32) → Option (Int32 × Hp) := it (fun rec49 st => B_X10_beside_49 σ x0 x2 x3 rec49 st.1 st.2)
theorem L_X10_beside_49_0 (σ : Hp) (x0 : Nat) (x2 : Int32) (x3 : Int32) (st : Int32 × Int32) : L_X10_beside_49 σ x0 x2 x3 0 st = none := rfl
theorem L_X10_beside_49_s (σ : Hp) (x0 : Nat) (x2 : Int32) (x3 : Int32) (n : Nat) (st : Int32 × Int32) : L_X10_beside_49 σ x0 x2 x3 (n + 1) st = B_X10_beside_49 σ x0 x2 x3 (L_X10_beside_49 σ x0 x2 x3 n) st.1 st.2 := rfl
noncomputable def F_X10_beside (σ : Hp) (x0 : Nat) (x1 : Int32) (x2 : Int32) : Option (Int32 × Hp) := gd 10 x0 σ (b2 (F_X10_isThing σ x1) (fun v1 s1 => (if v1 = 0 then some ((-2), s1) else b2 (F_X10_in s1 x2 0 1) (fun v2 s2 => (if v2 = 0 then some ((-3), s2) else b2 (F_X10_cornerOf s2 x0 x1) (fun v3 s3 => (if v3 = (-1) then some ((-1), s3) else (if x2 = 0 then L_X10_beside_49 s3 x0 x2 v3 FU ((-1), v3 + (-1)) else L_X10_beside_49 s3 x0 x2 v3 FU ((-1), v3 + 1)))))))))
theorem F_X10_beside_g {σ : Hp} {x0 : Nat} {x1 : Int32} {x2 : Int32} {r : Int32 × Hp} (h : F_X10_beside σ x0 x1 x2 = some r) : hT σ x0 = some (.inl 10) := (gd_inv h).1
/-! PalaceOfRoomsModel.isPupil -/
noncomputable def F_X10_isPupil (σ : Hp) (x0 : Int32) : Option (Int32 × Hp) := b2 (F_X10_in σ x0 0 3) (fun v1 s1 => zr v1 (some (v1, s1)))
/-! PalaceOfRoomsModel.answer -/
noncomputable def F_X10_answer (σ : Hp) (x0 : Nat) (x1 : Int32) (x2 : Int32) (x3 : Int32) : Option (Int32 × Hp) := gd 10 x0 σ (b2 (F_X10_isPupil σ x1) (fun v1 s1 => (if v1 = 0 then some ((-2), s1) else b2 (F_X10_in s1 x2 1 60) (fun v2 s2 => (if v2 = 0 then some ((-3), s2) else b1 (gR 10 35 x0 s2) (fun v3 => b1 (aI 0 v3 x1 s2) (fun v4 => (if v4 = 12 then some ((-5), s2) else b1 (gR 10 36 x0 s2) (fun v5 => b1 (gR 10 35 x0 s2) (fun v6 => b1 (aI 0 v6 x1 s2) (fun v7 => b1 (sI 0 v5 ((12 * x1) + v7) x2 s2) (fun s3 => b1 (gR 10 37 x0 s3) (fun v8 => b1 (gR 10 35 x0 s3) (fun v9 => b1 (aI 0 v9 x1 s3) (fun v10 => b1 (sI 1 v8 ((12 * x1) + v10) (vp_nar .boolean x3) s3) (fun s4 => b1 (gR 10 35 x0 s4) (fun v11 => b1 (aI 0 v11 x1 s4) (fun v12 => b1 (sI 0 v11 x1 (v12 + 1) s4) (fun s5 => b1 (gR 10 35 x0 s5) (fun v13 => b1 (aI 0 v13 x1 s5) (fun v14 => some (v14, s5))))))))))))))))))))))
theorem F_X10_answer_g {σ : Hp} {x0 : Nat} {x1 : Int32} {x2 : Int32} {x3 : Int32} {r : Int32 × Hp} (h : F_X10_answer σ x0 x1 x2 x3 = some r) : hT σ x0 = some (.inl 10) := (gd_inv h).1
/-! PalaceOfRoomsModel.isRight -/
noncomputable def F_X10_isRight (σ : Hp) (x0 : Int32) (x1 : Int32) : Option (Int32 × Hp) := (if (100 - (((x0 / 9) + 1) * x1)) < (10 * ((x0 - x0 / 9 * 9) + 1)) then some (0, σ) else some (1, σ))
/-! PalaceOfRoomsModel.agrees -/
noncomputable def B_X10_agrees_5 (x0 : Nat) (x1 : Int32) (x2 : Int32) (rec5 : Hp × Int32 × Int32 → Option (Int32 × Hp)) (σ : Hp) (x3 : Int32) (x4 : Int32) : Option (Int32 × Hp) := b1 (gR 10 35 x0 σ) (fun v1 => b1 (aI 0 v1 x1 σ) (fun v2 => (if v2 ≤ x4 then some (x3, σ) else b1 (gR 10 36 x0 σ) (fun v3 => b1 (aI 0 v3 ((12 * x1) + x4) σ) (fun v4 => b2 (F_X10_isRight σ x2 v4) (fun v5 s1 => b1 (gR 10 37 x0 s1) (fun v6 => b1 (aI 1 v6 ((12 * x1) + x4) s1) (fun v7 => (if v5 = v7 then rec5 (s1, x3 + 1, x4 + 1) else rec5 (s1, x3 + 0, x4 + 1))))))))))
noncomputable def L_X10_agrees_5 (x0 : Nat) (x1 : Int32) (x2 : Int32) : Nat → (Hp × Int32 × Int32) → Option (Int32 × Hp) := it (fun rec5 st => B_X10_agrees_5 x0 x1 x2 rec5 st.1 st.2.1 st.2.2)
theorem L_X10_agrees_5_0 (x0 : Nat) (x1 : Int32) (x2 : Int32) (st : Hp × Int32 × Int32) : L_X10_agrees_5 x0 x1 x2 0 st = none := rfl
theorem L_X10_agrees_5_s (x0 : Nat) (x1 : Int32) (x2 : Int32) (n : Nat) (st : Hp × Int32 × Int32) : L_X10_agrees_5 x0 x1 x2 (n + 1) st = B_X10_agrees_5 x0 x1 x2 (L_X10_agrees_5 x0 x1 x2 n) st.1 st.2.1 st.2.2 := rfl
noncomputable def F_X10_agrees (σ : Hp) (x0 : Nat) (x1 : Int32) (x2 : Int32) : Option (Int32 × Hp) := gd 10 x0 σ (L_X10_agrees_5 x0 x1 x2 FU (σ, 0, 0))
theorem F_X10_agrees_g {σ : Hp} {x0 : Nat} {x1 : Int32} {x2 : Int32} {r : Int32 × Hp} (h : F_X10_agrees σ x0 x1 x2 = some r) : hT σ x0 = some (.inl 10) := (gd_inv h).1
/-! PalaceOfRoomsModel.partsMost -/
noncomputable def F_X10_partsMost_152 (σ : Hp) (x2 : Int32) (x4 : Int32) : Option (Int32 × Hp) := (if x4 = 0 then some ((-1), σ) else some (x2, σ))
noncomputable def F_X10_partsMost_118 (rec12 : Hp × Int32 × Int32 × Int32 × Int32 → Option (Int32 × Hp)) (σ : Hp) (x0 : Nat) (x1 : Int32) (x2 : Int32) (x3 : Int32) (x4 : Int32) (x5 : Int32) (y0 : Int32) : Option (Int32 × Hp) := (if x3 ≤ y0 then (if x3 ≤ y0 then rec12 (σ, x2, x3, x4, x5 + 1) else rec12 (σ, x2, y0, x4, x5 + 1)) else (if x3 ≤ y0 then rec12 (σ, x5, x3, x4, x5 + 1) else rec12 (σ, x5, y0, x4, x5 + 1)))
noncomputable def F_X10_partsMost_105 (rec12 : Hp × Int32 × Int32 × Int32 × Int32 → Option (Int32 × Hp)) (σ : Hp) (x0 : Nat) (x1 : Int32) (x2 : Int32) (x3 : Int32) (x4 : Int32) (x5 : Int32) (x6 : Int32) : Option (Int32 × Hp) := (if 0 ≤ x6 then F_X10_partsMost_118 rec12 σ x0 x1 x2 x3 x4 x5 x6 else F_X10_partsMost_118 rec12 σ x0 x1 x2 x3 x4 x5 (-x6))
noncomputable def F_X10_partsMost_67 (rec12 : Hp × Int32 × Int32 × Int32 × Int32 → Option (Int32 × Hp)) (rec25 : Hp × Int32 × Int32 × Int32 → Option (Int32 × Hp)) (σ : Hp) (x0 : Nat) (x1 : Int32) (x2 : Int32) (x3 : Int32) (x5 : Int32) (x6 : Int32) (x7 : Int32) (x8 : Int32) (y0 : Int32) (y1 : Int32) : Option (Int32 × Hp) := (if x8 = 0 then rec25 (σ, y1 + y0, x6 + 0, x7 + 1) else b2 (F_X10_isRight σ x7 x5) (fun v1 s1 => (if v1 = 0 then rec25 (s1, y1 + y0, x6 + (-1), x7 + 1) else rec25 (s1, y1 + y0, x6 + 1, x7 + 1))))
noncomputable def F_X10_partsMost_53 (rec12 : Hp × Int32 × Int32 × Int32 × Int32 → Option (Int32 × Hp)) (rec25 : Hp × Int32 × Int32 × Int32 → Option (Int32 × Hp)) (σ : Hp) (x0 : Nat) (x1 : Int32) (x2 : Int32) (x3 : Int32) (x4 : Int32) (x5 : Int32) (x6 : Int32) (x7 : Int32) (y0 : Int32) : Option (Int32 × Hp) := (if y0 = 0 then F_X10_partsMost_67 rec12 rec25 σ x0 x1 x2 x3 x5 x6 x7 y0 0 x4 else F_X10_partsMost_67 rec12 rec25 σ x0 x1 x2 x3 x5 x6 x7 y0 1 x4)
noncomputable def B_X10_partsMost_25 (rec12 : Hp × Int32 × Int32 × Int32 × Int32 → Option (Int32 × Hp)) (x0 : Nat) (x1 : Int32) (x2 : Int32) (x3 : Int32) (x5 : Int32) (rec25 : Hp × Int32 × Int32 × Int32 → Option (Int32 × Hp)) (σ : Hp) (x4 : Int32) (x6 : Int32) (x7 : Int32) : Option (Int32 × Hp) := (if 81 ≤ x7 then F_X10_partsMost_105 rec12 σ x0 x1 x2 x3 x4 x5 x6 else b2 (F_X10_agrees σ x0 x1 x7) (fun v1 s1 => b1 (gR 10 35 x0 s1) (fun v2 => b1 (aI 0 v2 x1 s1) (fun v3 => (if v1 = v3 then F_X10_partsMost_53 rec12 rec25 s1 x0 x1 x2 x3 x4 x5 x6 x7 1 else F_X10_partsMost_53 rec12 rec25 s1 x0 x1 x2 x3 x4 x5 x6 x7 0)))))
noncomputable def L_X10_partsMost_25 (rec12 : Hp × Int32 × Int32 × Int32 × Int32 → Option (Int32 × Hp)) (x0 : Nat) (x1 : Int32) (x2 : Int32) (x3 : Int32) (x5 : Int32) : Nat → (Hp × Int32 × Int32 × Int32) → Option (Int32 × Hp) := it (fun rec25 st => B_X10_partsMost_25 rec12 x0 x1 x2 x3 x5 rec25 st.1 st.2.1 st.2.2.1 st.2.2.2)
theorem L_X10_partsMost_25_0 (rec12 : Hp × Int32 × Int32 × Int32 × Int32 → Option (Int32 × Hp)) (x0 : Nat) (x1 : Int32) (x2 : Int32) (x3 : Int32) (x5 : Int32) (st : Hp × Int32 × Int32 × Int32) : L_X10_partsMost_25 rec12 x0 x1 x2 x3 x5 0 st = none := rfl
theorem L_X10_partsMost_25_s (rec12 : Hp × Int32 × Int32 × Int32 × Int32 → Option (Int32 × Hp)) (x0 : Nat) (x1 : Int32) (x2 : Int32) (x3 : Int32) (x5 : Int32) (n : Nat) (st : Hp × Int32 × Int32 × Int32) : L_X10_partsMost_25 rec12 x0 x1 x2 x3 x5 (n + 1) st = B_X10_partsMost_25 rec12 x0 x1 x2 x3 x5 (L_X10_partsMost_25 rec12 x0 x1 x2 x3 x5 n) st.1 st.2.1 st.2.2.1 st.2.2.2 := rfl
noncomputable def B_X10_partsMost_12 (x0 : Nat) (x1 : Int32) (rec12 : Hp × Int32 × Int32 × Int32 × Int32 → Option (Int32 × Hp)) (σ : Hp) (x2 : Int32) (x3 : Int32) (x4 : Int32) (x5 : Int32) : Option (Int32 × Hp) := (if 61 ≤ x5 then F_X10_partsMost_152 σ x2 x4 else L_X10_partsMost_25 rec12 x0 x1 x2 x3 x5 FU (σ, x4, 0, 0))
noncomputable def L_X10_partsMost_12 (x0 : Nat) (x1 : Int32) : Nat → (Hp × Int32 × Int32 × Int32 × Int32) → Option (Int32 × Hp) := it (fun rec12 st => B_X10_partsMost_12 x0 x1 rec12 st.1 st.2.1 st.2.2.1 st.2.2.2.1 st.2.2.2.2)
theorem L_X10_partsMost_12_0 (x0 : Nat) (x1 : Int32) (st : Hp × Int32 × Int32 × Int32 × Int32) : L_X10_partsMost_12 x0 x1 0 st = none := rfl
theorem L_X10_partsMost_12_s (x0 : Nat) (x1 : Int32) (n : Nat) (st : Hp × Int32 × Int32 × Int32 × Int32) : L_X10_partsMost_12 x0 x1 (n + 1) st = B_X10_partsMost_12 x0 x1 (L_X10_partsMost_12 x0 x1 n) st.1 st.2.1 st.2.2.1 st.2.2.2.1 st.2.2.2.2 := rfl
noncomputable def F_X10_partsMost (σ : Hp) (x0 : Nat) (x1 : Int32) : Option (Int32 × Hp) := gd 10 x0 σ (L_X10_partsMost_12 x0 x1 FU (σ, (-1), 1000, 0, 1))
theorem F_X10_partsMost_g {σ : Hp} {x0 : Nat} {x1 : Int32} {r : Int32 × Hp} (h : F_X10_partsMost σ x0 x1 = some r) : hT σ x0 = some (.inl 10) := (gd_inv h).1
/-! PalaceOfRoomsModel.pupil -/
noncomputable def F_X10_pupil_106 (σ : Hp) (x0 : Nat) (x1 : Int32) (x2 : Int32) (x3 : Int32) (x4 : Int32) (x5 : Int32) : Option (Int32 × Hp) := (if x2 = 0 then some (x3, σ) else (if x2 = 1 then some ((100 * ((x4 / 9) + 1)) + (10 * ((x4 - x4 / 9 * 9) + 1)), σ) else (if x2 = 2 then some (x5, σ) else b2 (F_X10_partsMost σ x0 x1) (fun v1 s1 => some (v1, s1)))))
noncomputable def F_X10_pupil_66 (rec33 : Hp × Int32 × Int32 × Int32 × Int32 → Option (Int32 × Hp)) (σ : Hp) (x0 : Nat) (x1 : Int32) (x2 : Int32) (x4 : Int32) (x5 : Int32) (x6 : Int32) (x7 : Int32) (y0 : Int32) (y1 : Int32) : Option (Int32 × Hp) := (if x7 ≤ x5 then (if x7 ≤ x5 then rec33 (σ, y1 + y0, x4, x5, x6 + 1) else rec33 (σ, y1 + y0, x4, x7, x6 + 1)) else (if x7 ≤ x5 then rec33 (σ, y1 + y0, x6, x5, x6 + 1) else rec33 (σ, y1 + y0, x6, x7, x6 + 1)))
noncomputable def B_X10_pupil_33 (x0 : Nat) (x1 : Int32) (x2 : Int32) (rec33 : Hp × Int32 × Int32 × Int32 × Int32 → Option (Int32 × Hp)) (σ : Hp) (x3 : Int32) (x4 : Int32) (x5 : Int32) (x6 : Int32) : Option (Int32 × Hp) := (if 81 ≤ x6 then F_X10_pupil_106 σ x0 x1 x2 x3 x4 x5 else b2 (F_X10_agrees σ x0 x1 x6) (fun v1 s1 => b1 (gR 10 35 x0 s1) (fun v2 => b1 (aI 0 v2 x1 s1) (fun v3 => (if v1 = v3 then F_X10_pupil_66 rec33 s1 x0 x1 x2 x4 x5 x6 v1 1 x3 else F_X10_pupil_66 rec33 s1 x0 x1 x2 x4 x5 x6 v1 0 x3)))))
noncomputable def L_X10_pupil_33 (x0 : Nat) (x1 : Int32) (x2 : Int32) : Nat → (Hp × Int32 × Int32 × Int32 × Int32) → Option (Int32 × Hp) := it (fun rec33 st => B_X10_pupil_33 x0 x1 x2 rec33 st.1 st.2.1 st.2.2.1 st.2.2.2.1 st.2.2.2.2)
theorem L_X10_pupil_33_0 (x0 : Nat) (x1 : Int32) (x2 : Int32) (st : Hp × Int32 × Int32 × Int32 × Int32) : L_X10_pupil_33 x0 x1 x2 0 st = none := rfl
theorem L_X10_pupil_33_s (x0 : Nat) (x1 : Int32) (x2 : Int32) (n : Nat) (st : Hp × Int32 × Int32 × Int32 × Int32) : L_X10_pupil_33 x0 x1 x2 (n + 1) st = B_X10_pupil_33 x0 x1 x2 (L_X10_pupil_33 x0 x1 x2 n) st.1 st.2.1 st.2.2.1 st.2.2.2.1 st.2.2.2.2 := rfl
noncomputable def F_X10_pupil (σ : Hp) (x0 : Nat) (x1 : Int32) (x2 : Int32) : Option (Int32 × Hp) := gd 10 x0 σ (b2 (F_X10_isPupil σ x1) (fun v1 s1 => (if v1 = 0 then some ((-2), s1) else b2 (F_X10_in s1 x2 0 3) (fun v2 s2 => (if v2 = 0 then some ((-3), s2) else L_X10_pupil_33 x0 x1 x2 FU (s2, 0, 0, (-1), 0))))))
theorem F_X10_pupil_g {σ : Hp} {x0 : Nat} {x1 : Int32} {x2 : Int32} {r : Int32 × Hp} (h : F_X10_pupil σ x0 x1 x2 = some r) : hT σ x0 = some (.inl 10) := (gd_inv h).1
/-! PalaceOfRoomsModel.figures -/
noncomputable def F_X10_figures (σ : Hp) (x0 : Nat) (x1 : Int32) (x2 : Int32) (x3 : Int32) : Option (Int32 × Hp) := gd 10 x0 σ (b2 (F_X10_in σ x1 0 9) (fun v1 s1 => (if v1 = 0 then some ((-2), s1) else b2 (F_X10_in s1 x2 0 9) (fun v2 s2 => (if v2 = 0 then some ((-2), s2) else (if x1 = x2 then some ((-2), s2) else b2 (F_X10_in s2 x3 0 9) (fun v3 s3 => (if v3 = 0 then some ((-3), s3) else b1 (gR 10 38 x0 s3) (fun v4 => b1 (aI 0 v4 ((10 * x1) + x2) s3) (fun v5 => b1 (gR 10 38 x0 s3) (fun v6 => b1 (sI 0 v6 ((10 * x1) + x2) x3 s3) (fun s4 => b1 (gR 10 38 x0 s4) (fun v7 => b1 (sI 0 v7 ((10 * x2) + x1) x3 s4) (fun s5 => some (v5, s5)))))))))))))))
theorem F_X10_figures_g {σ : Hp} {x0 : Nat} {x1 : Int32} {x2 : Int32} {x3 : Int32} {r : Int32 × Hp} (h : F_X10_figures σ x0 x1 x2 x3 = some r) : hT σ x0 = some (.inl 10) := (gd_inv h).1
/-! PalaceOfRoomsModel.code -/
noncomputable def F_X10_code (σ : Hp) (x0 : Nat) (x1 : Int64) (x3 : Int32) (x4 : Int32) : Option (Int32 × Hp) := gd 10 x0 σ (b2 (F_X10_in σ x3 2 6) (fun v1 s1 => (if v1 = 0 then some ((-3), s1) else b2 (F_X10_take s1 x0 x1 x3) (fun v2 s2 => (if v2 = 1 then (if (-1) ≤ x4 then b1 (F_X10_findOrder s2 x0 x3 0) (fun s3 => (if x4 = (-1) then b1 (gI 10 34 x0 s3) (fun v6 => some (v6, s3)) else (if x3 ≤ x4 then some ((-1), s3) else b1 (gR 10 33 x0 s3) (fun v4 => b1 (aI 0 v4 x4 s3) (fun v5 => some (v5, s3)))))) else some ((-3), s2)) else some (v2, s2))))))
theorem F_X10_code_g {σ : Hp} {x0 : Nat} {x1 : Int64} {x3 : Int32} {x4 : Int32} {r : Int32 × Hp} (h : F_X10_code σ x0 x1 x3 x4 = some r) : hT σ x0 = some (.inl 10) := (gd_inv h).1
/-! PalaceOfRoomsModel.enough -/
noncomputable def F_X10_enough_102 (σ : Hp) (x1 : Int32) (x2 : Int32) (x3 : Int32) : Option (Int32 × Hp) := (if x1 ≤ x2 then some (x3, σ) else some ((-1), σ))
noncomputable def B_X10_enough_35 (rec20 : Hp × Int32 × Int32 × Int32 → Option (Int32 × Hp)) (x0 : Nat) (x1 : Int32) (x4 : Int32) (rec35 : Hp × Int32 × Int32 × Int32 → Option (Int32 × Hp)) (σ : Hp) (x2 : Int32) (x3 : Int32) (x5 : Int32) : Option (Int32 × Hp) := (if 8 ≤ x5 then rec20 (σ, x2, x3, x4 + 1) else (if x1 ≤ x2 then rec20 (σ, x2, x3, x4 + 1) else b2 (F_X10_doorsTo σ x0 0 x5) (fun v1 s1 => (if v1 = x4 then b2 (F_X10_lastOf s1 x0 0 x5 6) (fun v2 s2 => (if v2 ≤ 6 then rec35 (s2, x2 + v2, x3 + 1, x5 + 1) else rec35 (s2, x2 + 6, x3 + 1, x5 + 1))) else rec35 (s1, x2, x3, x5 + 1)))))
noncomputable def L_X10_enough_35 (rec20 : Hp × Int32 × Int32 × Int32 → Option (Int32 × Hp)) (x0 : Nat) (x1 : Int32) (x4 : Int32) : Nat → (Hp × Int32 × Int32 × Int32) → Option (Int32 × Hp) := it (fun rec35 st => B_X10_enough_35 rec20 x0 x1 x4 rec35 st.1 st.2.1 st.2.2.1 st.2.2.2)
theorem L_X10_enough_35_0 (rec20 : Hp × Int32 × Int32 × Int32 → Option (Int32 × Hp)) (x0 : Nat) (x1 : Int32) (x4 : Int32) (st : Hp × Int32 × Int32 × Int32) : L_X10_enough_35 rec20 x0 x1 x4 0 st = none := rfl
theorem L_X10_enough_35_s (rec20 : Hp × Int32 × Int32 × Int32 → Option (Int32 × Hp)) (x0 : Nat) (x1 : Int32) (x4 : Int32) (n : Nat) (st : Hp × Int32 × Int32 × Int32) : L_X10_enough_35 rec20 x0 x1 x4 (n + 1) st = B_X10_enough_35 rec20 x0 x1 x4 (L_X10_enough_35 rec20 x0 x1 x4 n) st.1 st.2.1 st.2.2.1 st.2.2.2 := rfl
noncomputable def B_X10_enough_20 (x0 : Nat) (x1 : Int32) (rec20 : Hp × Int32 × Int32 × Int32 → Option (Int32 × Hp)) (σ : Hp) (x2 : Int32) (x3 : Int32) (x4 : Int32) : Option (Int32 × Hp) := (if 8 ≤ x4 then F_X10_enough_102 σ x1 x2 x3 else (if x1 ≤ x2 then F_X10_enough_102 σ x1 x2 x3 else L_X10_enough_35 rec20 x0 x1 x4 FU (σ, x2, x3, 0)))
noncomputable def L_X10_enough_20 (x0 : Nat) (x1 : Int32) : Nat → (Hp × Int32 × Int32 × Int32) → Option (Int32 × Hp) := it (fun rec20 st => B_X10_enough_20 x0 x1 rec20 st.1 st.2.1 st.2.2.1 st.2.2.2)
theorem L_X10_enough_20_0 (x0 : Nat) (x1 : Int32) (st : Hp × Int32 × Int32 × Int32) : L_X10_enough_20 x0 x1 0 st = none := rfl
theorem L_X10_enough_20_s (x0 : Nat) (x1 : Int32) (n : Nat) (st : Hp × Int32 × Int32 × Int32) : L_X10_enough_20 x0 x1 (n + 1) st = B_X10_enough_20 x0 x1 (L_X10_enough_20 x0 x1 n) st.1 st.2.1 st.2.2.1 st.2.2.2 := rfl
noncomputable def F_X10_enough (σ : Hp) (x0 : Nat) (x1 : Int32) : Option (Int32 × Hp) := gd 10 x0 σ (b2 (F_X10_in σ x1 0 48) (fun v1 s1 => (if v1 = 0 then some ((-3), s1) else L_X10_enough_20 x0 x1 FU (s1, 0, 0, 0))))
theorem F_X10_enough_g {σ : Hp} {x0 : Nat} {x1 : Int32} {r : Int32 × Hp} (h : F_X10_enough σ x0 x1 = some r) : hT σ x0 = some (.inl 10) := (gd_inv h).1
/-! PalaceOfRoomsModel.count -/
noncomputable def B_X10_count_56 (x0 : Nat) (rec56 : Hp × Int32 × Int32 → Option (Int32 × Hp)) (σ : Hp) (x2 : Int32) (x3 : Int32) : Option (Int32 × Hp) := (if 8 ≤ x3 then some (x2, σ) else b2 (F_X10_standIn σ x0 x3) (fun v1 s1 => rec56 (s1, x2 + v1, x3 + 1)))
noncomputable def L_X10_count_56 (x0 : Nat) : Nat → (Hp × Int32 × Int32) → Option (Int32 × Hp) := it (fun rec56 st => B_X10_count_56 x0 rec56 st.1 st.2.1 st.2.2)
theorem L_X10_count_56_0 (x0 : Nat) (st : Hp × Int32 × Int32) : L_X10_count_56 x0 0 st = none := rfl
theorem L_X10_count_56_s (x0 : Nat) (n : Nat) (st : Hp × Int32 × Int32) : L_X10_count_56 x0 (n + 1) st = B_X10_count_56 x0 (L_X10_count_56 x0 n) st.1 st.2.1 st.2.2 := rfl
noncomputable def B_X10_count_80 (σ : Hp) (x0 : Nat) (rec80 : Int32 × Int32 → Option (Int32 × Hp)) (x2 : Int32) (x3 : Int32) : Option (Int32 × Hp) := (if 48 ≤ x3 then some (x2, σ) else b1 (gR 10 11 x0 σ) (fun v1 => b1 (aI 0 v1 x3 σ) (fun v2 => (if v2 = (-1) then rec80 (x2 + 0, x3 + 1) else rec80 (x2 + 1, x3 + 1)))))
noncomputable def L_X10_count_80 (σ : Hp) (x0 : Nat) : Nat → (Int32 × Int32) → Option (Int32 × Hp) := it (fun rec80 st => B_X10_count_80 σ x0 rec80 st.1 st.2)
theorem L_X10_count_80_0 (σ : Hp) (x0 : Nat) (st : Int32 × Int32) : L_X10_count_80 σ x0 0 st = none := rfl
theorem L_X10_count_80_s (σ : Hp) (x0 : Nat) (n : Nat) (st : Int32 × Int32) : L_X10_count_80 σ x0 (n + 1) st = B_X10_count_80 σ x0 (L_X10_count_80 σ x0 n) st.1 st.2 := rfl
noncomputable def B_X10_count_114 (σ : Hp) (x0 : Nat) (rec114 : Int32 × Int32 → Option (Int32 × Hp)) (x2 : Int32) (x3 : Int32) : Option (Int32 × Hp) := (if 48 ≤ x3 then some (x2, σ) else b1 (gR 10 9 x0 σ) (fun v1 => b1 (aI 0 v1 x3 σ) (fun v2 => (if v2 = (-1) then rec114 (x2 + 0, x3 + 1) else b1 (gR 10 10 x0 σ) (fun v3 => b1 (aI 0 v3 x3 σ) (fun v4 => rec114 (x2 + v4, x3 + 1)))))))
noncomputable def L_X10_count_114 (σ : Hp) (x0 : Nat) : Nat → (Int32 × Int32) → Option (Int32 × Hp) := it (fun rec114 st => B_X10_count_114 σ x0 rec114 st.1 st.2)
theorem L_X10_count_114_0 (σ : Hp) (x0 : Nat) (st : Int32 × Int32) : L_X10_count_114 σ x0 0 st = none := rfl
theorem L_X10_count_114_s (σ : Hp) (x0 : Nat) (n : Nat) (st : Int32 × Int32) : L_X10_count_114 σ x0 (n + 1) st = B_X10_count_114 σ x0 (L_X10_count_114 σ x0 n) st.1 st.2 := rfl
noncomputable def F_X10_count (σ : Hp) (x0 : Nat) (x1 : Int32) : Option (Int32 × Hp) := gd 10 x0 σ ((if x1 = 0 then b1 (gI 10 0 x0 σ) (fun v1 => some (v1, σ)) else (if x1 = 1 then b1 (gI 10 1 x0 σ) (fun v2 => some (v2, σ)) else (if x1 = 2 then L_X10_count_56 x0 FU (σ, 0, 0) else (if x1 = 3 then L_X10_count_80 σ x0 FU (0, 0) else (if x1 = 4 then L_X10_count_114 σ x0 FU (0, 0) else (if x1 = 5 then b1 (gI 10 19 x0 σ) (fun v3 => some (v3, σ)) else (if x1 = 6 then b1 (gI 10 29 x0 σ) (fun v4 => some (v4, σ)) else some ((-3), σ)))))))))
theorem F_X10_count_g {σ : Hp} {x0 : Nat} {x1 : Int32} {r : Int32 × Hp} (h : F_X10_count σ x0 x1 = some r) : hT σ x0 = some (.inl 10) := (gd_inv h).1
/-! PalaceOfRooms$Kept.<init> for classes {0: 3} -/
noncomputable def F_X2_init_3 (σ : Hp) (x0 : Nat) : Option (Hp) := b1 (pI 3 0 x0 (-1) σ) (fun s1 => some s1)
/-! PalaceOfRooms$Kept.<init> for classes {0: 4} -/
noncomputable def F_X2_init_4 (σ : Hp) (x0 : Nat) : Option (Hp) := b1 (pI 4 0 x0 (-1) σ) (fun s1 => some s1)
/-! PalaceOfRooms$Ghost.<init> -/
noncomputable def F_X4_init (σ : Hp) (x0 : Nat) : Option (Hp) := b1 (F_X2_init_4 σ x0) (fun s1 => some s1)
/-! PalaceOfRooms$Corner.<init> -/
noncomputable def F_X3_init (σ : Hp) (x0 : Nat) : Option (Hp) := b1 (F_X2_init_3 σ x0) (fun s1 => b1 (F_X4_init (born s1 (.inl 4)) (hZ s1)) (fun s2 => b1 (pR 3 2 x0 (hZ s1) s2) (fun s3 => b1 (pI 3 3 x0 (-1) s3) (fun s4 => some s4))))
/-! PalaceOfRooms$House.<init> -/
noncomputable def B_X1_init_20 (x0 : Nat) (rec20 : Hp × Int32 → Option (Hp)) (σ : Hp) (x2 : Int32) : Option (Hp) := (if 48 ≤ x2 then some σ else b1 (gR 1 0 x0 σ) (fun v1 => b1 (F_X3_init (born σ (.inl 3)) (hZ σ)) (fun s1 => gd 3 (hZ σ) s1 (b1 (sR 3 v1 x2 (hZ σ) s1) (fun s2 => rec20 (s2, x2 + 1))))))
noncomputable def L_X1_init_20 (x0 : Nat) : Nat → (Hp × Int32) → Option (Hp) := it (fun rec20 st => B_X1_init_20 x0 rec20 st.1 st.2)
theorem L_X1_init_20_0 (x0 : Nat) (st : Hp × Int32) : L_X1_init_20 x0 0 st = none := rfl
theorem L_X1_init_20_s (x0 : Nat) (n : Nat) (st : Hp × Int32) : L_X1_init_20 x0 (n + 1) st = B_X1_init_20 x0 (L_X1_init_20 x0 n) st.1 st.2 := rfl
noncomputable def F_X1_init (σ : Hp) (x0 : Nat) (x1 : Nat) : Option (Hp) := b1 (pR 1 1 x0 x1 σ) (fun s1 => b1 (pR 1 0 x0 (hZ s1) (born s1 (.inr (3, 48)))) (fun s2 => L_X1_init_20 x0 49 (s2, 0)))
/-! PalaceOfRooms$Reader.<init> -/
noncomputable def F_X5_init (σ : Hp) (x0 : Nat) (x1 : Nat) : Option (Hp) := b1 (pR 5 5 x0 x1 σ) (fun s1 => some s1)
/-! PalaceOfRooms$Orders.<init> for classes {0: 7} -/
noncomputable def F_X6_init_7 (σ : Hp) (x0 : Nat) (x1 : Nat) : Option (Hp) := b1 (pR 7 4 x0 x1 σ) (fun s1 => b1 (pR 7 0 x0 (hZ s1) (born s1 (.inr (0, 8)))) (fun s2 => b1 (pR 7 1 x0 (hZ s2) (born s2 (.inr (0, 8)))) (fun s3 => some s3)))
/-! PalaceOfRooms$Laid.<init> -/
noncomputable def F_X7_init (σ : Hp) (x0 : Nat) (x1 : Nat) : Option (Hp) := b1 (pR 7 5 x0 x1 σ) (fun s1 => b1 (F_X6_init_7 s1 x0 x1) (fun s2 => some s2))
/-! PalaceOfRooms$Orders.<init> for classes {0: 8} -/
noncomputable def F_X6_init_8 (σ : Hp) (x0 : Nat) (x1 : Nat) : Option (Hp) := b1 (pR 8 4 x0 x1 σ) (fun s1 => b1 (pR 8 0 x0 (hZ s1) (born s1 (.inr (0, 8)))) (fun s2 => b1 (pR 8 1 x0 (hZ s2) (born s2 (.inr (0, 8)))) (fun s3 => some s3)))
/-! PalaceOfRooms$Code.<init> -/
noncomputable def F_X8_init (σ : Hp) (x0 : Nat) (x1 : Nat) : Option (Hp) := b1 (pR 8 5 x0 x1 σ) (fun s1 => b1 (F_X6_init_8 s1 x0 x1) (fun s2 => some s2))
/-! PalaceOfRooms$Pupil.<init> -/
noncomputable def F_X9_init (σ : Hp) (x0 : Nat) : Option (Hp) := b1 (pR 9 0 x0 (hZ σ) (born σ (.inr (0, 12)))) (fun s1 => b1 (pR 9 1 x0 (hZ s1) (born s1 (.inr (1, 12)))) (fun s2 => some s2))
/-! PalaceOfRooms.<init> -/
noncomputable def F_X0_init (σ : Hp) (x0 : Nat) : Option (Hp) := b1 (pR 0 0 x0 (hZ σ) (mk2 6 1 8 8 σ)) (fun s1 => b1 (pR 0 2 x0 (hZ s1) (born s1 (.inr (0, 24)))) (fun s2 => b1 (pI 0 3 x0 4 s2) (fun s3 => b1 (pI 0 4 x0 50 s3) (fun s4 => b1 (sI 0 (hZ s4) 0 5 (born s4 (.inr (0, 11)))) (fun s5 => b1 (sI 0 (hZ s4) 1 5 s5) (fun s6 => b1 (sI 0 (hZ s4) 2 5 s6) (fun s7 => b1 (sI 0 (hZ s4) 3 5 s7) (fun s8 => b1 (sI 0 (hZ s4) 4 5 s8) (fun s9 => b1 (sI 0 (hZ s4) 5 5 s9) (fun s10 => b1 (sI 0 (hZ s4) 6 5 s10) (fun s11 => b1 (sI 0 (hZ s4) 7 5 s11) (fun s12 => b1 (sI 0 (hZ s4) 8 5 s12) (fun s13 => b1 (sI 0 (hZ s4) 9 5 s13) (fun s14 => b1 (sI 0 (hZ s4) 10 5 s14) (fun s15 => b1 (pR 0 5 x0 (hZ s4) s15) (fun s16 => b1 (F_X1_init (born s16 (.inl 1)) (hZ s16) x0) (fun s17 => b1 (pR 0 7 x0 (hZ s16) s17) (fun s18 => b1 (F_X1_init (born s18 (.inl 1)) (hZ s18) x0) (fun s19 => b1 (pR 0 8 x0 (hZ s18) s19) (fun s20 => b1 (sI 0 (hZ s20) 0 (-1) (born s20 (.inr (0, 8)))) (fun s21 => b1 (sI 0 (hZ s20) 1 (-1) s21) (fun s22 => b1 (sI 0 (hZ s20) 2 (-1) s22) (fun s23 => b1 (sI 0 (hZ s20) 3 (-1) s23) (fun s24 => b1 (sI 0 (hZ s20) 4 (-1) s24) (fun s25 => b1 (sI 0 (hZ s20) 5 (-1) s25) (fun s26 => b1 (sI 0 (hZ s20) 6 (-1) s26) (fun s27 => b1 (sI 0 (hZ s20) 7 (-1) s27) (fun s28 => b1 (pR 0 9 x0 (hZ s20) s28) (fun s29 => b1 (pR 0 10 x0 (hZ s29) (born s29 (.inr (4, 10)))) (fun s30 => b1 (pR 0 12 x0 (hZ s30) (born s30 (.inr (2, 160)))) (fun s31 => b1 (F_X5_init (born s31 (.inl 5)) (hZ s31) x0) (fun s32 => b1 (pR 0 14 x0 (hZ s31) s32) (fun s33 => b1 (pR 0 15 x0 (hZ s33) (born s33 (.inr (0, 8)))) (fun s34 => b1 (pR 0 16 x0 (hZ s34) (mk2 7 0 10 10 s34)) (fun s35 => b1 (F_X7_init (born s35 (.inl 7)) (hZ s35) x0) (fun s36 => b1 (pR 0 17 x0 (hZ s35) s36) (fun s37 => b1 (F_X8_init (born s37 (.inl 8)) (hZ s37) x0) (fun s38 => b1 (pR 0 18 x0 (hZ s37) s38) (fun s39 => b1 (pR 0 19 x0 (hZ s39) (born s39 (.inr (0, 4)))) (fun s40 => b1 (pR 0 20 x0 (hZ s40) (born s40 (.inr (0, 8)))) (fun s41 => b1 (F_X9_init (born (born s41 (.inr (5, 4))) (.inl 9)) (hZ (born s41 (.inr (5, 4))))) (fun s42 => gd 9 (hZ (born s41 (.inr (5, 4)))) s42 (b1 (sR 5 (hZ s41) 0 (hZ (born s41 (.inr (5, 4)))) s42) (fun s43 => b1 (F_X9_init (born s43 (.inl 9)) (hZ s43)) (fun s44 => gd 9 (hZ s43) s44 (b1 (sR 5 (hZ s41) 1 (hZ s43) s44) (fun s45 => b1 (F_X9_init (born s45 (.inl 9)) (hZ s45)) (fun s46 => gd 9 (hZ s45) s46 (b1 (sR 5 (hZ s41) 2 (hZ s45) s46) (fun s47 => b1 (F_X9_init (born s47 (.inl 9)) (hZ s47)) (fun s48 => gd 9 (hZ s47) s48 (b1 (sR 5 (hZ s41) 3 (hZ s47) s48) (fun s49 => b1 (pR 0 21 x0 (hZ s41) s49) (fun s50 => some s50))))))))))))))))))))))))))))))))))))))))))))))))))))))
/-! PalaceOfRooms.isIn -/
noncomputable def F_X0_isIn (σ : Hp) (x0 : Int64) (x2 : Int64) (x4 : Int64) : Option (Int32 × Hp) := (if (lg_cmp x0 x2) < 0 then some (0, σ) else (if 0 < (lg_cmp x0 x4) then some (0, σ) else some (1, σ)))
/-! PalaceOfRooms.isRoom -/
noncomputable def F_X0_isRoom (σ : Hp) (x0 : Int32) : Option (Int32 × Hp) := b2 (F_X0_isIn σ ((x0 : Int32).toInt64) 0 7) (fun v1 s1 => zr v1 (some (v1, s1)))
/-! PalaceOfRooms.door -/
noncomputable def F_X0_door (σ : Hp) (x0 : Nat) (x1 : Int32) (x2 : Int32) : Option (Int32 × Hp) := gd 0 x0 σ (b2 (F_X0_isRoom σ x1) (fun v1 s1 => (if v1 = 0 then some ((-2), s1) else b2 (F_X0_isRoom s1 x2) (fun v2 s2 => (if v2 = 0 then some ((-2), s2) else (if x1 = x2 then some ((-2), s2) else b1 (gR 0 0 x0 s2) (fun v3 => b1 (aR 6 v3 x1 s2) (fun v4 => b1 (aI 1 v4 x2 s2) (fun v5 => (if v5 = 0 then b1 (gI 0 1 x0 s2) (fun v6 => (if v6 = 14 then some ((-5), s2) else b1 (gR 0 0 x0 s2) (fun v7 => b1 (aR 6 v7 x1 s2) (fun v8 => b1 (sI 1 v8 x2 (vp_nar .boolean 1) s2) (fun s3 => b1 (gR 0 0 x0 s3) (fun v9 => b1 (aR 6 v9 x2 s3) (fun v10 => b1 (sI 1 v10 x1 (vp_nar .boolean 1) s3) (fun s4 => b1 (gI 0 1 x0 s4) (fun v11 => b1 (pI 0 1 x0 (v11 + 1) s4) (fun s5 => b1 (gI 0 1 x0 s5) (fun v12 => some (v12, s5)))))))))))) else some ((-4), s2)))))))))))
theorem F_X0_door_g {σ : Hp} {x0 : Nat} {x1 : Int32} {x2 : Int32} {r : Int32 × Hp} (h : F_X0_door σ x0 x1 x2 = some r) : hT σ x0 = some (.inl 0) := (gd_inv h).1
/-! PalaceOfRooms.awayOf -/
noncomputable def B_X0_awayOf_42 (rec7 : Int32 × Int32 → Option (Int32 × Hp)) (rec32 : Int32 × Int32 → Option (Int32 × Hp)) (σ : Hp) (x0 : Nat) (x2 : Int32) (x3 : Int32) (x4 : Int32) (x6 : Int32) (rec42 : Int32 × Int32 → Option (Int32 × Hp)) (x5 : Int32) (x7 : Int32) : Option (Int32 × Hp) := (if 8 ≤ x7 then rec32 (x5, x6 + 1) else (if ((x3 >>> (x6 &&& 31)) &&& 1) = 1 then b1 (gR 0 0 x0 σ) (fun v1 => b1 (aR 6 v1 x6 σ) (fun v2 => b1 (aI 1 v2 x7 σ) (fun v3 => (if v3 = 0 then rec42 (x5 ||| 0, x7 + 1) else rec42 (x5 ||| (1 <<< (x7 &&& 31)), x7 + 1))))) else rec32 (x5, x6 + 1)))
noncomputable def L_X0_awayOf_42 (rec7 : Int32 × Int32 → Option (Int32 × Hp)) (rec32 : Int32 × Int32 → Option (Int32 × Hp)) (σ : Hp) (x0 : Nat) (x2 : Int32) (x3 : Int32) (x4 : Int32) (x6 : Int32) : Nat → (Int32 × Int32) → Option (Int32 × Hp) := it (fun rec42 st => B_X0_awayOf_42 rec7 rec32 σ x0 x2 x3 x4 x6 rec42 st.1 st.2)
theorem L_X0_awayOf_42_0 (rec7 : Int32 × Int32 → Option (Int32 × Hp)) (rec32 : Int32 × Int32 → Option (Int32 × Hp)) (σ : Hp) (x0 : Nat) (x2 : Int32) (x3 : Int32) (x4 : Int32) (x6 : Int32) (st : Int32 × Int32) : L_X0_awayOf_42 rec7 rec32 σ x0 x2 x3 x4 x6 0 st = none := rfl
theorem L_X0_awayOf_42_s (rec7 : Int32 × Int32 → Option (Int32 × Hp)) (rec32 : Int32 × Int32 → Option (Int32 × Hp)) (σ : Hp) (x0 : Nat) (x2 : Int32) (x3 : Int32) (x4 : Int32) (x6 : Int32) (n : Nat) (st : Int32 × Int32) : L_X0_awayOf_42 rec7 rec32 σ x0 x2 x3 x4 x6 (n + 1) st = B_X0_awayOf_42 rec7 rec32 σ x0 x2 x3 x4 x6 (L_X0_awayOf_42 rec7 rec32 σ x0 x2 x3 x4 x6 n) st.1 st.2 := rfl
noncomputable def B_X0_awayOf_32 (rec7 : Int32 × Int32 → Option (Int32 × Hp)) (σ : Hp) (x0 : Nat) (x2 : Int32) (x3 : Int32) (x4 : Int32) (rec32 : Int32 × Int32 → Option (Int32 × Hp)) (x5 : Int32) (x6 : Int32) : Option (Int32 × Hp) := (if 8 ≤ x6 then rec7 (x5, x4 + 1) else L_X0_awayOf_42 rec7 rec32 σ x0 x2 x3 x4 x6 FU (x5, 0))
noncomputable def L_X0_awayOf_32 (rec7 : Int32 × Int32 → Option (Int32 × Hp)) (σ : Hp) (x0 : Nat) (x2 : Int32) (x3 : Int32) (x4 : Int32) : Nat → (Int32 × Int32) → Option (Int32 × Hp) := it (fun rec32 st => B_X0_awayOf_32 rec7 σ x0 x2 x3 x4 rec32 st.1 st.2)
theorem L_X0_awayOf_32_0 (rec7 : Int32 × Int32 → Option (Int32 × Hp)) (σ : Hp) (x0 : Nat) (x2 : Int32) (x3 : Int32) (x4 : Int32) (st : Int32 × Int32) : L_X0_awayOf_32 rec7 σ x0 x2 x3 x4 0 st = none := rfl
theorem L_X0_awayOf_32_s (rec7 : Int32 × Int32 → Option (Int32 × Hp)) (σ : Hp) (x0 : Nat) (x2 : Int32) (x3 : Int32) (x4 : Int32) (n : Nat) (st : Int32 × Int32) : L_X0_awayOf_32 rec7 σ x0 x2 x3 x4 (n + 1) st = B_X0_awayOf_32 rec7 σ x0 x2 x3 x4 (L_X0_awayOf_32 rec7 σ x0 x2 x3 x4 n) st.1 st.2 := rfl
noncomputable def B_X0_awayOf_7 (σ : Hp) (x0 : Nat) (x2 : Int32) (rec7 : Int32 × Int32 → Option (Int32 × Hp)) (x3 : Int32) (x4 : Int32) : Option (Int32 × Hp) := (if 8 ≤ x4 then some ((-1), σ) else (if ((x3 >>> (x2 &&& 31)) &&& 1) = 1 then some (x4, σ) else L_X0_awayOf_32 rec7 σ x0 x2 x3 x4 FU (x3, 0)))
noncomputable def L_X0_awayOf_7 (σ : Hp) (x0 : Nat) (x2 : Int32) : Nat → (Int32 × Int32) → Option (Int32 × Hp) := it (fun rec7 st => B_X0_awayOf_7 σ x0 x2 rec7 st.1 st.2)
theorem L_X0_awayOf_7_0 (σ : Hp) (x0 : Nat) (x2 : Int32) (st : Int32 × Int32) : L_X0_awayOf_7 σ x0 x2 0 st = none := rfl
theorem L_X0_awayOf_7_s (σ : Hp) (x0 : Nat) (x2 : Int32) (n : Nat) (st : Int32 × Int32) : L_X0_awayOf_7 σ x0 x2 (n + 1) st = B_X0_awayOf_7 σ x0 x2 (L_X0_awayOf_7 σ x0 x2 n) st.1 st.2 := rfl
noncomputable def F_X0_awayOf (σ : Hp) (x0 : Nat) (x1 : Int32) (x2 : Int32) : Option (Int32 × Hp) := gd 0 x0 σ (L_X0_awayOf_7 σ x0 x2 FU (1 <<< (x1 &&& 31), 0))
theorem F_X0_awayOf_g {σ : Hp} {x0 : Nat} {x1 : Int32} {x2 : Int32} {r : Int32 × Hp} (h : F_X0_awayOf σ x0 x1 x2 = some r) : hT σ x0 = some (.inl 0) := (gd_inv h).1
/-! PalaceOfRooms.away -/
noncomputable def F_X0_away (σ : Hp) (x0 : Nat) (x1 : Int32) (x2 : Int32) : Option (Int32 × Hp) := gd 0 x0 σ (b2 (F_X0_isRoom σ x1) (fun v1 s1 => (if v1 = 0 then some ((-2), s1) else b2 (F_X0_isRoom s1 x2) (fun v2 s2 => (if v2 = 0 then some ((-2), s2) else b2 (F_X0_awayOf s2 x0 x1 x2) (fun v3 s3 => some (v3, s3)))))))
theorem F_X0_away_g {σ : Hp} {x0 : Nat} {x1 : Int32} {x2 : Int32} {r : Int32 × Hp} (h : F_X0_away σ x0 x1 x2 = some r) : hT σ x0 = some (.inl 0) := (gd_inv h).1
/-! PalaceOfRooms.isThing -/
noncomputable def F_X0_isThing (σ : Hp) (x0 : Int32) : Option (Int32 × Hp) := b2 (F_X0_isIn σ ((x0 : Int32).toInt64) 0 23) (fun v1 s1 => zr v1 (some (v1, s1)))
/-! PalaceOfRooms.marks -/
noncomputable def F_X0_marks (σ : Hp) (x0 : Nat) (x1 : Int32) (x2 : Int32) : Option (Int32 × Hp) := gd 0 x0 σ (b2 (F_X0_isThing σ x1) (fun v1 s1 => (if v1 = 0 then some ((-2), s1) else b2 (F_X0_isIn s1 ((x2 : Int32).toInt64) 0 255) (fun v2 s2 => (if v2 = 0 then some ((-3), s2) else b1 (gR 0 2 x0 s2) (fun v3 => b1 (aI 0 v3 x1 s2) (fun v4 => b1 (gR 0 2 x0 s2) (fun v5 => b1 (sI 0 v5 x1 x2 s2) (fun s3 => some (v4, s3))))))))))
theorem F_X0_marks_g {σ : Hp} {x0 : Nat} {x1 : Int32} {x2 : Int32} {r : Int32 × Hp} (h : F_X0_marks σ x0 x1 x2 = some r) : hT σ x0 = some (.inl 0) := (gd_inv h).1
/-! java/lang/Integer.bitCount -/
noncomputable def F_J0_bitCount (σ : Hp) (x0 : Int32) : Option (Int32 × Hp) := some ((((((((x0 - (((x0.toUInt32 >>> ((1 : Int32).toUInt32 &&& Int32.toUInt32 31)).toInt32) &&& 1431655765)) &&& 858993459) + ((((x0 - (((x0.toUInt32 >>> ((1 : Int32).toUInt32 &&& Int32.toUInt32 31)).toInt32) &&& 1431655765)).toUInt32 >>> ((2 : Int32).toUInt32 &&& Int32.toUInt32 31)).toInt32) &&& 858993459)) + (((((x0 - (((x0.toUInt32 >>> ((1 : Int32).toUInt32 &&& Int32.toUInt32 31)).toInt32) &&& 1431655765)) &&& 858993459) + ((((x0 - (((x0.toUInt32 >>> ((1 : Int32).toUInt32 &&& Int32.toUInt32 31)).toInt32) &&& 1431655765)).toUInt32 >>> ((2 : Int32).toUInt32 &&& Int32.toUInt32 31)).toInt32) &&& 858993459)).toUInt32 >>> ((4 : Int32).toUInt32 &&& Int32.toUInt32 31)).toInt32)) &&& 252645135) + (((((((x0 - (((x0.toUInt32 >>> ((1 : Int32).toUInt32 &&& Int32.toUInt32 31)).toInt32) &&& 1431655765)) &&& 858993459) + ((((x0 - (((x0.toUInt32 >>> ((1 : Int32).toUInt32 &&& Int32.toUInt32 31)).toInt32) &&& 1431655765)).toUInt32 >>> ((2 : Int32).toUInt32 &&& Int32.toUInt32 31)).toInt32) &&& 858993459)) + (((((x0 - (((x0.toUInt32 >>> ((1 : Int32).toUInt32 &&& Int32.toUInt32 31)).toInt32) &&& 1431655765)) &&& 858993459) + ((((x0 - (((x0.toUInt32 >>> ((1 : Int32).toUInt32 &&& Int32.toUInt32 31)).toInt32) &&& 1431655765)).toUInt32 >>> ((2 : Int32).toUInt32 &&& Int32.toUInt32 31)).toInt32) &&& 858993459)).toUInt32 >>> ((4 : Int32).toUInt32 &&& Int32.toUInt32 31)).toInt32)) &&& 252645135).toUInt32 >>> ((8 : Int32).toUInt32 &&& Int32.toUInt32 31)).toInt32)) + ((((((((x0 - (((x0.toUInt32 >>> ((1 : Int32).toUInt32 &&& Int32.toUInt32 31)).toInt32) &&& 1431655765)) &&& 858993459) + ((((x0 - (((x0.toUInt32 >>> ((1 : Int32).toUInt32 &&& Int32.toUInt32 31)).toInt32) &&& 1431655765)).toUInt32 >>> ((2 : Int32).toUInt32 &&& Int32.toUInt32 31)).toInt32) &&& 858993459)) + (((((x0 - (((x0.toUInt32 >>> ((1 : Int32).toUInt32 &&& Int32.toUInt32 31)).toInt32) &&& 1431655765)) &&& 858993459) + ((((x0 - (((x0.toUInt32 >>> ((1 : Int32).toUInt32 &&& Int32.toUInt32 31)).toInt32) &&& 1431655765)).toUInt32 >>> ((2 : Int32).toUInt32 &&& Int32.toUInt32 31)).toInt32) &&& 858993459)).toUInt32 >>> ((4 : Int32).toUInt32 &&& Int32.toUInt32 31)).toInt32)) &&& 252645135) + (((((((x0 - (((x0.toUInt32 >>> ((1 : Int32).toUInt32 &&& Int32.toUInt32 31)).toInt32) &&& 1431655765)) &&& 858993459) + ((((x0 - (((x0.toUInt32 >>> ((1 : Int32).toUInt32 &&& Int32.toUInt32 31)).toInt32) &&& 1431655765)).toUInt32 >>> ((2 : Int32).toUInt32 &&& Int32.toUInt32 31)).toInt32) &&& 858993459)) + (((((x0 - (((x0.toUInt32 >>> ((1 : Int32).toUInt32 &&& Int32.toUInt32 31)).toInt32) &&& 1431655765)) &&& 858993459) + ((((x0 - (((x0.toUInt32 >>> ((1 : Int32).toUInt32 &&& Int32.toUInt32 31)).toInt32) &&& 1431655765)).toUInt32 >>> ((2 : Int32).toUInt32 &&& Int32.toUInt32 31)).toInt32) &&& 858993459)).toUInt32 >>> ((4 : Int32).toUInt32 &&& Int32.toUInt32 31)).toInt32)) &&& 252645135).toUInt32 >>> ((8 : Int32).toUInt32 &&& Int32.toUInt32 31)).toInt32)).toUInt32 >>> ((16 : Int32).toUInt32 &&& Int32.toUInt32 31)).toInt32)) &&& 63, σ)
/-! PalaceOfRooms.likeness -/
noncomputable def F_X0_likeness (σ : Hp) (x0 : Nat) (x1 : Int32) (x2 : Int32) : Option (Int32 × Hp) := gd 0 x0 σ (b1 (gR 0 2 x0 σ) (fun v1 => b1 (aI 0 v1 x1 σ) (fun v2 => b1 (gR 0 2 x0 σ) (fun v3 => b1 (aI 0 v3 x2 σ) (fun v4 => b2 (F_J0_bitCount σ (v2 &&& v4)) (fun v5 s1 => some (v5, s1)))))))
theorem F_X0_likeness_g {σ : Hp} {x0 : Nat} {x1 : Int32} {x2 : Int32} {r : Int32 × Hp} (h : F_X0_likeness σ x0 x1 x2 = some r) : hT σ x0 = some (.inl 0) := (gd_inv h).1
/-! PalaceOfRooms.like -/
noncomputable def F_X0_like (σ : Hp) (x0 : Nat) (x1 : Int32) (x2 : Int32) : Option (Int32 × Hp) := gd 0 x0 σ (b2 (F_X0_isThing σ x1) (fun v1 s1 => (if v1 = 0 then some ((-2), s1) else b2 (F_X0_isThing s1 x2) (fun v2 s2 => (if v2 = 0 then some ((-2), s2) else b2 (F_X0_likeness s2 x0 x1 x2) (fun v3 s3 => some (v3, s3)))))))
theorem F_X0_like_g {σ : Hp} {x0 : Nat} {x1 : Int32} {x2 : Int32} {r : Int32 × Hp} (h : F_X0_like σ x0 x1 x2 = some r) : hT σ x0 = some (.inl 0) := (gd_inv h).1
/-! PalaceOfRooms.set -/
noncomputable def F_X0_set_67 (σ : Hp) (x0 : Nat) (x1 : Int32) (x2 : Int32) (x3 : Int32) (y0 : Int32) (y1 : Nat) : Option (Int32 × Hp) := b1 (pI 0 3 y1 y0 σ) (fun s1 => (if x1 = 1 then b1 (pI 0 4 x0 x2 s1) (fun s3 => some (x3, s3)) else b1 (gI 0 4 x0 s1) (fun v1 => b1 (pI 0 4 x0 v1 s1) (fun s2 => some (x3, s2)))))
noncomputable def F_X0_set_53 (σ : Hp) (x0 : Nat) (x1 : Int32) (x2 : Int32) (y0 : Int32) : Option (Int32 × Hp) := (if x1 = 0 then F_X0_set_67 σ x0 x1 x2 y0 x2 x0 else b1 (gI 0 3 x0 σ) (fun v1 => F_X0_set_67 σ x0 x1 x2 y0 v1 x0))
noncomputable def F_X0_set_29 (σ : Hp) (x0 : Nat) (x1 : Int32) (x2 : Int32) (y0 : Int64) (y1 : Int64) (y2 : Int64) : Option (Int32 × Hp) := b2 (F_X0_isIn σ y2 y1 y0) (fun v1 s1 => (if v1 = 0 then some ((-3), s1) else (if x1 = 0 then b1 (gI 0 3 x0 s1) (fun v3 => F_X0_set_53 s1 x0 x1 x2 v3) else b1 (gI 0 4 x0 s1) (fun v2 => F_X0_set_53 s1 x0 x1 x2 v2))))
noncomputable def F_X0_set (σ : Hp) (x0 : Nat) (x1 : Int32) (x2 : Int32) : Option (Int32 × Hp) := gd 0 x0 σ (b2 (F_X0_isIn σ ((x1 : Int32).toInt64) 0 1) (fun v1 s1 => (if v1 = 0 then some ((-3), s1) else (if x1 = 0 then F_X0_set_29 s1 x0 x1 x2 8 ((1 - x1 : Int32).toInt64) ((x2 : Int32).toInt64) else F_X0_set_29 s1 x0 x1 x2 100 ((1 - x1 : Int32).toInt64) ((x2 : Int32).toInt64)))))
theorem F_X0_set_g {σ : Hp} {x0 : Nat} {x1 : Int32} {x2 : Int32} {r : Int32 × Hp} (h : F_X0_set σ x0 x1 x2 = some r) : hT σ x0 = some (.inl 0) := (gd_inv h).1
/-! PalaceOfRooms.fall -/
noncomputable def F_X0_fall (σ : Hp) (x0 : Nat) (x1 : Int32) (x2 : Int32) : Option (Int32 × Hp) := gd 0 x0 σ (b2 (F_X0_isIn σ ((x1 : Int32).toInt64) 0 10) (fun v1 s1 => (if v1 = 0 then some ((-3), s1) else b2 (F_X0_isIn s1 ((x2 : Int32).toInt64) 0 30) (fun v2 s2 => (if v2 = 0 then some ((-3), s2) else b1 (gR 0 5 x0 s2) (fun v3 => b1 (aI 0 v3 x1 s2) (fun v4 => b1 (gR 0 5 x0 s2) (fun v5 => b1 (sI 0 v5 x1 x2 s2) (fun s3 => some (v4, s3))))))))))
theorem F_X0_fall_g {σ : Hp} {x0 : Nat} {x1 : Int32} {x2 : Int32} {r : Int32 × Hp} (h : F_X0_fall σ x0 x1 x2 = some r) : hT σ x0 = some (.inl 0) := (gd_inv h).1
/-! PalaceOfRooms.isCorner -/
noncomputable def F_X0_isCorner (σ : Hp) (x0 : Int32) : Option (Int32 × Hp) := b2 (F_X0_isIn σ ((x0 : Int32).toInt64) 0 47) (fun v1 s1 => zr v1 (some (v1, s1)))
/-! PalaceOfRooms.whereIs -/
noncomputable def B_X0_whereIs_2 (σ : Hp) (x0 : Nat) (x1 : Int32) (rec2 : Int32 → Option (Int32 × Hp)) (x2 : Int32) : Option (Int32 × Hp) := (if 48 ≤ x2 then some ((-1), σ) else b1 (gR 0 7 x0 σ) (fun v1 => b1 (gR 1 0 v1 σ) (fun v2 => b1 (aR 3 v2 x2 σ) (fun v3 => b1 (gI 3 0 v3 σ) (fun v4 => (if v4 = x1 then some (x2, σ) else rec2 (x2 + 1)))))))
noncomputable def L_X0_whereIs_2 (σ : Hp) (x0 : Nat) (x1 : Int32) : Nat → (Int32) → Option (Int32 × Hp) := it (fun rec2 st => B_X0_whereIs_2 σ x0 x1 rec2 st)
theorem L_X0_whereIs_2_0 (σ : Hp) (x0 : Nat) (x1 : Int32) (st : Int32) : L_X0_whereIs_2 σ x0 x1 0 st = none := rfl
theorem L_X0_whereIs_2_s (σ : Hp) (x0 : Nat) (x1 : Int32) (n : Nat) (st : Int32) : L_X0_whereIs_2 σ x0 x1 (n + 1) st = B_X0_whereIs_2 σ x0 x1 (L_X0_whereIs_2 σ x0 x1 n) st := rfl
noncomputable def F_X0_whereIs (σ : Hp) (x0 : Nat) (x1 : Int32) : Option (Int32 × Hp) := gd 0 x0 σ (L_X0_whereIs_2 σ x0 x1 FU 0)
theorem F_X0_whereIs_g {σ : Hp} {x0 : Nat} {x1 : Int32} {r : Int32 × Hp} (h : F_X0_whereIs σ x0 x1 = some r) : hT σ x0 = some (.inl 0) := (gd_inv h).1
/-! PalaceOfRooms$Kept.lay for classes {0: 4} -/
noncomputable def F_X2_lay_4 (σ : Hp) (x0 : Nat) (x1 : Int32) (x2 : Int32) : Option (Hp) := gd 4 x0 σ (b1 (pI 4 0 x0 x1 σ) (fun s1 => b1 (pI 4 1 x0 x2 s1) (fun s2 => some s2)))
theorem F_X2_lay_4_g {σ : Hp} {x0 : Nat} {x1 : Int32} {x2 : Int32} {r : Hp} (h : F_X2_lay_4 σ x0 x1 x2 = some r) : hT σ x0 = some (.inl 4) := (gd_inv h).1
/-! PalaceOfRooms$Kept.lay for classes {0: 3} -/
noncomputable def F_X2_lay_3 (σ : Hp) (x0 : Nat) (x1 : Int32) (x2 : Int32) : Option (Hp) := gd 3 x0 σ (b1 (pI 3 0 x0 x1 σ) (fun s1 => b1 (pI 3 1 x0 x2 s1) (fun s2 => some s2)))
theorem F_X2_lay_3_g {σ : Hp} {x0 : Nat} {x1 : Int32} {x2 : Int32} {r : Hp} (h : F_X2_lay_3 σ x0 x1 x2 = some r) : hT σ x0 = some (.inl 3) := (gd_inv h).1
/-! PalaceOfRooms$Corner.cover -/
noncomputable def F_X3_cover_24 (σ : Hp) (x0 : Nat) (x1 : Int32) (x2 : Int32) (x3 : Int32) (y0 : Int32) (y1 : Nat) : Option (Int32 × Hp) := b1 (gI 3 1 x0 σ) (fun v1 => b1 (F_X2_lay_4 σ y1 y0 v1) (fun s1 => b1 (F_X2_lay_3 s1 x0 x1 100) (fun s2 => b1 (pI 3 3 x0 x2 s2) (fun s3 => some (x3, s3)))))
noncomputable def F_X3_cover (σ : Hp) (x0 : Nat) (x1 : Int32) (x2 : Int32) : Option (Int32 × Hp) := gd 3 x0 σ (b1 (gI 3 0 x0 σ) (fun v1 => b1 (gR 3 2 x0 σ) (fun v2 => b1 (gI 3 1 x0 σ) (fun v3 => (if v3 ≤ 0 then F_X3_cover_24 σ x0 x1 x2 v1 (-1) v2 else b1 (gI 3 0 x0 σ) (fun v4 => F_X3_cover_24 σ x0 x1 x2 v1 v4 v2))))))
theorem F_X3_cover_g {σ : Hp} {x0 : Nat} {x1 : Int32} {x2 : Int32} {r : Int32 × Hp} (h : F_X3_cover σ x0 x1 x2 = some r) : hT σ x0 = some (.inl 3) := (gd_inv h).1
/-! PalaceOfRooms.put -/
noncomputable def F_X0_put (σ : Hp) (x0 : Nat) (x1 : Int32) (x2 : Int32) : Option (Int32 × Hp) := gd 0 x0 σ (b2 (F_X0_isThing σ x1) (fun v1 s1 => (if v1 = 0 then some ((-2), s1) else b2 (F_X0_isCorner s1 x2) (fun v2 s2 => (if v2 = 0 then some ((-2), s2) else b2 (F_X0_whereIs s2 x0 x1) (fun v3 s3 => (if v3 = (-1) then b1 (gR 0 7 x0 s3) (fun v4 => b1 (gR 1 0 v4 s3) (fun v5 => b1 (aR 3 v5 x2 s3) (fun v6 => b1 (gI 0 6 x0 s3) (fun v7 => b2 (F_X3_cover s3 v6 x1 v7) (fun v8 s4 => some (v8, s4)))))) else some ((-4), s3))))))))
theorem F_X0_put_g {σ : Hp} {x0 : Nat} {x1 : Int32} {x2 : Int32} {r : Int32 × Hp} (h : F_X0_put σ x0 x1 x2 = some r) : hT σ x0 = some (.inl 0) := (gd_inv h).1
/-! PalaceOfRooms$Kept.isThere for classes {0: 3} -/
noncomputable def F_X2_isThere_3 (σ : Hp) (x0 : Nat) : Option (Int32 × Hp) := gd 3 x0 σ (b1 (gI 3 0 x0 σ) (fun v1 => (if v1 = (-1) then some (0, σ) else some (1, σ))))
theorem F_X2_isThere_3_g {σ : Hp} {x0 : Nat} {r : Int32 × Hp} (h : F_X2_isThere_3 σ x0 = some r) : hT σ x0 = some (.inl 3) := (gd_inv h).1
/-! PalaceOfRooms.clear -/
noncomputable def F_X0_clear (σ : Hp) (x0 : Nat) (x1 : Int32) : Option (Int32 × Hp) := gd 0 x0 σ (b2 (F_X0_isCorner σ x1) (fun v1 s1 => (if v1 = 0 then some ((-2), s1) else b1 (gR 0 7 x0 s1) (fun v2 => b1 (gR 1 0 v2 s1) (fun v3 => b1 (aR 3 v3 x1 s1) (fun v4 => b2 (F_X2_isThere_3 s1 v4) (fun v5 s2 => (if v5 = 0 then some ((-4), s2) else b1 (gI 3 0 v4 s2) (fun v6 => b1 (F_X2_lay_3 s2 v4 (-1) 0) (fun s3 => b1 (gR 3 2 v4 s3) (fun v8 => b1 (F_X2_lay_4 s3 v8 (-1) 0) (fun s4 => some (v6, s4)))))))))))))
theorem F_X0_clear_g {σ : Hp} {x0 : Nat} {x1 : Int32} {r : Int32 × Hp} (h : F_X0_clear σ x0 x1 = some r) : hT σ x0 = some (.inl 0) := (gd_inv h).1
/-! PalaceOfRooms$Kept.isThere for classes {0: 4} -/
noncomputable def F_X2_isThere_4 (σ : Hp) (x0 : Nat) : Option (Int32 × Hp) := gd 4 x0 σ (b1 (gI 4 0 x0 σ) (fun v1 => (if v1 = (-1) then some (0, σ) else some (1, σ))))
theorem F_X2_isThere_4_g {σ : Hp} {x0 : Nat} {r : Int32 × Hp} (h : F_X2_isThere_4 σ x0 = some r) : hT σ x0 = some (.inl 4) := (gd_inv h).1
/-! PalaceOfRooms$Ghost.isThere -/
noncomputable def F_X4_isThere (σ : Hp) (x0 : Nat) : Option (Int32 × Hp) := gd 4 x0 σ (b2 (F_X2_isThere_4 σ x0) (fun v1 s1 => (if v1 = 0 then some (0, s1) else b1 (gI 4 1 x0 s1) (fun v2 => (if v2 ≤ 0 then some (0, s1) else some (1, s1))))))
theorem F_X4_isThere_g {σ : Hp} {x0 : Nat} {r : Int32 × Hp} (h : F_X4_isThere σ x0 = some r) : hT σ x0 = some (.inl 4) := (gd_inv h).1
/-! PalaceOfRooms.corner -/
noncomputable def F_X0_corner (σ : Hp) (x0 : Nat) (x1 : Int32) (x2 : Int32) : Option (Int32 × Hp) := gd 0 x0 σ (b2 (F_X0_isCorner σ x1) (fun v1 s1 => (if v1 = 0 then some ((-2), s1) else b1 (gR 0 7 x0 s1) (fun v2 => b1 (gR 1 0 v2 s1) (fun v3 => b1 (aR 3 v3 x1 s1) (fun v4 => (if x2 = 0 then b1 (gI 3 0 v4 s1) (fun v5 => some (v5, s1)) else (if x2 = 1 then b2 (F_X2_isThere_3 s1 v4) (fun v6 s2 => (if v6 = 0 then some ((-1), s2) else b1 (gI 3 1 v4 s2) (fun v7 => some (v7, s2)))) else (if x2 = 2 then b1 (gR 3 2 v4 s1) (fun v8 => b2 (F_X4_isThere s1 v8) (fun v9 s3 => (if v9 = 0 then some ((-1), s3) else b1 (gR 3 2 v4 s3) (fun v10 => b1 (gI 4 0 v10 s3) (fun v11 => some (v11, s3)))))) else (if x2 = 3 then b1 (gR 3 2 v4 s1) (fun v12 => b2 (F_X4_isThere s1 v12) (fun v13 s4 => (if v13 = 0 then some ((-1), s4) else b1 (gR 3 2 v4 s4) (fun v14 => b1 (gI 4 1 v14 s4) (fun v15 => some (v15, s4)))))) else (if x2 = 4 then b1 (gI 3 3 v4 s1) (fun v16 => some (v16, s1)) else some ((-3), s1))))))))))))
theorem F_X0_corner_g {σ : Hp} {x0 : Nat} {x1 : Int32} {x2 : Int32} {r : Int32 × Hp} (h : F_X0_corner σ x0 x1 x2 = some r) : hT σ x0 = some (.inl 0) := (gd_inv h).1
/-! PalaceOfRooms.where -/
noncomputable def F_X0_where (σ : Hp) (x0 : Nat) (x1 : Int32) : Option (Int32 × Hp) := gd 0 x0 σ (b2 (F_X0_isThing σ x1) (fun v1 s1 => (if v1 = 0 then some ((-2), s1) else b2 (F_X0_whereIs s1 x0 x1) (fun v2 s2 => some (v2, s2)))))
theorem F_X0_where_g {σ : Hp} {x0 : Nat} {x1 : Int32} {r : Int32 × Hp} (h : F_X0_where σ x0 x1 = some r) : hT σ x0 = some (.inl 0) := (gd_inv h).1
/-! PalaceOfRooms.isLike -/
noncomputable def F_X0_isLike (σ : Hp) (x0 : Nat) (x1 : Int32) (x2 : Int32) : Option (Int32 × Hp) := gd 0 x0 σ (b2 (F_X0_likeness σ x0 x1 x2) (fun v1 s1 => b1 (gI 0 3 x0 s1) (fun v2 => (if v1 < v2 then some (0, s1) else some (1, s1)))))
theorem F_X0_isLike_g {σ : Hp} {x0 : Nat} {x1 : Int32} {x2 : Int32} {r : Int32 × Hp} (h : F_X0_isLike σ x0 x1 x2 = some r) : hT σ x0 = some (.inl 0) := (gd_inv h).1
/-! PalaceOfRooms$House.likes -/
noncomputable def B_X1_likes_10 (x0 : Nat) (x1 : Int32) (rec10 : Hp × Int32 × Int32 → Option (Int32 × Hp)) (σ : Hp) (x2 : Int32) (x3 : Int32) : Option (Int32 × Hp) := (if (((x1 / 6) + 1) * 6) ≤ x3 then some (x2, σ) else (if x3 = x1 then rec10 (σ, x2 + 0, x3 + 1) else b1 (gR 1 0 x0 σ) (fun v1 => b1 (aR 3 v1 x3 σ) (fun v2 => b2 (F_X2_isThere_3 σ v2) (fun v3 s1 => (if v3 = 0 then rec10 (s1, x2 + 0, x3 + 1) else b1 (gR 1 1 x0 s1) (fun v4 => b1 (gR 1 0 x0 s1) (fun v5 => b1 (aR 3 v5 x3 s1) (fun v6 => b1 (gI 3 0 v6 s1) (fun v7 => b1 (gR 1 0 x0 s1) (fun v8 => b1 (aR 3 v8 x1 s1) (fun v9 => b1 (gI 3 0 v9 s1) (fun v10 => b2 (F_X0_isLike s1 v4 v7 v10) (fun v11 s2 => (if v11 = 0 then rec10 (s2, x2 + 0, x3 + 1) else rec10 (s2, x2 + 1, x3 + 1))))))))))))))))
noncomputable def L_X1_likes_10 (x0 : Nat) (x1 : Int32) : Nat → (Hp × Int32 × Int32) → Option (Int32 × Hp) := it (fun rec10 st => B_X1_likes_10 x0 x1 rec10 st.1 st.2.1 st.2.2)
theorem L_X1_likes_10_0 (x0 : Nat) (x1 : Int32) (st : Hp × Int32 × Int32) : L_X1_likes_10 x0 x1 0 st = none := rfl
theorem L_X1_likes_10_s (x0 : Nat) (x1 : Int32) (n : Nat) (st : Hp × Int32 × Int32) : L_X1_likes_10 x0 x1 (n + 1) st = B_X1_likes_10 x0 x1 (L_X1_likes_10 x0 x1 n) st.1 st.2.1 st.2.2 := rfl
noncomputable def F_X1_likes (σ : Hp) (x0 : Nat) (x1 : Int32) : Option (Int32 × Hp) := gd 1 x0 σ (L_X1_likes_10 x0 x1 FU (σ, 0, (x1 / 6) * 6))
theorem F_X1_likes_g {σ : Hp} {x0 : Nat} {x1 : Int32} {r : Int32 × Hp} (h : F_X1_likes σ x0 x1 = some r) : hT σ x0 = some (.inl 1) := (gd_inv h).1
/-! PalaceOfRooms$Kept.fade for classes {0: 3} -/
noncomputable def F_X2_fade_3 (σ : Hp) (x0 : Nat) (x1 : Int32) : Option (Hp) := gd 3 x0 σ (b1 (gI 3 1 x0 σ) (fun v1 => b1 (pI 3 1 x0 (if 0 < (v1 - x1) then (v1 - x1) else 0) σ) (fun s1 => some s1)))
theorem F_X2_fade_3_g {σ : Hp} {x0 : Nat} {x1 : Int32} {r : Hp} (h : F_X2_fade_3 σ x0 x1 = some r) : hT σ x0 = some (.inl 3) := (gd_inv h).1
/-! PalaceOfRooms$Kept.fade for classes {0: 4} -/
noncomputable def F_X2_fade_4 (σ : Hp) (x0 : Nat) (x1 : Int32) : Option (Hp) := gd 4 x0 σ (b1 (gI 4 1 x0 σ) (fun v1 => b1 (pI 4 1 x0 (if 0 < (v1 - x1) then (v1 - x1) else 0) σ) (fun s1 => some s1)))
theorem F_X2_fade_4_g {σ : Hp} {x0 : Nat} {x1 : Int32} {r : Hp} (h : F_X2_fade_4 σ x0 x1 = some r) : hT σ x0 = some (.inl 4) := (gd_inv h).1
/-! PalaceOfRooms$Ghost.fade -/
noncomputable def F_X4_fade (σ : Hp) (x0 : Nat) (x1 : Int32) : Option (Hp) := gd 4 x0 σ (b1 (F_X2_fade_4 σ x0 x1) (fun s1 => b1 (gI 4 1 x0 s1) (fun v2 => (if v2 = 0 then b1 (F_X2_lay_4 s1 x0 (-1) 0) (fun s2 => some s2) else some s1))))
theorem F_X4_fade_g {σ : Hp} {x0 : Nat} {x1 : Int32} {r : Hp} (h : F_X4_fade σ x0 x1 = some r) : hT σ x0 = some (.inl 4) := (gd_inv h).1
/-! PalaceOfRooms$House.goBy -/
noncomputable def F_X1_goBy_47 (rec2 : Hp × Int32 → Option (Hp)) (σ : Hp) (x0 : Nat) (x1 : Int32) (x2 : Nat) : Option (Hp) := b1 (gR 3 2 x2 σ) (fun v1 => b2 (F_X4_isThere σ v1) (fun v2 s1 => (if v2 = 0 then rec2 (s1, x1 + 1) else b1 (gR 3 2 x2 s1) (fun v3 => b1 (gR 1 1 x0 s1) (fun v4 => b1 (gR 0 5 v4 s1) (fun v5 => b1 (gR 3 2 x2 s1) (fun v6 => b1 (gI 4 1 v6 s1) (fun v7 => b1 (aI 0 v5 (v7 / 10) s1) (fun v8 => b1 (F_X4_fade s1 v3 v8) (fun s2 => rec2 (s2, x1 + 1)))))))))))
noncomputable def B_X1_goBy_2 (x0 : Nat) (rec2 : Hp × Int32 → Option (Hp)) (σ : Hp) (x1 : Int32) : Option (Hp) := (if 48 ≤ x1 then some σ else b1 (gR 1 0 x0 σ) (fun v1 => b1 (aR 3 v1 x1 σ) (fun v2 => b2 (F_X2_isThere_3 σ v2) (fun v3 s1 => (if v3 = 0 then F_X1_goBy_47 rec2 s1 x0 x1 v2 else b1 (gR 1 1 x0 s1) (fun v4 => b1 (gR 0 5 v4 s1) (fun v5 => b1 (gI 3 1 v2 s1) (fun v6 => b1 (aI 0 v5 (v6 / 10) s1) (fun v7 => b2 (F_X1_likes s1 x0 x1) (fun v8 s2 => b1 (F_X2_fade_3 s2 v2 (v7 + v8)) (fun s3 => F_X1_goBy_47 rec2 s3 x0 x1 v2)))))))))))
noncomputable def L_X1_goBy_2 (x0 : Nat) : Nat → (Hp × Int32) → Option (Hp) := it (fun rec2 st => B_X1_goBy_2 x0 rec2 st.1 st.2)
theorem L_X1_goBy_2_0 (x0 : Nat) (st : Hp × Int32) : L_X1_goBy_2 x0 0 st = none := rfl
theorem L_X1_goBy_2_s (x0 : Nat) (n : Nat) (st : Hp × Int32) : L_X1_goBy_2 x0 (n + 1) st = B_X1_goBy_2 x0 (L_X1_goBy_2 x0 n) st.1 st.2 := rfl
noncomputable def F_X1_goBy (σ : Hp) (x0 : Nat) : Option (Hp) := gd 1 x0 σ (L_X1_goBy_2 x0 FU (σ, 0))
theorem F_X1_goBy_g {σ : Hp} {x0 : Nat} {r : Hp} (h : F_X1_goBy σ x0 = some r) : hT σ x0 = some (.inl 1) := (gd_inv h).1
/-! PalaceOfRooms.days -/
noncomputable def F_X0_days_47 (σ : Hp) (x0 : Nat) (x1 : Int32) : Option (Int32 × Hp) := b1 (gI 0 6 x0 σ) (fun v1 => b1 (pI 0 6 x0 (v1 + x1) σ) (fun s1 => b1 (gI 0 6 x0 s1) (fun v2 => some (v2, s1))))
noncomputable def B_X0_days_29 (x0 : Nat) (x1 : Int32) (rec29 : Hp × Int32 → Option (Int32 × Hp)) (σ : Hp) (x2 : Int32) : Option (Int32 × Hp) := (if x1 ≤ x2 then F_X0_days_47 σ x0 x1 else b1 (gR 0 7 x0 σ) (fun v1 => b1 (F_X1_goBy σ v1) (fun s1 => rec29 (s1, x2 + 1))))
noncomputable def L_X0_days_29 (x0 : Nat) (x1 : Int32) : Nat → (Hp × Int32) → Option (Int32 × Hp) := it (fun rec29 st => B_X0_days_29 x0 x1 rec29 st.1 st.2)
theorem L_X0_days_29_0 (x0 : Nat) (x1 : Int32) (st : Hp × Int32) : L_X0_days_29 x0 x1 0 st = none := rfl
theorem L_X0_days_29_s (x0 : Nat) (x1 : Int32) (n : Nat) (st : Hp × Int32) : L_X0_days_29 x0 x1 (n + 1) st = B_X0_days_29 x0 x1 (L_X0_days_29 x0 x1 n) st.1 st.2 := rfl
noncomputable def F_X0_days (σ : Hp) (x0 : Nat) (x1 : Int32) : Option (Int32 × Hp) := gd 0 x0 σ (b2 (F_X0_isIn σ ((x1 : Int32).toInt64) 1 60) (fun v1 s1 => (if v1 = 0 then some ((-3), s1) else b1 (gI 0 6 x0 s1) (fun v2 => (if (v2 + x1) ≤ 400 then L_X0_days_29 x0 x1 FU (s1, 0) else some ((-3), s1))))))
theorem F_X0_days_g {σ : Hp} {x0 : Nat} {x1 : Int32} {r : Int32 × Hp} (h : F_X0_days σ x0 x1 = some r) : hT σ x0 = some (.inl 0) := (gd_inv h).1
/-! PalaceOfRooms$House.walk -/
noncomputable def F_X1_walk_56 (rec7 : Hp × Int32 × Int32 → Option (Int32 × Hp)) (σ : Hp) (x0 : Nat) (x1 : Int32) (x2 : Int32) (x3 : Int32) (x4 : Nat) (y0 : Int32) : Option (Int32 × Hp) := b1 (gI 3 1 x4 σ) (fun v1 => b1 (pI 3 1 x4 (v1 + y0) σ) (fun s1 => rec7 (s1, x2 + y0, x3 + 1)))
noncomputable def B_X1_walk_7 (x0 : Nat) (x1 : Int32) (rec7 : Hp × Int32 × Int32 → Option (Int32 × Hp)) (σ : Hp) (x2 : Int32) (x3 : Int32) : Option (Int32 × Hp) := (if ((x1 + 1) * 6) ≤ x3 then some (x2, σ) else b1 (gR 1 0 x0 σ) (fun v1 => b1 (aR 3 v1 x3 σ) (fun v2 => b2 (F_X2_isThere_3 σ v2) (fun v3 s1 => (if v3 = 0 then F_X1_walk_56 rec7 s1 x0 x1 x2 x3 v2 0 else b1 (gI 3 1 v2 s1) (fun v4 => b1 (gR 1 1 x0 s1) (fun v5 => b1 (gI 0 4 v5 s1) (fun v6 => F_X1_walk_56 rec7 s1 x0 x1 x2 x3 v2 (((100 - v4) * v6) / 100)))))))))
noncomputable def L_X1_walk_7 (x0 : Nat) (x1 : Int32) : Nat → (Hp × Int32 × Int32) → Option (Int32 × Hp) := it (fun rec7 st => B_X1_walk_7 x0 x1 rec7 st.1 st.2.1 st.2.2)
theorem L_X1_walk_7_0 (x0 : Nat) (x1 : Int32) (st : Hp × Int32 × Int32) : L_X1_walk_7 x0 x1 0 st = none := rfl
theorem L_X1_walk_7_s (x0 : Nat) (x1 : Int32) (n : Nat) (st : Hp × Int32 × Int32) : L_X1_walk_7 x0 x1 (n + 1) st = B_X1_walk_7 x0 x1 (L_X1_walk_7 x0 x1 n) st.1 st.2.1 st.2.2 := rfl
noncomputable def F_X1_walk (σ : Hp) (x0 : Nat) (x1 : Int32) : Option (Int32 × Hp) := gd 1 x0 σ (L_X1_walk_7 x0 x1 FU (σ, 0, x1 * 6))
theorem F_X1_walk_g {σ : Hp} {x0 : Nat} {x1 : Int32} {r : Int32 × Hp} (h : F_X1_walk σ x0 x1 = some r) : hT σ x0 = some (.inl 1) := (gd_inv h).1
/-! PalaceOfRooms.walk -/
noncomputable def F_X0_walk (σ : Hp) (x0 : Nat) (x1 : Int32) : Option (Int32 × Hp) := gd 0 x0 σ (b2 (F_X0_isRoom σ x1) (fun v1 s1 => (if v1 = 0 then some ((-2), s1) else b1 (gR 0 9 x0 s1) (fun v2 => b1 (gI 0 6 x0 s1) (fun v3 => b1 (sI 0 v2 x1 v3 s1) (fun s2 => b1 (gR 0 7 x0 s2) (fun v4 => b2 (F_X1_walk s2 v4 x1) (fun v5 s3 => some (v5, s3)))))))))
theorem F_X0_walk_g {σ : Hp} {x0 : Nat} {x1 : Int32} {r : Int32 × Hp} (h : F_X0_walk σ x0 x1 = some r) : hT σ x0 = some (.inl 0) := (gd_inv h).1
/-! PalaceOfRooms.write -/
noncomputable def B_X0_write_33 (x0 : Nat) (x1 : Int64) (x3 : Int32) (rec33 : Hp × Int32 → Option (Int32 × Hp)) (σ : Hp) (x4 : Int32) : Option (Int32 × Hp) := (if x3 ≤ x4 then b1 (gI 0 13 x0 σ) (fun v1 => some (v1, σ)) else b1 (gR 0 12 x0 σ) (fun v2 => b1 (gI 0 13 x0 σ) (fun v3 => b1 (sI 2 v2 v3 (vp_nar .byte (((x1 >>> ((8 * x4 : Int32).toInt64 &&& 63) : Int64).toInt32 : Int32).toInt8.toInt32)) σ) (fun s1 => b1 (gI 0 13 x0 s1) (fun v4 => b1 (pI 0 13 x0 (v4 + 1) s1) (fun s2 => rec33 (s2, x4 + 1)))))))
noncomputable def L_X0_write_33 (x0 : Nat) (x1 : Int64) (x3 : Int32) : Nat → (Hp × Int32) → Option (Int32 × Hp) := it (fun rec33 st => B_X0_write_33 x0 x1 x3 rec33 st.1 st.2)
theorem L_X0_write_33_0 (x0 : Nat) (x1 : Int64) (x3 : Int32) (st : Hp × Int32) : L_X0_write_33 x0 x1 x3 0 st = none := rfl
theorem L_X0_write_33_s (x0 : Nat) (x1 : Int64) (x3 : Int32) (n : Nat) (st : Hp × Int32) : L_X0_write_33 x0 x1 x3 (n + 1) st = B_X0_write_33 x0 x1 x3 (L_X0_write_33 x0 x1 x3 n) st.1 st.2 := rfl
noncomputable def F_X0_write (σ : Hp) (x0 : Nat) (x1 : Int64) (x3 : Int32) : Option (Int32 × Hp) := gd 0 x0 σ (b2 (F_X0_isIn σ ((x3 : Int32).toInt64) 1 8) (fun v1 s1 => (if v1 = 0 then some ((-3), s1) else b1 (gI 0 13 x0 s1) (fun v2 => (if (v2 + x3) ≤ 160 then L_X0_write_33 x0 x1 x3 FU (s1, 0) else some ((-5), s1))))))
theorem F_X0_write_g {σ : Hp} {x0 : Nat} {x1 : Int64} {x3 : Int32} {r : Int32 × Hp} (h : F_X0_write σ x0 x1 x3 = some r) : hT σ x0 = some (.inl 0) := (gd_inv h).1
/-! PalaceOfRooms.erase -/
noncomputable def F_X0_erase (σ : Hp) (x0 : Nat) : Option (Int32 × Hp) := gd 0 x0 σ (b1 (gI 0 13 x0 σ) (fun v1 => b1 (pI 0 13 x0 0 σ) (fun s1 => some (v1, s1))))
theorem F_X0_erase_g {σ : Hp} {x0 : Nat} {r : Int32 × Hp} (h : F_X0_erase σ x0 = some r) : hT σ x0 = some (.inl 0) := (gd_inv h).1
/-! PalaceOfRooms$Reader.kindAt -/
noncomputable def F_X5_kindAt (σ : Hp) (x0 : Nat) (x1 : Int32) : Option (Int32 × Hp) := gd 5 x0 σ (b1 (gR 5 5 x0 σ) (fun v1 => b1 (gR 0 12 v1 σ) (fun v2 => b1 (aI 2 v2 x1 σ) (fun v3 => b2 (F_X0_isIn σ ((v3 : Int32).toInt64) 97 122) (fun v4 s1 => (if v4 = 0 then b1 (gR 5 5 x0 s1) (fun v5 => b1 (gR 0 12 v5 s1) (fun v6 => b1 (aI 2 v6 x1 s1) (fun v7 => b2 (F_X0_isIn s1 ((v7 : Int32).toInt64) 48 57) (fun v8 s2 => (if v8 = 0 then some (0, s2) else some (2, s2)))))) else some (1, s1)))))))
theorem F_X5_kindAt_g {σ : Hp} {x0 : Nat} {x1 : Int32} {r : Int32 × Hp} (h : F_X5_kindAt σ x0 x1 = some r) : hT σ x0 = some (.inl 5) := (gd_inv h).1
/-! PalaceOfRooms$Reader.token -/
noncomputable def F_X5_token_137 (σ : Hp) (x0 : Nat) : Option (Hp) := b1 (gI 5 2 x0 σ) (fun v1 => b1 (pI 5 4 x0 v1 σ) (fun s1 => some s1))
noncomputable def B_X5_token_80 (x0 : Nat) (rec80 : Hp → Option (Hp)) (σ : Hp) : Option (Hp) := b1 (gI 5 2 x0 σ) (fun v1 => b1 (gR 5 5 x0 σ) (fun v2 => b1 (gI 0 13 v2 σ) (fun v3 => (if v3 ≤ v1 then F_X5_token_137 σ x0 else b1 (gI 5 3 x0 σ) (fun v4 => b2 (F_X5_kindAt σ x0 v4) (fun v5 s1 => (if v5 ≤ 0 then F_X5_token_137 s1 x0 else b1 (gI 5 2 x0 s1) (fun v6 => b2 (F_X5_kindAt s1 x0 v6) (fun v7 s2 => b1 (gI 5 3 x0 s2) (fun v8 => b2 (F_X5_kindAt s2 x0 v8) (fun v9 s3 => (if v7 = v9 then b1 (gI 5 2 x0 s3) (fun v10 => b1 (pI 5 2 x0 (v10 + 1) s3) (fun s4 => rec80 s4)) else F_X5_token_137 s3 x0))))))))))))
noncomputable def L_X5_token_80 (x0 : Nat) : Nat → (Hp) → Option (Hp) := it (fun rec80 st => B_X5_token_80 x0 rec80 st)
theorem L_X5_token_80_0 (x0 : Nat) (st : Hp) : L_X5_token_80 x0 0 st = none := rfl
theorem L_X5_token_80_s (x0 : Nat) (n : Nat) (st : Hp) : L_X5_token_80 x0 (n + 1) st = B_X5_token_80 x0 (L_X5_token_80 x0 n) st := rfl
noncomputable def F_X5_token_44 (σ : Hp) (x0 : Nat) : Option (Hp) := b1 (gI 5 2 x0 σ) (fun v1 => b1 (pI 5 3 x0 v1 σ) (fun s1 => b1 (gI 5 2 x0 s1) (fun v2 => b1 (gI 5 2 x0 s1) (fun v3 => b1 (gR 5 5 x0 s1) (fun v4 => b1 (gI 0 13 v4 s1) (fun v5 => (if v5 ≤ v3 then b1 (pI 5 2 x0 (v2 + 0) s1) (fun s2 => L_X5_token_80 x0 FU s2) else b1 (pI 5 2 x0 (v2 + 1) s1) (fun s3 => L_X5_token_80 x0 FU s3))))))))
noncomputable def B_X5_token_0 (x0 : Nat) (rec0 : Hp → Option (Hp)) (σ : Hp) : Option (Hp) := b1 (gI 5 2 x0 σ) (fun v1 => b1 (gR 5 5 x0 σ) (fun v2 => b1 (gI 0 13 v2 σ) (fun v3 => (if v3 ≤ v1 then F_X5_token_44 σ x0 else b1 (gR 5 5 x0 σ) (fun v4 => b1 (gR 0 12 v4 σ) (fun v5 => b1 (gI 5 2 x0 σ) (fun v6 => b1 (aI 2 v5 v6 σ) (fun v7 => (if v7 = 32 then b1 (gI 5 2 x0 σ) (fun v8 => b1 (pI 5 2 x0 (v8 + 1) σ) (fun s1 => rec0 s1)) else F_X5_token_44 σ x0)))))))))
noncomputable def L_X5_token_0 (x0 : Nat) : Nat → (Hp) → Option (Hp) := it (fun rec0 st => B_X5_token_0 x0 rec0 st)
theorem L_X5_token_0_0 (x0 : Nat) (st : Hp) : L_X5_token_0 x0 0 st = none := rfl
theorem L_X5_token_0_s (x0 : Nat) (n : Nat) (st : Hp) : L_X5_token_0 x0 (n + 1) st = B_X5_token_0 x0 (L_X5_token_0 x0 n) st := rfl
noncomputable def F_X5_token (σ : Hp) (x0 : Nat) : Option (Hp) := gd 5 x0 σ (L_X5_token_0 x0 FU σ)
theorem F_X5_token_g {σ : Hp} {x0 : Nat} {r : Hp} (h : F_X5_token σ x0 = some r) : hT σ x0 = some (.inl 5) := (gd_inv h).1
/-! java/lang/String.coder -/
noncomputable def F_J2_coder (σ : Hp) (x0 : Nat) : Option (Int32 × Hp) := sK x0 ((if (1 : Int32) = 0 then some (1, σ) else sK x0 (some (0, σ))))
theorem F_J2_coder_g {σ : Hp} {x0 : Nat} {r : Int32 × Hp} (h : F_J2_coder σ x0 = some r) : x0 < 7 := (sK_inv h).1
/-! java/lang/String.length -/
noncomputable def F_J2_length (σ : Hp) (x0 : Nat) : Option (Int32 × Hp) := sK x0 (sK x0 (sLn x0 (fun v1 => b2 (F_J2_coder σ x0) (fun v2 s1 => some (v1 >>> (v2 &&& 31), s1)))))
theorem F_J2_length_g {σ : Hp} {x0 : Nat} {r : Int32 × Hp} (h : F_J2_length σ x0 = some r) : x0 < 7 := (sK_inv h).1
/-! java/lang/String.isLatin1 -/
noncomputable def F_J2_isLatin1 (σ : Hp) (x0 : Nat) : Option (Int32 × Hp) := sK x0 ((if (1 : Int32) = 0 then some (0, σ) else sK x0 ((if (0 : Int32) = 0 then some (1, σ) else some (0, σ)))))
theorem F_J2_isLatin1_g {σ : Hp} {x0 : Nat} {r : Int32 × Hp} (h : F_J2_isLatin1 σ x0 = some r) : x0 < 7 := (sK_inv h).1
/-! jdk/internal/util/Preconditions.checkIndex for classes {2: 'U'} -/
noncomputable def F_J4_checkIndex (σ : Hp) (x0 : Int32) (x1 : Int32) : Option (Int32 × Hp) := (if x0 < 0 then none else (if x0 < x1 then some (x0, σ) else none))
/-! java/lang/String.checkIndex -/
noncomputable def F_J2_checkIndex (σ : Hp) (x0 : Int32) (x1 : Int32) : Option (Hp) := b2 (F_J4_checkIndex σ x0 x1) (fun v1 s1 => some s1)
/-! java/lang/StringLatin1.charAt for classes {0: 'V'} -/
noncomputable def F_J3_charAt (σ : Hp) (x0 : Nat) (x1 : Int32) : Option (Int32 × Hp) := sLn x0 (fun v1 => b1 (F_J2_checkIndex σ x1 v1) (fun s1 => sB x0 x1 (fun v3 => cr (((v3 &&& 255 : Int32).toUInt32 % 65536).toInt32) (some (((v3 &&& 255 : Int32).toUInt32 % 65536).toInt32, s1)))))
/-! java/lang/String.charAt -/
noncomputable def F_J2_charAt (σ : Hp) (x0 : Nat) (x1 : Int32) : Option (Int32 × Hp) := sK x0 (b2 (F_J2_isLatin1 σ x0) (fun v1 s1 => (if v1 = 0 then none else sK x0 (b2 (F_J3_charAt s1 x0 x1) (fun v2 s2 => cr v2 (some (v2, s2)))))))
theorem F_J2_charAt_g {σ : Hp} {x0 : Nat} {x1 : Int32} {r : Int32 × Hp} (h : F_J2_charAt σ x0 x1 = some r) : x0 < 7 := (sK_inv h).1
/-! PalaceOfRooms$Reader.isWord -/
noncomputable def B_X5_isWord_24 (x0 : Nat) (x1 : Nat) (rec24 : Hp × Int32 × Int32 → Option (Int32 × Hp)) (σ : Hp) (x2 : Int32) (x3 : Int32) : Option (Int32 × Hp) := (if x2 = 0 then zr x2 (some (x2, σ)) else b2 (F_J2_length σ x1) (fun v1 s1 => (if v1 ≤ x3 then zr x2 (some (x2, s1)) else b1 (gR 5 5 x0 s1) (fun v2 => b1 (gR 0 12 v2 s1) (fun v3 => b1 (gI 5 3 x0 s1) (fun v4 => b1 (aI 2 v3 (v4 + x3) s1) (fun v5 => b2 (F_J2_charAt s1 x1 x3) (fun v6 s2 => (if v5 = v6 then rec24 (s2, 1, x3 + 1) else rec24 (s2, 0, x3 + 1))))))))))
noncomputable def L_X5_isWord_24 (x0 : Nat) (x1 : Nat) : Nat → (Hp × Int32 × Int32) → Option (Int32 × Hp) := it (fun rec24 st => B_X5_isWord_24 x0 x1 rec24 st.1 st.2.1 st.2.2)
theorem L_X5_isWord_24_0 (x0 : Nat) (x1 : Nat) (st : Hp × Int32 × Int32) : L_X5_isWord_24 x0 x1 0 st = none := rfl
theorem L_X5_isWord_24_s (x0 : Nat) (x1 : Nat) (n : Nat) (st : Hp × Int32 × Int32) : L_X5_isWord_24 x0 x1 (n + 1) st = B_X5_isWord_24 x0 x1 (L_X5_isWord_24 x0 x1 n) st.1 st.2.1 st.2.2 := rfl
noncomputable def F_X5_isWord (σ : Hp) (x0 : Nat) (x1 : Nat) : Option (Int32 × Hp) := gd 5 x0 σ (b1 (gI 5 4 x0 σ) (fun v1 => b1 (gI 5 3 x0 σ) (fun v2 => b2 (F_J2_length σ x1) (fun v3 s1 => (if (v1 - v2) = v3 then L_X5_isWord_24 x0 x1 FU (s1, 1, 0) else L_X5_isWord_24 x0 x1 FU (s1, 0, 0))))))
theorem F_X5_isWord_g {σ : Hp} {x0 : Nat} {x1 : Nat} {r : Int32 × Hp} (h : F_X5_isWord σ x0 x1 = some r) : hT σ x0 = some (.inl 5) := (gd_inv h).1
/-! PalaceOfRooms$Reader.skips -/
noncomputable def F_X5_skips (σ : Hp) (x0 : Nat) (x1 : Nat) : Option (Int32 × Hp) := gd 5 x0 σ (b2 (F_X5_isWord σ x0 x1) (fun v1 s1 => (if v1 = 0 then zr v1 (some (v1, s1)) else b1 (F_X5_token s1 x0) (fun s2 => zr v1 (some (v1, s2))))))
theorem F_X5_skips_g {σ : Hp} {x0 : Nat} {x1 : Nat} {r : Int32 × Hp} (h : F_X5_skips σ x0 x1 = some r) : hT σ x0 = some (.inl 5) := (gd_inv h).1
/-! java/lang/Throwable.<init> for classes {0: 11, 2: 'N'} -/
noncomputable def F_J6_init_2_11 (σ : Hp) (x0 : Nat) (x1 : Nat) (x3 : Int32) (x4 : Int32) : Option (Hp) := gd 11 x0 σ (gd 11 x0 σ (gd 11 x0 σ ((if x4 = 0 then gd 11 x0 σ (gd 11 x0 σ (gd 11 x0 σ ((if x3 = 0 then gd 11 x0 σ (some σ) else some σ)))) else none))))
/-! java/lang/Exception.<init> for classes {0: 11, 2: 'N'} -/
noncomputable def F_J7_init_11 (σ : Hp) (x0 : Nat) (x1 : Nat) (x3 : Int32) (x4 : Int32) : Option (Hp) := b1 (F_J6_init_2_11 σ x0 x1 x3 x4) (fun s1 => some s1)
/-! PalaceOfRooms$Fault.<init> -/
noncomputable def F_X11_init (σ : Hp) (x0 : Nat) (x1 : Int32) : Option (Hp) := b1 (F_J7_init_11 σ x0 6 0 0) (fun s1 => b1 (pI 11 6 x0 x1 s1) (fun s2 => some s2))
/-! PalaceOfRooms$Reader.need -/
noncomputable def F_X5_need (σ : Hp) (x0 : Nat) (x1 : Int32) : Option ((Unit ⊕ Nat) × Hp) := gd 5 x0 σ ((if x1 = 0 then b1 (gI 5 3 x0 (born σ (.inl 11))) (fun v1 => b1 (F_X11_init (born σ (.inl 11)) (hZ σ) v1) (fun s1 => gd 11 (hZ σ) s1 (some (.inr (hZ σ), s1)))) else some (.inl (), σ)))
theorem F_X5_need_g {σ : Hp} {x0 : Nat} {x1 : Int32} {r : (Unit ⊕ Nat) × Hp} (h : F_X5_need σ x0 x1 = some r) : hT σ x0 = some (.inl 5) := (gd_inv h).1
/-! PalaceOfRooms$Reader.number -/
noncomputable def F_X5_number_94 (σ : Hp) (x0 : Nat) (x1 : Int32) (x2 : Int32) (x3 : Int32) (x4 : Int32) : Option ((Int32 ⊕ Nat) × Hp) := (if x3 = 0 then b2 (F_X5_need σ x0 0) (fun v1 s1 => tx v1 (fun v1 => b1 (F_X5_token s1 x0) (fun s2 => some (.inl x4, s2))) (fun a => some (.inr a, s1))) else b2 (F_X0_isIn σ ((x4 : Int32).toInt64) ((x1 : Int32).toInt64) ((x2 : Int32).toInt64)) (fun v3 s3 => (if v3 = 0 then b2 (F_X5_need s3 x0 0) (fun v4 s4 => tx v4 (fun v4 => b1 (F_X5_token s4 x0) (fun s5 => some (.inl x4, s5))) (fun a => some (.inr a, s4))) else b2 (F_X5_need s3 x0 1) (fun v6 s6 => tx v6 (fun v6 => b1 (F_X5_token s6 x0) (fun s7 => some (.inl x4, s7))) (fun a => some (.inr a, s6))))))
noncomputable def B_X5_number_54 (σ : Hp) (x0 : Nat) (x1 : Int32) (x2 : Int32) (x3 : Int32) (rec54 : Int32 × Int32 → Option ((Int32 ⊕ Nat) × Hp)) (x4 : Int32) (x5 : Int32) : Option ((Int32 ⊕ Nat) × Hp) := (if x3 = 0 then F_X5_number_94 σ x0 x1 x2 x3 x4 else b1 (gI 5 4 x0 σ) (fun v1 => (if v1 ≤ x5 then F_X5_number_94 σ x0 x1 x2 x3 x4 else b1 (gR 5 5 x0 σ) (fun v2 => b1 (gR 0 12 v2 σ) (fun v3 => b1 (aI 2 v3 x5 σ) (fun v4 => rec54 (((10 * x4) + v4) - 48, x5 + 1)))))))
noncomputable def L_X5_number_54 (σ : Hp) (x0 : Nat) (x1 : Int32) (x2 : Int32) (x3 : Int32) : Nat → (Int32 × Int32) → Option ((Int32 ⊕ Nat) × Hp) := it (fun rec54 st => B_X5_number_54 σ x0 x1 x2 x3 rec54 st.1 st.2)
theorem L_X5_number_54_0 (σ : Hp) (x0 : Nat) (x1 : Int32) (x2 : Int32) (x3 : Int32) (st : Int32 × Int32) : L_X5_number_54 σ x0 x1 x2 x3 0 st = none := rfl
theorem L_X5_number_54_s (σ : Hp) (x0 : Nat) (x1 : Int32) (x2 : Int32) (x3 : Int32) (n : Nat) (st : Int32 × Int32) : L_X5_number_54 σ x0 x1 x2 x3 (n + 1) st = B_X5_number_54 σ x0 x1 x2 x3 (L_X5_number_54 σ x0 x1 x2 x3 n) st.1 st.2 := rfl
noncomputable def F_X5_number (σ : Hp) (x0 : Nat) (x1 : Int32) (x2 : Int32) : Option ((Int32 ⊕ Nat) × Hp) := gd 5 x0 σ (b1 (gI 5 3 x0 σ) (fun v1 => b1 (gR 5 5 x0 σ) (fun v2 => b1 (gI 0 13 v2 σ) (fun v3 => (if v3 ≤ v1 then b1 (gI 5 3 x0 σ) (fun v4 => L_X5_number_54 σ x0 x1 x2 0 FU (0, v4)) else b1 (gI 5 3 x0 σ) (fun v5 => b2 (F_X5_kindAt σ x0 v5) (fun v6 s1 => (if v6 = 2 then b1 (gI 5 4 x0 s1) (fun v8 => b1 (gI 5 3 x0 s1) (fun v9 => (if 2 < (v8 - v9) then b1 (gI 5 3 x0 s1) (fun v10 => L_X5_number_54 s1 x0 x1 x2 0 FU (0, v10)) else b1 (gI 5 3 x0 s1) (fun v11 => L_X5_number_54 s1 x0 x1 x2 1 FU (0, v11))))) else b1 (gI 5 3 x0 s1) (fun v7 => L_X5_number_54 s1 x0 x1 x2 0 FU (0, v7))))))))))
theorem F_X5_number_g {σ : Hp} {x0 : Nat} {x1 : Int32} {x2 : Int32} {r : (Int32 ⊕ Nat) × Hp} (h : F_X5_number σ x0 x1 x2 = some r) : hT σ x0 = some (.inl 5) := (gd_inv h).1
/-! PalaceOfRooms$Line.<init> for classes {0: 13} -/
noncomputable def F_X12_init_13 (σ : Hp) (x0 : Nat) : Option (Hp) := some σ
/-! PalaceOfRooms$RoomLine.<init> -/
noncomputable def F_X13_init (σ : Hp) (x0 : Nat) (x1 : Int32) (x2 : Int32) : Option (Hp) := b1 (F_X12_init_13 σ x0) (fun s1 => b1 (pI 13 0 x0 x1 s1) (fun s2 => b1 (pI 13 1 x0 x2 s2) (fun s3 => some s3)))
/-! PalaceOfRooms$Line.<init> for classes {0: 14} -/
noncomputable def F_X12_init_14 (σ : Hp) (x0 : Nat) : Option (Hp) := some σ
/-! PalaceOfRooms$Again.<init> -/
noncomputable def F_X14_init (σ : Hp) (x0 : Nat) (x1 : Int32) : Option (Hp) := b1 (F_X12_init_14 σ x0) (fun s1 => b1 (pI 14 0 x0 x1 s1) (fun s2 => some s2))
/-! PalaceOfRooms$Line.<init> for classes {0: 15} -/
noncomputable def F_X12_init_15 (σ : Hp) (x0 : Nat) : Option (Hp) := some σ
/-! PalaceOfRooms$Apart.<init> -/
noncomputable def F_X15_init (σ : Hp) (x0 : Nat) (x1 : Int32) : Option (Hp) := b1 (F_X12_init_15 σ x0) (fun s1 => b1 (pI 15 0 x0 x1 s1) (fun s2 => some s2))
/-! PalaceOfRooms$Line.<init> for classes {0: 16} -/
noncomputable def F_X12_init_16 (σ : Hp) (x0 : Nat) : Option (Hp) := some σ
/-! PalaceOfRooms$Every.<init> -/
noncomputable def F_X16_init (σ : Hp) (x0 : Nat) (x1 : Int32) (x2 : Int32) : Option (Hp) := b1 (F_X12_init_16 σ x0) (fun s1 => b1 (pI 16 0 x0 x1 s1) (fun s2 => b1 (pI 16 1 x0 x2 s2) (fun s3 => some s3)))
/-! PalaceOfRooms$Reader.line -/
noncomputable def F_X5_line (σ : Hp) (x0 : Nat) : Option ((Nat ⊕ Nat) × Hp) := gd 5 x0 σ (b2 (F_X5_skips σ x0 0) (fun v1 s1 => (if v1 = 0 then b2 (F_X5_skips s1 x0 1) (fun v2 s2 => (if v2 = 0 then b2 (F_X5_skips s2 x0 2) (fun v3 s3 => (if v3 = 0 then b2 (F_X5_skips s3 x0 3) (fun v4 s4 => b2 (F_X5_need s4 x0 v4) (fun v5 s5 => tx v5 (fun v5 => b2 (F_X5_number s5 x0 0 7) (fun v6 s6 => tx v6 (fun v6 => b2 (F_X5_skips s6 x0 4) (fun v7 s7 => b2 (F_X5_need s7 x0 v7) (fun v8 s8 => tx v8 (fun v8 => b2 (F_X5_number (born s8 (.inl 16)) x0 1 99) (fun v9 s9 => tx v9 (fun v9 => b1 (F_X16_init s9 (hZ s8) v6 v9) (fun s10 => some (.inl (hZ s8), s10))) (fun a => some (.inr a, s9)))) (fun a => some (.inr a, s8))))) (fun a => some (.inr a, s6)))) (fun a => some (.inr a, s5)))) else b2 (F_X5_number (born s3 (.inl 15)) x0 0 8) (fun v11 s11 => tx v11 (fun v11 => b1 (F_X15_init s11 (hZ s3) v11) (fun s12 => some (.inl (hZ s3), s12))) (fun a => some (.inr a, s11))))) else b2 (F_X5_number (born s2 (.inl 14)) x0 1 99) (fun v13 s13 => tx v13 (fun v13 => b1 (F_X14_init s13 (hZ s2) v13) (fun s14 => some (.inl (hZ s2), s14))) (fun a => some (.inr a, s13))))) else b2 (F_X5_number s1 x0 0 7) (fun v15 s15 => tx v15 (fun v15 => b2 (F_X5_number (born s15 (.inl 13)) x0 0 8) (fun v16 s16 => tx v16 (fun v16 => b1 (F_X13_init s16 (hZ s15) v15 v16) (fun s17 => some (.inl (hZ s15), s17))) (fun a => some (.inr a, s16)))) (fun a => some (.inr a, s15))))))
theorem F_X5_line_g {σ : Hp} {x0 : Nat} {r : (Nat ⊕ Nat) × Hp} (h : F_X5_line σ x0 = some r) : hT σ x0 = some (.inl 5) := (gd_inv h).1
/-! PalaceOfRooms$Reader.read -/
noncomputable def B_X5_read_46 (x0 : Nat) (rec46 : Hp → Option ((Unit ⊕ Nat) × Hp)) (σ : Hp) : Option ((Unit ⊕ Nat) × Hp) := b1 (gI 5 3 x0 σ) (fun v1 => b1 (gR 5 5 x0 σ) (fun v2 => b1 (gI 0 13 v2 σ) (fun v3 => (if v3 ≤ v1 then some (.inl (), σ) else b2 (F_X5_isWord σ x0 5) (fun v4 s1 => (if v4 = 0 then b2 (F_X5_need s1 x0 0) (fun v5 s2 => tx v5 (fun v5 => b1 (F_X5_token s2 x0) (fun s3 => b1 (gR 5 0 x0 s3) (fun v7 => b1 (gI 5 1 x0 s3) (fun v8 => b2 (F_X5_line s3 x0) (fun v9 s4 => tx v9 (fun v9 => lk v9 s4 (b1 (sR 4 v7 v8 v9 s4) (fun s5 => b1 (gI 5 1 x0 s5) (fun v10 => b1 (pI 5 1 x0 (v10 + 1) s5) (fun s6 => rec46 s6))))) (fun a => some (.inr a, s4))))))) (fun a => some (.inr a, s2))) else b1 (gI 5 1 x0 s1) (fun v11 => (if 10 ≤ v11 then b2 (F_X5_need s1 x0 0) (fun v12 s7 => tx v12 (fun v12 => b1 (F_X5_token s7 x0) (fun s8 => b1 (gR 5 0 x0 s8) (fun v14 => b1 (gI 5 1 x0 s8) (fun v15 => b2 (F_X5_line s8 x0) (fun v16 s9 => tx v16 (fun v16 => lk v16 s9 (b1 (sR 4 v14 v15 v16 s9) (fun s10 => b1 (gI 5 1 x0 s10) (fun v17 => b1 (pI 5 1 x0 (v17 + 1) s10) (fun s11 => rec46 s11))))) (fun a => some (.inr a, s9))))))) (fun a => some (.inr a, s7))) else b2 (F_X5_need s1 x0 1) (fun v18 s12 => tx v18 (fun v18 => b1 (F_X5_token s12 x0) (fun s13 => b1 (gR 5 0 x0 s13) (fun v20 => b1 (gI 5 1 x0 s13) (fun v21 => b2 (F_X5_line s13 x0) (fun v22 s14 => tx v22 (fun v22 => lk v22 s14 (b1 (sR 4 v20 v21 v22 s14) (fun s15 => b1 (gI 5 1 x0 s15) (fun v23 => b1 (pI 5 1 x0 (v23 + 1) s15) (fun s16 => rec46 s16))))) (fun a => some (.inr a, s14))))))) (fun a => some (.inr a, s12)))))))))))
noncomputable def L_X5_read_46 (x0 : Nat) : Nat → (Hp) → Option ((Unit ⊕ Nat) × Hp) := it (fun rec46 st => B_X5_read_46 x0 rec46 st)
theorem L_X5_read_46_0 (x0 : Nat) (st : Hp) : L_X5_read_46 x0 0 st = none := rfl
theorem L_X5_read_46_s (x0 : Nat) (n : Nat) (st : Hp) : L_X5_read_46 x0 (n + 1) st = B_X5_read_46 x0 (L_X5_read_46 x0 n) st := rfl
noncomputable def F_X5_read (σ : Hp) (x0 : Nat) : Option ((Unit ⊕ Nat) × Hp) := gd 5 x0 σ (b1 (pR 5 0 x0 (hZ σ) (born σ (.inr (4, 10)))) (fun s1 => b1 (pI 5 2 x0 0 s1) (fun s2 => b1 (pI 5 1 x0 0 s2) (fun s3 => b1 (F_X5_token s3 x0) (fun s4 => b1 (gR 5 0 x0 s4) (fun v2 => b1 (gI 5 1 x0 s4) (fun v3 => b2 (F_X5_line s4 x0) (fun v4 s5 => tx v4 (fun v4 => lk v4 s5 (b1 (sR 4 v2 v3 v4 s5) (fun s6 => b1 (gI 5 1 x0 s6) (fun v5 => b1 (pI 5 1 x0 (v5 + 1) s6) (fun s7 => L_X5_read_46 x0 11 s7))))) (fun a => some (.inr a, s5))))))))))
theorem F_X5_read_g {σ : Hp} {x0 : Nat} {r : (Unit ⊕ Nat) × Hp} (h : F_X5_read σ x0 = some r) : hT σ x0 = some (.inl 5) := (gd_inv h).1
/-! PalaceOfRooms.fault -/
noncomputable def F_X0_fault (σ : Hp) (x0 : Nat) : Option (Int32 × Hp) := gd 0 x0 σ (b1 (gR 0 14 x0 σ) (fun v1 => b2 (F_X5_read σ v1) (fun v2 s1 => tx v2 (fun _ => some ((-1), s1)) (fun a => gd 11 a s1 (b1 (gI 11 6 a s1) (fun v3 => some (v3, s1)))))))
theorem F_X0_fault_g {σ : Hp} {x0 : Nat} {r : Int32 × Hp} (h : F_X0_fault σ x0 = some r) : hT σ x0 = some (.inl 0) := (gd_inv h).1
/-! PalaceOfRooms.rules -/
noncomputable def F_X0_rules (σ : Hp) (x0 : Nat) : Option (Int32 × Hp) := gd 0 x0 σ (b2 (F_X0_fault σ x0) (fun v1 s1 => (if v1 = (-1) then b1 (gR 0 14 x0 s1) (fun v2 => b1 (gR 5 0 v2 s1) (fun v3 => b1 (pR 0 10 x0 v3 s1) (fun s2 => b1 (gR 0 14 x0 s2) (fun v4 => b1 (gI 5 1 v4 s2) (fun v5 => b1 (pI 0 11 x0 v5 s2) (fun s3 => b1 (pI 0 13 x0 0 s3) (fun s4 => b1 (gI 0 11 x0 s4) (fun v6 => some (v6, s4))))))))) else some ((-4), s1))))
theorem F_X0_rules_g {σ : Hp} {x0 : Nat} {r : Int32 × Hp} (h : F_X0_rules σ x0 = some r) : hT σ x0 = some (.inl 0) := (gd_inv h).1
/-! PalaceOfRooms$Line.room for classes {0: 13} -/
noncomputable def F_X12_room_13 (σ : Hp) (x0 : Nat) (x1 : Int32) : Option (Int32 × Hp) := gd 13 x0 σ (some ((-1), σ))
theorem F_X12_room_13_g {σ : Hp} {x0 : Nat} {x1 : Int32} {r : Int32 × Hp} (h : F_X12_room_13 σ x0 x1 = some r) : hT σ x0 = some (.inl 13) := (gd_inv h).1
/-! PalaceOfRooms$RoomLine.room -/
noncomputable def F_X13_room (σ : Hp) (x0 : Nat) (x1 : Int32) : Option (Int32 × Hp) := gd 13 x0 σ (b1 (gI 13 0 x0 σ) (fun v1 => (if x1 = v1 then b1 (gI 13 1 x0 σ) (fun v3 => some (v3, σ)) else b2 (F_X12_room_13 σ x0 x1) (fun v2 s1 => some (v2, s1)))))
theorem F_X13_room_g {σ : Hp} {x0 : Nat} {x1 : Int32} {r : Int32 × Hp} (h : F_X13_room σ x0 x1 = some r) : hT σ x0 = some (.inl 13) := (gd_inv h).1
/-! PalaceOfRooms$Line.room for classes {0: 14} -/
noncomputable def F_X12_room_14 (σ : Hp) (x0 : Nat) (x1 : Int32) : Option (Int32 × Hp) := gd 14 x0 σ (some ((-1), σ))
theorem F_X12_room_14_g {σ : Hp} {x0 : Nat} {x1 : Int32} {r : Int32 × Hp} (h : F_X12_room_14 σ x0 x1 = some r) : hT σ x0 = some (.inl 14) := (gd_inv h).1
/-! PalaceOfRooms$Line.room for classes {0: 15} -/
noncomputable def F_X12_room_15 (σ : Hp) (x0 : Nat) (x1 : Int32) : Option (Int32 × Hp) := gd 15 x0 σ (some ((-1), σ))
theorem F_X12_room_15_g {σ : Hp} {x0 : Nat} {x1 : Int32} {r : Int32 × Hp} (h : F_X12_room_15 σ x0 x1 = some r) : hT σ x0 = some (.inl 15) := (gd_inv h).1
/-! PalaceOfRooms$Line.room for classes {0: 16} -/
noncomputable def F_X12_room_16 (σ : Hp) (x0 : Nat) (x1 : Int32) : Option (Int32 × Hp) := gd 16 x0 σ (some ((-1), σ))
theorem F_X12_room_16_g {σ : Hp} {x0 : Nat} {x1 : Int32} {r : Int32 × Hp} (h : F_X12_room_16 σ x0 x1 = some r) : hT σ x0 = some (.inl 16) := (gd_inv h).1
/-! PalaceOfRooms.roomFor -/
noncomputable def D_room (σ : Hp) (x0 : Nat) (x1 : Int32) : Option (Int32 × Hp) := if hT σ x0 = some (.inl 13) then F_X13_room σ x0 x1 else if hT σ x0 = some (.inl 14) then F_X12_room_14 σ x0 x1 else if hT σ x0 = some (.inl 15) then F_X12_room_15 σ x0 x1 else if hT σ x0 = some (.inl 16) then F_X12_room_16 σ x0 x1 else none
noncomputable def B_X0_roomFor_4 (x0 : Nat) (x1 : Int32) (rec4 : Hp × Int32 × Int32 → Option (Int32 × Hp)) (σ : Hp) (x2 : Int32) (x3 : Int32) : Option (Int32 × Hp) := b1 (gI 0 11 x0 σ) (fun v1 => (if v1 ≤ x3 then some (x2, σ) else b1 (gR 0 10 x0 σ) (fun v2 => b1 (aR 4 v2 x3 σ) (fun v3 => b2 (D_room σ v3 x1) (fun v4 s1 => (if v4 = (-1) then rec4 (s1, x2, x3 + 1) else b1 (gR 0 10 x0 s1) (fun v5 => b1 (aR 4 v5 x3 s1) (fun v6 => b2 (D_room s1 v6 x1) (fun v7 s2 => rec4 (s2, v7, x3 + 1))))))))))
noncomputable def L_X0_roomFor_4 (x0 : Nat) (x1 : Int32) : Nat → (Hp × Int32 × Int32) → Option (Int32 × Hp) := it (fun rec4 st => B_X0_roomFor_4 x0 x1 rec4 st.1 st.2.1 st.2.2)
theorem L_X0_roomFor_4_0 (x0 : Nat) (x1 : Int32) (st : Hp × Int32 × Int32) : L_X0_roomFor_4 x0 x1 0 st = none := rfl
theorem L_X0_roomFor_4_s (x0 : Nat) (x1 : Int32) (n : Nat) (st : Hp × Int32 × Int32) : L_X0_roomFor_4 x0 x1 (n + 1) st = B_X0_roomFor_4 x0 x1 (L_X0_roomFor_4 x0 x1 n) st.1 st.2.1 st.2.2 := rfl
noncomputable def F_X0_roomFor (σ : Hp) (x0 : Nat) (x1 : Int32) : Option (Int32 × Hp) := gd 0 x0 σ (L_X0_roomFor_4 x0 x1 FU (σ, (-1), 0))
theorem F_X0_roomFor_g {σ : Hp} {x0 : Nat} {x1 : Int32} {r : Int32 × Hp} (h : F_X0_roomFor σ x0 x1 = some r) : hT σ x0 = some (.inl 0) := (gd_inv h).1
/-! PalaceOfRooms$House.held -/
noncomputable def B_X1_held_7 (x0 : Nat) (x1 : Int32) (rec7 : Hp × Int32 × Int32 → Option (Int32 × Hp)) (σ : Hp) (x2 : Int32) (x3 : Int32) : Option (Int32 × Hp) := (if ((x1 + 1) * 6) ≤ x3 then some (x2, σ) else b1 (gR 1 0 x0 σ) (fun v1 => b1 (aR 3 v1 x3 σ) (fun v2 => b2 (F_X2_isThere_3 σ v2) (fun v3 s1 => (if v3 = 0 then rec7 (s1, x2 + 0, x3 + 1) else rec7 (s1, x2 + 1, x3 + 1))))))
noncomputable def L_X1_held_7 (x0 : Nat) (x1 : Int32) : Nat → (Hp × Int32 × Int32) → Option (Int32 × Hp) := it (fun rec7 st => B_X1_held_7 x0 x1 rec7 st.1 st.2.1 st.2.2)
theorem L_X1_held_7_0 (x0 : Nat) (x1 : Int32) (st : Hp × Int32 × Int32) : L_X1_held_7 x0 x1 0 st = none := rfl
theorem L_X1_held_7_s (x0 : Nat) (x1 : Int32) (n : Nat) (st : Hp × Int32 × Int32) : L_X1_held_7 x0 x1 (n + 1) st = B_X1_held_7 x0 x1 (L_X1_held_7 x0 x1 n) st.1 st.2.1 st.2.2 := rfl
noncomputable def F_X1_held (σ : Hp) (x0 : Nat) (x1 : Int32) : Option (Int32 × Hp) := gd 1 x0 σ (L_X1_held_7 x0 x1 FU (σ, 0, x1 * 6))
theorem F_X1_held_g {σ : Hp} {x0 : Nat} {x1 : Int32} {r : Int32 × Hp} (h : F_X1_held σ x0 x1 = some r) : hT σ x0 = some (.inl 1) := (gd_inv h).1
/-! PalaceOfRooms.crowds -/
noncomputable def F_X0_crowds (σ : Hp) (x0 : Nat) (x1 : Int32) (x2 : Int32) (x3 : Int32) (x4 : Int32) : Option (Int32 × Hp) := gd 0 x0 σ (b2 (F_X0_isIn σ ((x3 : Int32).toInt64) 0 5) (fun v1 s1 => (if v1 = 0 then some (0, s1) else b1 (gR 0 7 x0 s1) (fun v2 => b1 (gR 1 0 v2 s1) (fun v3 => b1 (aR 3 v3 ((6 * x2) + x3) s1) (fun v4 => b2 (F_X2_isThere_3 s1 v4) (fun v5 s2 => (if v5 = 0 then some (0, s2) else b1 (gI 3 0 v4 s2) (fun v6 => b2 (F_X0_likeness s2 x0 x1 v6) (fun v7 s3 => (if v7 ≤ x4 then some (0, s3) else some (1, s3))))))))))))
theorem F_X0_crowds_g {σ : Hp} {x0 : Nat} {x1 : Int32} {x2 : Int32} {x3 : Int32} {x4 : Int32} {r : Int32 × Hp} (h : F_X0_crowds σ x0 x1 x2 x3 x4 = some r) : hT σ x0 = some (.inl 0) := (gd_inv h).1
/-! PalaceOfRooms$Line.apart for classes {0: 13} -/
noncomputable def F_X12_apart_13 (σ : Hp) (x0 : Nat) : Option (Int32 × Hp) := gd 13 x0 σ (some ((-1), σ))
theorem F_X12_apart_13_g {σ : Hp} {x0 : Nat} {r : Int32 × Hp} (h : F_X12_apart_13 σ x0 = some r) : hT σ x0 = some (.inl 13) := (gd_inv h).1
/-! PalaceOfRooms$Line.apart for classes {0: 14} -/
noncomputable def F_X12_apart_14 (σ : Hp) (x0 : Nat) : Option (Int32 × Hp) := gd 14 x0 σ (some ((-1), σ))
theorem F_X12_apart_14_g {σ : Hp} {x0 : Nat} {r : Int32 × Hp} (h : F_X12_apart_14 σ x0 = some r) : hT σ x0 = some (.inl 14) := (gd_inv h).1
/-! PalaceOfRooms$Apart.apart -/
noncomputable def F_X15_apart (σ : Hp) (x0 : Nat) : Option (Int32 × Hp) := gd 15 x0 σ (b1 (gI 15 0 x0 σ) (fun v1 => some (v1, σ)))
theorem F_X15_apart_g {σ : Hp} {x0 : Nat} {r : Int32 × Hp} (h : F_X15_apart σ x0 = some r) : hT σ x0 = some (.inl 15) := (gd_inv h).1
/-! PalaceOfRooms$Line.apart for classes {0: 16} -/
noncomputable def F_X12_apart_16 (σ : Hp) (x0 : Nat) : Option (Int32 × Hp) := gd 16 x0 σ (some ((-1), σ))
theorem F_X12_apart_16_g {σ : Hp} {x0 : Nat} {r : Int32 × Hp} (h : F_X12_apart_16 σ x0 = some r) : hT σ x0 = some (.inl 16) := (gd_inv h).1
/-! PalaceOfRooms$Line.again for classes {0: 13} -/
noncomputable def F_X12_again_13 (σ : Hp) (x0 : Nat) : Option (Int32 × Hp) := gd 13 x0 σ (some ((-1), σ))
theorem F_X12_again_13_g {σ : Hp} {x0 : Nat} {r : Int32 × Hp} (h : F_X12_again_13 σ x0 = some r) : hT σ x0 = some (.inl 13) := (gd_inv h).1
/-! PalaceOfRooms$Again.again -/
noncomputable def F_X14_again (σ : Hp) (x0 : Nat) : Option (Int32 × Hp) := gd 14 x0 σ (b1 (gI 14 0 x0 σ) (fun v1 => some (v1, σ)))
theorem F_X14_again_g {σ : Hp} {x0 : Nat} {r : Int32 × Hp} (h : F_X14_again σ x0 = some r) : hT σ x0 = some (.inl 14) := (gd_inv h).1
/-! PalaceOfRooms$Line.again for classes {0: 15} -/
noncomputable def F_X12_again_15 (σ : Hp) (x0 : Nat) : Option (Int32 × Hp) := gd 15 x0 σ (some ((-1), σ))
theorem F_X12_again_15_g {σ : Hp} {x0 : Nat} {r : Int32 × Hp} (h : F_X12_again_15 σ x0 = some r) : hT σ x0 = some (.inl 15) := (gd_inv h).1
/-! PalaceOfRooms$Line.again for classes {0: 16} -/
noncomputable def F_X12_again_16 (σ : Hp) (x0 : Nat) : Option (Int32 × Hp) := gd 16 x0 σ (some ((-1), σ))
theorem F_X12_again_16_g {σ : Hp} {x0 : Nat} {r : Int32 × Hp} (h : F_X12_again_16 σ x0 = some r) : hT σ x0 = some (.inl 16) := (gd_inv h).1
/-! PalaceOfRooms.bars -/
noncomputable def D_apart (σ : Hp) (x0 : Nat)  : Option (Int32 × Hp) := if hT σ x0 = some (.inl 13) then F_X12_apart_13 σ x0  else if hT σ x0 = some (.inl 14) then F_X12_apart_14 σ x0  else if hT σ x0 = some (.inl 15) then F_X15_apart σ x0  else if hT σ x0 = some (.inl 16) then F_X12_apart_16 σ x0  else none
noncomputable def D_again (σ : Hp) (x0 : Nat)  : Option (Int32 × Hp) := if hT σ x0 = some (.inl 13) then F_X12_again_13 σ x0  else if hT σ x0 = some (.inl 14) then F_X14_again σ x0  else if hT σ x0 = some (.inl 15) then F_X12_again_15 σ x0  else if hT σ x0 = some (.inl 16) then F_X12_again_16 σ x0  else none
noncomputable def F_X0_bars_192 (σ : Hp) (x0 : Nat) (x1 : Int32) (x3 : Int32) (x4 : Int32) (x6 : Int32) (y0 : Int32) (y1 : Int32) : Option (Int32 × Hp) := (if x6 = (-1) then some ((y1 + y0) + 0, σ) else b2 (F_X0_crowds σ x0 x1 x3 (x4 - 1) x6) (fun v1 s1 => (if v1 = 0 then b2 (F_X0_crowds s1 x0 x1 x3 (x4 + 1) x6) (fun v2 s2 => (if v2 = 0 then some ((y1 + y0) + 0, s2) else some ((y1 + y0) + 4, s2))) else some ((y1 + y0) + 4, s1))))
noncomputable def F_X0_bars_191 (σ : Hp) (x0 : Nat) (x1 : Int32) (x3 : Int32) (x4 : Int32) (x6 : Int32) (y0 : Int32) : Option (Int32 × Hp) := F_X0_bars_192 σ x0 x1 x3 x4 x6 0 y0
noncomputable def F_X0_bars_159 (σ : Hp) (x0 : Nat) (x1 : Int32) (x3 : Int32) (x4 : Int32) (x5 : Int32) (x6 : Int32) (x8 : Int32) (y0 : Int32) : Option (Int32 × Hp) := (if x5 = (-1) then F_X0_bars_191 σ x0 x1 x3 x4 x6 y0 else (if x8 = (-1) then F_X0_bars_191 σ x0 x1 x3 x4 x6 y0 else b1 (gI 0 6 x0 σ) (fun v1 => (if x5 ≤ (v1 - x8) then F_X0_bars_191 σ x0 x1 x3 x4 x6 y0 else F_X0_bars_192 σ x0 x1 x3 x4 x6 2 y0))))
noncomputable def F_X0_bars_158 (σ : Hp) (x0 : Nat) (x1 : Int32) (x3 : Int32) (x4 : Int32) (x5 : Int32) (x6 : Int32) (x8 : Int32) : Option (Int32 × Hp) := F_X0_bars_159 σ x0 x1 x3 x4 x5 x6 x8 0
noncomputable def F_X0_bars_114 (σ : Hp) (x0 : Nat) (x1 : Int32) (x2 : Int32) (x3 : Int32) (x4 : Int32) (x5 : Int32) (x6 : Int32) : Option (Int32 × Hp) := b2 (F_X0_roomFor σ x0 x3) (fun v1 s1 => b1 (gR 0 7 x0 s1) (fun v2 => b1 (gR 1 0 v2 s1) (fun v3 => b1 (aR 3 v3 x2 s1) (fun v4 => b1 (gI 3 3 v4 s1) (fun v5 => (if v1 = (-1) then F_X0_bars_158 s1 x0 x1 x3 x4 x5 x6 v5 else b1 (gR 0 7 x0 s1) (fun v6 => b2 (F_X1_held s1 v6 x3) (fun v7 s2 => (if v7 < v1 then F_X0_bars_158 s2 x0 x1 x3 x4 x5 x6 v5 else F_X0_bars_159 s2 x0 x1 x3 x4 x5 x6 v5 1)))))))))
noncomputable def F_X0_bars_75 (rec37 : Hp × Int32 × Int32 × Int32 → Option (Int32 × Hp)) (σ : Hp) (x0 : Nat) (x1 : Int32) (x2 : Int32) (x3 : Int32) (x4 : Int32) (x6 : Int32) (x7 : Int32) (y0 : Int32) : Option (Int32 × Hp) := b1 (gR 0 10 x0 σ) (fun v1 => b1 (aR 4 v1 x7 σ) (fun v2 => b2 (D_apart σ v2) (fun v3 s1 => (if v3 = (-1) then rec37 (s1, y0, x6, x7 + 1) else b1 (gR 0 10 x0 s1) (fun v4 => b1 (aR 4 v4 x7 s1) (fun v5 => b2 (D_apart s1 v5) (fun v6 s2 => rec37 (s2, y0, v6, x7 + 1))))))))
noncomputable def B_X0_bars_37 (x0 : Nat) (x1 : Int32) (x2 : Int32) (x3 : Int32) (x4 : Int32) (rec37 : Hp × Int32 × Int32 × Int32 → Option (Int32 × Hp)) (σ : Hp) (x5 : Int32) (x6 : Int32) (x7 : Int32) : Option (Int32 × Hp) := b1 (gI 0 11 x0 σ) (fun v1 => (if v1 ≤ x7 then F_X0_bars_114 σ x0 x1 x2 x3 x4 x5 x6 else b1 (gR 0 10 x0 σ) (fun v2 => b1 (aR 4 v2 x7 σ) (fun v3 => b2 (D_again σ v3) (fun v4 s1 => (if v4 = (-1) then F_X0_bars_75 rec37 s1 x0 x1 x2 x3 x4 x6 x7 x5 else b1 (gR 0 10 x0 s1) (fun v5 => b1 (aR 4 v5 x7 s1) (fun v6 => b2 (D_again s1 v6) (fun v7 s2 => F_X0_bars_75 rec37 s2 x0 x1 x2 x3 x4 x6 x7 v7)))))))))
noncomputable def L_X0_bars_37 (x0 : Nat) (x1 : Int32) (x2 : Int32) (x3 : Int32) (x4 : Int32) : Nat → (Hp × Int32 × Int32 × Int32) → Option (Int32 × Hp) := it (fun rec37 st => B_X0_bars_37 x0 x1 x2 x3 x4 rec37 st.1 st.2.1 st.2.2.1 st.2.2.2)
theorem L_X0_bars_37_0 (x0 : Nat) (x1 : Int32) (x2 : Int32) (x3 : Int32) (x4 : Int32) (st : Hp × Int32 × Int32 × Int32) : L_X0_bars_37 x0 x1 x2 x3 x4 0 st = none := rfl
theorem L_X0_bars_37_s (x0 : Nat) (x1 : Int32) (x2 : Int32) (x3 : Int32) (x4 : Int32) (n : Nat) (st : Hp × Int32 × Int32 × Int32) : L_X0_bars_37 x0 x1 x2 x3 x4 (n + 1) st = B_X0_bars_37 x0 x1 x2 x3 x4 (L_X0_bars_37 x0 x1 x2 x3 x4 n) st.1 st.2.1 st.2.2.1 st.2.2.2 := rfl
noncomputable def F_X0_bars (σ : Hp) (x0 : Nat) (x1 : Int32) (x2 : Int32) : Option (Int32 × Hp) := gd 0 x0 σ (b2 (F_X0_isThing σ x1) (fun v1 s1 => (if v1 = 0 then some ((-2), s1) else b2 (F_X0_isCorner s1 x2) (fun v2 s2 => (if v2 = 0 then some ((-2), s2) else L_X0_bars_37 x0 x1 x2 (x2 / 6) (x2 - x2 / 6 * 6) FU (s2, (-1), (-1), 0))))))
theorem F_X0_bars_g {σ : Hp} {x0 : Nat} {x1 : Int32} {x2 : Int32} {r : Int32 × Hp} (h : F_X0_bars σ x0 x1 x2 = some r) : hT σ x0 = some (.inl 0) := (gd_inv h).1
/-! PalaceOfRooms$Line.every for classes {0: 13} -/
noncomputable def F_X12_every_13 (σ : Hp) (x0 : Nat) (x1 : Int32) : Option (Int32 × Hp) := gd 13 x0 σ (some ((-1), σ))
theorem F_X12_every_13_g {σ : Hp} {x0 : Nat} {x1 : Int32} {r : Int32 × Hp} (h : F_X12_every_13 σ x0 x1 = some r) : hT σ x0 = some (.inl 13) := (gd_inv h).1
/-! PalaceOfRooms$Line.every for classes {0: 14} -/
noncomputable def F_X12_every_14 (σ : Hp) (x0 : Nat) (x1 : Int32) : Option (Int32 × Hp) := gd 14 x0 σ (some ((-1), σ))
theorem F_X12_every_14_g {σ : Hp} {x0 : Nat} {x1 : Int32} {r : Int32 × Hp} (h : F_X12_every_14 σ x0 x1 = some r) : hT σ x0 = some (.inl 14) := (gd_inv h).1
/-! PalaceOfRooms$Line.every for classes {0: 15} -/
noncomputable def F_X12_every_15 (σ : Hp) (x0 : Nat) (x1 : Int32) : Option (Int32 × Hp) := gd 15 x0 σ (some ((-1), σ))
theorem F_X12_every_15_g {σ : Hp} {x0 : Nat} {x1 : Int32} {r : Int32 × Hp} (h : F_X12_every_15 σ x0 x1 = some r) : hT σ x0 = some (.inl 15) := (gd_inv h).1
/-! PalaceOfRooms$Line.every for classes {0: 16} -/
noncomputable def F_X12_every_16 (σ : Hp) (x0 : Nat) (x1 : Int32) : Option (Int32 × Hp) := gd 16 x0 σ (some ((-1), σ))
theorem F_X12_every_16_g {σ : Hp} {x0 : Nat} {x1 : Int32} {r : Int32 × Hp} (h : F_X12_every_16 σ x0 x1 = some r) : hT σ x0 = some (.inl 16) := (gd_inv h).1
/-! PalaceOfRooms$Every.every -/
noncomputable def F_X16_every (σ : Hp) (x0 : Nat) (x1 : Int32) : Option (Int32 × Hp) := gd 16 x0 σ (b1 (gI 16 0 x0 σ) (fun v1 => (if x1 = v1 then b1 (gI 16 1 x0 σ) (fun v3 => some (v3, σ)) else b2 (F_X12_every_16 σ x0 x1) (fun v2 s1 => some (v2, s1)))))
theorem F_X16_every_g {σ : Hp} {x0 : Nat} {x1 : Int32} {r : Int32 × Hp} (h : F_X16_every σ x0 x1 = some r) : hT σ x0 = some (.inl 16) := (gd_inv h).1
/-! PalaceOfRooms.due -/
noncomputable def D_every (σ : Hp) (x0 : Nat) (x1 : Int32) : Option (Int32 × Hp) := if hT σ x0 = some (.inl 13) then F_X12_every_13 σ x0 x1 else if hT σ x0 = some (.inl 14) then F_X12_every_14 σ x0 x1 else if hT σ x0 = some (.inl 15) then F_X12_every_15 σ x0 x1 else if hT σ x0 = some (.inl 16) then F_X16_every σ x0 x1 else none
noncomputable def F_X0_due_61 (rec4 : Hp × Int32 × Int32 → Option (Int32 × Hp)) (σ : Hp) (x0 : Nat) (x1 : Int32) (x2 : Int32) (x3 : Int32) : Option (Int32 × Hp) := (if x3 = (-1) then rec4 (σ, x1 ||| 0, x2 + 1) else b1 (gR 0 9 x0 σ) (fun v1 => b1 (aI 0 v1 x2 σ) (fun v2 => (if v2 = (-1) then rec4 (σ, x1 ||| (1 <<< (x2 &&& 31)), x2 + 1) else b1 (gI 0 6 x0 σ) (fun v3 => b1 (gR 0 9 x0 σ) (fun v4 => b1 (aI 0 v4 x2 σ) (fun v5 => (if (v3 - v5) < x3 then rec4 (σ, x1 ||| 0, x2 + 1) else rec4 (σ, x1 ||| (1 <<< (x2 &&& 31)), x2 + 1)))))))))
noncomputable def B_X0_due_15 (rec4 : Hp × Int32 × Int32 → Option (Int32 × Hp)) (x0 : Nat) (x1 : Int32) (x2 : Int32) (rec15 : Hp × Int32 × Int32 → Option (Int32 × Hp)) (σ : Hp) (x3 : Int32) (x4 : Int32) : Option (Int32 × Hp) := b1 (gI 0 11 x0 σ) (fun v1 => (if v1 ≤ x4 then F_X0_due_61 rec4 σ x0 x1 x2 x3 else b1 (gR 0 10 x0 σ) (fun v2 => b1 (aR 4 v2 x4 σ) (fun v3 => b2 (D_every σ v3 x2) (fun v4 s1 => (if v4 = (-1) then rec15 (s1, x3, x4 + 1) else b1 (gR 0 10 x0 s1) (fun v5 => b1 (aR 4 v5 x4 s1) (fun v6 => b2 (D_every s1 v6 x2) (fun v7 s2 => rec15 (s2, v7, x4 + 1))))))))))
noncomputable def L_X0_due_15 (rec4 : Hp × Int32 × Int32 → Option (Int32 × Hp)) (x0 : Nat) (x1 : Int32) (x2 : Int32) : Nat → (Hp × Int32 × Int32) → Option (Int32 × Hp) := it (fun rec15 st => B_X0_due_15 rec4 x0 x1 x2 rec15 st.1 st.2.1 st.2.2)
theorem L_X0_due_15_0 (rec4 : Hp × Int32 × Int32 → Option (Int32 × Hp)) (x0 : Nat) (x1 : Int32) (x2 : Int32) (st : Hp × Int32 × Int32) : L_X0_due_15 rec4 x0 x1 x2 0 st = none := rfl
theorem L_X0_due_15_s (rec4 : Hp × Int32 × Int32 → Option (Int32 × Hp)) (x0 : Nat) (x1 : Int32) (x2 : Int32) (n : Nat) (st : Hp × Int32 × Int32) : L_X0_due_15 rec4 x0 x1 x2 (n + 1) st = B_X0_due_15 rec4 x0 x1 x2 (L_X0_due_15 rec4 x0 x1 x2 n) st.1 st.2.1 st.2.2 := rfl
noncomputable def B_X0_due_4 (x0 : Nat) (rec4 : Hp × Int32 × Int32 → Option (Int32 × Hp)) (σ : Hp) (x1 : Int32) (x2 : Int32) : Option (Int32 × Hp) := (if 8 ≤ x2 then some (x1, σ) else L_X0_due_15 rec4 x0 x1 x2 FU (σ, (-1), 0))
noncomputable def L_X0_due_4 (x0 : Nat) : Nat → (Hp × Int32 × Int32) → Option (Int32 × Hp) := it (fun rec4 st => B_X0_due_4 x0 rec4 st.1 st.2.1 st.2.2)
theorem L_X0_due_4_0 (x0 : Nat) (st : Hp × Int32 × Int32) : L_X0_due_4 x0 0 st = none := rfl
theorem L_X0_due_4_s (x0 : Nat) (n : Nat) (st : Hp × Int32 × Int32) : L_X0_due_4 x0 (n + 1) st = B_X0_due_4 x0 (L_X0_due_4 x0 n) st.1 st.2.1 st.2.2 := rfl
noncomputable def F_X0_due (σ : Hp) (x0 : Nat) : Option (Int32 × Hp) := gd 0 x0 σ (L_X0_due_4 x0 FU (σ, 0, 0))
theorem F_X0_due_g {σ : Hp} {x0 : Nat} {r : Int32 × Hp} (h : F_X0_due σ x0 = some r) : hT σ x0 = some (.inl 0) := (gd_inv h).1
/-! PalaceOfRooms.layHand -/
noncomputable def F_X0_layHand_126 (σ : Hp) (x6 : Int32) (x7 : Int32) (x8 : Int32) : Option (Int32 × Hp) := (if x7 = 0 then some ((-2), σ) else (if x8 = 0 then some ((-3), σ) else (if (-1) ≤ x6 then some (0, σ) else some ((-3), σ))))
noncomputable def B_X0_layHand_78 (rec26 : Hp × Int32 × Int32 × Int32 → Option (Int32 × Hp)) (σ : Hp) (x0 : Nat) (x1 : Int64) (x3 : Int32) (x6 : Int32) (x7 : Int32) (x9 : Int32) (rec78 : Int32 × Int32 → Option (Int32 × Hp)) (x8 : Int32) (x10 : Int32) : Option (Int32 × Hp) := (if x9 ≤ x10 then rec26 (σ, x7, x8, x9 + 1) else (if x8 = 0 then rec78 (0, x10 + 1) else b1 (gR 0 15 x0 σ) (fun v1 => b1 (aI 0 v1 x10 σ) (fun v2 => b1 (gR 0 15 x0 σ) (fun v3 => b1 (aI 0 v3 x9 σ) (fun v4 => (if v2 = v4 then rec78 (0, x10 + 1) else rec78 (1, x10 + 1))))))))
noncomputable def L_X0_layHand_78 (rec26 : Hp × Int32 × Int32 × Int32 → Option (Int32 × Hp)) (σ : Hp) (x0 : Nat) (x1 : Int64) (x3 : Int32) (x6 : Int32) (x7 : Int32) (x9 : Int32) : Nat → (Int32 × Int32) → Option (Int32 × Hp) := it (fun rec78 st => B_X0_layHand_78 rec26 σ x0 x1 x3 x6 x7 x9 rec78 st.1 st.2)
theorem L_X0_layHand_78_0 (rec26 : Hp × Int32 × Int32 × Int32 → Option (Int32 × Hp)) (σ : Hp) (x0 : Nat) (x1 : Int64) (x3 : Int32) (x6 : Int32) (x7 : Int32) (x9 : Int32) (st : Int32 × Int32) : L_X0_layHand_78 rec26 σ x0 x1 x3 x6 x7 x9 0 st = none := rfl
theorem L_X0_layHand_78_s (rec26 : Hp × Int32 × Int32 × Int32 → Option (Int32 × Hp)) (σ : Hp) (x0 : Nat) (x1 : Int64) (x3 : Int32) (x6 : Int32) (x7 : Int32) (x9 : Int32) (n : Nat) (st : Int32 × Int32) : L_X0_layHand_78 rec26 σ x0 x1 x3 x6 x7 x9 (n + 1) st = B_X0_layHand_78 rec26 σ x0 x1 x3 x6 x7 x9 (L_X0_layHand_78 rec26 σ x0 x1 x3 x6 x7 x9 n) st.1 st.2 := rfl
noncomputable def B_X0_layHand_26 (x0 : Nat) (x1 : Int64) (x3 : Int32) (x6 : Int32) (rec26 : Hp × Int32 × Int32 × Int32 → Option (Int32 × Hp)) (σ : Hp) (x7 : Int32) (x8 : Int32) (x9 : Int32) : Option (Int32 × Hp) := (if x3 ≤ x9 then F_X0_layHand_126 σ x6 x7 x8 else b1 (gR 0 15 x0 σ) (fun v1 => b1 (sI 0 v1 x9 (((x1 >>> ((5 * x9 : Int32).toInt64 &&& 63)) &&& 31 : Int64).toInt32) σ) (fun s1 => (if x7 = 0 then L_X0_layHand_78 rec26 s1 x0 x1 x3 x6 0 x9 FU (x8, 0) else b1 (gR 0 15 x0 s1) (fun v2 => b1 (aI 0 v2 x9 s1) (fun v3 => b2 (F_X0_isThing s1 v3) (fun v4 s2 => (if v4 = 0 then L_X0_layHand_78 rec26 s2 x0 x1 x3 x6 0 x9 FU (x8, 0) else L_X0_layHand_78 rec26 s2 x0 x1 x3 x6 1 x9 FU (x8, 0)))))))))
noncomputable def L_X0_layHand_26 (x0 : Nat) (x1 : Int64) (x3 : Int32) (x6 : Int32) : Nat → (Hp × Int32 × Int32 × Int32) → Option (Int32 × Hp) := it (fun rec26 st => B_X0_layHand_26 x0 x1 x3 x6 rec26 st.1 st.2.1 st.2.2.1 st.2.2.2)
theorem L_X0_layHand_26_0 (x0 : Nat) (x1 : Int64) (x3 : Int32) (x6 : Int32) (st : Hp × Int32 × Int32 × Int32) : L_X0_layHand_26 x0 x1 x3 x6 0 st = none := rfl
theorem L_X0_layHand_26_s (x0 : Nat) (x1 : Int64) (x3 : Int32) (x6 : Int32) (n : Nat) (st : Hp × Int32 × Int32 × Int32) : L_X0_layHand_26 x0 x1 x3 x6 (n + 1) st = B_X0_layHand_26 x0 x1 x3 x6 (L_X0_layHand_26 x0 x1 x3 x6 n) st.1 st.2.1 st.2.2.1 st.2.2.2 := rfl
noncomputable def F_X0_layHand (σ : Hp) (x0 : Nat) (x1 : Int64) (x3 : Int32) (x4 : Int32) (x5 : Int32) (x6 : Int32) : Option (Int32 × Hp) := gd 0 x0 σ (b2 (F_X0_isIn σ ((x3 : Int32).toInt64) ((x4 : Int32).toInt64) ((x5 : Int32).toInt64)) (fun v1 s1 => (if v1 = 0 then some ((-3), s1) else L_X0_layHand_26 x0 x1 x3 x6 FU (s1, 1, 1, 0))))
theorem F_X0_layHand_g {σ : Hp} {x0 : Nat} {x1 : Int64} {x3 : Int32} {x4 : Int32} {x5 : Int32} {x6 : Int32} {r : Int32 × Hp} (h : F_X0_layHand σ x0 x1 x3 x4 x5 x6 = some r) : hT σ x0 = some (.inl 0) := (gd_inv h).1
/-! java/util/Arrays.rangeCheck -/
noncomputable def F_J8_rangeCheck (σ : Hp) (x0 : Int32) (x1 : Int32) (x2 : Int32) : Option (Hp) := (if x1 ≤ x2 then (if 0 ≤ x1 then (if x2 ≤ x0 then some σ else none) else none) else none)
/-! java/util/DualPivotQuicksort.insertionSort -/
noncomputable def F_J9_insertionSort_57 (rec3 : Hp × Int32 → Option (Hp)) (σ : Hp) (x0 : Nat) (x1 : Int32) (x2 : Int32) (x3 : Int32) (x4 : Int32) (x5 : Int32) : Option (Hp) := b1 (sI 0 x0 (x3 + 1) x5 σ) (fun s1 => rec3 (s1, x4))
noncomputable def B_J9_insertionSort_30 (rec3 : Hp × Int32 → Option (Hp)) (x0 : Nat) (x1 : Int32) (x2 : Int32) (x4 : Int32) (x5 : Int32) (rec30 : Hp × Int32 → Option (Hp)) (σ : Hp) (x3 : Int32) : Option (Hp) := (if (x3 + (-1)) < x1 then F_J9_insertionSort_57 rec3 σ x0 x1 x2 (x3 + (-1)) x4 x5 else b1 (aI 0 x0 (x3 + (-1)) σ) (fun v1 => (if v1 ≤ x5 then F_J9_insertionSort_57 rec3 σ x0 x1 x2 (x3 + (-1)) x4 x5 else b1 (aI 0 x0 (x3 + (-1)) σ) (fun v2 => b1 (sI 0 x0 ((x3 + (-1)) + 1) v2 σ) (fun s1 => rec30 (s1, x3 + (-1)))))))
noncomputable def L_J9_insertionSort_30 (rec3 : Hp × Int32 → Option (Hp)) (x0 : Nat) (x1 : Int32) (x2 : Int32) (x4 : Int32) (x5 : Int32) : Nat → (Hp × Int32) → Option (Hp) := it (fun rec30 st => B_J9_insertionSort_30 rec3 x0 x1 x2 x4 x5 rec30 st.1 st.2)
theorem L_J9_insertionSort_30_0 (rec3 : Hp × Int32 → Option (Hp)) (x0 : Nat) (x1 : Int32) (x2 : Int32) (x4 : Int32) (x5 : Int32) (st : Hp × Int32) : L_J9_insertionSort_30 rec3 x0 x1 x2 x4 x5 0 st = none := rfl
theorem L_J9_insertionSort_30_s (rec3 : Hp × Int32 → Option (Hp)) (x0 : Nat) (x1 : Int32) (x2 : Int32) (x4 : Int32) (x5 : Int32) (n : Nat) (st : Hp × Int32) : L_J9_insertionSort_30 rec3 x0 x1 x2 x4 x5 (n + 1) st = B_J9_insertionSort_30 rec3 x0 x1 x2 x4 x5 (L_J9_insertionSort_30 rec3 x0 x1 x2 x4 x5 n) st.1 st.2 := rfl
noncomputable def B_J9_insertionSort_3 (x0 : Nat) (x1 : Int32) (x2 : Int32) (rec3 : Hp × Int32 → Option (Hp)) (σ : Hp) (x4 : Int32) : Option (Hp) := (if x2 ≤ (x4 + 1) then some σ else b1 (aI 0 x0 (x4 + 1) σ) (fun v1 => b1 (aI 0 x0 ((x4 + 1) - 1) σ) (fun v2 => (if v2 ≤ v1 then rec3 (σ, x4 + 1) else L_J9_insertionSort_30 rec3 x0 x1 x2 (x4 + 1) v1 FU (σ, x4 + 1)))))
noncomputable def L_J9_insertionSort_3 (x0 : Nat) (x1 : Int32) (x2 : Int32) : Nat → (Hp × Int32) → Option (Hp) := it (fun rec3 st => B_J9_insertionSort_3 x0 x1 x2 rec3 st.1 st.2)
theorem L_J9_insertionSort_3_0 (x0 : Nat) (x1 : Int32) (x2 : Int32) (st : Hp × Int32) : L_J9_insertionSort_3 x0 x1 x2 0 st = none := rfl
theorem L_J9_insertionSort_3_s (x0 : Nat) (x1 : Int32) (x2 : Int32) (n : Nat) (st : Hp × Int32) : L_J9_insertionSort_3 x0 x1 x2 (n + 1) st = B_J9_insertionSort_3 x0 x1 x2 (L_J9_insertionSort_3 x0 x1 x2 n) st.1 st.2 := rfl
noncomputable def F_J9_insertionSort (σ : Hp) (x0 : Nat) (x1 : Int32) (x2 : Int32) : Option (Hp) := L_J9_insertionSort_3 x0 x1 x2 FU (σ, x1)
/-! java/util/DualPivotQuicksort.sort for classes {0: 'N'} -/
noncomputable def F_J9_sort_2 (σ : Hp) (x1 : Nat) (x2 : Int32) (x3 : Int32) (x4 : Int32) : Option (Hp) := (if (65 + x2) ≤ (x4 - x3) then (if 44 ≤ (x4 - x3) then none else b1 (F_J9_insertionSort σ x1 x3 x4) (fun s1 => some s1)) else (if (x2 &&& 1) ≤ 0 then (if 44 ≤ (x4 - x3) then none else b1 (F_J9_insertionSort σ x1 x3 x4) (fun s2 => some s2)) else none))
/-! java/util/DualPivotQuicksort.sort -/
noncomputable def F_J9_sort (σ : Hp) (x0 : Nat) (x1 : Int32) (x2 : Int32) (x3 : Int32) : Option (Hp) := (if x1 ≤ 1 then b1 (F_J9_sort_2 σ x0 0 x2 x3) (fun s1 => some s1) else (if (x3 - x2) ≤ 4096 then b1 (F_J9_sort_2 σ x0 0 x2 x3) (fun s2 => some s2) else none))
/-! java/util/Arrays.sort -/
noncomputable def F_J8_sort (σ : Hp) (x0 : Nat) (x1 : Int32) (x2 : Int32) : Option (Hp) := b1 (aL 0 x0 σ) (fun v1 => b1 (F_J8_rangeCheck σ v1 x1 x2) (fun s1 => b1 (F_J9_sort s1 x0 0 x1 x2) (fun s2 => some s2)))
/-! PalaceOfRooms$Orders.isMet for classes {0: 7} -/
noncomputable def B_X6_isMet_7_4 (σ : Hp) (x0 : Nat) (x1 : Int32) (rec4 : Int32 × Int32 → Option (Int32 × Hp)) (x2 : Int32) (x3 : Int32) : Option (Int32 × Hp) := (if x1 ≤ x3 then zr x2 (some (x2, σ)) else (if x2 = 0 then b1 (gR 7 0 x0 σ) (fun v1 => b1 (aI 0 v1 x3 σ) (fun v2 => b1 (gR 7 0 x0 σ) (fun v3 => b1 (aI 0 v3 x1 σ) (fun v4 => (if v2 = v4 then rec4 (1, x3 + 1) else rec4 (0, x3 + 1)))))) else rec4 (1, x3 + 1)))
noncomputable def L_X6_isMet_7_4 (σ : Hp) (x0 : Nat) (x1 : Int32) : Nat → (Int32 × Int32) → Option (Int32 × Hp) := it (fun rec4 st => B_X6_isMet_7_4 σ x0 x1 rec4 st.1 st.2)
theorem L_X6_isMet_7_4_0 (σ : Hp) (x0 : Nat) (x1 : Int32) (st : Int32 × Int32) : L_X6_isMet_7_4 σ x0 x1 0 st = none := rfl
theorem L_X6_isMet_7_4_s (σ : Hp) (x0 : Nat) (x1 : Int32) (n : Nat) (st : Int32 × Int32) : L_X6_isMet_7_4 σ x0 x1 (n + 1) st = B_X6_isMet_7_4 σ x0 x1 (L_X6_isMet_7_4 σ x0 x1 n) st.1 st.2 := rfl
noncomputable def F_X6_isMet_7 (σ : Hp) (x0 : Nat) (x1 : Int32) : Option (Int32 × Hp) := gd 7 x0 σ (L_X6_isMet_7_4 σ x0 x1 FU (0, 0))
theorem F_X6_isMet_7_g {σ : Hp} {x0 : Nat} {x1 : Int32} {r : Int32 × Hp} (h : F_X6_isMet_7 σ x0 x1 = some r) : hT σ x0 = some (.inl 7) := (gd_inv h).1
/-! PalaceOfRooms$Laid.more -/
noncomputable def F_X7_more (σ : Hp) (x0 : Nat) (x1 : Nat) (x2 : Int32) : Option (Int32 × Hp) := gd 7 x0 σ ((if x2 = 0 then some (0, σ) else b1 (gR 7 5 x0 σ) (fun v1 => b1 (gR 7 5 x0 σ) (fun v2 => b1 (gR 0 15 v2 σ) (fun v3 => b1 (aI 0 x1 (x2 - 1) σ) (fun v4 => b1 (aI 0 v3 v4 σ) (fun v5 => b1 (gR 7 5 x0 σ) (fun v6 => b1 (gR 0 15 v6 σ) (fun v7 => b1 (aI 0 x1 x2 σ) (fun v8 => b1 (aI 0 v7 v8 σ) (fun v9 => b2 (F_X0_likeness σ v1 v5 v9) (fun v10 s1 => some (v10, s1)))))))))))))
theorem F_X7_more_g {σ : Hp} {x0 : Nat} {x1 : Nat} {x2 : Int32} {r : Int32 × Hp} (h : F_X7_more σ x0 x1 x2 = some r) : hT σ x0 = some (.inl 7) := (gd_inv h).1
/-! PalaceOfRooms$Orders.run for classes {0: 7} -/
noncomputable def B_X6_run_7_25 (x0 : Nat) (x2 : Nat) (rec25 : Hp × Int32 → Option (Hp)) (σ : Hp) (x3 : Int32) : Option (Hp) := (if x3 < 0 then some σ else b1 (gR 7 0 x0 σ) (fun v1 => b1 (aI 0 v1 x3 σ) (fun v2 => b1 (sI 0 v1 x3 (v2 + 1) σ) (fun s1 => b1 (gR 7 0 x0 s1) (fun v3 => b1 (aI 0 v3 x3 s1) (fun v4 => b1 (gI 7 2 x0 s1) (fun v5 => (if v4 = v5 then rec25 (s1, x3 + (-1)) else b2 (F_X6_isMet_7 s1 x0 x3) (fun v6 s2 => (if v6 = 0 then b1 (aI 0 x2 x3 s2) (fun v7 => b1 (gR 7 0 x0 s2) (fun v8 => b2 (F_X7_more s2 x0 v8 x3) (fun v9 s3 => b1 (sI 0 x2 (x3 + 1) (v7 + v9) s3) (fun s4 => b1 (aI 0 x2 (x3 + 1) s4) (fun v10 => b1 (gI 7 3 x0 s4) (fun v11 => (if v10 < v11 then b1 (gI 7 2 x0 s4) (fun v12 => (if x3 = (v12 - 1) then b1 (gI 7 2 x0 s4) (fun v14 => b1 (aI 0 x2 v14 s4) (fun v15 => b1 (pI 7 3 x0 v15 s4) (fun s6 => b1 (gR 7 0 x0 s6) (fun v16 => b1 (gR 7 1 x0 s6) (fun v17 => b1 (gI 7 2 x0 s6) (fun v18 => b1 (cpI v16 0 v17 0 v18 s6) (fun s7 => rec25 (s7, x3)))))))) else b1 (gR 7 0 x0 s4) (fun v13 => b1 (sI 0 v13 (x3 + 1) (-1) s4) (fun s5 => rec25 (s5, x3 + 1))))) else rec25 (s4, x3)))))))) else rec25 (s2, x3)))))))))))
noncomputable def L_X6_run_7_25 (x0 : Nat) (x2 : Nat) : Nat → (Hp × Int32) → Option (Hp) := it (fun rec25 st => B_X6_run_7_25 x0 x2 rec25 st.1 st.2)
theorem L_X6_run_7_25_0 (x0 : Nat) (x2 : Nat) (st : Hp × Int32) : L_X6_run_7_25 x0 x2 0 st = none := rfl
theorem L_X6_run_7_25_s (x0 : Nat) (x2 : Nat) (n : Nat) (st : Hp × Int32) : L_X6_run_7_25 x0 x2 (n + 1) st = B_X6_run_7_25 x0 x2 (L_X6_run_7_25 x0 x2 n) st.1 st.2 := rfl
noncomputable def F_X6_run_7 (σ : Hp) (x0 : Nat) (x1 : Int32) : Option (Hp) := gd 7 x0 σ (b1 (pI 7 2 x0 x1 σ) (fun s1 => b1 (pI 7 3 x0 268435456 s1) (fun s2 => b1 (gR 7 0 x0 (born s2 (.inr (0, 9)))) (fun v1 => b1 (sI 0 v1 0 (-1) (born s2 (.inr (0, 9)))) (fun s3 => L_X6_run_7_25 x0 (hZ s2) FU (s3, 0))))))
theorem F_X6_run_7_g {σ : Hp} {x0 : Nat} {x1 : Int32} {r : Hp} (h : F_X6_run_7 σ x0 x1 = some r) : hT σ x0 = some (.inl 7) := (gd_inv h).1
/-! PalaceOfRooms.told for classes {1: 7} -/
noncomputable def F_X0_told_7 (σ : Hp) (x0 : Nat) (x1 : Nat) (x2 : Int32) (x3 : Int32) : Option (Int32 × Hp) := gd 0 x0 σ (b1 (F_X6_run_7 σ x1 x2) (fun s1 => (if x3 = (-1) then b1 (gI 7 3 x1 s1) (fun v6 => some (v6, s1)) else (if x2 ≤ x3 then some ((-1), s1) else b1 (gR 0 15 x0 s1) (fun v2 => b1 (gR 7 1 x1 s1) (fun v3 => b1 (aI 0 v3 x3 s1) (fun v4 => b1 (aI 0 v2 v4 s1) (fun v5 => some (v5, s1)))))))))
theorem F_X0_told_7_g {σ : Hp} {x0 : Nat} {x1 : Nat} {x2 : Int32} {x3 : Int32} {r : Int32 × Hp} (h : F_X0_told_7 σ x0 x1 x2 x3 = some r) : hT σ x0 = some (.inl 0) := (gd_inv h).1
/-! PalaceOfRooms.laid -/
noncomputable def F_X0_laid (σ : Hp) (x0 : Nat) (x1 : Int64) (x3 : Int32) (x4 : Int32) : Option (Int32 × Hp) := gd 0 x0 σ (b2 (F_X0_layHand σ x0 x1 x3 1 8 x4) (fun v1 s1 => (if v1 = 0 then b1 (gR 0 15 x0 s1) (fun v2 => b1 (F_J8_sort s1 v2 0 x3) (fun s2 => b1 (gR 0 17 x0 s2) (fun v4 => b2 (F_X0_told_7 s2 x0 v4 x3 x4) (fun v5 s3 => some (v5, s3))))) else some (v1, s1))))
theorem F_X0_laid_g {σ : Hp} {x0 : Nat} {x1 : Int64} {x3 : Int32} {x4 : Int32} {r : Int32 × Hp} (h : F_X0_laid σ x0 x1 x3 x4 = some r) : hT σ x0 = some (.inl 0) := (gd_inv h).1
/-! PalaceOfRooms$Orders.isMet for classes {0: 8} -/
noncomputable def B_X6_isMet_8_4 (σ : Hp) (x0 : Nat) (x1 : Int32) (rec4 : Int32 × Int32 → Option (Int32 × Hp)) (x2 : Int32) (x3 : Int32) : Option (Int32 × Hp) := (if x1 ≤ x3 then zr x2 (some (x2, σ)) else (if x2 = 0 then b1 (gR 8 0 x0 σ) (fun v1 => b1 (aI 0 v1 x3 σ) (fun v2 => b1 (gR 8 0 x0 σ) (fun v3 => b1 (aI 0 v3 x1 σ) (fun v4 => (if v2 = v4 then rec4 (1, x3 + 1) else rec4 (0, x3 + 1)))))) else rec4 (1, x3 + 1)))
noncomputable def L_X6_isMet_8_4 (σ : Hp) (x0 : Nat) (x1 : Int32) : Nat → (Int32 × Int32) → Option (Int32 × Hp) := it (fun rec4 st => B_X6_isMet_8_4 σ x0 x1 rec4 st.1 st.2)
theorem L_X6_isMet_8_4_0 (σ : Hp) (x0 : Nat) (x1 : Int32) (st : Int32 × Int32) : L_X6_isMet_8_4 σ x0 x1 0 st = none := rfl
theorem L_X6_isMet_8_4_s (σ : Hp) (x0 : Nat) (x1 : Int32) (n : Nat) (st : Int32 × Int32) : L_X6_isMet_8_4 σ x0 x1 (n + 1) st = B_X6_isMet_8_4 σ x0 x1 (L_X6_isMet_8_4 σ x0 x1 n) st.1 st.2 := rfl
noncomputable def F_X6_isMet_8 (σ : Hp) (x0 : Nat) (x1 : Int32) : Option (Int32 × Hp) := gd 8 x0 σ (L_X6_isMet_8_4 σ x0 x1 FU (0, 0))
theorem F_X6_isMet_8_g {σ : Hp} {x0 : Nat} {x1 : Int32} {r : Int32 × Hp} (h : F_X6_isMet_8 σ x0 x1 = some r) : hT σ x0 = some (.inl 8) := (gd_inv h).1
/-! PalaceOfRooms$Code.more -/
noncomputable def B_X8_more_5 (x0 : Nat) (x1 : Nat) (x2 : Int32) (rec5 : Hp × Int32 × Int32 → Option (Int32 × Hp)) (σ : Hp) (x3 : Int32) (x4 : Int32) : Option (Int32 × Hp) := (if x2 ≤ x4 then some (x3, σ) else b1 (gR 8 5 x0 σ) (fun v1 => b1 (gR 0 16 v1 σ) (fun v2 => b1 (aR 7 v2 x4 σ) (fun v3 => b1 (aI 0 v3 x2 σ) (fun v4 => b1 (gR 8 5 x0 σ) (fun v5 => b1 (gR 8 5 x0 σ) (fun v6 => b1 (gR 0 15 v6 σ) (fun v7 => b1 (aI 0 x1 x4 σ) (fun v8 => b1 (aI 0 v7 v8 σ) (fun v9 => b1 (gR 8 5 x0 σ) (fun v10 => b1 (gR 0 15 v10 σ) (fun v11 => b1 (aI 0 x1 x2 σ) (fun v12 => b1 (aI 0 v11 v12 σ) (fun v13 => b2 (F_X0_likeness σ v5 v9 v13) (fun v14 s1 => rec5 (s1, x3 + (v4 * v14), x4 + 1))))))))))))))))
noncomputable def L_X8_more_5 (x0 : Nat) (x1 : Nat) (x2 : Int32) : Nat → (Hp × Int32 × Int32) → Option (Int32 × Hp) := it (fun rec5 st => B_X8_more_5 x0 x1 x2 rec5 st.1 st.2.1 st.2.2)
theorem L_X8_more_5_0 (x0 : Nat) (x1 : Nat) (x2 : Int32) (st : Hp × Int32 × Int32) : L_X8_more_5 x0 x1 x2 0 st = none := rfl
theorem L_X8_more_5_s (x0 : Nat) (x1 : Nat) (x2 : Int32) (n : Nat) (st : Hp × Int32 × Int32) : L_X8_more_5 x0 x1 x2 (n + 1) st = B_X8_more_5 x0 x1 x2 (L_X8_more_5 x0 x1 x2 n) st.1 st.2.1 st.2.2 := rfl
noncomputable def F_X8_more (σ : Hp) (x0 : Nat) (x1 : Nat) (x2 : Int32) : Option (Int32 × Hp) := gd 8 x0 σ (L_X8_more_5 x0 x1 x2 FU (σ, 0, 0))
theorem F_X8_more_g {σ : Hp} {x0 : Nat} {x1 : Nat} {x2 : Int32} {r : Int32 × Hp} (h : F_X8_more σ x0 x1 x2 = some r) : hT σ x0 = some (.inl 8) := (gd_inv h).1
/-! PalaceOfRooms$Orders.run for classes {0: 8} -/
noncomputable def B_X6_run_8_25 (x0 : Nat) (x2 : Nat) (rec25 : Hp × Int32 → Option (Hp)) (σ : Hp) (x3 : Int32) : Option (Hp) := (if x3 < 0 then some σ else b1 (gR 8 0 x0 σ) (fun v1 => b1 (aI 0 v1 x3 σ) (fun v2 => b1 (sI 0 v1 x3 (v2 + 1) σ) (fun s1 => b1 (gR 8 0 x0 s1) (fun v3 => b1 (aI 0 v3 x3 s1) (fun v4 => b1 (gI 8 2 x0 s1) (fun v5 => (if v4 = v5 then rec25 (s1, x3 + (-1)) else b2 (F_X6_isMet_8 s1 x0 x3) (fun v6 s2 => (if v6 = 0 then b1 (aI 0 x2 x3 s2) (fun v7 => b1 (gR 8 0 x0 s2) (fun v8 => b2 (F_X8_more s2 x0 v8 x3) (fun v9 s3 => b1 (sI 0 x2 (x3 + 1) (v7 + v9) s3) (fun s4 => b1 (aI 0 x2 (x3 + 1) s4) (fun v10 => b1 (gI 8 3 x0 s4) (fun v11 => (if v10 < v11 then b1 (gI 8 2 x0 s4) (fun v12 => (if x3 = (v12 - 1) then b1 (gI 8 2 x0 s4) (fun v14 => b1 (aI 0 x2 v14 s4) (fun v15 => b1 (pI 8 3 x0 v15 s4) (fun s6 => b1 (gR 8 0 x0 s6) (fun v16 => b1 (gR 8 1 x0 s6) (fun v17 => b1 (gI 8 2 x0 s6) (fun v18 => b1 (cpI v16 0 v17 0 v18 s6) (fun s7 => rec25 (s7, x3)))))))) else b1 (gR 8 0 x0 s4) (fun v13 => b1 (sI 0 v13 (x3 + 1) (-1) s4) (fun s5 => rec25 (s5, x3 + 1))))) else rec25 (s4, x3)))))))) else rec25 (s2, x3)))))))))))
noncomputable def L_X6_run_8_25 (x0 : Nat) (x2 : Nat) : Nat → (Hp × Int32) → Option (Hp) := it (fun rec25 st => B_X6_run_8_25 x0 x2 rec25 st.1 st.2)
theorem L_X6_run_8_25_0 (x0 : Nat) (x2 : Nat) (st : Hp × Int32) : L_X6_run_8_25 x0 x2 0 st = none := rfl
theorem L_X6_run_8_25_s (x0 : Nat) (x2 : Nat) (n : Nat) (st : Hp × Int32) : L_X6_run_8_25 x0 x2 (n + 1) st = B_X6_run_8_25 x0 x2 (L_X6_run_8_25 x0 x2 n) st.1 st.2 := rfl
noncomputable def F_X6_run_8 (σ : Hp) (x0 : Nat) (x1 : Int32) : Option (Hp) := gd 8 x0 σ (b1 (pI 8 2 x0 x1 σ) (fun s1 => b1 (pI 8 3 x0 268435456 s1) (fun s2 => b1 (gR 8 0 x0 (born s2 (.inr (0, 9)))) (fun v1 => b1 (sI 0 v1 0 (-1) (born s2 (.inr (0, 9)))) (fun s3 => L_X6_run_8_25 x0 (hZ s2) FU (s3, 0))))))
theorem F_X6_run_8_g {σ : Hp} {x0 : Nat} {x1 : Int32} {r : Hp} (h : F_X6_run_8 σ x0 x1 = some r) : hT σ x0 = some (.inl 8) := (gd_inv h).1
/-! PalaceOfRooms.told for classes {1: 8} -/
noncomputable def F_X0_told_8 (σ : Hp) (x0 : Nat) (x1 : Nat) (x2 : Int32) (x3 : Int32) : Option (Int32 × Hp) := gd 0 x0 σ (b1 (F_X6_run_8 σ x1 x2) (fun s1 => (if x3 = (-1) then b1 (gI 8 3 x1 s1) (fun v6 => some (v6, s1)) else (if x2 ≤ x3 then some ((-1), s1) else b1 (gR 0 15 x0 s1) (fun v2 => b1 (gR 8 1 x1 s1) (fun v3 => b1 (aI 0 v3 x3 s1) (fun v4 => b1 (aI 0 v2 v4 s1) (fun v5 => some (v5, s1)))))))))
theorem F_X0_told_8_g {σ : Hp} {x0 : Nat} {x1 : Nat} {x2 : Int32} {x3 : Int32} {r : Int32 × Hp} (h : F_X0_told_8 σ x0 x1 x2 x3 = some r) : hT σ x0 = some (.inl 0) := (gd_inv h).1
/-! PalaceOfRooms.code -/
noncomputable def F_X0_code (σ : Hp) (x0 : Nat) (x1 : Int64) (x3 : Int32) (x4 : Int32) : Option (Int32 × Hp) := gd 0 x0 σ (b2 (F_X0_layHand σ x0 x1 x3 2 6 x4) (fun v1 s1 => (if v1 = 0 then b1 (gR 0 18 x0 s1) (fun v2 => b2 (F_X0_told_8 s1 x0 v2 x3 x4) (fun v3 s2 => some (v3, s2))) else some (v1, s1))))
theorem F_X0_code_g {σ : Hp} {x0 : Nat} {x1 : Int64} {x3 : Int32} {x4 : Int32} {r : Int32 × Hp} (h : F_X0_code σ x0 x1 x3 x4 = some r) : hT σ x0 = some (.inl 0) := (gd_inv h).1
/-! PalaceOfRooms.figures -/
noncomputable def F_X0_figures (σ : Hp) (x0 : Nat) (x1 : Int32) (x2 : Int32) (x3 : Int32) : Option (Int32 × Hp) := gd 0 x0 σ (b2 (F_X0_isIn σ ((x1 : Int32).toInt64) 0 9) (fun v1 s1 => (if v1 = 0 then some ((-2), s1) else b2 (F_X0_isIn s1 ((x2 : Int32).toInt64) 0 9) (fun v2 s2 => (if v2 = 0 then some ((-2), s2) else (if x1 = x2 then some ((-2), s2) else b2 (F_X0_isIn s2 ((x3 : Int32).toInt64) 0 9) (fun v3 s3 => (if v3 = 0 then some ((-3), s3) else b1 (gR 0 16 x0 s3) (fun v4 => b1 (aR 7 v4 x1 s3) (fun v5 => b1 (aI 0 v5 x2 s3) (fun v6 => b1 (gR 0 16 x0 s3) (fun v7 => b1 (aR 7 v7 x1 s3) (fun v8 => b1 (sI 0 v8 x2 x3 s3) (fun s4 => b1 (gR 0 16 x0 s4) (fun v9 => b1 (aR 7 v9 x2 s4) (fun v10 => b1 (sI 0 v10 x1 x3 s4) (fun s5 => some (v6, s5))))))))))))))))))
theorem F_X0_figures_g {σ : Hp} {x0 : Nat} {x1 : Int32} {x2 : Int32} {x3 : Int32} {r : Int32 × Hp} (h : F_X0_figures σ x0 x1 x2 x3 = some r) : hT σ x0 = some (.inl 0) := (gd_inv h).1
/-! PalaceOfRooms.costOf -/
noncomputable def F_X0_costOf (σ : Hp) (x0 : Nat) (x1 : Int32) : Option (Int32 × Hp) := gd 0 x0 σ (b2 (F_X0_awayOf σ x0 0 x1) (fun v1 s1 => (if v1 = (-1) then some ((-1), s1) else b1 (gR 0 7 x0 s1) (fun v2 => b2 (F_X1_held s1 v2 x1) (fun v3 s2 => some ((2 * v1) + v3, s2))))))
theorem F_X0_costOf_g {σ : Hp} {x0 : Nat} {x1 : Int32} {r : Int32 × Hp} (h : F_X0_costOf σ x0 x1 = some r) : hT σ x0 = some (.inl 0) := (gd_inv h).1
/-! PalaceOfRooms.cost -/
noncomputable def F_X0_cost (σ : Hp) (x0 : Nat) (x1 : Int32) : Option (Int32 × Hp) := gd 0 x0 σ (b2 (F_X0_isRoom σ x1) (fun v1 s1 => (if v1 = 0 then some ((-2), s1) else b2 (F_X0_costOf s1 x0 x1) (fun v2 s2 => some (v2, s2)))))
theorem F_X0_cost_g {σ : Hp} {x0 : Nat} {x1 : Int32} {r : Int32 × Hp} (h : F_X0_cost σ x0 x1 = some r) : hT σ x0 = some (.inl 0) := (gd_inv h).1
/-! PalaceOfRooms.minutesOf -/
noncomputable def F_X0_minutesOf (σ : Hp) (x0 : Int32) (x1 : Int32) : Option (Int32 × Hp) := some ((x0 >>> ((7 * x1) &&& 31)) &&& 127, σ)
/-! PalaceOfRooms.areMinutes -/
noncomputable def B_X0_areMinutes_12 (x0 : Int32) (x1 : Int32) (rec12 : Hp × Int32 × Int32 → Option (Int32 × Hp)) (σ : Hp) (x2 : Int32) (x3 : Int32) : Option (Int32 × Hp) := (if x2 = 0 then zr x2 (some (x2, σ)) else (if x0 ≤ x3 then zr x2 (some (x2, σ)) else b2 (F_X0_minutesOf σ x1 x3) (fun v1 s1 => (if 100 ≤ v1 then rec12 (s1, 0, x3 + 1) else rec12 (s1, 1, x3 + 1)))))
noncomputable def L_X0_areMinutes_12 (x0 : Int32) (x1 : Int32) : Nat → (Hp × Int32 × Int32) → Option (Int32 × Hp) := it (fun rec12 st => B_X0_areMinutes_12 x0 x1 rec12 st.1 st.2.1 st.2.2)
theorem L_X0_areMinutes_12_0 (x0 : Int32) (x1 : Int32) (st : Hp × Int32 × Int32) : L_X0_areMinutes_12 x0 x1 0 st = none := rfl
theorem L_X0_areMinutes_12_s (x0 : Int32) (x1 : Int32) (n : Nat) (st : Hp × Int32 × Int32) : L_X0_areMinutes_12 x0 x1 (n + 1) st = B_X0_areMinutes_12 x0 x1 (L_X0_areMinutes_12 x0 x1 n) st.1 st.2.1 st.2.2 := rfl
noncomputable def F_X0_areMinutes (σ : Hp) (x0 : Int32) (x1 : Int32) : Option (Int32 × Hp) := b2 (F_X0_isIn σ ((x0 : Int32).toInt64) 1 4) (fun v1 s1 => L_X0_areMinutes_12 x0 x1 FU (s1, v1, 0))
/-! PalaceOfRooms.layCosts -/
noncomputable def B_X0_layCosts_2 (x0 : Nat) (rec2 : Hp × Int32 → Option (Hp)) (σ : Hp) (x1 : Int32) : Option (Hp) := (if 8 ≤ x1 then some σ else b1 (gR 0 20 x0 σ) (fun v1 => b2 (F_X0_costOf σ x0 x1) (fun v2 s1 => b1 (sI 0 v1 x1 v2 s1) (fun s2 => rec2 (s2, x1 + 1)))))
noncomputable def L_X0_layCosts_2 (x0 : Nat) : Nat → (Hp × Int32) → Option (Hp) := it (fun rec2 st => B_X0_layCosts_2 x0 rec2 st.1 st.2)
theorem L_X0_layCosts_2_0 (x0 : Nat) (st : Hp × Int32) : L_X0_layCosts_2 x0 0 st = none := rfl
theorem L_X0_layCosts_2_s (x0 : Nat) (n : Nat) (st : Hp × Int32) : L_X0_layCosts_2 x0 (n + 1) st = B_X0_layCosts_2 x0 (L_X0_layCosts_2 x0 n) st.1 st.2 := rfl
noncomputable def F_X0_layCosts (σ : Hp) (x0 : Nat) : Option (Hp) := gd 0 x0 σ (L_X0_layCosts_2 x0 FU (σ, 0))
theorem F_X0_layCosts_g {σ : Hp} {x0 : Nat} {r : Hp} (h : F_X0_layCosts σ x0 = some r) : hT σ x0 = some (.inl 0) := (gd_inv h).1
/-! PalaceOfRooms.layPlan -/
noncomputable def B_X0_layPlan_7 (x0 : Nat) (rec7 : Hp × Int32 × Int32 → Option (Hp)) (σ : Hp) (x3 : Int32) (x4 : Int32) : Option (Hp) := (if x4 < 0 then some σ else b1 (gR 0 19 x0 σ) (fun v1 => b1 (sI 0 v1 x4 (x3 - x3 / 9 * 9) σ) (fun s1 => rec7 (s1, x3 / 9, x4 + (-1)))))
noncomputable def L_X0_layPlan_7 (x0 : Nat) : Nat → (Hp × Int32 × Int32) → Option (Hp) := it (fun rec7 st => B_X0_layPlan_7 x0 rec7 st.1 st.2.1 st.2.2)
theorem L_X0_layPlan_7_0 (x0 : Nat) (st : Hp × Int32 × Int32) : L_X0_layPlan_7 x0 0 st = none := rfl
theorem L_X0_layPlan_7_s (x0 : Nat) (n : Nat) (st : Hp × Int32 × Int32) : L_X0_layPlan_7 x0 (n + 1) st = B_X0_layPlan_7 x0 (L_X0_layPlan_7 x0 n) st.1 st.2.1 st.2.2 := rfl
noncomputable def F_X0_layPlan (σ : Hp) (x0 : Nat) (x1 : Int32) (x2 : Int32) : Option (Hp) := gd 0 x0 σ (L_X0_layPlan_7 x0 FU (σ, x1, x2 - 1))
theorem F_X0_layPlan_g {σ : Hp} {x0 : Nat} {x1 : Int32} {x2 : Int32} {r : Hp} (h : F_X0_layPlan σ x0 x1 x2 = some r) : hT σ x0 = some (.inl 0) := (gd_inv h).1
/-! PalaceOfRooms$Kept.copy for classes {0: 3, 1: 3} -/
noncomputable def F_X2_copy_3 (σ : Hp) (x0 : Nat) (x1 : Nat) : Option (Hp) := gd 3 x0 σ (b1 (gI 3 0 x1 σ) (fun v1 => b1 (gI 3 1 x1 σ) (fun v2 => b1 (F_X2_lay_3 σ x0 v1 v2) (fun s1 => some s1))))
theorem F_X2_copy_3_g {σ : Hp} {x0 : Nat} {x1 : Nat} {r : Hp} (h : F_X2_copy_3 σ x0 x1 = some r) : hT σ x0 = some (.inl 3) := (gd_inv h).1
/-! PalaceOfRooms$Kept.copy for classes {0: 4, 1: 4} -/
noncomputable def F_X2_copy_4 (σ : Hp) (x0 : Nat) (x1 : Nat) : Option (Hp) := gd 4 x0 σ (b1 (gI 4 0 x1 σ) (fun v1 => b1 (gI 4 1 x1 σ) (fun v2 => b1 (F_X2_lay_4 σ x0 v1 v2) (fun s1 => some s1))))
theorem F_X2_copy_4_g {σ : Hp} {x0 : Nat} {x1 : Nat} {r : Hp} (h : F_X2_copy_4 σ x0 x1 = some r) : hT σ x0 = some (.inl 4) := (gd_inv h).1
/-! PalaceOfRooms$Corner.copy -/
noncomputable def F_X3_copy (σ : Hp) (x0 : Nat) (x1 : Nat) : Option (Hp) := gd 3 x0 σ (b1 (F_X2_copy_3 σ x0 x1) (fun s1 => b1 (gR 3 2 x0 s1) (fun v2 => b1 (gR 3 2 x1 s1) (fun v3 => b1 (F_X2_copy_4 s1 v2 v3) (fun s2 => some s2)))))
theorem F_X3_copy_g {σ : Hp} {x0 : Nat} {x1 : Nat} {r : Hp} (h : F_X3_copy σ x0 x1 = some r) : hT σ x0 = some (.inl 3) := (gd_inv h).1
/-! PalaceOfRooms$House.copy -/
noncomputable def B_X1_copy_2 (x0 : Nat) (x1 : Nat) (rec2 : Hp × Int32 → Option (Hp)) (σ : Hp) (x2 : Int32) : Option (Hp) := (if 48 ≤ x2 then some σ else b1 (gR 1 0 x0 σ) (fun v1 => b1 (aR 3 v1 x2 σ) (fun v2 => b1 (gR 1 0 x1 σ) (fun v3 => b1 (aR 3 v3 x2 σ) (fun v4 => b1 (F_X3_copy σ v2 v4) (fun s1 => rec2 (s1, x2 + 1)))))))
noncomputable def L_X1_copy_2 (x0 : Nat) (x1 : Nat) : Nat → (Hp × Int32) → Option (Hp) := it (fun rec2 st => B_X1_copy_2 x0 x1 rec2 st.1 st.2)
theorem L_X1_copy_2_0 (x0 : Nat) (x1 : Nat) (st : Hp × Int32) : L_X1_copy_2 x0 x1 0 st = none := rfl
theorem L_X1_copy_2_s (x0 : Nat) (x1 : Nat) (n : Nat) (st : Hp × Int32) : L_X1_copy_2 x0 x1 (n + 1) st = B_X1_copy_2 x0 x1 (L_X1_copy_2 x0 x1 n) st.1 st.2 := rfl
noncomputable def F_X1_copy (σ : Hp) (x0 : Nat) (x1 : Nat) : Option (Hp) := gd 1 x0 σ (L_X1_copy_2 x0 x1 FU (σ, 0))
theorem F_X1_copy_g {σ : Hp} {x0 : Nat} {x1 : Nat} {r : Hp} (h : F_X1_copy σ x0 x1 = some r) : hT σ x0 = some (.inl 1) := (gd_inv h).1
/-! PalaceOfRooms$House.strength -/
noncomputable def B_X1_strength_13 (x2 : Nat) (x3 : Int32) (rec13 : Hp × Int32 × Int32 → Option (Int32 × Hp)) (σ : Hp) (x1 : Int32) (x4 : Int32) : Option (Int32 × Hp) := (if x3 ≤ x4 then some (x1, σ) else b1 (aR 3 x2 x4 σ) (fun v1 => b2 (F_X2_isThere_3 σ v1) (fun v2 s1 => (if v2 = 0 then rec13 (s1, x1 + 0, x4 + 1) else b1 (gI 3 1 v1 s1) (fun v3 => rec13 (s1, x1 + v3, x4 + 1))))))
noncomputable def L_X1_strength_13 (x2 : Nat) (x3 : Int32) : Nat → (Hp × Int32 × Int32) → Option (Int32 × Hp) := it (fun rec13 st => B_X1_strength_13 x2 x3 rec13 st.1 st.2.1 st.2.2)
theorem L_X1_strength_13_0 (x2 : Nat) (x3 : Int32) (st : Hp × Int32 × Int32) : L_X1_strength_13 x2 x3 0 st = none := rfl
theorem L_X1_strength_13_s (x2 : Nat) (x3 : Int32) (n : Nat) (st : Hp × Int32 × Int32) : L_X1_strength_13 x2 x3 (n + 1) st = B_X1_strength_13 x2 x3 (L_X1_strength_13 x2 x3 n) st.1 st.2.1 st.2.2 := rfl
noncomputable def F_X1_strength (σ : Hp) (x0 : Nat) : Option (Int32 × Hp) := gd 1 x0 σ (b1 (gR 1 0 x0 σ) (fun v1 => b1 (aL 3 v1 σ) (fun v2 => L_X1_strength_13 v1 v2 FU (σ, 0, 0))))
theorem F_X1_strength_g {σ : Hp} {x0 : Nat} {r : Int32 × Hp} (h : F_X1_strength σ x0 = some r) : hT σ x0 = some (.inl 1) := (gd_inv h).1
/-! PalaceOfRooms.strengthBehind -/
noncomputable def B_X0_strengthBehind_13 (x0 : Nat) (x1 : Int32) (x2 : Int32) (rec13 : Hp × Int32 → Option (Int32 × Hp)) (σ : Hp) (x3 : Int32) : Option (Int32 × Hp) := (if x1 ≤ x3 then b1 (gR 0 8 x0 σ) (fun v1 => b2 (F_X1_strength σ v1) (fun v2 s1 => some (v2, s1))) else b1 (gR 0 19 x0 σ) (fun v3 => b1 (aI 0 v3 x3 σ) (fun v4 => (if v4 = 8 then b1 (gR 0 8 x0 σ) (fun v5 => b1 (F_X1_goBy σ v5) (fun s2 => rec13 (s2, x3 + 1))) else b1 (gR 0 20 x0 σ) (fun v7 => b1 (gR 0 19 x0 σ) (fun v8 => b1 (aI 0 v8 x3 σ) (fun v9 => b1 (aI 0 v7 v9 σ) (fun v10 => (if v10 = (-1) then some ((-1), σ) else b2 (F_X0_minutesOf σ x2 x3) (fun v11 s3 => (if v10 ≤ v11 then b1 (gR 0 8 x0 s3) (fun v12 => b1 (gR 0 19 x0 s3) (fun v13 => b1 (aI 0 v13 x3 s3) (fun v14 => b2 (F_X1_walk s3 v12 v14) (fun v15 s4 => b1 (gR 0 8 x0 s4) (fun v16 => b1 (F_X1_goBy s4 v16) (fun s5 => rec13 (s5, x3 + 1))))))) else some ((-1), s3))))))))))))
noncomputable def L_X0_strengthBehind_13 (x0 : Nat) (x1 : Int32) (x2 : Int32) : Nat → (Hp × Int32) → Option (Int32 × Hp) := it (fun rec13 st => B_X0_strengthBehind_13 x0 x1 x2 rec13 st.1 st.2)
theorem L_X0_strengthBehind_13_0 (x0 : Nat) (x1 : Int32) (x2 : Int32) (st : Hp × Int32) : L_X0_strengthBehind_13 x0 x1 x2 0 st = none := rfl
theorem L_X0_strengthBehind_13_s (x0 : Nat) (x1 : Int32) (x2 : Int32) (n : Nat) (st : Hp × Int32) : L_X0_strengthBehind_13 x0 x1 x2 (n + 1) st = B_X0_strengthBehind_13 x0 x1 x2 (L_X0_strengthBehind_13 x0 x1 x2 n) st.1 st.2 := rfl
noncomputable def F_X0_strengthBehind (σ : Hp) (x0 : Nat) (x1 : Int32) (x2 : Int32) : Option (Int32 × Hp) := gd 0 x0 σ (b1 (gR 0 8 x0 σ) (fun v1 => b1 (gR 0 7 x0 σ) (fun v2 => b1 (F_X1_copy σ v1 v2) (fun s1 => L_X0_strengthBehind_13 x0 x1 x2 FU (s1, 0)))))
theorem F_X0_strengthBehind_g {σ : Hp} {x0 : Nat} {x1 : Int32} {x2 : Int32} {r : Int32 × Hp} (h : F_X0_strengthBehind σ x0 x1 x2 = some r) : hT σ x0 = some (.inl 0) := (gd_inv h).1
/-! PalaceOfRooms.plan -/
noncomputable def F_X0_plan_107 (σ : Hp) (x0 : Nat) (x1 : Int32) (x3 : Int32) (x5 : Int32) (x6 : Int32) : Option (Int32 × Hp) := b1 (F_X0_layPlan σ x0 x5 x1) (fun s1 => (if x3 = (-1) then some (x6, s1) else b1 (gR 0 19 x0 s1) (fun v2 => b1 (aI 0 v2 x3 s1) (fun v3 => some (v3, s1)))))
noncomputable def B_X0_plan_64 (x0 : Nat) (x1 : Int32) (x2 : Int32) (x3 : Int32) (x4 : Int32) (rec64 : Hp × Int32 × Int32 × Int32 → Option (Int32 × Hp)) (σ : Hp) (x5 : Int32) (x6 : Int32) (x7 : Int32) : Option (Int32 × Hp) := (if x4 ≤ x7 then F_X0_plan_107 σ x0 x1 x3 x5 x6 else b1 (F_X0_layPlan σ x0 x7 x1) (fun s1 => b2 (F_X0_strengthBehind s1 x0 x1 x2) (fun v2 s2 => (if v2 ≤ x6 then rec64 (s2, x5, x6, x7 + 1) else rec64 (s2, x7, v2, x7 + 1)))))
noncomputable def L_X0_plan_64 (x0 : Nat) (x1 : Int32) (x2 : Int32) (x3 : Int32) (x4 : Int32) : Nat → (Hp × Int32 × Int32 × Int32) → Option (Int32 × Hp) := it (fun rec64 st => B_X0_plan_64 x0 x1 x2 x3 x4 rec64 st.1 st.2.1 st.2.2.1 st.2.2.2)
theorem L_X0_plan_64_0 (x0 : Nat) (x1 : Int32) (x2 : Int32) (x3 : Int32) (x4 : Int32) (st : Hp × Int32 × Int32 × Int32) : L_X0_plan_64 x0 x1 x2 x3 x4 0 st = none := rfl
theorem L_X0_plan_64_s (x0 : Nat) (x1 : Int32) (x2 : Int32) (x3 : Int32) (x4 : Int32) (n : Nat) (st : Hp × Int32 × Int32 × Int32) : L_X0_plan_64 x0 x1 x2 x3 x4 (n + 1) st = B_X0_plan_64 x0 x1 x2 x3 x4 (L_X0_plan_64 x0 x1 x2 x3 x4 n) st.1 st.2.1 st.2.2.1 st.2.2.2 := rfl
noncomputable def F_X0_plan_55 (σ : Hp) (x0 : Nat) (x1 : Int32) (x2 : Int32) (x3 : Int32) (x4 : Int32) : Option (Int32 × Hp) := L_X0_plan_64 x0 x1 x2 x3 x4 FU (σ, (-1), (-1), 0)
noncomputable def B_X0_plan_36 (σ : Hp) (x0 : Nat) (x1 : Int32) (x2 : Int32) (x3 : Int32) (rec36 : Int32 × Int32 → Option (Int32 × Hp)) (x4 : Int32) (x5 : Int32) : Option (Int32 × Hp) := (if x1 ≤ x5 then F_X0_plan_55 σ x0 x1 x2 x3 x4 else rec36 (x4 * 9, x5 + 1))
noncomputable def L_X0_plan_36 (σ : Hp) (x0 : Nat) (x1 : Int32) (x2 : Int32) (x3 : Int32) : Nat → (Int32 × Int32) → Option (Int32 × Hp) := it (fun rec36 st => B_X0_plan_36 σ x0 x1 x2 x3 rec36 st.1 st.2)
theorem L_X0_plan_36_0 (σ : Hp) (x0 : Nat) (x1 : Int32) (x2 : Int32) (x3 : Int32) (st : Int32 × Int32) : L_X0_plan_36 σ x0 x1 x2 x3 0 st = none := rfl
theorem L_X0_plan_36_s (σ : Hp) (x0 : Nat) (x1 : Int32) (x2 : Int32) (x3 : Int32) (n : Nat) (st : Int32 × Int32) : L_X0_plan_36 σ x0 x1 x2 x3 (n + 1) st = B_X0_plan_36 σ x0 x1 x2 x3 (L_X0_plan_36 σ x0 x1 x2 x3 n) st.1 st.2 := rfl
noncomputable def F_X0_plan (σ : Hp) (x0 : Nat) (x1 : Int32) (x2 : Int32) (x3 : Int32) : Option (Int32 × Hp) := gd 0 x0 σ (b2 (F_X0_areMinutes σ x1 x2) (fun v1 s1 => (if v1 = 0 then some ((-3), s1) else b2 (F_X0_isIn s1 ((x3 : Int32).toInt64) (-1) ((x1 - 1 : Int32).toInt64)) (fun v2 s2 => (if v2 = 0 then some ((-3), s2) else b1 (F_X0_layCosts s2 x0) (fun s3 => L_X0_plan_36 s3 x0 x1 x2 x3 FU (1, 0)))))))
theorem F_X0_plan_g {σ : Hp} {x0 : Nat} {x1 : Int32} {x2 : Int32} {x3 : Int32} {r : Int32 × Hp} (h : F_X0_plan σ x0 x1 x2 x3 = some r) : hT σ x0 = some (.inl 0) := (gd_inv h).1
/-! PalaceOfRooms.judge -/
noncomputable def F_X0_judge_62 (σ : Hp) (x0 : Nat) (x2 : Int32) (x3 : Int32) (x4 : Int32) : Option (Int32 × Hp) := (if x4 = 0 then some ((-3), σ) else b1 (F_X0_layCosts σ x0) (fun s1 => b2 (F_X0_strengthBehind s1 x0 x2 x3) (fun v2 s2 => some (v2, s2))))
noncomputable def B_X0_judge_10 (x0 : Nat) (x1 : Int32) (x2 : Int32) (x3 : Int32) (rec10 : Hp × Int32 × Int32 → Option (Int32 × Hp)) (σ : Hp) (x4 : Int32) (x5 : Int32) : Option (Int32 × Hp) := (if x4 = 0 then F_X0_judge_62 σ x0 x2 x3 x4 else (if x2 ≤ x5 then F_X0_judge_62 σ x0 x2 x3 x4 else b1 (gR 0 19 x0 σ) (fun v1 => b1 (sI 0 v1 x5 ((x1 >>> ((4 * x5) &&& 31)) &&& 15) σ) (fun s1 => b1 (gR 0 19 x0 s1) (fun v2 => b1 (aI 0 v2 x5 s1) (fun v3 => (if 8 < v3 then rec10 (s1, 0, x5 + 1) else rec10 (s1, 1, x5 + 1))))))))
noncomputable def L_X0_judge_10 (x0 : Nat) (x1 : Int32) (x2 : Int32) (x3 : Int32) : Nat → (Hp × Int32 × Int32) → Option (Int32 × Hp) := it (fun rec10 st => B_X0_judge_10 x0 x1 x2 x3 rec10 st.1 st.2.1 st.2.2)
theorem L_X0_judge_10_0 (x0 : Nat) (x1 : Int32) (x2 : Int32) (x3 : Int32) (st : Hp × Int32 × Int32) : L_X0_judge_10 x0 x1 x2 x3 0 st = none := rfl
theorem L_X0_judge_10_s (x0 : Nat) (x1 : Int32) (x2 : Int32) (x3 : Int32) (n : Nat) (st : Hp × Int32 × Int32) : L_X0_judge_10 x0 x1 x2 x3 (n + 1) st = B_X0_judge_10 x0 x1 x2 x3 (L_X0_judge_10 x0 x1 x2 x3 n) st.1 st.2.1 st.2.2 := rfl
noncomputable def F_X0_judge (σ : Hp) (x0 : Nat) (x1 : Int32) (x2 : Int32) (x3 : Int32) : Option (Int32 × Hp) := gd 0 x0 σ (b2 (F_X0_areMinutes σ x2 x3) (fun v1 s1 => L_X0_judge_10 x0 x1 x2 x3 FU (s1, v1, 0)))
theorem F_X0_judge_g {σ : Hp} {x0 : Nat} {x1 : Int32} {x2 : Int32} {x3 : Int32} {r : Int32 × Hp} (h : F_X0_judge σ x0 x1 x2 x3 = some r) : hT σ x0 = some (.inl 0) := (gd_inv h).1
/-! PalaceOfRooms.right -/
noncomputable def F_X0_right_199 (σ : Hp) (x2 : Int32) (x3 : Nat) (x4 : Int32) (x6 : Int32) : Option (Int32 × Hp) := (if x2 = 0 then b1 (gI 3 1 x3 σ) (fun v1 => dz x6 (some (v1 / x6, σ))) else dz x6 (some (x4 / x6, σ)))
noncomputable def B_X0_right_176 (σ : Hp) (x2 : Int32) (x3 : Nat) (x4 : Int32) (rec176 : Int32 × Int32 → Option (Int32 × Hp)) (x6 : Int32) (x7 : Int32) : Option (Int32 × Hp) := (if x7 = 0 then F_X0_right_199 σ x2 x3 x4 x6 else dz x7 (rec176 (x7, x6 - x6 / x7 * x7)))
noncomputable def L_X0_right_176 (σ : Hp) (x2 : Int32) (x3 : Nat) (x4 : Int32) : Nat → (Int32 × Int32) → Option (Int32 × Hp) := it (fun rec176 st => B_X0_right_176 σ x2 x3 x4 rec176 st.1 st.2)
theorem L_X0_right_176_0 (σ : Hp) (x2 : Int32) (x3 : Nat) (x4 : Int32) (st : Int32 × Int32) : L_X0_right_176 σ x2 x3 x4 0 st = none := rfl
theorem L_X0_right_176_s (σ : Hp) (x2 : Int32) (x3 : Nat) (x4 : Int32) (n : Nat) (st : Int32 × Int32) : L_X0_right_176 σ x2 x3 x4 (n + 1) st = B_X0_right_176 σ x2 x3 x4 (L_X0_right_176 σ x2 x3 x4 n) st.1 st.2 := rfl
noncomputable def F_X0_right_158 (σ : Hp) (x2 : Int32) (x3 : Nat) (x4 : Int32) : Option (Int32 × Hp) := (if x4 = 0 then some ((-4), σ) else b1 (gI 3 1 x3 σ) (fun v1 => L_X0_right_176 σ x2 x3 x4 FU (v1, x4)))
noncomputable def B_X0_right_84 (x0 : Nat) (x1 : Int32) (x2 : Int32) (x3 : Nat) (x5 : Int32) (rec84 : Hp × Int32 × Int32 → Option (Int32 × Hp)) (σ : Hp) (x4 : Int32) (x6 : Int32) : Option (Int32 × Hp) := (if (6 * (x5 + 1)) ≤ x6 then F_X0_right_158 σ x2 x3 x4 else b1 (gR 0 7 x0 σ) (fun v1 => b1 (gR 1 0 v1 σ) (fun v2 => b1 (aR 3 v2 x6 σ) (fun v3 => (if x6 = x1 then rec84 (σ, x4 + 0, x6 + 1) else b2 (F_X2_isThere_3 σ v3) (fun v4 s1 => (if v4 = 0 then rec84 (s1, x4 + 0, x6 + 1) else b1 (gI 3 0 v3 s1) (fun v5 => b1 (gI 3 0 x3 s1) (fun v6 => b2 (F_X0_isLike s1 x0 v5 v6) (fun v7 s2 => (if v7 = 0 then rec84 (s2, x4 + 0, x6 + 1) else b1 (gI 3 1 v3 s2) (fun v8 => rec84 (s2, x4 + v8, x6 + 1)))))))))))))
noncomputable def L_X0_right_84 (x0 : Nat) (x1 : Int32) (x2 : Int32) (x3 : Nat) (x5 : Int32) : Nat → (Hp × Int32 × Int32) → Option (Int32 × Hp) := it (fun rec84 st => B_X0_right_84 x0 x1 x2 x3 x5 rec84 st.1 st.2.1 st.2.2)
theorem L_X0_right_84_0 (x0 : Nat) (x1 : Int32) (x2 : Int32) (x3 : Nat) (x5 : Int32) (st : Hp × Int32 × Int32) : L_X0_right_84 x0 x1 x2 x3 x5 0 st = none := rfl
theorem L_X0_right_84_s (x0 : Nat) (x1 : Int32) (x2 : Int32) (x3 : Nat) (x5 : Int32) (n : Nat) (st : Hp × Int32 × Int32) : L_X0_right_84 x0 x1 x2 x3 x5 (n + 1) st = B_X0_right_84 x0 x1 x2 x3 x5 (L_X0_right_84 x0 x1 x2 x3 x5 n) st.1 st.2.1 st.2.2 := rfl
noncomputable def F_X0_right (σ : Hp) (x0 : Nat) (x1 : Int32) (x2 : Int32) : Option (Int32 × Hp) := gd 0 x0 σ (b2 (F_X0_isCorner σ x1) (fun v1 s1 => (if v1 = 0 then some ((-2), s1) else b2 (F_X0_isIn s1 ((x2 : Int32).toInt64) 0 1) (fun v2 s2 => (if v2 = 0 then some ((-3), s2) else b1 (gR 0 7 x0 s2) (fun v3 => b1 (gR 1 0 v3 s2) (fun v4 => b1 (aR 3 v4 x1 s2) (fun v5 => b2 (F_X2_isThere_3 s2 v5) (fun v6 s3 => (if v6 = 0 then some ((-4), s3) else b1 (gI 3 1 v5 s3) (fun v7 => b1 (gR 3 2 v5 s3) (fun v8 => b2 (F_X4_isThere s3 v8) (fun v9 s4 => (if v9 = 0 then L_X0_right_84 x0 x1 x2 v5 (x1 / 6) FU (s4, v7 + 0, 6 * (x1 / 6)) else b1 (gR 3 2 v5 s4) (fun v10 => b1 (gI 4 1 v10 s4) (fun v11 => L_X0_right_84 x0 x1 x2 v5 (x1 / 6) FU (s4, v7 + v11, 6 * (x1 / 6))))))))))))))))))
theorem F_X0_right_g {σ : Hp} {x0 : Nat} {x1 : Int32} {x2 : Int32} {r : Int32 × Hp} (h : F_X0_right σ x0 x1 x2 = some r) : hT σ x0 = some (.inl 0) := (gd_inv h).1
/-! PalaceOfRooms.causes -/
noncomputable def F_X0_causes_99 (σ : Hp) (x0 : Nat) (x1 : Int32) (x4 : Int32) (y0 : Int32) (y1 : Int32) : Option (Int32 × Hp) := (if x4 = (-1) then some ((y1 + y0) + 0, σ) else (if (x4 - x4 / 6 * 6) = (x1 - x1 / 6 * 6) then b1 (gR 0 0 x0 σ) (fun v1 => b1 (aR 6 v1 (x4 / 6) σ) (fun v2 => b1 (aI 1 v2 (x1 / 6) σ) (fun v3 => (if v3 = 0 then some ((y1 + y0) + 0, σ) else some ((y1 + y0) + 4, σ))))) else some ((y1 + y0) + 0, σ)))
noncomputable def F_X0_causes_98 (σ : Hp) (x0 : Nat) (x1 : Int32) (x4 : Int32) (y0 : Int32) : Option (Int32 × Hp) := F_X0_causes_99 σ x0 x1 x4 0 y0
noncomputable def F_X0_causes_69 (σ : Hp) (x0 : Nat) (x1 : Int32) (x2 : Int32) (x3 : Nat) (x4 : Int32) (y0 : Int32) : Option (Int32 × Hp) := b1 (gR 3 2 x3 σ) (fun v1 => b2 (F_X4_isThere σ v1) (fun v2 s1 => (if v2 = 0 then F_X0_causes_98 s1 x0 x1 x4 y0 else b1 (gR 3 2 x3 s1) (fun v3 => b1 (gI 4 0 v3 s1) (fun v4 => (if v4 = x2 then F_X0_causes_99 s1 x0 x1 x4 2 y0 else F_X0_causes_98 s1 x0 x1 x4 y0))))))
noncomputable def F_X0_causes (σ : Hp) (x0 : Nat) (x1 : Int32) (x2 : Int32) : Option (Int32 × Hp) := gd 0 x0 σ (b2 (F_X0_isCorner σ x1) (fun v1 s1 => (if v1 = 0 then some ((-2), s1) else b2 (F_X0_isThing s1 x2) (fun v2 s2 => (if v2 = 0 then some ((-2), s2) else b1 (gR 0 7 x0 s2) (fun v3 => b1 (gR 1 0 v3 s2) (fun v4 => b1 (aR 3 v4 x1 s2) (fun v5 => b2 (F_X2_isThere_3 s2 v5) (fun v6 s3 => (if v6 = 0 then some ((-4), s3) else b1 (gI 3 0 v5 s3) (fun v7 => (if v7 = x2 then some ((-4), s3) else b2 (F_X0_whereIs s3 x0 x2) (fun v8 s4 => b1 (gI 3 0 v5 s4) (fun v9 => b2 (F_X0_isLike s4 x0 x2 v9) (fun v10 s5 => (if v10 = 0 then F_X0_causes_69 s5 x0 x1 x2 v5 v8 0 else F_X0_causes_69 s5 x0 x1 x2 v5 v8 1))))))))))))))))
theorem F_X0_causes_g {σ : Hp} {x0 : Nat} {x1 : Int32} {x2 : Int32} {r : Int32 × Hp} (h : F_X0_causes σ x0 x1 x2 = some r) : hT σ x0 = some (.inl 0) := (gd_inv h).1
/-! PalaceOfRooms.asked -/
noncomputable def F_X0_asked_41 (σ : Hp) (x3 : Int32) (y0 : Int32) : Option (Int32 × Hp) := (if y0 = (-1) then some ((-1), σ) else some ((y0 + (x3 - x3 / 6 * 6)) + 1, σ))
noncomputable def F_X0_asked (σ : Hp) (x0 : Nat) (x1 : Int32) (x2 : Int32) : Option (Int32 × Hp) := gd 0 x0 σ (b2 (F_X0_isThing σ x1) (fun v1 s1 => (if v1 = 0 then some ((-2), s1) else b2 (F_X0_isRoom s1 x2) (fun v2 s2 => (if v2 = 0 then some ((-2), s2) else b2 (F_X0_whereIs s2 x0 x1) (fun v3 s3 => (if v3 = (-1) then F_X0_asked_41 s3 v3 (-1) else b2 (F_X0_awayOf s3 x0 x2 (v3 / 6)) (fun v4 s4 => F_X0_asked_41 s4 v3 v4))))))))
theorem F_X0_asked_g {σ : Hp} {x0 : Nat} {x1 : Int32} {x2 : Int32} {r : Int32 × Hp} (h : F_X0_asked σ x0 x1 x2 = some r) : hT σ x0 = some (.inl 0) := (gd_inv h).1
/-! PalaceOfRooms.beside -/
noncomputable def B_X0_beside_57 (x0 : Nat) (x3 : Int32) (x4 : Int32) (rec57 : Hp × Int32 → Option (Int32 × Hp)) (σ : Hp) (x5 : Int32) : Option (Int32 × Hp) := b2 (F_X0_isIn σ ((x5 : Int32).toInt64) 0 5) (fun v1 s1 => (if v1 = 0 then some ((-1), s1) else b1 (gR 0 7 x0 s1) (fun v2 => b1 (gR 1 0 v2 s1) (fun v3 => b1 (aR 3 v3 (((x3 / 6) * 6) + x5) s1) (fun v4 => b2 (F_X2_isThere_3 s1 v4) (fun v5 s2 => (if v5 = 0 then rec57 (s2, x5 + x4) else b1 (gI 3 0 v4 s2) (fun v6 => some (v6, s2)))))))))
noncomputable def L_X0_beside_57 (x0 : Nat) (x3 : Int32) (x4 : Int32) : Nat → (Hp × Int32) → Option (Int32 × Hp) := it (fun rec57 st => B_X0_beside_57 x0 x3 x4 rec57 st.1 st.2)
theorem L_X0_beside_57_0 (x0 : Nat) (x3 : Int32) (x4 : Int32) (st : Hp × Int32) : L_X0_beside_57 x0 x3 x4 0 st = none := rfl
theorem L_X0_beside_57_s (x0 : Nat) (x3 : Int32) (x4 : Int32) (n : Nat) (st : Hp × Int32) : L_X0_beside_57 x0 x3 x4 (n + 1) st = B_X0_beside_57 x0 x3 x4 (L_X0_beside_57 x0 x3 x4 n) st.1 st.2 := rfl
noncomputable def F_X0_beside (σ : Hp) (x0 : Nat) (x1 : Int32) (x2 : Int32) : Option (Int32 × Hp) := gd 0 x0 σ (b2 (F_X0_isThing σ x1) (fun v1 s1 => (if v1 = 0 then some ((-2), s1) else b2 (F_X0_isIn s1 ((x2 : Int32).toInt64) 0 1) (fun v2 s2 => (if v2 = 0 then some ((-3), s2) else b2 (F_X0_whereIs s2 x0 x1) (fun v3 s3 => (if v3 = (-1) then some ((-1), s3) else (if x2 = 1 then L_X0_beside_57 x0 v3 1 FU (s3, (v3 - v3 / 6 * 6) + 1) else L_X0_beside_57 x0 v3 (-1) FU (s3, (v3 - v3 / 6 * 6) + (-1))))))))))
theorem F_X0_beside_g {σ : Hp} {x0 : Nat} {x1 : Int32} {x2 : Int32} {r : Int32 × Hp} (h : F_X0_beside σ x0 x1 x2 = some r) : hT σ x0 = some (.inl 0) := (gd_inv h).1
/-! PalaceOfRooms.isPupil -/
noncomputable def F_X0_isPupil (σ : Hp) (x0 : Int32) : Option (Int32 × Hp) := b2 (F_X0_isIn σ ((x0 : Int32).toInt64) 0 3) (fun v1 s1 => zr v1 (some (v1, s1)))
/-! PalaceOfRooms.answer -/
noncomputable def F_X0_answer (σ : Hp) (x0 : Nat) (x1 : Int32) (x2 : Int32) (x3 : Int32) : Option (Int32 × Hp) := gd 0 x0 σ (b2 (F_X0_isPupil σ x1) (fun v1 s1 => (if v1 = 0 then some ((-2), s1) else b2 (F_X0_isIn s1 ((x2 : Int32).toInt64) 1 60) (fun v2 s2 => (if v2 = 0 then some ((-3), s2) else b1 (gR 0 21 x0 s2) (fun v3 => b1 (aR 5 v3 x1 s2) (fun v4 => b1 (gI 9 2 v4 s2) (fun v5 => (if v5 = 12 then some ((-5), s2) else b1 (gR 9 0 v4 s2) (fun v6 => b1 (gI 9 2 v4 s2) (fun v7 => b1 (sI 0 v6 v7 x2 s2) (fun s3 => b1 (gR 9 1 v4 s3) (fun v8 => b1 (gI 9 2 v4 s3) (fun v9 => b1 (sI 1 v8 v9 (vp_nar .boolean x3) s3) (fun s4 => b1 (gI 9 2 v4 s4) (fun v10 => b1 (pI 9 2 v4 (v10 + 1) s4) (fun s5 => b1 (gI 9 2 v4 s5) (fun v11 => some (v11, s5)))))))))))))))))))
theorem F_X0_answer_g {σ : Hp} {x0 : Nat} {x1 : Int32} {x2 : Int32} {x3 : Int32} {r : Int32 × Hp} (h : F_X0_answer σ x0 x1 x2 x3 = some r) : hT σ x0 = some (.inl 0) := (gd_inv h).1
/-! PalaceOfRooms$Pupil.isRight -/
noncomputable def F_X9_isRight (σ : Hp) (x0 : Int32) (x1 : Int32) (x2 : Int32) : Option (Int32 × Hp) := (if (100 - (x0 * x2)) < x1 then some (0, σ) else some (1, σ))
/-! PalaceOfRooms$Pupil.agrees -/
noncomputable def B_X9_agrees_5 (x0 : Nat) (x1 : Int32) (x2 : Int32) (rec5 : Hp × Int32 × Int32 → Option (Int32 × Hp)) (σ : Hp) (x3 : Int32) (x4 : Int32) : Option (Int32 × Hp) := b1 (gI 9 2 x0 σ) (fun v1 => (if v1 ≤ x4 then some (x3, σ) else b1 (gR 9 0 x0 σ) (fun v2 => b1 (aI 0 v2 x4 σ) (fun v3 => b2 (F_X9_isRight σ x1 x2 v3) (fun v4 s1 => b1 (gR 9 1 x0 s1) (fun v5 => b1 (aI 1 v5 x4 s1) (fun v6 => (if v4 = v6 then rec5 (s1, x3 + 1, x4 + 1) else rec5 (s1, x3 + 0, x4 + 1)))))))))
noncomputable def L_X9_agrees_5 (x0 : Nat) (x1 : Int32) (x2 : Int32) : Nat → (Hp × Int32 × Int32) → Option (Int32 × Hp) := it (fun rec5 st => B_X9_agrees_5 x0 x1 x2 rec5 st.1 st.2.1 st.2.2)
theorem L_X9_agrees_5_0 (x0 : Nat) (x1 : Int32) (x2 : Int32) (st : Hp × Int32 × Int32) : L_X9_agrees_5 x0 x1 x2 0 st = none := rfl
theorem L_X9_agrees_5_s (x0 : Nat) (x1 : Int32) (x2 : Int32) (n : Nat) (st : Hp × Int32 × Int32) : L_X9_agrees_5 x0 x1 x2 (n + 1) st = B_X9_agrees_5 x0 x1 x2 (L_X9_agrees_5 x0 x1 x2 n) st.1 st.2.1 st.2.2 := rfl
noncomputable def F_X9_agrees (σ : Hp) (x0 : Nat) (x1 : Int32) (x2 : Int32) : Option (Int32 × Hp) := gd 9 x0 σ (L_X9_agrees_5 x0 x1 x2 FU (σ, 0, 0))
theorem F_X9_agrees_g {σ : Hp} {x0 : Nat} {x1 : Int32} {x2 : Int32} {r : Int32 × Hp} (h : F_X9_agrees σ x0 x1 x2 = some r) : hT σ x0 = some (.inl 9) := (gd_inv h).1
/-! PalaceOfRooms$Pupil.mayBe -/
noncomputable def B_X9_mayBe_13 (rec4 : Hp × Int32 × Int32 → Option (Int32 × Hp)) (x0 : Nat) (x2 : Int32) (rec13 : Hp × Int32 × Int32 → Option (Int32 × Hp)) (σ : Hp) (x1 : Int32) (x3 : Int32) : Option (Int32 × Hp) := (if 90 < x3 then rec4 (σ, x1, x2 + 1) else b2 (F_X9_agrees σ x0 x2 x3) (fun v1 s1 => b1 (gI 9 2 x0 s1) (fun v2 => (if v1 = v2 then rec13 (s1, x1 + 1, x3 + 10) else rec13 (s1, x1 + 0, x3 + 10)))))
noncomputable def L_X9_mayBe_13 (rec4 : Hp × Int32 × Int32 → Option (Int32 × Hp)) (x0 : Nat) (x2 : Int32) : Nat → (Hp × Int32 × Int32) → Option (Int32 × Hp) := it (fun rec13 st => B_X9_mayBe_13 rec4 x0 x2 rec13 st.1 st.2.1 st.2.2)
theorem L_X9_mayBe_13_0 (rec4 : Hp × Int32 × Int32 → Option (Int32 × Hp)) (x0 : Nat) (x2 : Int32) (st : Hp × Int32 × Int32) : L_X9_mayBe_13 rec4 x0 x2 0 st = none := rfl
theorem L_X9_mayBe_13_s (rec4 : Hp × Int32 × Int32 → Option (Int32 × Hp)) (x0 : Nat) (x2 : Int32) (n : Nat) (st : Hp × Int32 × Int32) : L_X9_mayBe_13 rec4 x0 x2 (n + 1) st = B_X9_mayBe_13 rec4 x0 x2 (L_X9_mayBe_13 rec4 x0 x2 n) st.1 st.2.1 st.2.2 := rfl
noncomputable def B_X9_mayBe_4 (x0 : Nat) (rec4 : Hp × Int32 × Int32 → Option (Int32 × Hp)) (σ : Hp) (x1 : Int32) (x2 : Int32) : Option (Int32 × Hp) := (if 9 < x2 then some (x1, σ) else L_X9_mayBe_13 rec4 x0 x2 FU (σ, x1, 10))
noncomputable def L_X9_mayBe_4 (x0 : Nat) : Nat → (Hp × Int32 × Int32) → Option (Int32 × Hp) := it (fun rec4 st => B_X9_mayBe_4 x0 rec4 st.1 st.2.1 st.2.2)
theorem L_X9_mayBe_4_0 (x0 : Nat) (st : Hp × Int32 × Int32) : L_X9_mayBe_4 x0 0 st = none := rfl
theorem L_X9_mayBe_4_s (x0 : Nat) (n : Nat) (st : Hp × Int32 × Int32) : L_X9_mayBe_4 x0 (n + 1) st = B_X9_mayBe_4 x0 (L_X9_mayBe_4 x0 n) st.1 st.2.1 st.2.2 := rfl
noncomputable def F_X9_mayBe (σ : Hp) (x0 : Nat) : Option (Int32 × Hp) := gd 9 x0 σ (L_X9_mayBe_4 x0 FU (σ, 0, 1))
theorem F_X9_mayBe_g {σ : Hp} {x0 : Nat} {r : Int32 × Hp} (h : F_X9_mayBe σ x0 = some r) : hT σ x0 = some (.inl 9) := (gd_inv h).1
/-! PalaceOfRooms$Pupil.unlike -/
noncomputable def B_X9_unlike_14 (rec4 : Hp × Int32 × Int32 → Option (Int32 × Hp)) (x0 : Nat) (x1 : Int32) (x3 : Int32) (rec14 : Hp × Int32 × Int32 → Option (Int32 × Hp)) (σ : Hp) (x2 : Int32) (x4 : Int32) : Option (Int32 × Hp) := (if 90 < x4 then rec4 (σ, x2, x3 + 1) else b2 (F_X9_agrees σ x0 x3 x4) (fun v1 s1 => b1 (gI 9 2 x0 s1) (fun v2 => (if v2 ≤ v1 then b2 (F_X9_isRight s1 x3 x4 x1) (fun v3 s2 => (if v3 = 0 then rec14 (s2, x2 + (-1), x4 + 10) else rec14 (s2, x2 + 1, x4 + 10))) else rec14 (s1, x2 + 0, x4 + 10)))))
noncomputable def L_X9_unlike_14 (rec4 : Hp × Int32 × Int32 → Option (Int32 × Hp)) (x0 : Nat) (x1 : Int32) (x3 : Int32) : Nat → (Hp × Int32 × Int32) → Option (Int32 × Hp) := it (fun rec14 st => B_X9_unlike_14 rec4 x0 x1 x3 rec14 st.1 st.2.1 st.2.2)
theorem L_X9_unlike_14_0 (rec4 : Hp × Int32 × Int32 → Option (Int32 × Hp)) (x0 : Nat) (x1 : Int32) (x3 : Int32) (st : Hp × Int32 × Int32) : L_X9_unlike_14 rec4 x0 x1 x3 0 st = none := rfl
theorem L_X9_unlike_14_s (rec4 : Hp × Int32 × Int32 → Option (Int32 × Hp)) (x0 : Nat) (x1 : Int32) (x3 : Int32) (n : Nat) (st : Hp × Int32 × Int32) : L_X9_unlike_14 rec4 x0 x1 x3 (n + 1) st = B_X9_unlike_14 rec4 x0 x1 x3 (L_X9_unlike_14 rec4 x0 x1 x3 n) st.1 st.2.1 st.2.2 := rfl
noncomputable def B_X9_unlike_4 (x0 : Nat) (x1 : Int32) (rec4 : Hp × Int32 × Int32 → Option (Int32 × Hp)) (σ : Hp) (x2 : Int32) (x3 : Int32) : Option (Int32 × Hp) := (if 9 < x3 then some ((if 0 ≤ x2 then x2 else 0 - x2), σ) else L_X9_unlike_14 rec4 x0 x1 x3 FU (σ, x2, 10))
noncomputable def L_X9_unlike_4 (x0 : Nat) (x1 : Int32) : Nat → (Hp × Int32 × Int32) → Option (Int32 × Hp) := it (fun rec4 st => B_X9_unlike_4 x0 x1 rec4 st.1 st.2.1 st.2.2)
theorem L_X9_unlike_4_0 (x0 : Nat) (x1 : Int32) (st : Hp × Int32 × Int32) : L_X9_unlike_4 x0 x1 0 st = none := rfl
theorem L_X9_unlike_4_s (x0 : Nat) (x1 : Int32) (n : Nat) (st : Hp × Int32 × Int32) : L_X9_unlike_4 x0 x1 (n + 1) st = B_X9_unlike_4 x0 x1 (L_X9_unlike_4 x0 x1 n) st.1 st.2.1 st.2.2 := rfl
noncomputable def F_X9_unlike (σ : Hp) (x0 : Nat) (x1 : Int32) : Option (Int32 × Hp) := gd 9 x0 σ (L_X9_unlike_4 x0 x1 FU (σ, 0, 1))
theorem F_X9_unlike_g {σ : Hp} {x0 : Nat} {x1 : Int32} {r : Int32 × Hp} (h : F_X9_unlike σ x0 x1 = some r) : hT σ x0 = some (.inl 9) := (gd_inv h).1
/-! PalaceOfRooms$Pupil.parts -/
noncomputable def B_X9_parts_4 (x0 : Nat) (rec4 : Hp × Int32 × Int32 → Option (Int32 × Hp)) (σ : Hp) (x1 : Int32) (x2 : Int32) : Option (Int32 × Hp) := (if 60 < x2 then some (x1, σ) else b2 (F_X9_mayBe σ x0) (fun v1 s1 => (if v1 ≤ 0 then some (x1, s1) else (if x1 = (-1) then rec4 (s1, x2, x2 + 1) else b2 (F_X9_unlike s1 x0 x2) (fun v2 s2 => b2 (F_X9_unlike s2 x0 x1) (fun v3 s3 => (if v3 ≤ v2 then rec4 (s3, x1, x2 + 1) else rec4 (s3, x2, x2 + 1))))))))
noncomputable def L_X9_parts_4 (x0 : Nat) : Nat → (Hp × Int32 × Int32) → Option (Int32 × Hp) := it (fun rec4 st => B_X9_parts_4 x0 rec4 st.1 st.2.1 st.2.2)
theorem L_X9_parts_4_0 (x0 : Nat) (st : Hp × Int32 × Int32) : L_X9_parts_4 x0 0 st = none := rfl
theorem L_X9_parts_4_s (x0 : Nat) (n : Nat) (st : Hp × Int32 × Int32) : L_X9_parts_4 x0 (n + 1) st = B_X9_parts_4 x0 (L_X9_parts_4 x0 n) st.1 st.2.1 st.2.2 := rfl
noncomputable def F_X9_parts (σ : Hp) (x0 : Nat) : Option (Int32 × Hp) := gd 9 x0 σ (L_X9_parts_4 x0 FU (σ, (-1), 1))
theorem F_X9_parts_g {σ : Hp} {x0 : Nat} {r : Int32 × Hp} (h : F_X9_parts σ x0 = some r) : hT σ x0 = some (.inl 9) := (gd_inv h).1
/-! PalaceOfRooms$Pupil.likeliest -/
noncomputable def B_X9_likeliest_16 (rec6 : Hp × Int32 × Int32 × Int32 → Option (Int32 × Hp)) (x0 : Nat) (x3 : Int32) (rec16 : Hp × Int32 × Int32 × Int32 → Option (Int32 × Hp)) (σ : Hp) (x1 : Int32) (x2 : Int32) (x4 : Int32) : Option (Int32 × Hp) := (if 90 < x4 then rec6 (σ, x1, x2, x3 + 1) else b2 (F_X9_agrees σ x0 x3 x4) (fun v1 s1 => (if v1 ≤ x2 then rec16 (s1, x1, x2, x4 + 10) else b2 (F_X9_agrees s1 x0 x3 x4) (fun v2 s2 => rec16 (s2, (100 * x3) + x4, v2, x4 + 10)))))
noncomputable def L_X9_likeliest_16 (rec6 : Hp × Int32 × Int32 × Int32 → Option (Int32 × Hp)) (x0 : Nat) (x3 : Int32) : Nat → (Hp × Int32 × Int32 × Int32) → Option (Int32 × Hp) := it (fun rec16 st => B_X9_likeliest_16 rec6 x0 x3 rec16 st.1 st.2.1 st.2.2.1 st.2.2.2)
theorem L_X9_likeliest_16_0 (rec6 : Hp × Int32 × Int32 × Int32 → Option (Int32 × Hp)) (x0 : Nat) (x3 : Int32) (st : Hp × Int32 × Int32 × Int32) : L_X9_likeliest_16 rec6 x0 x3 0 st = none := rfl
theorem L_X9_likeliest_16_s (rec6 : Hp × Int32 × Int32 × Int32 → Option (Int32 × Hp)) (x0 : Nat) (x3 : Int32) (n : Nat) (st : Hp × Int32 × Int32 × Int32) : L_X9_likeliest_16 rec6 x0 x3 (n + 1) st = B_X9_likeliest_16 rec6 x0 x3 (L_X9_likeliest_16 rec6 x0 x3 n) st.1 st.2.1 st.2.2.1 st.2.2.2 := rfl
noncomputable def B_X9_likeliest_6 (x0 : Nat) (rec6 : Hp × Int32 × Int32 × Int32 → Option (Int32 × Hp)) (σ : Hp) (x1 : Int32) (x2 : Int32) (x3 : Int32) : Option (Int32 × Hp) := (if 9 < x3 then some (x1, σ) else L_X9_likeliest_16 rec6 x0 x3 FU (σ, x1, x2, 10))
noncomputable def L_X9_likeliest_6 (x0 : Nat) : Nat → (Hp × Int32 × Int32 × Int32) → Option (Int32 × Hp) := it (fun rec6 st => B_X9_likeliest_6 x0 rec6 st.1 st.2.1 st.2.2.1 st.2.2.2)
theorem L_X9_likeliest_6_0 (x0 : Nat) (st : Hp × Int32 × Int32 × Int32) : L_X9_likeliest_6 x0 0 st = none := rfl
theorem L_X9_likeliest_6_s (x0 : Nat) (n : Nat) (st : Hp × Int32 × Int32 × Int32) : L_X9_likeliest_6 x0 (n + 1) st = B_X9_likeliest_6 x0 (L_X9_likeliest_6 x0 n) st.1 st.2.1 st.2.2.1 st.2.2.2 := rfl
noncomputable def F_X9_likeliest (σ : Hp) (x0 : Nat) : Option (Int32 × Hp) := gd 9 x0 σ (L_X9_likeliest_6 x0 FU (σ, 0, (-1), 1))
theorem F_X9_likeliest_g {σ : Hp} {x0 : Nat} {r : Int32 × Hp} (h : F_X9_likeliest σ x0 = some r) : hT σ x0 = some (.inl 9) := (gd_inv h).1
/-! PalaceOfRooms.pupil -/
noncomputable def F_X0_pupil (σ : Hp) (x0 : Nat) (x1 : Int32) (x2 : Int32) : Option (Int32 × Hp) := gd 0 x0 σ (b2 (F_X0_isPupil σ x1) (fun v1 s1 => (if v1 = 0 then some ((-2), s1) else b1 (gR 0 21 x0 s1) (fun v2 => b1 (aR 5 v2 x1 s1) (fun v3 => (if x2 = 0 then b2 (F_X9_mayBe s1 v3) (fun v4 s2 => some (v4, s2)) else (if x2 = 1 then b2 (F_X9_likeliest s1 v3) (fun v5 s3 => some (v5, s3)) else (if x2 = 2 then b2 (F_X9_likeliest s1 v3) (fun v6 s4 => b2 (F_X9_likeliest s4 v3) (fun v7 s5 => b2 (F_X9_agrees s5 v3 (v6 / 100) (v7 - v7 / 100 * 100)) (fun v8 s6 => some (v8, s6)))) else (if x2 = 3 then b2 (F_X9_parts s1 v3) (fun v9 s7 => some (v9, s7)) else some ((-3), s1))))))))))
theorem F_X0_pupil_g {σ : Hp} {x0 : Nat} {x1 : Int32} {x2 : Int32} {r : Int32 × Hp} (h : F_X0_pupil σ x0 x1 x2 = some r) : hT σ x0 = some (.inl 0) := (gd_inv h).1
/-! PalaceOfRooms.enough -/
noncomputable def F_X0_enough_99 (σ : Hp) (x2 : Int32) (x3 : Int32) : Option (Int32 × Hp) := (if x2 ≤ 0 then some (x3, σ) else some ((-1), σ))
noncomputable def B_X0_enough_32 (rec22 : Hp × Int32 × Int32 × Int32 → Option (Int32 × Hp)) (x0 : Nat) (x4 : Int32) (rec32 : Hp × Int32 × Int32 × Int32 → Option (Int32 × Hp)) (σ : Hp) (x2 : Int32) (x3 : Int32) (x5 : Int32) : Option (Int32 × Hp) := (if 8 ≤ x5 then rec22 (σ, x2, x3, x4 + 1) else (if x2 ≤ 0 then rec22 (σ, x2, x3, x4 + 1) else b2 (F_X0_awayOf σ x0 0 x5) (fun v1 s1 => (if v1 = x4 then b2 (F_X0_roomFor s1 x0 x5) (fun v2 s2 => (if v2 = (-1) then rec32 (s2, x2 - 6, x3 + 1, x5 + 1) else b2 (F_X0_roomFor s2 x0 x5) (fun v3 s3 => rec32 (s3, x2 - (if v3 < 6 then v3 else 6), x3 + 1, x5 + 1)))) else rec32 (s1, x2, x3, x5 + 1)))))
noncomputable def L_X0_enough_32 (rec22 : Hp × Int32 × Int32 × Int32 → Option (Int32 × Hp)) (x0 : Nat) (x4 : Int32) : Nat → (Hp × Int32 × Int32 × Int32) → Option (Int32 × Hp) := it (fun rec32 st => B_X0_enough_32 rec22 x0 x4 rec32 st.1 st.2.1 st.2.2.1 st.2.2.2)
theorem L_X0_enough_32_0 (rec22 : Hp × Int32 × Int32 × Int32 → Option (Int32 × Hp)) (x0 : Nat) (x4 : Int32) (st : Hp × Int32 × Int32 × Int32) : L_X0_enough_32 rec22 x0 x4 0 st = none := rfl
theorem L_X0_enough_32_s (rec22 : Hp × Int32 × Int32 × Int32 → Option (Int32 × Hp)) (x0 : Nat) (x4 : Int32) (n : Nat) (st : Hp × Int32 × Int32 × Int32) : L_X0_enough_32 rec22 x0 x4 (n + 1) st = B_X0_enough_32 rec22 x0 x4 (L_X0_enough_32 rec22 x0 x4 n) st.1 st.2.1 st.2.2.1 st.2.2.2 := rfl
noncomputable def B_X0_enough_22 (x0 : Nat) (rec22 : Hp × Int32 × Int32 × Int32 → Option (Int32 × Hp)) (σ : Hp) (x2 : Int32) (x3 : Int32) (x4 : Int32) : Option (Int32 × Hp) := (if 8 ≤ x4 then F_X0_enough_99 σ x2 x3 else L_X0_enough_32 rec22 x0 x4 FU (σ, x2, x3, 0))
noncomputable def L_X0_enough_22 (x0 : Nat) : Nat → (Hp × Int32 × Int32 × Int32) → Option (Int32 × Hp) := it (fun rec22 st => B_X0_enough_22 x0 rec22 st.1 st.2.1 st.2.2.1 st.2.2.2)
theorem L_X0_enough_22_0 (x0 : Nat) (st : Hp × Int32 × Int32 × Int32) : L_X0_enough_22 x0 0 st = none := rfl
theorem L_X0_enough_22_s (x0 : Nat) (n : Nat) (st : Hp × Int32 × Int32 × Int32) : L_X0_enough_22 x0 (n + 1) st = B_X0_enough_22 x0 (L_X0_enough_22 x0 n) st.1 st.2.1 st.2.2.1 st.2.2.2 := rfl
noncomputable def F_X0_enough (σ : Hp) (x0 : Nat) (x1 : Int32) : Option (Int32 × Hp) := gd 0 x0 σ (b2 (F_X0_isIn σ ((x1 : Int32).toInt64) 0 48) (fun v1 s1 => (if v1 = 0 then some ((-3), s1) else L_X0_enough_22 x0 FU (s1, x1, 0, 0))))
theorem F_X0_enough_g {σ : Hp} {x0 : Nat} {x1 : Int32} {r : Int32 × Hp} (h : F_X0_enough σ x0 x1 = some r) : hT σ x0 = some (.inl 0) := (gd_inv h).1
/-! PalaceOfRooms.count -/
noncomputable def B_X0_count_56 (x0 : Nat) (rec56 : Hp × Int32 × Int32 → Option (Int32 × Hp)) (σ : Hp) (x2 : Int32) (x3 : Int32) : Option (Int32 × Hp) := (if 8 ≤ x3 then some (x2, σ) else b1 (gR 0 7 x0 σ) (fun v1 => b2 (F_X1_held σ v1 x3) (fun v2 s1 => rec56 (s1, x2 + v2, x3 + 1))))
noncomputable def L_X0_count_56 (x0 : Nat) : Nat → (Hp × Int32 × Int32) → Option (Int32 × Hp) := it (fun rec56 st => B_X0_count_56 x0 rec56 st.1 st.2.1 st.2.2)
theorem L_X0_count_56_0 (x0 : Nat) (st : Hp × Int32 × Int32) : L_X0_count_56 x0 0 st = none := rfl
theorem L_X0_count_56_s (x0 : Nat) (n : Nat) (st : Hp × Int32 × Int32) : L_X0_count_56 x0 (n + 1) st = B_X0_count_56 x0 (L_X0_count_56 x0 n) st.1 st.2.1 st.2.2 := rfl
noncomputable def B_X0_count_83 (x0 : Nat) (rec83 : Hp × Int32 × Int32 → Option (Int32 × Hp)) (σ : Hp) (x2 : Int32) (x3 : Int32) : Option (Int32 × Hp) := (if 48 ≤ x3 then some (x2, σ) else b1 (gR 0 7 x0 σ) (fun v1 => b1 (gR 1 0 v1 σ) (fun v2 => b1 (aR 3 v2 x3 σ) (fun v3 => b1 (gR 3 2 v3 σ) (fun v4 => b2 (F_X4_isThere σ v4) (fun v5 s1 => (if v5 = 0 then rec83 (s1, x2 + 0, x3 + 1) else rec83 (s1, x2 + 1, x3 + 1))))))))
noncomputable def L_X0_count_83 (x0 : Nat) : Nat → (Hp × Int32 × Int32) → Option (Int32 × Hp) := it (fun rec83 st => B_X0_count_83 x0 rec83 st.1 st.2.1 st.2.2)
theorem L_X0_count_83_0 (x0 : Nat) (st : Hp × Int32 × Int32) : L_X0_count_83 x0 0 st = none := rfl
theorem L_X0_count_83_s (x0 : Nat) (n : Nat) (st : Hp × Int32 × Int32) : L_X0_count_83 x0 (n + 1) st = B_X0_count_83 x0 (L_X0_count_83 x0 n) st.1 st.2.1 st.2.2 := rfl
noncomputable def F_X0_count (σ : Hp) (x0 : Nat) (x1 : Int32) : Option (Int32 × Hp) := gd 0 x0 σ ((if x1 = 0 then b1 (gI 0 6 x0 σ) (fun v1 => some (v1, σ)) else (if x1 = 1 then b1 (gI 0 1 x0 σ) (fun v2 => some (v2, σ)) else (if x1 = 2 then L_X0_count_56 x0 FU (σ, 0, 0) else (if x1 = 3 then L_X0_count_83 x0 FU (σ, 0, 0) else (if x1 = 4 then b1 (gR 0 7 x0 σ) (fun v3 => b2 (F_X1_strength σ v3) (fun v4 s1 => some (v4, s1))) else (if x1 = 5 then b1 (gI 0 13 x0 σ) (fun v5 => some (v5, σ)) else (if x1 = 6 then b1 (gI 0 11 x0 σ) (fun v6 => some (v6, σ)) else some ((-3), σ)))))))))
theorem F_X0_count_g {σ : Hp} {x0 : Nat} {x1 : Int32} {r : Int32 × Hp} (h : F_X0_count σ x0 x1 = some r) : hT σ x0 = some (.inl 0) := (gd_inv h).1
/-! PalaceOfRoomsLaw.law -/
noncomputable def F_L_law_176 (L : Nat) (xs : Nat → Int32) (rec18 : Hp × Int32 → Option (Unit)) (σ : Hp) (x1 : Nat) (x2 : Nat) (x3 : Int32) : Option (Unit) := sX L xs (x3 + 1) (fun v1 => sX L xs (x3 + 2) (fun v2 => b2 (F_X0_door σ x1 v1 v2) (fun v3 s1 => sX L xs (x3 + 1) (fun v4 => sX L xs (x3 + 2) (fun v5 => b2 (F_X10_door s1 x2 v4 v5) (fun v6 s2 => (if v3 = v6 then rec18 (s2, x3 + 5) else none)))))))
noncomputable def F_L_law_209 (L : Nat) (xs : Nat → Int32) (rec18 : Hp × Int32 → Option (Unit)) (σ : Hp) (x1 : Nat) (x2 : Nat) (x3 : Int32) : Option (Unit) := sX L xs (x3 + 1) (fun v1 => sX L xs (x3 + 2) (fun v2 => b2 (F_X0_away σ x1 v1 v2) (fun v3 s1 => sX L xs (x3 + 1) (fun v4 => sX L xs (x3 + 2) (fun v5 => b2 (F_X10_away s1 x2 v4 v5) (fun v6 s2 => (if v3 = v6 then rec18 (s2, x3 + 5) else none)))))))
noncomputable def F_L_law_242 (L : Nat) (xs : Nat → Int32) (rec18 : Hp × Int32 → Option (Unit)) (σ : Hp) (x1 : Nat) (x2 : Nat) (x3 : Int32) : Option (Unit) := sX L xs (x3 + 1) (fun v1 => sX L xs (x3 + 2) (fun v2 => b2 (F_X0_marks σ x1 v1 v2) (fun v3 s1 => sX L xs (x3 + 1) (fun v4 => sX L xs (x3 + 2) (fun v5 => b2 (F_X10_marks s1 x2 v4 v5) (fun v6 s2 => (if v3 = v6 then rec18 (s2, x3 + 5) else none)))))))
noncomputable def F_L_law_275 (L : Nat) (xs : Nat → Int32) (rec18 : Hp × Int32 → Option (Unit)) (σ : Hp) (x1 : Nat) (x2 : Nat) (x3 : Int32) : Option (Unit) := sX L xs (x3 + 1) (fun v1 => sX L xs (x3 + 2) (fun v2 => b2 (F_X0_like σ x1 v1 v2) (fun v3 s1 => sX L xs (x3 + 1) (fun v4 => sX L xs (x3 + 2) (fun v5 => b2 (F_X10_like s1 x2 v4 v5) (fun v6 s2 => (if v3 = v6 then rec18 (s2, x3 + 5) else none)))))))
noncomputable def F_L_law_308 (L : Nat) (xs : Nat → Int32) (rec18 : Hp × Int32 → Option (Unit)) (σ : Hp) (x1 : Nat) (x2 : Nat) (x3 : Int32) : Option (Unit) := sX L xs (x3 + 1) (fun v1 => sX L xs (x3 + 2) (fun v2 => b2 (F_X0_set σ x1 v1 v2) (fun v3 s1 => sX L xs (x3 + 1) (fun v4 => sX L xs (x3 + 2) (fun v5 => b2 (F_X10_set s1 x2 v4 v5) (fun v6 s2 => (if v3 = v6 then rec18 (s2, x3 + 5) else none)))))))
noncomputable def F_L_law_341 (L : Nat) (xs : Nat → Int32) (rec18 : Hp × Int32 → Option (Unit)) (σ : Hp) (x1 : Nat) (x2 : Nat) (x3 : Int32) : Option (Unit) := sX L xs (x3 + 1) (fun v1 => sX L xs (x3 + 2) (fun v2 => b2 (F_X0_fall σ x1 v1 v2) (fun v3 s1 => sX L xs (x3 + 1) (fun v4 => sX L xs (x3 + 2) (fun v5 => b2 (F_X10_fall s1 x2 v4 v5) (fun v6 s2 => (if v3 = v6 then rec18 (s2, x3 + 5) else none)))))))
noncomputable def F_L_law_374 (L : Nat) (xs : Nat → Int32) (rec18 : Hp × Int32 → Option (Unit)) (σ : Hp) (x1 : Nat) (x2 : Nat) (x3 : Int32) : Option (Unit) := sX L xs (x3 + 1) (fun v1 => sX L xs (x3 + 2) (fun v2 => b2 (F_X0_put σ x1 v1 v2) (fun v3 s1 => sX L xs (x3 + 1) (fun v4 => sX L xs (x3 + 2) (fun v5 => b2 (F_X10_put s1 x2 v4 v5) (fun v6 s2 => (if v3 = v6 then rec18 (s2, x3 + 5) else none)))))))
noncomputable def F_L_law_407 (L : Nat) (xs : Nat → Int32) (rec18 : Hp × Int32 → Option (Unit)) (σ : Hp) (x1 : Nat) (x2 : Nat) (x3 : Int32) : Option (Unit) := sX L xs (x3 + 1) (fun v1 => b2 (F_X0_clear σ x1 v1) (fun v2 s1 => sX L xs (x3 + 1) (fun v3 => b2 (F_X10_clear s1 x2 v3) (fun v4 s2 => (if v2 = v4 then rec18 (s2, x3 + 5) else none)))))
noncomputable def F_L_law_430 (L : Nat) (xs : Nat → Int32) (rec18 : Hp × Int32 → Option (Unit)) (σ : Hp) (x1 : Nat) (x2 : Nat) (x3 : Int32) : Option (Unit) := sX L xs (x3 + 1) (fun v1 => sX L xs (x3 + 2) (fun v2 => b2 (F_X0_corner σ x1 v1 v2) (fun v3 s1 => sX L xs (x3 + 1) (fun v4 => sX L xs (x3 + 2) (fun v5 => b2 (F_X10_corner s1 x2 v4 v5) (fun v6 s2 => (if v3 = v6 then rec18 (s2, x3 + 5) else none)))))))
noncomputable def F_L_law_463 (L : Nat) (xs : Nat → Int32) (rec18 : Hp × Int32 → Option (Unit)) (σ : Hp) (x1 : Nat) (x2 : Nat) (x3 : Int32) : Option (Unit) := sX L xs (x3 + 1) (fun v1 => b2 (F_X0_where σ x1 v1) (fun v2 s1 => sX L xs (x3 + 1) (fun v3 => b2 (F_X10_where s1 x2 v3) (fun v4 s2 => (if v2 = v4 then rec18 (s2, x3 + 5) else none)))))
noncomputable def F_L_law_486 (L : Nat) (xs : Nat → Int32) (rec18 : Hp × Int32 → Option (Unit)) (σ : Hp) (x1 : Nat) (x2 : Nat) (x3 : Int32) : Option (Unit) := sX L xs (x3 + 1) (fun v1 => b2 (F_X0_days σ x1 v1) (fun v2 s1 => sX L xs (x3 + 1) (fun v3 => b2 (F_X10_days s1 x2 v3) (fun v4 s2 => (if v2 = v4 then rec18 (s2, x3 + 5) else none)))))
noncomputable def F_L_law_509 (L : Nat) (xs : Nat → Int32) (rec18 : Hp × Int32 → Option (Unit)) (σ : Hp) (x1 : Nat) (x2 : Nat) (x3 : Int32) : Option (Unit) := sX L xs (x3 + 1) (fun v1 => b2 (F_X0_walk σ x1 v1) (fun v2 s1 => sX L xs (x3 + 1) (fun v3 => b2 (F_X10_walk s1 x2 v3) (fun v4 s2 => (if v2 = v4 then rec18 (s2, x3 + 5) else none)))))
noncomputable def F_L_law_532 (L : Nat) (xs : Nat → Int32) (rec18 : Hp × Int32 → Option (Unit)) (σ : Hp) (x1 : Nat) (x2 : Nat) (x3 : Int32) : Option (Unit) := sX L xs (x3 + 1) (fun v1 => sX L xs (x3 + 2) (fun v2 => sX L xs (x3 + 3) (fun v3 => b2 (F_X0_write σ x1 ((((v1 : Int32).toInt64) <<< ((32 : Int32).toInt64 &&& 63)) ||| (((v2 : Int32).toInt64) &&& 4294967295)) v3) (fun v4 s1 => sX L xs (x3 + 1) (fun v5 => sX L xs (x3 + 2) (fun v6 => sX L xs (x3 + 3) (fun v7 => b2 (F_X10_write s1 x2 ((((v5 : Int32).toInt64) <<< ((32 : Int32).toInt64 &&& 63)) ||| (((v6 : Int32).toInt64) &&& 4294967295)) v7) (fun v8 s2 => (if v4 = v8 then rec18 (s2, x3 + 5) else none)))))))))
noncomputable def F_L_law_595 (L : Nat) (xs : Nat → Int32) (rec18 : Hp × Int32 → Option (Unit)) (σ : Hp) (x1 : Nat) (x2 : Nat) (x3 : Int32) : Option (Unit) := b2 (F_X0_erase σ x1) (fun v1 s1 => b2 (F_X10_erase s1 x2) (fun v2 s2 => (if v1 = v2 then rec18 (s2, x3 + 5) else none)))
noncomputable def F_L_law_608 (L : Nat) (xs : Nat → Int32) (rec18 : Hp × Int32 → Option (Unit)) (σ : Hp) (x1 : Nat) (x2 : Nat) (x3 : Int32) : Option (Unit) := b2 (F_X0_fault σ x1) (fun v1 s1 => b2 (F_X10_fault s1 x2) (fun v2 s2 => (if v1 = v2 then rec18 (s2, x3 + 5) else none)))
noncomputable def F_L_law_621 (L : Nat) (xs : Nat → Int32) (rec18 : Hp × Int32 → Option (Unit)) (σ : Hp) (x1 : Nat) (x2 : Nat) (x3 : Int32) : Option (Unit) := b2 (F_X0_rules σ x1) (fun v1 s1 => b2 (F_X10_rules s1 x2) (fun v2 s2 => (if v1 = v2 then rec18 (s2, x3 + 5) else none)))
noncomputable def F_L_law_634 (L : Nat) (xs : Nat → Int32) (rec18 : Hp × Int32 → Option (Unit)) (σ : Hp) (x1 : Nat) (x2 : Nat) (x3 : Int32) : Option (Unit) := sX L xs (x3 + 1) (fun v1 => sX L xs (x3 + 2) (fun v2 => b2 (F_X0_bars σ x1 v1 v2) (fun v3 s1 => sX L xs (x3 + 1) (fun v4 => sX L xs (x3 + 2) (fun v5 => b2 (F_X10_bars s1 x2 v4 v5) (fun v6 s2 => (if v3 = v6 then rec18 (s2, x3 + 5) else none)))))))
noncomputable def F_L_law_667 (L : Nat) (xs : Nat → Int32) (rec18 : Hp × Int32 → Option (Unit)) (σ : Hp) (x1 : Nat) (x2 : Nat) (x3 : Int32) : Option (Unit) := b2 (F_X0_due σ x1) (fun v1 s1 => b2 (F_X10_due s1 x2) (fun v2 s2 => (if v1 = v2 then rec18 (s2, x3 + 5) else none)))
noncomputable def F_L_law_680 (L : Nat) (xs : Nat → Int32) (rec18 : Hp × Int32 → Option (Unit)) (σ : Hp) (x1 : Nat) (x2 : Nat) (x3 : Int32) : Option (Unit) := sX L xs (x3 + 1) (fun v1 => sX L xs (x3 + 2) (fun v2 => sX L xs (x3 + 3) (fun v3 => sX L xs (x3 + 4) (fun v4 => b2 (F_X0_laid σ x1 ((((v1 : Int32).toInt64) <<< ((32 : Int32).toInt64 &&& 63)) ||| (((v2 : Int32).toInt64) &&& 4294967295)) v3 v4) (fun v5 s1 => sX L xs (x3 + 1) (fun v6 => sX L xs (x3 + 2) (fun v7 => sX L xs (x3 + 3) (fun v8 => sX L xs (x3 + 4) (fun v9 => b2 (F_X10_laid s1 x2 ((((v6 : Int32).toInt64) <<< ((32 : Int32).toInt64 &&& 63)) ||| (((v7 : Int32).toInt64) &&& 4294967295)) v8 v9) (fun v10 s2 => (if v5 = v10 then rec18 (s2, x3 + 5) else none)))))))))))
noncomputable def F_L_law_753 (L : Nat) (xs : Nat → Int32) (rec18 : Hp × Int32 → Option (Unit)) (σ : Hp) (x1 : Nat) (x2 : Nat) (x3 : Int32) : Option (Unit) := sX L xs (x3 + 1) (fun v1 => b2 (F_X0_cost σ x1 v1) (fun v2 s1 => sX L xs (x3 + 1) (fun v3 => b2 (F_X10_cost s1 x2 v3) (fun v4 s2 => (if v2 = v4 then rec18 (s2, x3 + 5) else none)))))
noncomputable def F_L_law_776 (L : Nat) (xs : Nat → Int32) (rec18 : Hp × Int32 → Option (Unit)) (σ : Hp) (x1 : Nat) (x2 : Nat) (x3 : Int32) : Option (Unit) := sX L xs (x3 + 1) (fun v1 => sX L xs (x3 + 2) (fun v2 => sX L xs (x3 + 3) (fun v3 => b2 (F_X0_plan σ x1 v1 v2 v3) (fun v4 s1 => sX L xs (x3 + 1) (fun v5 => sX L xs (x3 + 2) (fun v6 => sX L xs (x3 + 3) (fun v7 => b2 (F_X10_plan s1 x2 v5 v6 v7) (fun v8 s2 => (if v4 = v8 then rec18 (s2, x3 + 5) else none)))))))))
noncomputable def F_L_law_819 (L : Nat) (xs : Nat → Int32) (rec18 : Hp × Int32 → Option (Unit)) (σ : Hp) (x1 : Nat) (x2 : Nat) (x3 : Int32) : Option (Unit) := sX L xs (x3 + 1) (fun v1 => sX L xs (x3 + 2) (fun v2 => sX L xs (x3 + 3) (fun v3 => b2 (F_X0_judge σ x1 v1 v2 v3) (fun v4 s1 => sX L xs (x3 + 1) (fun v5 => sX L xs (x3 + 2) (fun v6 => sX L xs (x3 + 3) (fun v7 => b2 (F_X10_judge s1 x2 v5 v6 v7) (fun v8 s2 => (if v4 = v8 then rec18 (s2, x3 + 5) else none)))))))))
noncomputable def F_L_law_862 (L : Nat) (xs : Nat → Int32) (rec18 : Hp × Int32 → Option (Unit)) (σ : Hp) (x1 : Nat) (x2 : Nat) (x3 : Int32) : Option (Unit) := sX L xs (x3 + 1) (fun v1 => sX L xs (x3 + 2) (fun v2 => b2 (F_X0_right σ x1 v1 v2) (fun v3 s1 => sX L xs (x3 + 1) (fun v4 => sX L xs (x3 + 2) (fun v5 => b2 (F_X10_right s1 x2 v4 v5) (fun v6 s2 => (if v3 = v6 then rec18 (s2, x3 + 5) else none)))))))
noncomputable def F_L_law_895 (L : Nat) (xs : Nat → Int32) (rec18 : Hp × Int32 → Option (Unit)) (σ : Hp) (x1 : Nat) (x2 : Nat) (x3 : Int32) : Option (Unit) := sX L xs (x3 + 1) (fun v1 => sX L xs (x3 + 2) (fun v2 => b2 (F_X0_causes σ x1 v1 v2) (fun v3 s1 => sX L xs (x3 + 1) (fun v4 => sX L xs (x3 + 2) (fun v5 => b2 (F_X10_causes s1 x2 v4 v5) (fun v6 s2 => (if v3 = v6 then rec18 (s2, x3 + 5) else none)))))))
noncomputable def F_L_law_928 (L : Nat) (xs : Nat → Int32) (rec18 : Hp × Int32 → Option (Unit)) (σ : Hp) (x1 : Nat) (x2 : Nat) (x3 : Int32) : Option (Unit) := sX L xs (x3 + 1) (fun v1 => sX L xs (x3 + 2) (fun v2 => b2 (F_X0_asked σ x1 v1 v2) (fun v3 s1 => sX L xs (x3 + 1) (fun v4 => sX L xs (x3 + 2) (fun v5 => b2 (F_X10_asked s1 x2 v4 v5) (fun v6 s2 => (if v3 = v6 then rec18 (s2, x3 + 5) else none)))))))
noncomputable def F_L_law_961 (L : Nat) (xs : Nat → Int32) (rec18 : Hp × Int32 → Option (Unit)) (σ : Hp) (x1 : Nat) (x2 : Nat) (x3 : Int32) : Option (Unit) := sX L xs (x3 + 1) (fun v1 => sX L xs (x3 + 2) (fun v2 => b2 (F_X0_beside σ x1 v1 v2) (fun v3 s1 => sX L xs (x3 + 1) (fun v4 => sX L xs (x3 + 2) (fun v5 => b2 (F_X10_beside s1 x2 v4 v5) (fun v6 s2 => (if v3 = v6 then rec18 (s2, x3 + 5) else none)))))))
noncomputable def F_L_law_994 (L : Nat) (xs : Nat → Int32) (rec18 : Hp × Int32 → Option (Unit)) (σ : Hp) (x1 : Nat) (x2 : Nat) (x3 : Int32) : Option (Unit) := sX L xs (x3 + 1) (fun v1 => sX L xs (x3 + 2) (fun v2 => sX L xs (x3 + 3) (fun v3 => (if v3 = 0 then b2 (F_X0_answer σ x1 v1 v2 0) (fun v4 s1 => sX L xs (x3 + 1) (fun v5 => sX L xs (x3 + 2) (fun v6 => sX L xs (x3 + 3) (fun v7 => (if v7 = 0 then b2 (F_X10_answer s1 x2 v5 v6 0) (fun v8 s2 => (if v4 = v8 then rec18 (s2, x3 + 5) else none)) else b2 (F_X10_answer s1 x2 v5 v6 1) (fun v9 s3 => (if v4 = v9 then rec18 (s3, x3 + 5) else none))))))) else b2 (F_X0_answer σ x1 v1 v2 1) (fun v10 s4 => sX L xs (x3 + 1) (fun v11 => sX L xs (x3 + 2) (fun v12 => sX L xs (x3 + 3) (fun v13 => (if v13 = 0 then b2 (F_X10_answer s4 x2 v11 v12 0) (fun v14 s5 => (if v10 = v14 then rec18 (s5, x3 + 5) else none)) else b2 (F_X10_answer s4 x2 v11 v12 1) (fun v15 s6 => (if v10 = v15 then rec18 (s6, x3 + 5) else none)))))))))))
noncomputable def F_L_law_1053 (L : Nat) (xs : Nat → Int32) (rec18 : Hp × Int32 → Option (Unit)) (σ : Hp) (x1 : Nat) (x2 : Nat) (x3 : Int32) : Option (Unit) := sX L xs (x3 + 1) (fun v1 => sX L xs (x3 + 2) (fun v2 => b2 (F_X0_pupil σ x1 v1 v2) (fun v3 s1 => sX L xs (x3 + 1) (fun v4 => sX L xs (x3 + 2) (fun v5 => b2 (F_X10_pupil s1 x2 v4 v5) (fun v6 s2 => (if v3 = v6 then rec18 (s2, x3 + 5) else none)))))))
noncomputable def F_L_law_1086 (L : Nat) (xs : Nat → Int32) (rec18 : Hp × Int32 → Option (Unit)) (σ : Hp) (x1 : Nat) (x2 : Nat) (x3 : Int32) : Option (Unit) := sX L xs (x3 + 1) (fun v1 => sX L xs (x3 + 2) (fun v2 => sX L xs (x3 + 3) (fun v3 => b2 (F_X0_figures σ x1 v1 v2 v3) (fun v4 s1 => sX L xs (x3 + 1) (fun v5 => sX L xs (x3 + 2) (fun v6 => sX L xs (x3 + 3) (fun v7 => b2 (F_X10_figures s1 x2 v5 v6 v7) (fun v8 s2 => (if v4 = v8 then rec18 (s2, x3 + 5) else none)))))))))
noncomputable def F_L_law_1129 (L : Nat) (xs : Nat → Int32) (rec18 : Hp × Int32 → Option (Unit)) (σ : Hp) (x1 : Nat) (x2 : Nat) (x3 : Int32) : Option (Unit) := sX L xs (x3 + 1) (fun v1 => sX L xs (x3 + 2) (fun v2 => sX L xs (x3 + 3) (fun v3 => sX L xs (x3 + 4) (fun v4 => b2 (F_X0_code σ x1 ((((v1 : Int32).toInt64) <<< ((32 : Int32).toInt64 &&& 63)) ||| (((v2 : Int32).toInt64) &&& 4294967295)) v3 v4) (fun v5 s1 => sX L xs (x3 + 1) (fun v6 => sX L xs (x3 + 2) (fun v7 => sX L xs (x3 + 3) (fun v8 => sX L xs (x3 + 4) (fun v9 => b2 (F_X10_code s1 x2 ((((v6 : Int32).toInt64) <<< ((32 : Int32).toInt64 &&& 63)) ||| (((v7 : Int32).toInt64) &&& 4294967295)) v8 v9) (fun v10 s2 => (if v5 = v10 then rec18 (s2, x3 + 5) else none)))))))))))
noncomputable def F_L_law_1202 (L : Nat) (xs : Nat → Int32) (rec18 : Hp × Int32 → Option (Unit)) (σ : Hp) (x1 : Nat) (x2 : Nat) (x3 : Int32) : Option (Unit) := sX L xs (x3 + 1) (fun v1 => b2 (F_X0_enough σ x1 v1) (fun v2 s1 => sX L xs (x3 + 1) (fun v3 => b2 (F_X10_enough s1 x2 v3) (fun v4 s2 => (if v2 = v4 then rec18 (s2, x3 + 5) else none)))))
noncomputable def F_L_law_1225 (L : Nat) (xs : Nat → Int32) (rec18 : Hp × Int32 → Option (Unit)) (σ : Hp) (x1 : Nat) (x2 : Nat) (x3 : Int32) : Option (Unit) := sX L xs (x3 + 1) (fun v1 => b2 (F_X0_count σ x1 v1) (fun v2 s1 => sX L xs (x3 + 1) (fun v3 => b2 (F_X10_count s1 x2 v3) (fun v4 s2 => (if v2 = v4 then rec18 (s2, x3 + 5) else none)))))
noncomputable def B_L_law_18 (L : Nat) (xs : Nat → Int32) (x1 : Nat) (x2 : Nat) (rec18 : Hp × Int32 → Option (Unit)) (σ : Hp) (x3 : Int32) : Option (Unit) := (if ((Int32.ofNat L) - 5) < x3 then some () else sX L xs x3 (fun v1 => (if (v1 &&& 31) = 0 then F_L_law_176 L xs rec18 σ x1 x2 x3 else (if (v1 &&& 31) = 1 then F_L_law_209 L xs rec18 σ x1 x2 x3 else (if (v1 &&& 31) = 2 then F_L_law_242 L xs rec18 σ x1 x2 x3 else (if (v1 &&& 31) = 3 then F_L_law_275 L xs rec18 σ x1 x2 x3 else (if (v1 &&& 31) = 4 then F_L_law_308 L xs rec18 σ x1 x2 x3 else (if (v1 &&& 31) = 5 then F_L_law_341 L xs rec18 σ x1 x2 x3 else (if (v1 &&& 31) = 6 then F_L_law_374 L xs rec18 σ x1 x2 x3 else (if (v1 &&& 31) = 7 then F_L_law_407 L xs rec18 σ x1 x2 x3 else (if (v1 &&& 31) = 8 then F_L_law_430 L xs rec18 σ x1 x2 x3 else (if (v1 &&& 31) = 9 then F_L_law_463 L xs rec18 σ x1 x2 x3 else (if (v1 &&& 31) = 10 then F_L_law_486 L xs rec18 σ x1 x2 x3 else (if (v1 &&& 31) = 11 then F_L_law_509 L xs rec18 σ x1 x2 x3 else (if (v1 &&& 31) = 12 then F_L_law_532 L xs rec18 σ x1 x2 x3 else (if (v1 &&& 31) = 13 then F_L_law_595 L xs rec18 σ x1 x2 x3 else (if (v1 &&& 31) = 14 then F_L_law_608 L xs rec18 σ x1 x2 x3 else (if (v1 &&& 31) = 15 then F_L_law_621 L xs rec18 σ x1 x2 x3 else (if (v1 &&& 31) = 16 then F_L_law_634 L xs rec18 σ x1 x2 x3 else (if (v1 &&& 31) = 17 then F_L_law_667 L xs rec18 σ x1 x2 x3 else (if (v1 &&& 31) = 18 then F_L_law_680 L xs rec18 σ x1 x2 x3 else (if (v1 &&& 31) = 19 then F_L_law_753 L xs rec18 σ x1 x2 x3 else (if (v1 &&& 31) = 20 then F_L_law_776 L xs rec18 σ x1 x2 x3 else (if (v1 &&& 31) = 21 then F_L_law_819 L xs rec18 σ x1 x2 x3 else (if (v1 &&& 31) = 22 then F_L_law_862 L xs rec18 σ x1 x2 x3 else (if (v1 &&& 31) = 23 then F_L_law_895 L xs rec18 σ x1 x2 x3 else (if (v1 &&& 31) = 24 then F_L_law_928 L xs rec18 σ x1 x2 x3 else (if (v1 &&& 31) = 25 then F_L_law_961 L xs rec18 σ x1 x2 x3 else (if (v1 &&& 31) = 26 then F_L_law_994 L xs rec18 σ x1 x2 x3 else (if (v1 &&& 31) = 27 then F_L_law_1053 L xs rec18 σ x1 x2 x3 else (if (v1 &&& 31) = 28 then F_L_law_1086 L xs rec18 σ x1 x2 x3 else (if (v1 &&& 31) = 29 then F_L_law_1129 L xs rec18 σ x1 x2 x3 else (if (v1 &&& 31) = 30 then F_L_law_1202 L xs rec18 σ x1 x2 x3 else (if (v1 &&& 31) = 31 then F_L_law_1225 L xs rec18 σ x1 x2 x3 else rec18 (σ, x3 + 5)))))))))))))))))))))))))))))))))))
noncomputable def L_L_law_18 (L : Nat) (xs : Nat → Int32) (x1 : Nat) (x2 : Nat) : Nat → (Hp × Int32) → Option (Unit) := it (fun rec18 st => B_L_law_18 L xs x1 x2 rec18 st.1 st.2)
theorem L_L_law_18_0 (L : Nat) (xs : Nat → Int32) (x1 : Nat) (x2 : Nat) (st : Hp × Int32) : L_L_law_18 L xs x1 x2 0 st = none := rfl
theorem L_L_law_18_s (L : Nat) (xs : Nat → Int32) (x1 : Nat) (x2 : Nat) (n : Nat) (st : Hp × Int32) : L_L_law_18 L xs x1 x2 (n + 1) st = B_L_law_18 L xs x1 x2 (L_L_law_18 L xs x1 x2 n) st.1 st.2 := rfl
noncomputable def F_L_law (L : Nat) (xs : Nat → Int32) (σ : Hp) : Option Unit := b1 (F_X0_init (born σ (.inl 0)) (hZ σ)) (fun s1 => b1 (F_X10_init (born s1 (.inl 10)) (hZ s1)) (fun s2 => L_L_law_18 L xs (hZ σ) (hZ s1) 65 (s2, 0)))
end
section
set_option maxRecDepth 100000
/-! pure law 1: loops, numbers, accesses -/
theorem it_to {α β : Type} {body : (α → Option β) → α → Option β} (f : Nat → α) {a b n : Nat} (hab : a ≤ b) (hn : b - a < n) (h : ∀ i, a ≤ i → i < b → ∀ rec, body rec (f i) = rec (f (i + 1))) : it body n (f a) = body (it body (n - (b - a) - 1)) (f b) := by
  induction n generalizing a with
  | zero => omega
  | succ n ih =>
    rw [it_s]
    by_cases e : a = b
    · subst e
      have : n + 1 - (a - a) - 1 = n := by omega
      rw [this]
    · rw [h a (Nat.le_refl _) (by omega), ih (a := a + 1) (by omega) (by omega) (fun i h1 h2 => h i (by omega) h2)]
      have : n - (b - (a + 1)) - 1 = n + 1 - (b - a) - 1 := by omega
      rw [this]
theorem FU_gt {k : Nat} (h : k < 1000000000) : k < FU := by
  have := FU_ge
  have e : (2 : Nat) ^ 60 = 1152921504606846976 := by decide
  omega
/-- a loop that counts: its exit at b -/
theorem it_FU {α β : Type} {body : (α → Option β) → α → Option β} (f : Nat → α) (a b : Nat) (hab : a ≤ b) (hb : b < 1000000000) (h : ∀ i, a ≤ i → i < b → ∀ rec, body rec (f i) = rec (f (i + 1))) : ∃ r : α → Option β, it body FU (f a) = body r (f b) :=
  ⟨_, it_to f hab (Nat.lt_of_le_of_lt (Nat.sub_le _ _) (FU_gt hb)) h⟩
/-- a loop whose state keeps an invariant: its exit -/
theorem it_inv {α β : Type} {body : (α → Option β) → α → Option β} (P : Nat → α → Prop) {a b n : Nat} (hab : a ≤ b) (hn : b - a < n) (h : ∀ i st, a ≤ i → i < b → P i st → ∃ st', P (i + 1) st' ∧ ∀ rec, body rec st = rec st') : ∀ st, P a st → ∃ st' k, P b st' ∧ it body n st = body (it body k) st' := by
  induction n generalizing a with
  | zero => omega
  | succ n ih =>
    intro st hst
    by_cases e : a = b
    · subst e
      exact ⟨st, n, hst, rfl⟩
    · obtain ⟨s1, h1, h2⟩ := h a st (Nat.le_refl _) (by omega) hst
      obtain ⟨s2, k, h3, h4⟩ := ih (a := a + 1) (by omega) (by omega) (fun i st g1 g2 => h i st (by omega) g2) s1 h1
      exact ⟨s2, k, h3, by rw [it_s, h2, h4]⟩
theorem it_invF {α β : Type} {body : (α → Option β) → α → Option β} (P : Nat → α → Prop) (a b : Nat) (hab : a ≤ b) (hb : b < 1000000000) (h : ∀ i st, a ≤ i → i < b → P i st → ∃ st', P (i + 1) st' ∧ ∀ rec, body rec st = rec st') (st : α) (hst : P a st) : ∃ st', ∃ r : α → Option β, P b st' ∧ it body FU st = body r st' := by
  obtain ⟨s, k, h1, h2⟩ := it_inv P hab (Nat.lt_of_le_of_lt (Nat.sub_le _ _) (FU_gt hb)) h st hst
  exact ⟨s, _, h1, h2⟩
/-! numbers -/
theorem litI (n : Nat) : (OfNat.ofNat n : Int32) = nI n := by
  cases n with
  | zero => rfl
  | succ n => rfl
theorem tI {n : Nat} (h : n < 2147483648) : (nI n).toInt = n := nI_toInt h
theorem m1_toInt : (-1 : Int32).toInt = -1 := by decide
theorem le_lit {a b : Nat} (ha : a < 2147483648) (hb : b < 2147483648) : (nI a ≤ nI b) = (a ≤ b) := propext (nI_leI ha hb)
theorem lt_lit {a b : Nat} (ha : a < 2147483648) (hb : b < 2147483648) : (nI a < nI b) = (a < b) := propext (nI_ltI ha hb)
theorem eq_lit {a b : Nat} (ha : a < 2147483648) (hb : b < 2147483648) : (nI a = nI b) = (a = b) := propext (nI_eq ha hb)
/-- a number or none: none is 0 -/
def e1 (n : Nat) : Int32 := nI n - 1
theorem e1_0 : e1 0 = -1 := by decide
theorem e1_s (n : Nat) : e1 (n + 1) = nI n := by
  unfold e1
  exact nI_pred n
theorem e1_toInt {n : Nat} (h : n < 2147483648) : (e1 n).toInt = (n : Int) - 1 := by
  cases n with
  | zero => decide
  | succ n => rw [e1_s, tI (by omega)]; omega
theorem e1_m1 {n : Nat} (h : n < 2147483648) : (e1 n = -1) = (n = 0) := by
  apply propext
  rw [← Int32.toInt_inj, e1_toInt h, m1_toInt]
  omega
theorem e1_nI {n k : Nat} (h : n < 2147483648) (hk : k < 2147483648) : (e1 n = nI k) = (n = k + 1) := by
  apply propext
  rw [← Int32.toInt_inj, e1_toInt h, tI hk]
  omega
theorem nI_m1 {n : Nat} (h : n < 2147483648) : (nI n = -1) = False := by
  apply propext
  rw [← Int32.toInt_inj, tI h, m1_toInt]
  constructor
  · intro q; omega
  · exact False.elim
theorem e1_inj {n k : Nat} (h : n < 2147483648) (hk : k < 2147483648) : (e1 n = e1 k) = (n = k) := by
  apply propext
  rw [← Int32.toInt_inj, e1_toInt h, e1_toInt hk]
  omega
theorem e1_of {n : Nat} (h : 0 < n) : e1 n = nI (n - 1) := by
  cases n with
  | zero => omega
  | succ n => rw [e1_s]; rfl
/-- x within a .. b -/
abbrev inR (x : Int32) (a b : Nat) : Prop := nI a ≤ x ∧ x ≤ nI b
theorem inR_of {j a b : Nat} (h : a ≤ j) (h2 : j ≤ b) (hb : b < 2147483648) : inR (nI j) a b := by
  show nI a ≤ nI j ∧ nI j ≤ nI b
  rw [le_lit (by omega) (by omega), le_lit (by omega) (by omega)]
  omega
theorem inR_iff {x : Int32} {a b : Nat} (ha : a < 2147483648) (hb : b < 2147483648) : inR x a b ↔ (a : Int) ≤ x.toInt ∧ x.toInt ≤ b := by
  show nI a ≤ x ∧ x ≤ nI b ↔ _
  rw [Int32.le_iff_toInt_le, Int32.le_iff_toInt_le, tI ha, tI hb]
theorem in_split (x : Int32) (a b : Nat) (hb : b < 2147483648) (ha : a < 2147483648) : (∃ j, a ≤ j ∧ j ≤ b ∧ x = nI j) ∨ ¬ inR x a b := by
  by_cases h : inR x a b
  · left
    have h' := (inR_iff ha hb).mp h
    refine ⟨x.toInt.toNat, by omega, by omega, ?_⟩
    rw [← Int32.toInt_inj, tI (by omega)]
    omega
  · exact Or.inr h
theorem zr_0 {ρ : Type} (k : Option ρ) : zr 0 k = k := if_pos (Or.inl rfl)
theorem zr_1 {ρ : Type} (k : Option ρ) : zr 1 k = k := if_pos (Or.inr rfl)
theorem x10_in (σ : Hp) (v lo hi : Int32) : F_X10_in σ v lo hi = some (if lo ≤ v ∧ v ≤ hi then 1 else 0, σ) := by
  unfold F_X10_in
  by_cases h1 : v < lo
  · rw [if_pos h1, if_neg (fun q => absurd q.1 (Int32.not_le.mpr h1))]
  · by_cases h2 : hi < v
    · rw [if_neg h1, if_pos h2, if_neg (fun q => absurd q.2 (Int32.not_le.mpr h2))]
    · rw [if_neg h1, if_neg h2, if_pos ⟨Int32.not_lt.mp h1, Int32.not_lt.mp h2⟩]
theorem zr_ite {ρ : Type} {c : Prop} (inst : Decidable c) (k : Option ρ) : zr (if c then 1 else 0) k = k := by
  split
  · exact zr_1 k
  · exact zr_0 k
theorem i64_le (a b : Int32) : (a.toInt64 ≤ b.toInt64) = (a ≤ b) := by
  apply propext
  rw [Int64.le_iff_toInt_le, Int32.le_iff_toInt_le]
  simp
theorem x0_isIn (σ : Hp) (v a b : Int32) : F_X0_isIn σ v.toInt64 a.toInt64 b.toInt64 = some (if a ≤ v ∧ v ≤ b then 1 else 0, σ) := by
  unfold F_X0_isIn
  have h1 : (lg_cmp v.toInt64 a.toInt64 < 0) = ¬ (a ≤ v) := by
    apply propext
    rw [← i64_le, ← lg_cmp_ge]
    exact Int32.not_le.symm
  have h2 : (0 < lg_cmp v.toInt64 b.toInt64) = ¬ (v ≤ b) := by
    apply propext
    rw [← i64_le]
    unfold lg_cmp
    simp only [gt_iff_lt, Int64.lt_iff_toInt_lt, Int64.le_iff_toInt_le, ← Int64.toInt_inj]
    repeat' split
    all_goals simp_all
    all_goals omega
  simp only [h1, h2]
  by_cases q1 : a ≤ v
  · by_cases q2 : v ≤ b
    · simp [q1, q2]
    · simp [q1, q2]
  · simp [q1]
/-! accesses -/
theorem aI_at {t a n i : Nat} {σ : Hp} (h : aN t a σ = some n) (hi : i < n) (hn : n < 2147483648) : aI t a (nI i) σ = some (hI σ a i) := by
  unfold aI
  rw [h, b1_some, if_neg (nI_in hi hn), nI_clamp (by omega)]
theorem sI_at {t a n i : Nat} {σ : Hp} {v : Int32} (h : aN t a σ = some n) (hi : i < n) (hn : n < 2147483648) : sI t a (nI i) v σ = some (setI σ a i v) := by
  unfold sI
  rw [h, b1_some, if_neg (nI_in hi hn), nI_clamp (by omega)]
theorem aR_at {t a n i v : Nat} {σ : Hp} (h : aN t a σ = some n) (hi : i < n) (hn : n < 2147483648) (hv : hR σ a i = some v) : aR t a (nI i) σ = some v := by
  unfold aR
  rw [h, b1_some, if_neg (nI_in hi hn), nI_clamp (by omega), hv]
theorem sR_at {t a n i v : Nat} {σ : Hp} (h : aN t a σ = some n) (hi : i < n) (hn : n < 2147483648) : sR t a (nI i) v σ = some (setR σ a i (some v)) := by
  unfold sR
  rw [h, b1_some, if_neg (nI_in hi hn), nI_clamp (by omega)]
theorem gd_at {ρ : Type} {ci a : Nat} {σ : Hp} {x : Option ρ} (h : hT σ a = some (.inl ci)) : gd ci a σ x = x := if_pos h
theorem gI_at {ci k a : Nat} {σ : Hp} (h : hT σ a = some (.inl ci)) : gI ci k a σ = some (hI σ a k) := if_pos h
theorem gL_at {ci k a : Nat} {σ : Hp} (h : hT σ a = some (.inl ci)) : gL ci k a σ = some (hL σ a k) := if_pos h
theorem gR_at {ci k a v : Nat} {σ : Hp} (h : hT σ a = some (.inl ci)) (hv : hR σ a k = some v) : gR ci k a σ = some v := (if_pos h).trans hv
theorem pI_at {ci k a : Nat} {σ : Hp} {v : Int32} (h : hT σ a = some (.inl ci)) : pI ci k a v σ = some (setI σ a k v) := if_pos h
theorem pL_at {ci k a : Nat} {σ : Hp} {v : Int64} (h : hT σ a = some (.inl ci)) : pL ci k a v σ = some (setL σ a k v) := if_pos h
theorem pR_at {ci k a v : Nat} {σ : Hp} (h : hT σ a = some (.inl ci)) : pR ci k a v σ = some (setR σ a k (some v)) := if_pos h
theorem hI_same (σ : Hp) (a k : Nat) (v : Int32) : hI (setI σ a k v) a k = v := if_pos ⟨rfl, rfl⟩
theorem hI_ne (σ : Hp) {a b k j : Nat} (v : Int32) (h : ¬ (b = a ∧ j = k)) : hI (setI σ a k v) b j = hI σ b j := if_neg h
theorem i10 : ((1 : Int32) = 0) = False := by decide
theorem i00 : ((0 : Int32) = 0) = True := by decide
theorem if10 {α : Type} (a b : α) : (if (1 : Int32) = 0 then a else b) = b := if_neg (by decide)
theorem if00 {α : Type} (a b : α) : (if (0 : Int32) = 0 then a else b) = a := if_pos rfl
theorem if11 {α : Type} (a b : α) : (if (1 : Int32) = 1 then a else b) = a := if_pos rfl
theorem x10_inR (σ : Hp) (v lo hi : Int32) (a b : Nat) (ha : nI a = lo) (hb : nI b = hi) : F_X10_in σ v lo hi = some (if inR v a b then 1 else 0, σ) := by
  rw [x10_in, ← ha, ← hb]
theorem x0_inR (σ : Hp) (v : Int32) (A B : Int64) (a b : Nat) (hA : (nI a).toInt64 = A) (hB : (nI b).toInt64 = B) : F_X0_isIn σ v.toInt64 A B = some (if inR v a b then 1 else 0, σ) := by
  rw [← hA, ← hB]
  exact x0_isIn σ v _ _
theorem x10_isThing (σ : Hp) (x : Int32) : F_X10_isThing σ x = some (if inR x 0 23 then 1 else 0, σ) := by
  unfold F_X10_isThing
  rw [x10_inR σ x 0 23 0 23 rfl rfl, b2_some, zr_ite]
theorem x0_isThing (σ : Hp) (x : Int32) : F_X0_isThing σ x = some (if inR x 0 23 then 1 else 0, σ) := by
  unfold F_X0_isThing
  rw [x0_inR σ x 0 23 0 23 (by decide) (by decide), b2_some, zr_ite]
theorem x10_isRoom (σ : Hp) (x : Int32) : F_X10_isRoom σ x = some (if inR x 0 7 then 1 else 0, σ) := by
  unfold F_X10_isRoom
  rw [x10_inR σ x 0 7 0 7 rfl rfl, b2_some, zr_ite]
theorem x0_isRoom (σ : Hp) (x : Int32) : F_X0_isRoom σ x = some (if inR x 0 7 then 1 else 0, σ) := by
  unfold F_X0_isRoom
  rw [x0_inR σ x 0 7 0 7 (by decide) (by decide), b2_some, zr_ite]
theorem x10_isCorner (σ : Hp) (x : Int32) : F_X10_isCorner σ x = some (if inR x 0 47 then 1 else 0, σ) := by
  unfold F_X10_isCorner
  rw [x10_inR σ x 0 47 0 47 rfl rfl, b2_some, zr_ite]
theorem x0_isCorner (σ : Hp) (x : Int32) : F_X0_isCorner σ x = some (if inR x 0 47 then 1 else 0, σ) := by
  unfold F_X0_isCorner
  rw [x0_inR σ x 0 47 0 47 (by decide) (by decide), b2_some, zr_ite]
theorem x10_isPupil (σ : Hp) (x : Int32) : F_X10_isPupil σ x = some (if inR x 0 3 then 1 else 0, σ) := by
  unfold F_X10_isPupil
  rw [x10_inR σ x 0 3 0 3 rfl rfl, b2_some, zr_ite]
theorem x0_isPupil (σ : Hp) (x : Int32) : F_X0_isPupil σ x = some (if inR x 0 3 then 1 else 0, σ) := by
  unfold F_X0_isPupil
  rw [x0_inR σ x 0 3 0 3 (by decide) (by decide), b2_some, zr_ite]
/-! a form for all numbers: nI n, e1 n -/
theorem neg1 : -(nI 1) = e1 0 := by decide
theorem nI_mul (a b : Nat) : nI a * nI b = nI (a * b) := (Int32.ofNat_mul a b).symm
theorem nI_sub {a b : Nat} (h : b ≤ a) : nI a - nI b = nI (a - b) := by
  obtain ⟨c, rfl⟩ := Nat.exists_eq_add_of_le h
  rw [Nat.add_sub_cancel_left, Nat.add_comm, ← nI_add, Int32.add_sub_cancel]
theorem e1_p1 (n : Nat) : e1 n + nI 1 = nI n := by
  cases n with
  | zero => decide
  | succ n => rw [e1_s, nI_add]
theorem nI_e1 {n k : Nat} (h : n < 2147483648) (hk : k < 2147483648) : (nI k = e1 n) = (n = k + 1) := by
  rw [← e1_nI h hk]
  exact propext eq_comm
theorem nI_e0 {n : Nat} (h : n < 2147483648) : (nI n = e1 0) = False := nI_m1 h
theorem ib {c : Prop} (inst : Decidable c) : ((if c then nI 1 else nI 0) = nI 0) = ¬ c := by
  by_cases h : c
  · rw [if_pos h]
    exact propext ⟨fun q => absurd q (by decide), fun q => absurd h q⟩
  · rw [if_neg h]
    exact propext ⟨fun _ => h, fun _ => rfl⟩
theorem ib1 {c : Prop} (inst : Decidable c) : ((if c then nI 1 else nI 0) = nI 1) = c := by
  by_cases h : c
  · rw [if_pos h]
    exact propext ⟨fun _ => h, fun _ => rfl⟩
  · rw [if_neg h]
    exact propext ⟨fun q => absurd q (by decide), fun q => absurd q h⟩
theorem i_lt {a b : Nat} (ha : a < 2147483648) (hb : b < 2147483648) (z : Int32) (hz : z = nI a - nI b) : z.toInt = (a : Int) - b := by
  subst hz
  by_cases h : b ≤ a
  · rw [nI_sub h, tI (by omega)]
    omega
  · have e : nI a - nI b = -(nI (b - a)) := by
      rw [← nI_sub (by omega : a ≤ b)]
      exact (Int32.neg_sub).symm
    have e2 : (-(nI (b - a))).toInt = -((b - a : Nat) : Int) := by
      rw [Int32.toInt_neg, tI (by omega)]
      apply Int.bmod_eq_of_le <;> omega
    rw [e, e2]
    omega
/-- a strength falls, to nothing at least -/
theorem fadeI {a b : Nat} (inst : Decidable (nI 0 < nI a - nI b)) (ha : a < 2147483648) (hb : b < 2147483648) : (if nI 0 < nI a - nI b then nI a - nI b else nI 0) = nI (a - b) := by
  have h := i_lt ha hb _ rfl
  by_cases q : b < a
  · rw [if_pos (by rw [Int32.lt_iff_toInt_lt, h, tI (by omega)]; omega), nI_sub (by omega)]
  · rw [if_neg (by rw [Int32.lt_iff_toInt_lt, h, tI (by omega)]; omega)]
    have : a - b = 0 := by omega
    rw [this]
theorem fade0 {a b : Nat} (ha : a < 2147483648) (hb : b < 2147483648) : (nI 0 ≤ nI a - nI b) = (b ≤ a) := by
  apply propext
  rw [Int32.le_iff_toInt_le, i_lt ha hb _ rfl, tI (by omega)]
  omega
theorem sub_sub_I (a b c : Nat) : nI a - nI b - nI c = nI a - nI (b + c) := by
  rw [Int32.sub_sub, nI_add]
theorem ite2 {α : Type} {c : Prop} {inst : Decidable c} {a b : α} (h : c) : (if c then a else b) = a := if_pos h
/-! sums -/
def sumR (f : Nat → Nat) (a : Nat) : Nat → Nat
  | 0 => 0
  | n + 1 => sumR f a n + f (a + n)
theorem sumR_le {f : Nat → Nat} {m : Nat} (h : ∀ k, f k ≤ m) (a : Nat) : ∀ n, sumR f a n ≤ m * n
  | 0 => Nat.zero_le _
  | n + 1 => by
    have h1 := sumR_le h a n
    have h2 := h (a + n)
    show sumR f a n + f (a + n) ≤ m * (n + 1)
    rw [Nat.mul_add]
    omega
theorem sumR_cg {f g : Nat → Nat} (a : Nat) : ∀ n, (∀ k, k < n → f (a + k) = g (a + k)) → sumR f a n = sumR g a n
  | 0, _ => rfl
  | n + 1, h => by
    show sumR f a n + f (a + n) = sumR g a n + g (a + n)
    rw [sumR_cg a n (fun k hk => h k (by omega)), h n (by omega)]
end
section
set_option maxRecDepth 100000
/-! pure law 2: the static shape of the two objects -/
def mTab : List (Nat × Nat × Nat × Nat) := [(2, 1, 0, 14), (3, 2, 0, 14), (4, 3, 0, 8), (5, 4, 0, 24), (8, 5, 0, 11), (9, 6, 0, 48), (10, 7, 0, 48), (11, 8, 0, 48), (12, 9, 0, 48), (13, 10, 0, 48), (14, 11, 0, 8), (15, 12, 0, 240), (16, 13, 0, 240), (17, 14, 0, 5), (18, 15, 0, 4), (20, 16, 0, 160), (28, 17, 0, 30), (30, 18, 0, 30), (31, 19, 0, 8), (32, 20, 0, 8), (33, 21, 0, 8), (35, 22, 0, 4), (36, 23, 0, 48), (37, 24, 1, 48), (38, 25, 0, 100)]
/-- the twin at M: its cell, its arrays -/
def SM (M : Nat) (σ : Hp) : Prop := hT σ M = some (.inl 10) ∧ ∀ x ∈ mTab, hR σ M x.1 = some (M + x.2.1) ∧ hT σ (M + x.2.1) = some (.inr (x.2.2.1, x.2.2.2))
theorem SM.si {M : Nat} {σ : Hp} (h : SM M σ) (a k : Nat) (v : Int32) : SM M (setI σ a k v) := h
theorem SM.sl {M : Nat} {σ : Hp} (h : SM M σ) (a k : Nat) (v : Int64) : SM M (setL σ a k v) := h
theorem SM.r2 {M : Nat} {σ : Hp} (h : SM M σ) : gR 10 2 M σ = some (M + 1) := gR_at h.1 (h.2 (2, 1, 0, 14) (by decide)).1
theorem SM.n2 {M : Nat} {σ : Hp} (h : SM M σ) : aN 0 (M + 1) σ = some 14 := aN_of (h.2 (2, 1, 0, 14) (by decide)).2
theorem SM.r3 {M : Nat} {σ : Hp} (h : SM M σ) : gR 10 3 M σ = some (M + 2) := gR_at h.1 (h.2 (3, 2, 0, 14) (by decide)).1
theorem SM.n3 {M : Nat} {σ : Hp} (h : SM M σ) : aN 0 (M + 2) σ = some 14 := aN_of (h.2 (3, 2, 0, 14) (by decide)).2
theorem SM.r4 {M : Nat} {σ : Hp} (h : SM M σ) : gR 10 4 M σ = some (M + 3) := gR_at h.1 (h.2 (4, 3, 0, 8) (by decide)).1
theorem SM.n4 {M : Nat} {σ : Hp} (h : SM M σ) : aN 0 (M + 3) σ = some 8 := aN_of (h.2 (4, 3, 0, 8) (by decide)).2
theorem SM.r5 {M : Nat} {σ : Hp} (h : SM M σ) : gR 10 5 M σ = some (M + 4) := gR_at h.1 (h.2 (5, 4, 0, 24) (by decide)).1
theorem SM.n5 {M : Nat} {σ : Hp} (h : SM M σ) : aN 0 (M + 4) σ = some 24 := aN_of (h.2 (5, 4, 0, 24) (by decide)).2
theorem SM.r8 {M : Nat} {σ : Hp} (h : SM M σ) : gR 10 8 M σ = some (M + 5) := gR_at h.1 (h.2 (8, 5, 0, 11) (by decide)).1
theorem SM.n8 {M : Nat} {σ : Hp} (h : SM M σ) : aN 0 (M + 5) σ = some 11 := aN_of (h.2 (8, 5, 0, 11) (by decide)).2
theorem SM.r9 {M : Nat} {σ : Hp} (h : SM M σ) : gR 10 9 M σ = some (M + 6) := gR_at h.1 (h.2 (9, 6, 0, 48) (by decide)).1
theorem SM.n9 {M : Nat} {σ : Hp} (h : SM M σ) : aN 0 (M + 6) σ = some 48 := aN_of (h.2 (9, 6, 0, 48) (by decide)).2
theorem SM.r10 {M : Nat} {σ : Hp} (h : SM M σ) : gR 10 10 M σ = some (M + 7) := gR_at h.1 (h.2 (10, 7, 0, 48) (by decide)).1
theorem SM.n10 {M : Nat} {σ : Hp} (h : SM M σ) : aN 0 (M + 7) σ = some 48 := aN_of (h.2 (10, 7, 0, 48) (by decide)).2
theorem SM.r11 {M : Nat} {σ : Hp} (h : SM M σ) : gR 10 11 M σ = some (M + 8) := gR_at h.1 (h.2 (11, 8, 0, 48) (by decide)).1
theorem SM.n11 {M : Nat} {σ : Hp} (h : SM M σ) : aN 0 (M + 8) σ = some 48 := aN_of (h.2 (11, 8, 0, 48) (by decide)).2
theorem SM.r12 {M : Nat} {σ : Hp} (h : SM M σ) : gR 10 12 M σ = some (M + 9) := gR_at h.1 (h.2 (12, 9, 0, 48) (by decide)).1
theorem SM.n12 {M : Nat} {σ : Hp} (h : SM M σ) : aN 0 (M + 9) σ = some 48 := aN_of (h.2 (12, 9, 0, 48) (by decide)).2
theorem SM.r13 {M : Nat} {σ : Hp} (h : SM M σ) : gR 10 13 M σ = some (M + 10) := gR_at h.1 (h.2 (13, 10, 0, 48) (by decide)).1
theorem SM.n13 {M : Nat} {σ : Hp} (h : SM M σ) : aN 0 (M + 10) σ = some 48 := aN_of (h.2 (13, 10, 0, 48) (by decide)).2
theorem SM.r14 {M : Nat} {σ : Hp} (h : SM M σ) : gR 10 14 M σ = some (M + 11) := gR_at h.1 (h.2 (14, 11, 0, 8) (by decide)).1
theorem SM.n14 {M : Nat} {σ : Hp} (h : SM M σ) : aN 0 (M + 11) σ = some 8 := aN_of (h.2 (14, 11, 0, 8) (by decide)).2
theorem SM.r15 {M : Nat} {σ : Hp} (h : SM M σ) : gR 10 15 M σ = some (M + 12) := gR_at h.1 (h.2 (15, 12, 0, 240) (by decide)).1
theorem SM.n15 {M : Nat} {σ : Hp} (h : SM M σ) : aN 0 (M + 12) σ = some 240 := aN_of (h.2 (15, 12, 0, 240) (by decide)).2
theorem SM.r16 {M : Nat} {σ : Hp} (h : SM M σ) : gR 10 16 M σ = some (M + 13) := gR_at h.1 (h.2 (16, 13, 0, 240) (by decide)).1
theorem SM.n16 {M : Nat} {σ : Hp} (h : SM M σ) : aN 0 (M + 13) σ = some 240 := aN_of (h.2 (16, 13, 0, 240) (by decide)).2
theorem SM.r17 {M : Nat} {σ : Hp} (h : SM M σ) : gR 10 17 M σ = some (M + 14) := gR_at h.1 (h.2 (17, 14, 0, 5) (by decide)).1
theorem SM.n17 {M : Nat} {σ : Hp} (h : SM M σ) : aN 0 (M + 14) σ = some 5 := aN_of (h.2 (17, 14, 0, 5) (by decide)).2
theorem SM.r18 {M : Nat} {σ : Hp} (h : SM M σ) : gR 10 18 M σ = some (M + 15) := gR_at h.1 (h.2 (18, 15, 0, 4) (by decide)).1
theorem SM.n18 {M : Nat} {σ : Hp} (h : SM M σ) : aN 0 (M + 15) σ = some 4 := aN_of (h.2 (18, 15, 0, 4) (by decide)).2
theorem SM.r20 {M : Nat} {σ : Hp} (h : SM M σ) : gR 10 20 M σ = some (M + 16) := gR_at h.1 (h.2 (20, 16, 0, 160) (by decide)).1
theorem SM.n20 {M : Nat} {σ : Hp} (h : SM M σ) : aN 0 (M + 16) σ = some 160 := aN_of (h.2 (20, 16, 0, 160) (by decide)).2
theorem SM.r28 {M : Nat} {σ : Hp} (h : SM M σ) : gR 10 28 M σ = some (M + 17) := gR_at h.1 (h.2 (28, 17, 0, 30) (by decide)).1
theorem SM.n28 {M : Nat} {σ : Hp} (h : SM M σ) : aN 0 (M + 17) σ = some 30 := aN_of (h.2 (28, 17, 0, 30) (by decide)).2
theorem SM.r30 {M : Nat} {σ : Hp} (h : SM M σ) : gR 10 30 M σ = some (M + 18) := gR_at h.1 (h.2 (30, 18, 0, 30) (by decide)).1
theorem SM.n30 {M : Nat} {σ : Hp} (h : SM M σ) : aN 0 (M + 18) σ = some 30 := aN_of (h.2 (30, 18, 0, 30) (by decide)).2
theorem SM.r31 {M : Nat} {σ : Hp} (h : SM M σ) : gR 10 31 M σ = some (M + 19) := gR_at h.1 (h.2 (31, 19, 0, 8) (by decide)).1
theorem SM.n31 {M : Nat} {σ : Hp} (h : SM M σ) : aN 0 (M + 19) σ = some 8 := aN_of (h.2 (31, 19, 0, 8) (by decide)).2
theorem SM.r32 {M : Nat} {σ : Hp} (h : SM M σ) : gR 10 32 M σ = some (M + 20) := gR_at h.1 (h.2 (32, 20, 0, 8) (by decide)).1
theorem SM.n32 {M : Nat} {σ : Hp} (h : SM M σ) : aN 0 (M + 20) σ = some 8 := aN_of (h.2 (32, 20, 0, 8) (by decide)).2
theorem SM.r33 {M : Nat} {σ : Hp} (h : SM M σ) : gR 10 33 M σ = some (M + 21) := gR_at h.1 (h.2 (33, 21, 0, 8) (by decide)).1
theorem SM.n33 {M : Nat} {σ : Hp} (h : SM M σ) : aN 0 (M + 21) σ = some 8 := aN_of (h.2 (33, 21, 0, 8) (by decide)).2
theorem SM.r35 {M : Nat} {σ : Hp} (h : SM M σ) : gR 10 35 M σ = some (M + 22) := gR_at h.1 (h.2 (35, 22, 0, 4) (by decide)).1
theorem SM.n35 {M : Nat} {σ : Hp} (h : SM M σ) : aN 0 (M + 22) σ = some 4 := aN_of (h.2 (35, 22, 0, 4) (by decide)).2
theorem SM.r36 {M : Nat} {σ : Hp} (h : SM M σ) : gR 10 36 M σ = some (M + 23) := gR_at h.1 (h.2 (36, 23, 0, 48) (by decide)).1
theorem SM.n36 {M : Nat} {σ : Hp} (h : SM M σ) : aN 0 (M + 23) σ = some 48 := aN_of (h.2 (36, 23, 0, 48) (by decide)).2
theorem SM.r37 {M : Nat} {σ : Hp} (h : SM M σ) : gR 10 37 M σ = some (M + 24) := gR_at h.1 (h.2 (37, 24, 1, 48) (by decide)).1
theorem SM.n37 {M : Nat} {σ : Hp} (h : SM M σ) : aN 1 (M + 24) σ = some 48 := aN_of (h.2 (37, 24, 1, 48) (by decide)).2
theorem SM.r38 {M : Nat} {σ : Hp} (h : SM M σ) : gR 10 38 M σ = some (M + 25) := gR_at h.1 (h.2 (38, 25, 0, 100) (by decide)).1
theorem SM.n38 {M : Nat} {σ : Hp} (h : SM M σ) : aN 0 (M + 25) σ = some 100 := aN_of (h.2 (38, 25, 0, 100) (by decide)).2
/-- the kinds of the component's cells, by their place behind its own -/
def kX (o : Nat) : Kd :=
  if o = 0 then .inl 0 else if o = 1 then .inr (6, 8) else if o < 10 then .inr (1, 8) else if o = 10 then .inr (0, 24) else if o = 11 then .inr (0, 11) else
  if o = 12 then .inl 1 else if o = 13 then .inr (3, 48) else if o < 110 then (if o % 2 = 0 then .inl 3 else .inl 4) else
  if o = 110 then .inl 1 else if o = 111 then .inr (3, 48) else if o < 208 then (if o % 2 = 0 then .inl 3 else .inl 4) else
  if o = 208 then .inr (0, 8) else if o = 209 then .inr (4, 10) else if o = 210 then .inr (2, 160) else if o = 211 then .inl 5 else if o = 212 then .inr (0, 8) else
  if o = 213 then .inr (7, 10) else if o < 224 then .inr (0, 10) else if o = 224 then .inl 7 else if o < 227 then .inr (0, 8) else if o = 227 then .inl 8 else if o < 230 then .inr (0, 8) else
  if o = 230 then .inr (0, 4) else if o = 231 then .inr (0, 8) else if o = 232 then .inr (5, 4) else if o % 3 = 2 then .inl 9 else if o % 3 = 0 then .inr (0, 12) else .inr (1, 12)
def xFix : List (Nat × Nat × Nat) := [(0, 0, 1), (0, 2, 10), (0, 5, 11), (0, 7, 12), (0, 8, 110), (0, 9, 208), (0, 12, 210), (0, 14, 211), (0, 15, 212), (0, 16, 213), (0, 17, 224), (0, 18, 227), (0, 19, 230), (0, 20, 231), (0, 21, 232), (12, 0, 13), (110, 0, 111), (224, 0, 225), (224, 1, 226), (227, 0, 228), (227, 1, 229)]
/-- the component at N -/
def SX (N : Nat) (σ : Hp) : Prop := (∀ o, o < 245 → hT σ (N + o) = some (kX o)) ∧ (∀ x ∈ xFix, hR σ (N + x.1) x.2.1 = some (N + x.2.2)) ∧ (∀ x ∈ [(12, 1), (110, 1), (211, 5), (224, 5), (227, 5)], hR σ (N + x.1) x.2 = some N) ∧
  (∀ r, r < 8 → hR σ (N + 1) r = some (N + (2 + r))) ∧ (∀ r, r < 10 → hR σ (N + 213) r = some (N + (214 + r))) ∧ (∀ p, p < 4 → hR σ (N + 232) p = some (N + (233 + 3 * p)) ∧ hR σ (N + (233 + 3 * p)) 0 = some (N + (234 + 3 * p)) ∧ hR σ (N + (233 + 3 * p)) 1 = some (N + (235 + 3 * p))) ∧
  (∀ c, c < 48 → hR σ (N + 13) c = some (N + (14 + 2 * c)) ∧ hR σ (N + (14 + 2 * c)) 2 = some (N + (15 + 2 * c))) ∧ (∀ c, c < 48 → hR σ (N + 111) c = some (N + (112 + 2 * c)) ∧ hR σ (N + (112 + 2 * c)) 2 = some (N + (113 + 2 * c)))
theorem SX.si {N : Nat} {σ : Hp} (h : SX N σ) (a k : Nat) (v : Int32) : SX N (setI σ a k v) := h
theorem SX.t0 {N : Nat} {σ : Hp} (h : SX N σ) : hT σ N = some (.inl 0) := h.1 0 (by decide)
theorem SX.r0 {N : Nat} {σ : Hp} (h : SX N σ) : gR 0 0 N σ = some (N + 1) := gR_at (h.1 0 (by decide)) (h.2.1 (0, 0, 1) (by decide))
theorem SX.r2 {N : Nat} {σ : Hp} (h : SX N σ) : gR 0 2 N σ = some (N + 10) := gR_at (h.1 0 (by decide)) (h.2.1 (0, 2, 10) (by decide))
theorem SX.r5 {N : Nat} {σ : Hp} (h : SX N σ) : gR 0 5 N σ = some (N + 11) := gR_at (h.1 0 (by decide)) (h.2.1 (0, 5, 11) (by decide))
theorem SX.r7 {N : Nat} {σ : Hp} (h : SX N σ) : gR 0 7 N σ = some (N + 12) := gR_at (h.1 0 (by decide)) (h.2.1 (0, 7, 12) (by decide))
theorem SX.r8 {N : Nat} {σ : Hp} (h : SX N σ) : gR 0 8 N σ = some (N + 110) := gR_at (h.1 0 (by decide)) (h.2.1 (0, 8, 110) (by decide))
theorem SX.r9 {N : Nat} {σ : Hp} (h : SX N σ) : gR 0 9 N σ = some (N + 208) := gR_at (h.1 0 (by decide)) (h.2.1 (0, 9, 208) (by decide))
theorem SX.r12 {N : Nat} {σ : Hp} (h : SX N σ) : gR 0 12 N σ = some (N + 210) := gR_at (h.1 0 (by decide)) (h.2.1 (0, 12, 210) (by decide))
theorem SX.r14 {N : Nat} {σ : Hp} (h : SX N σ) : gR 0 14 N σ = some (N + 211) := gR_at (h.1 0 (by decide)) (h.2.1 (0, 14, 211) (by decide))
theorem SX.r15 {N : Nat} {σ : Hp} (h : SX N σ) : gR 0 15 N σ = some (N + 212) := gR_at (h.1 0 (by decide)) (h.2.1 (0, 15, 212) (by decide))
theorem SX.r16 {N : Nat} {σ : Hp} (h : SX N σ) : gR 0 16 N σ = some (N + 213) := gR_at (h.1 0 (by decide)) (h.2.1 (0, 16, 213) (by decide))
theorem SX.r17 {N : Nat} {σ : Hp} (h : SX N σ) : gR 0 17 N σ = some (N + 224) := gR_at (h.1 0 (by decide)) (h.2.1 (0, 17, 224) (by decide))
theorem SX.r18 {N : Nat} {σ : Hp} (h : SX N σ) : gR 0 18 N σ = some (N + 227) := gR_at (h.1 0 (by decide)) (h.2.1 (0, 18, 227) (by decide))
theorem SX.r19 {N : Nat} {σ : Hp} (h : SX N σ) : gR 0 19 N σ = some (N + 230) := gR_at (h.1 0 (by decide)) (h.2.1 (0, 19, 230) (by decide))
theorem SX.r20 {N : Nat} {σ : Hp} (h : SX N σ) : gR 0 20 N σ = some (N + 231) := gR_at (h.1 0 (by decide)) (h.2.1 (0, 20, 231) (by decide))
theorem SX.r21 {N : Nat} {σ : Hp} (h : SX N σ) : gR 0 21 N σ = some (N + 232) := gR_at (h.1 0 (by decide)) (h.2.1 (0, 21, 232) (by decide))
theorem SX.r12_0 {N : Nat} {σ : Hp} (h : SX N σ) : gR 1 0 (N + 12) σ = some (N + 13) := gR_at (h.1 12 (by decide)) (h.2.1 (12, 0, 13) (by decide))
theorem SX.r110_0 {N : Nat} {σ : Hp} (h : SX N σ) : gR 1 0 (N + 110) σ = some (N + 111) := gR_at (h.1 110 (by decide)) (h.2.1 (110, 0, 111) (by decide))
theorem SX.r224_0 {N : Nat} {σ : Hp} (h : SX N σ) : gR 7 0 (N + 224) σ = some (N + 225) := gR_at (h.1 224 (by decide)) (h.2.1 (224, 0, 225) (by decide))
theorem SX.r224_1 {N : Nat} {σ : Hp} (h : SX N σ) : gR 7 1 (N + 224) σ = some (N + 226) := gR_at (h.1 224 (by decide)) (h.2.1 (224, 1, 226) (by decide))
theorem SX.r227_0 {N : Nat} {σ : Hp} (h : SX N σ) : gR 8 0 (N + 227) σ = some (N + 228) := gR_at (h.1 227 (by decide)) (h.2.1 (227, 0, 228) (by decide))
theorem SX.r227_1 {N : Nat} {σ : Hp} (h : SX N σ) : gR 8 1 (N + 227) σ = some (N + 229) := gR_at (h.1 227 (by decide)) (h.2.1 (227, 1, 229) (by decide))
theorem SX.r12_1 {N : Nat} {σ : Hp} (h : SX N σ) : gR 1 1 (N + 12) σ = some N := gR_at (h.1 12 (by decide)) (h.2.2.1 (12, 1) (by decide))
theorem SX.r110_1 {N : Nat} {σ : Hp} (h : SX N σ) : gR 1 1 (N + 110) σ = some N := gR_at (h.1 110 (by decide)) (h.2.2.1 (110, 1) (by decide))
theorem SX.r211_5 {N : Nat} {σ : Hp} (h : SX N σ) : gR 5 5 (N + 211) σ = some N := gR_at (h.1 211 (by decide)) (h.2.2.1 (211, 5) (by decide))
theorem SX.r224_5 {N : Nat} {σ : Hp} (h : SX N σ) : gR 7 5 (N + 224) σ = some N := gR_at (h.1 224 (by decide)) (h.2.2.1 (224, 5) (by decide))
theorem SX.r227_5 {N : Nat} {σ : Hp} (h : SX N σ) : gR 8 5 (N + 227) σ = some N := gR_at (h.1 227 (by decide)) (h.2.2.1 (227, 5) (by decide))
theorem SX.n1 {N : Nat} {σ : Hp} (h : SX N σ) : aN 6 (N + 1) σ = some 8 := aN_of (h.1 1 (by decide))
theorem SX.n10 {N : Nat} {σ : Hp} (h : SX N σ) : aN 0 (N + 10) σ = some 24 := aN_of (h.1 10 (by decide))
theorem SX.n11 {N : Nat} {σ : Hp} (h : SX N σ) : aN 0 (N + 11) σ = some 11 := aN_of (h.1 11 (by decide))
theorem SX.n13 {N : Nat} {σ : Hp} (h : SX N σ) : aN 3 (N + 13) σ = some 48 := aN_of (h.1 13 (by decide))
theorem SX.n111 {N : Nat} {σ : Hp} (h : SX N σ) : aN 3 (N + 111) σ = some 48 := aN_of (h.1 111 (by decide))
theorem SX.n208 {N : Nat} {σ : Hp} (h : SX N σ) : aN 0 (N + 208) σ = some 8 := aN_of (h.1 208 (by decide))
theorem SX.n209 {N : Nat} {σ : Hp} (h : SX N σ) : aN 4 (N + 209) σ = some 10 := aN_of (h.1 209 (by decide))
theorem SX.n210 {N : Nat} {σ : Hp} (h : SX N σ) : aN 2 (N + 210) σ = some 160 := aN_of (h.1 210 (by decide))
theorem SX.n212 {N : Nat} {σ : Hp} (h : SX N σ) : aN 0 (N + 212) σ = some 8 := aN_of (h.1 212 (by decide))
theorem SX.n213 {N : Nat} {σ : Hp} (h : SX N σ) : aN 7 (N + 213) σ = some 10 := aN_of (h.1 213 (by decide))
theorem SX.n225 {N : Nat} {σ : Hp} (h : SX N σ) : aN 0 (N + 225) σ = some 8 := aN_of (h.1 225 (by decide))
theorem SX.n226 {N : Nat} {σ : Hp} (h : SX N σ) : aN 0 (N + 226) σ = some 8 := aN_of (h.1 226 (by decide))
theorem SX.n228 {N : Nat} {σ : Hp} (h : SX N σ) : aN 0 (N + 228) σ = some 8 := aN_of (h.1 228 (by decide))
theorem SX.n229 {N : Nat} {σ : Hp} (h : SX N σ) : aN 0 (N + 229) σ = some 8 := aN_of (h.1 229 (by decide))
theorem SX.n230 {N : Nat} {σ : Hp} (h : SX N σ) : aN 0 (N + 230) σ = some 4 := aN_of (h.1 230 (by decide))
theorem SX.n231 {N : Nat} {σ : Hp} (h : SX N σ) : aN 0 (N + 231) σ = some 8 := aN_of (h.1 231 (by decide))
theorem SX.n232 {N : Nat} {σ : Hp} (h : SX N σ) : aN 5 (N + 232) σ = some 4 := aN_of (h.1 232 (by decide))
theorem SX.t12 {N : Nat} {σ : Hp} (h : SX N σ) : hT σ (N + 12) = some (.inl 1) := h.1 12 (by decide)
theorem SX.t110 {N : Nat} {σ : Hp} (h : SX N σ) : hT σ (N + 110) = some (.inl 1) := h.1 110 (by decide)
theorem SX.t211 {N : Nat} {σ : Hp} (h : SX N σ) : hT σ (N + 211) = some (.inl 5) := h.1 211 (by decide)
theorem SX.t224 {N : Nat} {σ : Hp} (h : SX N σ) : hT σ (N + 224) = some (.inl 7) := h.1 224 (by decide)
theorem SX.t227 {N : Nat} {σ : Hp} (h : SX N σ) : hT σ (N + 227) = some (.inl 8) := h.1 227 (by decide)
theorem SX.jrow {N : Nat} {σ : Hp} (h : SX N σ) {r : Nat} (hr : r < 8) : aR 6 (N + 1) (nI r) σ = some (N + (2 + r)) := aR_at h.n1 hr (by decide) (h.2.2.2.1 r hr)
theorem SX.njrow {N : Nat} {σ : Hp} (h : SX N σ) {r : Nat} (hr : r < 8) : aN 1 (N + (2 + r)) σ = some 8 := aN_of ((h.1 (2 + r) (by omega)).trans (by unfold kX; rw [if_neg (by omega), if_neg (by omega), if_pos (by omega)]))
theorem SX.arow {N : Nat} {σ : Hp} (h : SX N σ) {r : Nat} (hr : r < 10) : aR 7 (N + 213) (nI r) σ = some (N + (214 + r)) := aR_at h.n213 hr (by decide) (h.2.2.2.2.1 r hr)
theorem SX.narow {N : Nat} {σ : Hp} (h : SX N σ) {r : Nat} (hr : r < 10) : aN 0 (N + (214 + r)) σ = some 10 := aN_of ((h.1 (214 + r) (by omega)).trans (by
  unfold kX
  simp (disch := omega) only [if_neg, if_pos]))
theorem SX.pup {N : Nat} {σ : Hp} (h : SX N σ) {p : Nat} (hp : p < 4) : aR 5 (N + 232) (nI p) σ = some (N + (233 + 3 * p)) := aR_at h.n232 hp (by decide) (h.2.2.2.2.2.1 p hp).1
theorem SX.tpup {N : Nat} {σ : Hp} (h : SX N σ) {p : Nat} (hp : p < 4) : hT σ (N + (233 + 3 * p)) = some (.inl 9) := (h.1 (233 + 3 * p) (by omega)).trans (by
  unfold kX
  simp (disch := omega) only [if_neg, if_pos])
theorem SX.pdays {N : Nat} {σ : Hp} (h : SX N σ) {p : Nat} (hp : p < 4) : gR 9 0 (N + (233 + 3 * p)) σ = some (N + (234 + 3 * p)) := gR_at (h.tpup hp) (h.2.2.2.2.2.1 p hp).2.1
theorem SX.prights {N : Nat} {σ : Hp} (h : SX N σ) {p : Nat} (hp : p < 4) : gR 9 1 (N + (233 + 3 * p)) σ = some (N + (235 + 3 * p)) := gR_at (h.tpup hp) (h.2.2.2.2.2.1 p hp).2.2
theorem SX.npdays {N : Nat} {σ : Hp} (h : SX N σ) {p : Nat} (hp : p < 4) : aN 0 (N + (234 + 3 * p)) σ = some 12 := aN_of ((h.1 (234 + 3 * p) (by omega)).trans (by
  unfold kX
  simp (disch := omega) only [if_neg, if_pos]))
theorem SX.nprights {N : Nat} {σ : Hp} (h : SX N σ) {p : Nat} (hp : p < 4) : aN 1 (N + (235 + 3 * p)) σ = some 12 := aN_of ((h.1 (235 + 3 * p) (by omega)).trans (by
  unfold kX
  simp (disch := omega) only [if_neg, if_pos]))
theorem SX.c {N : Nat} {σ : Hp} (h : SX N σ) {c : Nat} (hc : c < 48) : aR 3 (N + 13) (nI c) σ = some (N + (14 + 2 * c)) := aR_at h.n13 hc (by decide) (h.2.2.2.2.2.2.1 c hc).1
theorem SX.tc {N : Nat} {σ : Hp} (h : SX N σ) {c : Nat} (hc : c < 48) : hT σ (N + (14 + 2 * c)) = some (.inl 3) := (h.1 (14 + 2 * c) (by omega)).trans (by
  unfold kX
  simp (disch := omega) only [if_neg, if_pos])
theorem SX.ghc {N : Nat} {σ : Hp} (h : SX N σ) {c : Nat} (hc : c < 48) : gR 3 2 (N + (14 + 2 * c)) σ = some (N + (15 + 2 * c)) := gR_at (h.tc hc) (h.2.2.2.2.2.2.1 c hc).2
theorem SX.tgc {N : Nat} {σ : Hp} (h : SX N σ) {c : Nat} (hc : c < 48) : hT σ (N + (15 + 2 * c)) = some (.inl 4) := (h.1 (15 + 2 * c) (by omega)).trans (by
  unfold kX
  simp (disch := omega) only [if_neg, if_pos])
theorem SX.d {N : Nat} {σ : Hp} (h : SX N σ) {c : Nat} (hc : c < 48) : aR 3 (N + 111) (nI c) σ = some (N + (112 + 2 * c)) := aR_at h.n111 hc (by decide) (h.2.2.2.2.2.2.2 c hc).1
theorem SX.td {N : Nat} {σ : Hp} (h : SX N σ) {c : Nat} (hc : c < 48) : hT σ (N + (112 + 2 * c)) = some (.inl 3) := (h.1 (112 + 2 * c) (by omega)).trans (by
  unfold kX
  simp (disch := omega) only [if_neg, if_pos])
theorem SX.ghd {N : Nat} {σ : Hp} (h : SX N σ) {c : Nat} (hc : c < 48) : gR 3 2 (N + (112 + 2 * c)) σ = some (N + (113 + 2 * c)) := gR_at (h.td hc) (h.2.2.2.2.2.2.2 c hc).2
theorem SX.tgd {N : Nat} {σ : Hp} (h : SX N σ) {c : Nat} (hc : c < 48) : hT σ (N + (113 + 2 * c)) = some (.inl 4) := (h.1 (113 + 2 * c) (by omega)).trans (by
  unfold kX
  simp (disch := omega) only [if_neg, if_pos])
end
section
set_option maxRecDepth 100000
/-! pure law 3: the abstract state, and how the two objects hold it.
S.1 k: the twin's scalar field k (0 day, 1 doors, 6 tell, 7 gain, 19 bytes, 29 lines); S.2 k i: the twin's array field k at i (9 top, 11 ghost, 13 putOn, 14 walkedOn: 0 is none, n + 1 is n) -/
abbrev St : Type := (Nat → Nat) × (Nat → Nat → Nat)
def w1 (S : St) (k v : Nat) : St := (fun j => if j = k then v else S.1 j, S.2)
def w2 (S : St) (k i v : Nat) : St := (S.1, u2 S.2 k i v)
theorem w1_1 (S : St) (k v j : Nat) : (w1 S k v).1 j = if j = k then v else S.1 j := rfl
theorem w1_2 (S : St) (k v : Nat) : (w1 S k v).2 = S.2 := rfl
theorem w2_1 (S : St) (k i v : Nat) : (w2 S k i v).1 = S.1 := rfl
theorem w2_2 (S : St) (k i v f j : Nat) : (w2 S k i v).2 f j = if f = k ∧ j = i then v else S.2 f j := rfl
def enc (k n : Nat) : Int32 := if k = 9 ∨ k = 11 ∨ k = 13 ∨ k = 14 then e1 n else nI n
theorem enc9 (n : Nat) : enc 9 n = e1 n := rfl
theorem enc11 (n : Nat) : enc 11 n = e1 n := rfl
theorem enc13 (n : Nat) : enc 13 n = e1 n := rfl
theorem enc14 (n : Nat) : enc 14 n = e1 n := rfl
def pTab : List (Nat × Nat × Nat) := [(2, 1, 14), (3, 2, 14), (5, 4, 24), (8, 5, 11), (9, 6, 48), (10, 7, 48), (11, 8, 48), (12, 9, 48), (13, 10, 48), (14, 11, 8), (20, 16, 160), (30, 18, 30), (35, 22, 4), (36, 23, 48), (37, 24, 48), (38, 25, 100)]
def pSc : List Nat := [0, 1, 6, 7, 19, 29]
def RepM (M : Nat) (σ : Hp) (S : St) : Prop := SM M σ ∧ M + 26 ≤ hZ σ ∧ (∀ k ∈ pSc, hI σ M k = nI (S.1 k)) ∧ ∀ x ∈ pTab, ∀ i, i < x.2.2 → hI σ (M + x.2.1) i = enc x.1 (S.2 x.1 i)
theorem pTab_inj : ∀ x ∈ pTab, ∀ y ∈ pTab, x.2.1 = y.2.1 → x = y := by decide
theorem pTab_inj1 : ∀ x ∈ pTab, ∀ y ∈ pTab, x.1 = y.1 → x = y := by decide
theorem pTab_pos : ∀ x ∈ pTab, 0 < x.2.1 := by decide
theorem RepM.set {M : Nat} {σ : Hp} {S : St} (h : RepM M σ S) (x : Nat × Nat × Nat) (hx : x ∈ pTab) (i v : Nat) : RepM M (setI σ (M + x.2.1) i (enc x.1 v)) (w2 S x.1 i v) := by
  obtain ⟨h1, h2, h3, h4⟩ := h
  refine ⟨h1, h2, fun k hk => ?_, fun y hy j hj => ?_⟩
  · rw [hI_ne _ _ (fun q => by have := pTab_pos x hx; omega)]
    exact h3 k hk
  · rw [hI_setI, w2_2]
    by_cases e : M + y.2.1 = M + x.2.1 ∧ j = i
    · have : y = x := pTab_inj y hy x hx (by omega)
      subst this
      rw [if_pos e, if_pos ⟨rfl, e.2⟩]
    · rw [if_neg e, if_neg (fun q => e ⟨by rw [pTab_inj1 y hy x hx q.1], q.2⟩)]
      exact h4 y hy j hj
theorem RepM.setS {M : Nat} {σ : Hp} {S : St} (h : RepM M σ S) (k v : Nat) : RepM M (setI σ M k (nI v)) (w1 S k v) := by
  obtain ⟨h1, h2, h3, h4⟩ := h
  refine ⟨h1, h2, fun j hj => ?_, fun y hy j hj => ?_⟩
  · rw [hI_setI, w1_1]
    by_cases e : j = k
    · rw [if_pos ⟨rfl, e⟩, if_pos e]
    · rw [if_neg (fun q => e q.2), if_neg e]
      exact h3 j hj
  · rw [hI_ne _ _ (fun q => by have := pTab_pos y hy; omega), w1_2]
    exact h4 y hy j hj
/-- scratch: an array of the twin's that isn't followed -/
theorem RepM.scr {M : Nat} {σ : Hp} {S : St} (h : RepM M σ S) (o : Nat) (ho : 0 < o ∧ ∀ x ∈ pTab, x.2.1 ≠ o) (i : Nat) (v : Int32) : RepM M (setI σ (M + o) i v) S := by
  obtain ⟨h1, h2, h3, h4⟩ := h
  refine ⟨h1, h2, fun k hk => ?_, fun y hy j hj => ?_⟩
  · rw [hI_ne _ _ (fun q => by have := ho.1; omega)]
    exact h3 k hk
  · rw [hI_ne _ _ (fun q => ho.2 y hy (by omega))]
    exact h4 y hy j hj
theorem RepM.scrS {M : Nat} {σ : Hp} {S : St} (h : RepM M σ S) (k : Nat) (hk : k ∉ pSc) (v : Int32) : RepM M (setI σ M k v) S := by
  obtain ⟨h1, h2, h3, h4⟩ := h
  refine ⟨h1, h2, fun j hj => ?_, fun y hy j hj => ?_⟩
  · have e : ¬ (M = M ∧ j = k) := fun q => hk (q.2 ▸ hj)
    rw [hI_ne _ _ e]
    exact h3 j hj
  · rw [hI_ne _ _ (fun q => by have := pTab_pos y hy; omega)]
    exact h4 y hy j hj
theorem RepM.scrL {M : Nat} {σ : Hp} {S : St} (h : RepM M σ S) (a k : Nat) (v : Int64) : RepM M (setL σ a k v) S := h
/-! what is left alone -/
def SameAt (σ σ' : Hp) (a : Nat) : Prop := hT σ' a = hT σ a ∧ (∀ k, hI σ' a k = hI σ a k) ∧ (∀ k, hR σ' a k = hR σ a k) ∧ ∀ k, hL σ' a k = hL σ a k
theorem SameAt.rf {σ : Hp} {a : Nat} : SameAt σ σ a := ⟨rfl, fun _ => rfl, fun _ => rfl, fun _ => rfl⟩
theorem SameAt.tr {σ σ1 σ2 : Hp} {a : Nat} (h : SameAt σ σ1 a) (h' : SameAt σ1 σ2 a) : SameAt σ σ2 a := ⟨h'.1.trans h.1, fun k => (h'.2.1 k).trans (h.2.1 k), fun k => (h'.2.2.1 k).trans (h.2.2.1 k), fun k => (h'.2.2.2 k).trans (h.2.2.2 k)⟩
theorem SameAt.si {σ : Hp} {a b k : Nat} {v : Int32} (h : a ≠ b) : SameAt σ (setI σ b k v) a := ⟨rfl, fun j => hI_ne _ _ (fun q => h q.1), fun _ => rfl, fun _ => rfl⟩
theorem SameAt.sl {σ : Hp} {a b k : Nat} {v : Int64} (h : a ≠ b) : SameAt σ (setL σ b k v) a := ⟨rfl, fun _ => rfl, fun _ => rfl, fun j => if_neg (fun q => h q.1)⟩
theorem SameAt.sr {σ : Hp} {a b k : Nat} {v : Option Nat} (h : a ≠ b) : SameAt σ (setR σ b k v) a := ⟨rfl, fun _ => rfl, fun j => if_neg (fun q => h q.1), fun _ => rfl⟩
def FrM (M : Nat) (σ σ' : Hp) : Prop := (∀ a, a < M ∨ M + 26 ≤ a → SameAt σ σ' a) ∧ hZ σ' = hZ σ
theorem FrM.rf {M : Nat} {σ : Hp} : FrM M σ σ := ⟨fun _ _ => SameAt.rf, rfl⟩
theorem FrM.tr {M : Nat} {σ σ1 σ2 : Hp} (h : FrM M σ σ1) (h' : FrM M σ1 σ2) : FrM M σ σ2 := ⟨fun a ha => (h.1 a ha).tr (h'.1 a ha), h'.2.trans h.2⟩
theorem FrM.si {M : Nat} {σ σ1 : Hp} (h : FrM M σ σ1) {o k : Nat} {v : Int32} (ho : o < 26) : FrM M σ (setI σ1 (M + o) k v) := h.tr ⟨fun a ha => SameAt.si (by omega), rfl⟩
theorem FrM.s0 {M : Nat} {σ σ1 : Hp} (h : FrM M σ σ1) {k : Nat} {v : Int32} : FrM M σ (setI σ1 M k v) := h.tr ⟨fun a ha => SameAt.si (by omega), rfl⟩
theorem FrM.sl {M : Nat} {σ σ1 : Hp} (h : FrM M σ σ1) {k : Nat} {v : Int64} : FrM M σ (setL σ1 M k v) := h.tr ⟨fun a ha => SameAt.sl (by omega), rfl⟩
def FrX (N : Nat) (σ σ' : Hp) : Prop := (∀ a, a < N ∨ (N + 245 ≤ a ∧ a < hZ σ) → SameAt σ σ' a) ∧ hZ σ ≤ hZ σ'
theorem FrX.rf {N : Nat} {σ : Hp} : FrX N σ σ := ⟨fun _ _ => SameAt.rf, Nat.le_refl _⟩
theorem FrX.tr {N : Nat} {σ σ1 σ2 : Hp} (h : FrX N σ σ1) (h' : FrX N σ1 σ2) : FrX N σ σ2 := ⟨fun a ha => (h.1 a ha).tr (h'.1 a (by have := h.2; omega)), Nat.le_trans h.2 h'.2⟩
theorem FrX.si {N : Nat} {σ σ1 : Hp} (h : FrX N σ σ1) {o k : Nat} {v : Int32} (ho : o < 245) : FrX N σ (setI σ1 (N + o) k v) := h.tr ⟨fun a ha => SameAt.si (by omega), Nat.le_refl _⟩
theorem FrX.s0 {N : Nat} {σ σ1 : Hp} (h : FrX N σ σ1) {k : Nat} {v : Int32} : FrX N σ (setI σ1 N k v) := h.tr ⟨fun a ha => SameAt.si (by omega), Nat.le_refl _⟩
theorem RepM.fr {N : Nat} {σ σ' : Hp} {S : St} (h : RepM (N + 245) σ S) (hf : FrX N σ σ') : RepM (N + 245) σ' S := by
  obtain ⟨h1, h2, h3, h4⟩ := h
  have hs : ∀ o, o < 26 → SameAt σ σ' (N + 245 + o) := fun o ho => hf.1 _ (by omega)
  have hs0 : SameAt σ σ' (N + 245) := hf.1 _ (by omega)
  have hlt : ∀ x ∈ pTab, x.2.1 < 26 := by decide
  have hlm : ∀ x ∈ mTab, x.2.1 < 26 := by decide
  refine ⟨⟨?_, fun x hx => ⟨?_, ?_⟩⟩, by have := hf.2; omega, fun k hk => ?_, fun x hx i hi => ?_⟩
  · rw [hs0.1]; exact h1.1
  · rw [hs0.2.2.1]; exact (h1.2 x hx).1
  · rw [(hs _ (hlm x hx)).1]; exact (h1.2 x hx).2
  · rw [hs0.2.1]; exact h3 k hk
  · rw [(hs _ (hlt x hx)).2.1]; exact h4 x hx i hi
/-! the component -/
def jn (S : St) (a b : Nat) : Prop := ∃ k, k < S.1 1 ∧ ((S.2 2 k = a ∧ S.2 3 k = b) ∨ (S.2 2 k = b ∧ S.2 3 k = a))
/-- a line of the rules: sort, room, number -/
def LnAt (σ : Hp) (a s r n : Nat) : Prop := (s = 0 ∧ hT σ a = some (.inl 13) ∧ hI σ a 0 = nI r ∧ hI σ a 1 = nI n) ∨ (s = 1 ∧ hT σ a = some (.inl 14) ∧ hI σ a 0 = nI n) ∨ (s = 2 ∧ hT σ a = some (.inl 15) ∧ hI σ a 0 = nI n) ∨ (s = 3 ∧ hT σ a = some (.inl 16) ∧ hI σ a 0 = nI r ∧ hI σ a 1 = nI n)
def LinesAt (N : Nat) (σ : Hp) (L n : Nat) (f : Nat → Nat) : Prop := (L = N + 209 ∨ (N + 271 ≤ L ∧ L < hZ σ)) ∧ hT σ L = some (.inr (4, 10)) ∧ ∀ i, i < n → ∃ a, N + 271 ≤ a ∧ a < hZ σ ∧ hR σ L i = some a ∧ LnAt σ a (f (3 * i)) (f (3 * i + 1)) (f (3 * i + 2))
def xSc : List (Nat × Nat) := [(1, 1), (3, 6), (4, 7), (6, 0), (11, 29), (13, 19)]
def xAr : List (Nat × Nat × Nat) := [(10, 5, 24), (11, 8, 11), (208, 14, 8)]
def RA (N : Nat) (σ : Hp) (f : Nat → Nat) : Prop := ∀ x ∈ xSc, hI σ N x.1 = nI (f x.2)
def RB (N : Nat) (σ : Hp) (f : Nat → Nat → Nat) : Prop := ∀ x ∈ xAr, ∀ i, i < x.2.2 → hI σ (N + x.1) i = enc x.2.1 (f x.2.1 i)
def RC (N : Nat) (σ : Hp) (P : Nat → Nat → Prop) : Prop := ∀ a b, a < 8 → b < 8 → (P a b → hI σ (N + (2 + a)) b = 1) ∧ (¬ P a b → hI σ (N + (2 + a)) b = 0)
def RD (N : Nat) (σ : Hp) (f : Nat → Nat → Nat) : Prop := ∀ c, c < 48 → hI σ (N + (14 + 2 * c)) 0 = e1 (f 9 c) ∧ hI σ (N + (14 + 2 * c)) 1 = nI (f 10 c) ∧ hI σ (N + (14 + 2 * c)) 3 = e1 (f 13 c) ∧ hI σ (N + (15 + 2 * c)) 0 = e1 (f 11 c) ∧ hI σ (N + (15 + 2 * c)) 1 = nI (f 12 c)
def RE (N : Nat) (σ : Hp) (t : Nat → Nat) : Prop := ∀ i, i < 160 → hI σ (N + 210) i = (nI (t i)).toInt8.toInt32
def RF (N : Nat) (σ : Hp) (f : Nat → Nat → Nat) : Prop := ∀ p, p < 4 → hI σ (N + (233 + 3 * p)) 2 = nI (f 35 p) ∧ ∀ k, k < 12 → hI σ (N + (234 + 3 * p)) k = nI (f 36 (12 * p + k)) ∧ hI σ (N + (235 + 3 * p)) k = nI (f 37 (12 * p + k))
def RG (N : Nat) (σ : Hp) (t : Nat → Nat) : Prop := ∀ a b, a < 10 → b < 10 → hI σ (N + (214 + a)) b = nI (t (10 * a + b))
def RH (N : Nat) (σ : Hp) (n : Nat) (t : Nat → Nat) : Prop := ∃ L, hR σ N 10 = some L ∧ LinesAt N σ L n t
def RepX (N : Nat) (σ : Hp) (S : St) : Prop := SX N σ ∧ N + 271 ≤ hZ σ ∧ RA N σ S.1 ∧ RB N σ S.2 ∧ RC N σ (jn S) ∧ RD N σ S.2 ∧ RE N σ (S.2 20) ∧ RF N σ S.2 ∧ RG N σ (S.2 38) ∧ RH N σ (S.1 29) (S.2 30)
section RW
variable {N : Nat} {σ : Hp} {o i : Nat} {v : Int32}
theorem RA.ne {f : Nat → Nat} (h : RA N σ f) (ho : 0 < o) : RA N (setI σ (N + o) i v) f := fun x hx => by
  rw [hI_ne _ _ (by omega)]
  exact h x hx
theorem RA.ne0 {f : Nat → Nat} (h : RA N σ f) (hi : ∀ x ∈ xSc, x.1 ≠ i) : RA N (setI σ N i v) f := fun x hx => by
  rw [hI_ne _ _ (fun q => hi x hx q.2)]
  exact h x hx
theorem RA.set {f : Nat → Nat} (h : RA N σ f) (x : Nat × Nat) (hx : x ∈ xSc) (n : Nat) : RA N (setI σ N x.1 (nI n)) (fun j => if j = x.2 then n else f j) := fun y hy => by
  have inj1 : ∀ x ∈ xSc, ∀ y ∈ xSc, x.1 = y.1 → x = y := by decide
  have inj2 : ∀ x ∈ xSc, ∀ y ∈ xSc, x.2 = y.2 → x = y := by decide
  rw [hI_setI]
  by_cases e : y.1 = x.1
  · have := inj1 y hy x hx e
    subst this
    rw [if_pos ⟨rfl, rfl⟩]
    show nI n = nI (if y.2 = y.2 then n else f y.2)
    rw [if_pos rfl]
  · rw [if_neg (fun q => e q.2)]
    show _ = nI (if y.2 = x.2 then n else f y.2)
    rw [if_neg (fun q => e (by rw [inj2 y hy x hx q]))]
    exact h y hy
theorem RB.ne {f : Nat → Nat → Nat} (h : RB N σ f) (ho : ∀ x ∈ xAr, x.1 ≠ o) : RB N (setI σ (N + o) i v) f := fun x hx j hj => by
  rw [hI_ne _ _ (fun q => ho x hx (by omega))]
  exact h x hx j hj
theorem RB.ne0 {f : Nat → Nat → Nat} (h : RB N σ f) : RB N (setI σ N i v) f := h.ne (o := 0) (by decide)
theorem RB.set {f : Nat → Nat → Nat} (h : RB N σ f) (x : Nat × Nat × Nat) (hx : x ∈ xAr) (n : Nat) : RB N (setI σ (N + x.1) i (enc x.2.1 n)) (u2 f x.2.1 i n) := fun y hy j hj => by
  have inj1 : ∀ x ∈ xAr, ∀ y ∈ xAr, x.1 = y.1 → x = y := by decide
  have inj2 : ∀ x ∈ xAr, ∀ y ∈ xAr, x.2.1 = y.2.1 → x = y := by decide
  rw [hI_setI]
  show _ = enc y.2.1 (if y.2.1 = x.2.1 ∧ j = i then n else f y.2.1 j)
  by_cases e : y.1 = x.1 ∧ j = i
  · have := inj1 y hy x hx e.1
    subst this
    rw [if_pos ⟨rfl, e.2⟩, if_pos ⟨rfl, e.2⟩]
  · rw [if_neg (fun q => e ⟨by omega, q.2⟩), if_neg (fun q => e ⟨by rw [inj2 y hy x hx q.1], q.2⟩)]
    exact h y hy j hj
theorem RC.ne {P : Nat → Nat → Prop} (h : RC N σ P) (ho : o < 2 ∨ 10 ≤ o) : RC N (setI σ (N + o) i v) P := fun a b ha hb => by
  rw [hI_ne _ _ (by omega)]
  exact h a b ha hb
theorem RC.ne0 {P : Nat → Nat → Prop} (h : RC N σ P) : RC N (setI σ N i v) P := h.ne (o := 0) (by decide)
theorem RD.ne {f : Nat → Nat → Nat} (h : RD N σ f) (ho : o < 14 ∨ 110 ≤ o) : RD N (setI σ (N + o) i v) f := fun c hc => by
  rw [hI_ne _ _ (by omega), hI_ne _ _ (by omega), hI_ne _ _ (by omega), hI_ne _ _ (by omega), hI_ne _ _ (by omega)]
  exact h c hc
theorem RD.ne0 {f : Nat → Nat → Nat} (h : RD N σ f) : RD N (setI σ N i v) f := h.ne (o := 0) (by decide)
theorem RE.ne {t : Nat → Nat} (h : RE N σ t) (ho : o ≠ 210) : RE N (setI σ (N + o) i v) t := fun j hj => by
  rw [hI_ne _ _ (by omega)]
  exact h j hj
theorem RE.ne0 {t : Nat → Nat} (h : RE N σ t) : RE N (setI σ N i v) t := h.ne (o := 0) (by decide)
theorem RF.ne {f : Nat → Nat → Nat} (h : RF N σ f) (ho : o < 233 ∨ 245 ≤ o) : RF N (setI σ (N + o) i v) f := fun p hp => by
  rw [hI_ne _ _ (by omega)]
  refine ⟨(h p hp).1, fun k hk => ?_⟩
  rw [hI_ne _ _ (by omega), hI_ne _ _ (by omega)]
  exact (h p hp).2 k hk
theorem RF.ne0 {f : Nat → Nat → Nat} (h : RF N σ f) : RF N (setI σ N i v) f := h.ne (o := 0) (by decide)
theorem RG.ne {t : Nat → Nat} (h : RG N σ t) (ho : o < 214 ∨ 224 ≤ o) : RG N (setI σ (N + o) i v) t := fun a b ha hb => by
  rw [hI_ne _ _ (by omega)]
  exact h a b ha hb
theorem RG.ne0 {t : Nat → Nat} (h : RG N σ t) : RG N (setI σ N i v) t := h.ne (o := 0) (by decide)
theorem RH.ne {n : Nat} {t : Nat → Nat} (h : RH N σ n t) (ho : o < 245) : RH N (setI σ (N + o) i v) n t := by
  obtain ⟨L, h1, h2, h3, h4⟩ := h
  refine ⟨L, h1, h2, h3, fun j hj => ?_⟩
  obtain ⟨a, g1, g2, g3, g4⟩ := h4 j hj
  refine ⟨a, g1, g2, g3, ?_⟩
  unfold LnAt
  rw [hI_ne _ _ (by omega), hI_ne _ _ (by omega)]
  exact g4
theorem RH.ne0 {n : Nat} {t : Nat → Nat} (h : RH N σ n t) : RH N (setI σ N i v) n t := h.ne (o := 0) (by decide)
end RW
theorem w2_ne {S : St} {k i v q j : Nat} (h : q ≠ k) : (w2 S k i v).2 q j = S.2 q j := if_neg (fun e => h e.1)
theorem w2_nf {S : St} {k i v q : Nat} (h : q ≠ k) : (w2 S k i v).2 q = S.2 q := funext fun _ => w2_ne h
theorem w2_eq {S : St} {k i v : Nat} : (w2 S k i v).2 k i = v := if_pos ⟨rfl, rfl⟩
theorem w1_ne {S : St} {k v q : Nat} (h : q ≠ k) : (w1 S k v).1 q = S.1 q := if_neg h
theorem w1_eq {S : St} {k v : Nat} : (w1 S k v).1 k = v := if_pos rfl
theorem jn_w2 {S : St} {k i v : Nat} (h : k ≠ 2 ∧ k ≠ 3) : jn (w2 S k i v) = jn S := by
  funext a b
  unfold jn
  rw [w2_1, w2_nf (Ne.symm h.1), w2_nf (Ne.symm h.2)]
theorem jn_w1 {S : St} {k v : Nat} (h : k ≠ 1) : jn (w1 S k v) = jn S := by
  funext a b
  unfold jn
  rw [w1_ne (Ne.symm h), w1_2]
theorem RB.cg {N : Nat} {σ : Hp} {f f' : Nat → Nat → Nat} (h : RB N σ f) (e : ∀ x ∈ xAr, ∀ i, f' x.2.1 i = f x.2.1 i) : RB N σ f' := fun x hx i hi => by
  rw [e x hx i]
  exact h x hx i hi
theorem RD.cg {N : Nat} {σ : Hp} {f f' : Nat → Nat → Nat} (h : RD N σ f) (e : ∀ k, 9 ≤ k → k ≤ 13 → ∀ i, f' k i = f k i) : RD N σ f' := fun c hc => by
  rw [e 9 (by decide) (by decide), e 10 (by decide) (by decide), e 11 (by decide) (by decide), e 12 (by decide) (by decide), e 13 (by decide) (by decide)]
  exact h c hc
theorem RF.cg {N : Nat} {σ : Hp} {f f' : Nat → Nat → Nat} (h : RF N σ f) (e : ∀ k, 35 ≤ k → k ≤ 37 → ∀ i, f' k i = f k i) : RF N σ f' := fun p hp => by
  rw [e 35 (by decide) (by decide)]
  refine ⟨(h p hp).1, fun k hk => ?_⟩
  rw [e 36 (by decide) (by decide), e 37 (by decide) (by decide)]
  exact (h p hp).2 k hk
/-- a write into one of the component's plain arrays -/
theorem RepX.wAr {N : Nat} {σ : Hp} {S : St} (h : RepX N σ S) (x : Nat × Nat × Nat) (hx : x ∈ xAr) (i v : Nat) : RepX N (setI σ (N + x.1) i (enc x.2.1 v)) (w2 S x.2.1 i v) := by
  obtain ⟨h1, h2, hA, hB, hC, hD, hE, hF, hG, hH⟩ := h
  have hf : ∀ x ∈ xAr, 10 ≤ x.1 ∧ (x.1 < 14 ∨ 110 ≤ x.1) ∧ x.1 ≠ 210 ∧ x.1 < 214 ∧ (x.2.1 = 5 ∨ x.2.1 = 8 ∨ x.2.1 = 14) := by decide
  obtain ⟨g1, g2, g3, g4, g5⟩ := hf x hx
  refine ⟨h1, h2, hA.ne (by omega), hB.set x hx v, ?_, (hD.ne g2).cg (fun k _ _ i => w2_ne (by omega)), ?_, (hF.ne (by omega)).cg (fun k _ _ i => w2_ne (by omega)), ?_, ?_⟩
  · rw [jn_w2 (by omega)]; exact hC.ne (by omega)
  · rw [w2_nf (by omega)]; exact hE.ne g3
  · rw [w2_nf (by omega)]; exact hG.ne (by omega)
  · rw [w2_1, w2_nf (by omega)]; exact hH.ne (by omega)
/-- a write into a scalar field of the component: tell, gain, day, length -/
theorem RepX.wSc {N : Nat} {σ : Hp} {S : St} (h : RepX N σ S) (x : Nat × Nat) (hx : x ∈ xSc) (hn : x.2 ≠ 1 ∧ x.2 ≠ 29) (v : Nat) : RepX N (setI σ N x.1 (nI v)) (w1 S x.2 v) := by
  obtain ⟨h1, h2, hA, hB, hC, hD, hE, hF, hG, hH⟩ := h
  refine ⟨h1, h2, hA.set x hx v, hB.ne0, ?_, hD.ne0, hE.ne0, hF.ne0, hG.ne0, ?_⟩
  · rw [jn_w1 hn.1]; exact hC.ne0
  · rw [w1_ne (Ne.symm hn.2), w1_2]; exact hH.ne0
/-- scratch: a cell of the component's that isn't followed -/
theorem RepX.scr {N : Nat} {σ : Hp} {S : St} (h : RepX N σ S) (o : Nat) (ho : o = 12 ∨ (110 ≤ o ∧ o < 208) ∨ o = 209 ∨ (211 ≤ o ∧ o < 214) ∨ (224 ≤ o ∧ o < 233)) (i : Nat) (v : Int32) : RepX N (setI σ (N + o) i v) S := by
  obtain ⟨h1, h2, hA, hB, hC, hD, hE, hF, hG, hH⟩ := h
  have hf : ∀ x ∈ xAr, x.1 = 10 ∨ x.1 = 11 ∨ x.1 = 208 := by decide
  exact ⟨h1, h2, hA.ne (by omega), hB.ne (fun x hx => by have := hf x hx; omega), hC.ne (by omega), hD.ne (by omega), hE.ne (by omega), hF.ne (by omega), hG.ne (by omega), hH.ne (by omega)⟩
/-- the component doesn't see what the twin does -/
theorem RepX.fr {N : Nat} {σ σ' : Hp} {S : St} (h : RepX N σ S) (hf : FrM (N + 245) σ σ') : RepX N σ' S := by
  obtain ⟨h1, h2, hA, hB, hC, hD, hE, hF, hG, L, l1, l2, l3, l4⟩ := h
  have hs : ∀ o, o < 245 → SameAt σ σ' (N + o) := fun o ho => hf.1 _ (by omega)
  have hs0 : SameAt σ σ' N := hf.1 _ (by omega)
  have hi : ∀ o k, o < 245 → hI σ' (N + o) k = hI σ (N + o) k := fun o k ho => (hs o ho).2.1 k
  have hx1 : ∀ x ∈ xFix, x.1 < 245 := by decide
  have hx2 : ∀ x ∈ [(12, 1), (110, 1), (211, 5), (224, 5), (227, 5)], x.1 < 245 := by decide
  have hx3 : ∀ x ∈ xAr, x.1 < 245 := by decide
  have hsL : SameAt σ σ' L := by rcases l2 with q | q; exact q ▸ hs 209 (by decide); exact hf.1 _ (by omega)
  refine ⟨⟨fun o ho => by rw [(hs o ho).1]; exact h1.1 o ho, fun x hx => by rw [(hs _ (hx1 x hx)).2.2.1]; exact h1.2.1 x hx, fun x hx => by rw [(hs _ (hx2 x hx)).2.2.1]; exact h1.2.2.1 x hx, fun r hr => by rw [(hs 1 (by decide)).2.2.1]; exact h1.2.2.2.1 r hr, fun r hr => by rw [(hs 213 (by decide)).2.2.1]; exact h1.2.2.2.2.1 r hr,
      fun p hp => ⟨by rw [(hs 232 (by decide)).2.2.1]; exact (h1.2.2.2.2.2.1 p hp).1, by rw [(hs _ (by omega)).2.2.1]; exact (h1.2.2.2.2.2.1 p hp).2.1, by rw [(hs _ (by omega)).2.2.1]; exact (h1.2.2.2.2.2.1 p hp).2.2⟩,
      fun c hc => ⟨by rw [(hs 13 (by decide)).2.2.1]; exact (h1.2.2.2.2.2.2.1 c hc).1, by rw [(hs _ (by omega)).2.2.1]; exact (h1.2.2.2.2.2.2.1 c hc).2⟩, fun c hc => ⟨by rw [(hs 111 (by decide)).2.2.1]; exact (h1.2.2.2.2.2.2.2 c hc).1, by rw [(hs _ (by omega)).2.2.1]; exact (h1.2.2.2.2.2.2.2 c hc).2⟩⟩,
    by rw [hf.2]; exact h2, fun x hx => by rw [hs0.2.1]; exact hA x hx, fun x hx i hi' => by rw [hi _ _ (hx3 x hx)]; exact hB x hx i hi', fun a b ha hb => by rw [hi _ _ (by omega)]; exact hC a b ha hb, fun c hc => by rw [hi _ _ (by omega), hi _ _ (by omega), hi _ _ (by omega), hi _ _ (by omega), hi _ _ (by omega)]; exact hD c hc,
    fun i hi' => by rw [hi _ _ (by decide)]; exact hE i hi', fun p hp => by rw [hi _ _ (by omega)]; exact ⟨(hF p hp).1, fun k hk => by rw [hi _ _ (by omega), hi _ _ (by omega)]; exact (hF p hp).2 k hk⟩, fun a b ha hb => by rw [hi _ _ (by omega)]; exact hG a b ha hb,
    L, by rw [hs0.2.2.1]; exact l1, by rw [hf.2]; exact l2, by rw [hsL.1]; exact l3, fun i hi' => ?_⟩
  obtain ⟨a, g1, g2, g3, g4⟩ := l4 i hi'
  have hsa : SameAt σ σ' a := hf.1 _ (by omega)
  refine ⟨a, g1, by rw [hf.2]; exact g2, by rw [hsL.2.2.1]; exact g3, ?_⟩
  unfold LnAt
  rw [hsa.1, hsa.2.1, hsa.2.1]
  exact g4
/-! what holds of the state all through -/
def Good (S : St) : Prop := S.1 0 ≤ 400 ∧ S.1 1 ≤ 14 ∧ (1 ≤ S.1 6 ∧ S.1 6 ≤ 8) ∧ S.1 7 ≤ 100 ∧ S.1 19 ≤ 160 ∧ S.1 29 ≤ 10 ∧
  (∀ k, k < S.1 1 → S.2 2 k < 8 ∧ S.2 3 k < 8 ∧ S.2 2 k ≠ S.2 3 k) ∧ (∀ t, t < 24 → S.2 5 t < 256) ∧ (∀ k, k < 11 → S.2 8 k ≤ 30) ∧
  (∀ c, c < 48 → S.2 9 c ≤ 24 ∧ S.2 10 c ≤ 100 ∧ S.2 11 c ≤ 24 ∧ S.2 12 c ≤ 100 ∧ S.2 13 c ≤ S.1 0 + 1 ∧ (S.2 9 c = 0 → S.2 10 c = 0 ∧ S.2 11 c = 0) ∧ (S.2 11 c = 0 ↔ S.2 12 c = 0)) ∧
  (∀ c d, c < 48 → d < 48 → S.2 9 c = S.2 9 d → S.2 9 c ≠ 0 → c = d) ∧ (∀ r, r < 8 → S.2 14 r ≤ S.1 0 + 1) ∧ (∀ i, i < 160 → S.2 20 i < 256) ∧
  (∀ i, i < S.1 29 → (S.2 30 (3 * i) = 0 ∧ S.2 30 (3 * i + 1) < 8 ∧ S.2 30 (3 * i + 2) ≤ 8) ∨ (S.2 30 (3 * i) = 1 ∧ S.2 30 (3 * i + 1) = 0 ∧ 1 ≤ S.2 30 (3 * i + 2) ∧ S.2 30 (3 * i + 2) ≤ 99) ∨ (S.2 30 (3 * i) = 2 ∧ S.2 30 (3 * i + 1) = 0 ∧ S.2 30 (3 * i + 2) ≤ 8) ∨ (S.2 30 (3 * i) = 3 ∧ S.2 30 (3 * i + 1) < 8 ∧ 1 ≤ S.2 30 (3 * i + 2) ∧ S.2 30 (3 * i + 2) ≤ 99)) ∧
  (∀ p, p < 4 → S.2 35 p ≤ 12) ∧ (∀ k, k < 48 → S.2 36 k ≤ 60 ∧ S.2 37 k ≤ 1) ∧ (∀ k, k < 100 → S.2 38 k ≤ 9) ∧ ∀ a b, a < 10 → b < 10 → S.2 38 (10 * a + b) = S.2 38 (10 * b + a)
/-! an operation on the abstract state, and what it is to follow it -/
def OkM (M : Nat) (F : Hp → Option (Int32 × Hp)) (o : St → Int32 × St) : Prop := ∀ σ S, Good S → RepM M σ S → ∃ σ', F σ = some ((o S).1, σ') ∧ RepM M σ' (o S).2 ∧ FrM M σ σ'
def OkX (N : Nat) (F : Hp → Option (Int32 × Hp)) (o : St → Int32 × St) : Prop := ∀ σ S, Good S → RepX N σ S → ∃ σ', F σ = some ((o S).1, σ') ∧ RepX N σ' (o S).2 ∧ FrX N σ σ'
def OkG (o : St → Int32 × St) : Prop := ∀ S, Good S → Good (o S).2
theorem both {N : Nat} {FX FM : Hp → Option (Int32 × Hp)} {o : St → Int32 × St} (hX : OkX N FX o) (hM : OkM (N + 245) FM o) (hG : OkG o) {σ : Hp} {S : St} (g : Good S) (rx : RepX N σ S) (rm : RepM (N + 245) σ S) :
    ∃ r σ1 σ2 S', FX σ = some (r, σ1) ∧ FM σ1 = some (r, σ2) ∧ Good S' ∧ RepX N σ2 S' ∧ RepM (N + 245) σ2 S' := by
  obtain ⟨σ1, a1, a2, a3⟩ := hX σ S g rx
  obtain ⟨σ2, b1, b2, b3⟩ := hM σ1 S g (rm.fr a3)
  exact ⟨_, σ1, σ2, _, a1, b1, hG S g, a2.fr b3, b2⟩
end
section
set_option maxRecDepth 100000
/-! pure law 4: steps over a heap whose ints are named -/
def hv (σ : Hp) (f : Nat → Nat → Int32) : Hp := (σ.1, f, σ.2.2)
theorem hv_i (σ : Hp) (f : Nat → Nat → Int32) (a k : Nat) : hI (hv σ f) a k = f a k := rfl
theorem setI_hv (σ : Hp) (f : Nat → Nat → Int32) (a k : Nat) (v : Int32) : setI (hv σ f) a k v = hv σ (u2 f a k v) := rfl
theorem u2_e {f : Nat → Nat → Int32} {a k : Nat} {v : Int32} : u2 f a k v a k = v := if_pos ⟨rfl, rfl⟩
theorem u2_n {f : Nat → Nat → Int32} {a k : Nat} {v : Int32} {b j : Nat} (h : ¬ (b = a ∧ j = k)) : u2 f a k v b j = f b j := if_neg h
theorem u2_eq {f : Nat → Nat → Int32} {a k : Nat} {v : Int32} {b j : Nat} (h : b = a) (h' : j = k) : u2 f a k v b j = v := if_pos ⟨h, h'⟩
section HV
variable {σ : Hp} {f : Nat → Nat → Int32} {ci a b k n i t : Nat} {x v : Int32}
theorem gd_hv {ρ : Type} {z : Option ρ} (h : hT σ a = some (.inl ci)) : gd ci a (hv σ f) z = z := if_pos h
theorem gI_hv (h : hT σ a = some (.inl ci)) : gI ci k a (hv σ f) = some (f a k) := if_pos h
theorem pI_hv (h : hT σ a = some (.inl ci)) : pI ci k a v (hv σ f) = some (hv σ (u2 f a k v)) := if_pos h
theorem gR_hv (h : gR ci k a σ = some b) : gR ci k a (hv σ f) = some b := h
theorem aR_hv (h : aR t a x σ = some b) : aR t a x (hv σ f) = some b := h
theorem aI_hv (h : aN t a σ = some n) (hn : n < 2147483648) (hi : i < n) : aI t a (nI i) (hv σ f) = some (f a i) := aI_at (σ := hv σ f) h hi hn
theorem sI_hv (h : aN t a σ = some n) (hn : n < 2147483648) (hi : i < n) : sI t a (nI i) v (hv σ f) = some (hv σ (u2 f a i v)) := sI_at (σ := hv σ f) h hi hn
end HV
theorem SM.R2 {M : Nat} {σ : Hp} (h : SM M σ) {f : Nat → Nat → Int32} : gR 10 2 M (hv σ f) = some (M + 1) := h.r2
theorem SM.A2 {M : Nat} {σ : Hp} (h : SM M σ) {f : Nat → Nat → Int32} {i : Nat} (hi : i < 14) : aI 0 (M + 1) (nI i) (hv σ f) = some (f (M + 1) i) := aI_hv h.n2 (by decide) hi
theorem SM.W2 {M : Nat} {σ : Hp} (h : SM M σ) {f : Nat → Nat → Int32} {i : Nat} {v : Int32} (hi : i < 14) : sI 0 (M + 1) (nI i) v (hv σ f) = some (hv σ (u2 f (M + 1) i v)) := sI_hv h.n2 (by decide) hi
theorem SM.R3 {M : Nat} {σ : Hp} (h : SM M σ) {f : Nat → Nat → Int32} : gR 10 3 M (hv σ f) = some (M + 2) := h.r3
theorem SM.A3 {M : Nat} {σ : Hp} (h : SM M σ) {f : Nat → Nat → Int32} {i : Nat} (hi : i < 14) : aI 0 (M + 2) (nI i) (hv σ f) = some (f (M + 2) i) := aI_hv h.n3 (by decide) hi
theorem SM.W3 {M : Nat} {σ : Hp} (h : SM M σ) {f : Nat → Nat → Int32} {i : Nat} {v : Int32} (hi : i < 14) : sI 0 (M + 2) (nI i) v (hv σ f) = some (hv σ (u2 f (M + 2) i v)) := sI_hv h.n3 (by decide) hi
theorem SM.R4 {M : Nat} {σ : Hp} (h : SM M σ) {f : Nat → Nat → Int32} : gR 10 4 M (hv σ f) = some (M + 3) := h.r4
theorem SM.A4 {M : Nat} {σ : Hp} (h : SM M σ) {f : Nat → Nat → Int32} {i : Nat} (hi : i < 8) : aI 0 (M + 3) (nI i) (hv σ f) = some (f (M + 3) i) := aI_hv h.n4 (by decide) hi
theorem SM.W4 {M : Nat} {σ : Hp} (h : SM M σ) {f : Nat → Nat → Int32} {i : Nat} {v : Int32} (hi : i < 8) : sI 0 (M + 3) (nI i) v (hv σ f) = some (hv σ (u2 f (M + 3) i v)) := sI_hv h.n4 (by decide) hi
theorem SM.R5 {M : Nat} {σ : Hp} (h : SM M σ) {f : Nat → Nat → Int32} : gR 10 5 M (hv σ f) = some (M + 4) := h.r5
theorem SM.A5 {M : Nat} {σ : Hp} (h : SM M σ) {f : Nat → Nat → Int32} {i : Nat} (hi : i < 24) : aI 0 (M + 4) (nI i) (hv σ f) = some (f (M + 4) i) := aI_hv h.n5 (by decide) hi
theorem SM.W5 {M : Nat} {σ : Hp} (h : SM M σ) {f : Nat → Nat → Int32} {i : Nat} {v : Int32} (hi : i < 24) : sI 0 (M + 4) (nI i) v (hv σ f) = some (hv σ (u2 f (M + 4) i v)) := sI_hv h.n5 (by decide) hi
theorem SM.R8 {M : Nat} {σ : Hp} (h : SM M σ) {f : Nat → Nat → Int32} : gR 10 8 M (hv σ f) = some (M + 5) := h.r8
theorem SM.A8 {M : Nat} {σ : Hp} (h : SM M σ) {f : Nat → Nat → Int32} {i : Nat} (hi : i < 11) : aI 0 (M + 5) (nI i) (hv σ f) = some (f (M + 5) i) := aI_hv h.n8 (by decide) hi
theorem SM.W8 {M : Nat} {σ : Hp} (h : SM M σ) {f : Nat → Nat → Int32} {i : Nat} {v : Int32} (hi : i < 11) : sI 0 (M + 5) (nI i) v (hv σ f) = some (hv σ (u2 f (M + 5) i v)) := sI_hv h.n8 (by decide) hi
theorem SM.R9 {M : Nat} {σ : Hp} (h : SM M σ) {f : Nat → Nat → Int32} : gR 10 9 M (hv σ f) = some (M + 6) := h.r9
theorem SM.A9 {M : Nat} {σ : Hp} (h : SM M σ) {f : Nat → Nat → Int32} {i : Nat} (hi : i < 48) : aI 0 (M + 6) (nI i) (hv σ f) = some (f (M + 6) i) := aI_hv h.n9 (by decide) hi
theorem SM.W9 {M : Nat} {σ : Hp} (h : SM M σ) {f : Nat → Nat → Int32} {i : Nat} {v : Int32} (hi : i < 48) : sI 0 (M + 6) (nI i) v (hv σ f) = some (hv σ (u2 f (M + 6) i v)) := sI_hv h.n9 (by decide) hi
theorem SM.R10 {M : Nat} {σ : Hp} (h : SM M σ) {f : Nat → Nat → Int32} : gR 10 10 M (hv σ f) = some (M + 7) := h.r10
theorem SM.A10 {M : Nat} {σ : Hp} (h : SM M σ) {f : Nat → Nat → Int32} {i : Nat} (hi : i < 48) : aI 0 (M + 7) (nI i) (hv σ f) = some (f (M + 7) i) := aI_hv h.n10 (by decide) hi
theorem SM.W10 {M : Nat} {σ : Hp} (h : SM M σ) {f : Nat → Nat → Int32} {i : Nat} {v : Int32} (hi : i < 48) : sI 0 (M + 7) (nI i) v (hv σ f) = some (hv σ (u2 f (M + 7) i v)) := sI_hv h.n10 (by decide) hi
theorem SM.R11 {M : Nat} {σ : Hp} (h : SM M σ) {f : Nat → Nat → Int32} : gR 10 11 M (hv σ f) = some (M + 8) := h.r11
theorem SM.A11 {M : Nat} {σ : Hp} (h : SM M σ) {f : Nat → Nat → Int32} {i : Nat} (hi : i < 48) : aI 0 (M + 8) (nI i) (hv σ f) = some (f (M + 8) i) := aI_hv h.n11 (by decide) hi
theorem SM.W11 {M : Nat} {σ : Hp} (h : SM M σ) {f : Nat → Nat → Int32} {i : Nat} {v : Int32} (hi : i < 48) : sI 0 (M + 8) (nI i) v (hv σ f) = some (hv σ (u2 f (M + 8) i v)) := sI_hv h.n11 (by decide) hi
theorem SM.R12 {M : Nat} {σ : Hp} (h : SM M σ) {f : Nat → Nat → Int32} : gR 10 12 M (hv σ f) = some (M + 9) := h.r12
theorem SM.A12 {M : Nat} {σ : Hp} (h : SM M σ) {f : Nat → Nat → Int32} {i : Nat} (hi : i < 48) : aI 0 (M + 9) (nI i) (hv σ f) = some (f (M + 9) i) := aI_hv h.n12 (by decide) hi
theorem SM.W12 {M : Nat} {σ : Hp} (h : SM M σ) {f : Nat → Nat → Int32} {i : Nat} {v : Int32} (hi : i < 48) : sI 0 (M + 9) (nI i) v (hv σ f) = some (hv σ (u2 f (M + 9) i v)) := sI_hv h.n12 (by decide) hi
theorem SM.R13 {M : Nat} {σ : Hp} (h : SM M σ) {f : Nat → Nat → Int32} : gR 10 13 M (hv σ f) = some (M + 10) := h.r13
theorem SM.A13 {M : Nat} {σ : Hp} (h : SM M σ) {f : Nat → Nat → Int32} {i : Nat} (hi : i < 48) : aI 0 (M + 10) (nI i) (hv σ f) = some (f (M + 10) i) := aI_hv h.n13 (by decide) hi
theorem SM.W13 {M : Nat} {σ : Hp} (h : SM M σ) {f : Nat → Nat → Int32} {i : Nat} {v : Int32} (hi : i < 48) : sI 0 (M + 10) (nI i) v (hv σ f) = some (hv σ (u2 f (M + 10) i v)) := sI_hv h.n13 (by decide) hi
theorem SM.R14 {M : Nat} {σ : Hp} (h : SM M σ) {f : Nat → Nat → Int32} : gR 10 14 M (hv σ f) = some (M + 11) := h.r14
theorem SM.A14 {M : Nat} {σ : Hp} (h : SM M σ) {f : Nat → Nat → Int32} {i : Nat} (hi : i < 8) : aI 0 (M + 11) (nI i) (hv σ f) = some (f (M + 11) i) := aI_hv h.n14 (by decide) hi
theorem SM.W14 {M : Nat} {σ : Hp} (h : SM M σ) {f : Nat → Nat → Int32} {i : Nat} {v : Int32} (hi : i < 8) : sI 0 (M + 11) (nI i) v (hv σ f) = some (hv σ (u2 f (M + 11) i v)) := sI_hv h.n14 (by decide) hi
theorem SM.R15 {M : Nat} {σ : Hp} (h : SM M σ) {f : Nat → Nat → Int32} : gR 10 15 M (hv σ f) = some (M + 12) := h.r15
theorem SM.A15 {M : Nat} {σ : Hp} (h : SM M σ) {f : Nat → Nat → Int32} {i : Nat} (hi : i < 240) : aI 0 (M + 12) (nI i) (hv σ f) = some (f (M + 12) i) := aI_hv h.n15 (by decide) hi
theorem SM.W15 {M : Nat} {σ : Hp} (h : SM M σ) {f : Nat → Nat → Int32} {i : Nat} {v : Int32} (hi : i < 240) : sI 0 (M + 12) (nI i) v (hv σ f) = some (hv σ (u2 f (M + 12) i v)) := sI_hv h.n15 (by decide) hi
theorem SM.R16 {M : Nat} {σ : Hp} (h : SM M σ) {f : Nat → Nat → Int32} : gR 10 16 M (hv σ f) = some (M + 13) := h.r16
theorem SM.A16 {M : Nat} {σ : Hp} (h : SM M σ) {f : Nat → Nat → Int32} {i : Nat} (hi : i < 240) : aI 0 (M + 13) (nI i) (hv σ f) = some (f (M + 13) i) := aI_hv h.n16 (by decide) hi
theorem SM.W16 {M : Nat} {σ : Hp} (h : SM M σ) {f : Nat → Nat → Int32} {i : Nat} {v : Int32} (hi : i < 240) : sI 0 (M + 13) (nI i) v (hv σ f) = some (hv σ (u2 f (M + 13) i v)) := sI_hv h.n16 (by decide) hi
theorem SM.R17 {M : Nat} {σ : Hp} (h : SM M σ) {f : Nat → Nat → Int32} : gR 10 17 M (hv σ f) = some (M + 14) := h.r17
theorem SM.A17 {M : Nat} {σ : Hp} (h : SM M σ) {f : Nat → Nat → Int32} {i : Nat} (hi : i < 5) : aI 0 (M + 14) (nI i) (hv σ f) = some (f (M + 14) i) := aI_hv h.n17 (by decide) hi
theorem SM.W17 {M : Nat} {σ : Hp} (h : SM M σ) {f : Nat → Nat → Int32} {i : Nat} {v : Int32} (hi : i < 5) : sI 0 (M + 14) (nI i) v (hv σ f) = some (hv σ (u2 f (M + 14) i v)) := sI_hv h.n17 (by decide) hi
theorem SM.R18 {M : Nat} {σ : Hp} (h : SM M σ) {f : Nat → Nat → Int32} : gR 10 18 M (hv σ f) = some (M + 15) := h.r18
theorem SM.A18 {M : Nat} {σ : Hp} (h : SM M σ) {f : Nat → Nat → Int32} {i : Nat} (hi : i < 4) : aI 0 (M + 15) (nI i) (hv σ f) = some (f (M + 15) i) := aI_hv h.n18 (by decide) hi
theorem SM.W18 {M : Nat} {σ : Hp} (h : SM M σ) {f : Nat → Nat → Int32} {i : Nat} {v : Int32} (hi : i < 4) : sI 0 (M + 15) (nI i) v (hv σ f) = some (hv σ (u2 f (M + 15) i v)) := sI_hv h.n18 (by decide) hi
theorem SM.R20 {M : Nat} {σ : Hp} (h : SM M σ) {f : Nat → Nat → Int32} : gR 10 20 M (hv σ f) = some (M + 16) := h.r20
theorem SM.A20 {M : Nat} {σ : Hp} (h : SM M σ) {f : Nat → Nat → Int32} {i : Nat} (hi : i < 160) : aI 0 (M + 16) (nI i) (hv σ f) = some (f (M + 16) i) := aI_hv h.n20 (by decide) hi
theorem SM.W20 {M : Nat} {σ : Hp} (h : SM M σ) {f : Nat → Nat → Int32} {i : Nat} {v : Int32} (hi : i < 160) : sI 0 (M + 16) (nI i) v (hv σ f) = some (hv σ (u2 f (M + 16) i v)) := sI_hv h.n20 (by decide) hi
theorem SM.R28 {M : Nat} {σ : Hp} (h : SM M σ) {f : Nat → Nat → Int32} : gR 10 28 M (hv σ f) = some (M + 17) := h.r28
theorem SM.A28 {M : Nat} {σ : Hp} (h : SM M σ) {f : Nat → Nat → Int32} {i : Nat} (hi : i < 30) : aI 0 (M + 17) (nI i) (hv σ f) = some (f (M + 17) i) := aI_hv h.n28 (by decide) hi
theorem SM.W28 {M : Nat} {σ : Hp} (h : SM M σ) {f : Nat → Nat → Int32} {i : Nat} {v : Int32} (hi : i < 30) : sI 0 (M + 17) (nI i) v (hv σ f) = some (hv σ (u2 f (M + 17) i v)) := sI_hv h.n28 (by decide) hi
theorem SM.R30 {M : Nat} {σ : Hp} (h : SM M σ) {f : Nat → Nat → Int32} : gR 10 30 M (hv σ f) = some (M + 18) := h.r30
theorem SM.A30 {M : Nat} {σ : Hp} (h : SM M σ) {f : Nat → Nat → Int32} {i : Nat} (hi : i < 30) : aI 0 (M + 18) (nI i) (hv σ f) = some (f (M + 18) i) := aI_hv h.n30 (by decide) hi
theorem SM.W30 {M : Nat} {σ : Hp} (h : SM M σ) {f : Nat → Nat → Int32} {i : Nat} {v : Int32} (hi : i < 30) : sI 0 (M + 18) (nI i) v (hv σ f) = some (hv σ (u2 f (M + 18) i v)) := sI_hv h.n30 (by decide) hi
theorem SM.R31 {M : Nat} {σ : Hp} (h : SM M σ) {f : Nat → Nat → Int32} : gR 10 31 M (hv σ f) = some (M + 19) := h.r31
theorem SM.A31 {M : Nat} {σ : Hp} (h : SM M σ) {f : Nat → Nat → Int32} {i : Nat} (hi : i < 8) : aI 0 (M + 19) (nI i) (hv σ f) = some (f (M + 19) i) := aI_hv h.n31 (by decide) hi
theorem SM.W31 {M : Nat} {σ : Hp} (h : SM M σ) {f : Nat → Nat → Int32} {i : Nat} {v : Int32} (hi : i < 8) : sI 0 (M + 19) (nI i) v (hv σ f) = some (hv σ (u2 f (M + 19) i v)) := sI_hv h.n31 (by decide) hi
theorem SM.R32 {M : Nat} {σ : Hp} (h : SM M σ) {f : Nat → Nat → Int32} : gR 10 32 M (hv σ f) = some (M + 20) := h.r32
theorem SM.A32 {M : Nat} {σ : Hp} (h : SM M σ) {f : Nat → Nat → Int32} {i : Nat} (hi : i < 8) : aI 0 (M + 20) (nI i) (hv σ f) = some (f (M + 20) i) := aI_hv h.n32 (by decide) hi
theorem SM.W32 {M : Nat} {σ : Hp} (h : SM M σ) {f : Nat → Nat → Int32} {i : Nat} {v : Int32} (hi : i < 8) : sI 0 (M + 20) (nI i) v (hv σ f) = some (hv σ (u2 f (M + 20) i v)) := sI_hv h.n32 (by decide) hi
theorem SM.R33 {M : Nat} {σ : Hp} (h : SM M σ) {f : Nat → Nat → Int32} : gR 10 33 M (hv σ f) = some (M + 21) := h.r33
theorem SM.A33 {M : Nat} {σ : Hp} (h : SM M σ) {f : Nat → Nat → Int32} {i : Nat} (hi : i < 8) : aI 0 (M + 21) (nI i) (hv σ f) = some (f (M + 21) i) := aI_hv h.n33 (by decide) hi
theorem SM.W33 {M : Nat} {σ : Hp} (h : SM M σ) {f : Nat → Nat → Int32} {i : Nat} {v : Int32} (hi : i < 8) : sI 0 (M + 21) (nI i) v (hv σ f) = some (hv σ (u2 f (M + 21) i v)) := sI_hv h.n33 (by decide) hi
theorem SM.R35 {M : Nat} {σ : Hp} (h : SM M σ) {f : Nat → Nat → Int32} : gR 10 35 M (hv σ f) = some (M + 22) := h.r35
theorem SM.A35 {M : Nat} {σ : Hp} (h : SM M σ) {f : Nat → Nat → Int32} {i : Nat} (hi : i < 4) : aI 0 (M + 22) (nI i) (hv σ f) = some (f (M + 22) i) := aI_hv h.n35 (by decide) hi
theorem SM.W35 {M : Nat} {σ : Hp} (h : SM M σ) {f : Nat → Nat → Int32} {i : Nat} {v : Int32} (hi : i < 4) : sI 0 (M + 22) (nI i) v (hv σ f) = some (hv σ (u2 f (M + 22) i v)) := sI_hv h.n35 (by decide) hi
theorem SM.R36 {M : Nat} {σ : Hp} (h : SM M σ) {f : Nat → Nat → Int32} : gR 10 36 M (hv σ f) = some (M + 23) := h.r36
theorem SM.A36 {M : Nat} {σ : Hp} (h : SM M σ) {f : Nat → Nat → Int32} {i : Nat} (hi : i < 48) : aI 0 (M + 23) (nI i) (hv σ f) = some (f (M + 23) i) := aI_hv h.n36 (by decide) hi
theorem SM.W36 {M : Nat} {σ : Hp} (h : SM M σ) {f : Nat → Nat → Int32} {i : Nat} {v : Int32} (hi : i < 48) : sI 0 (M + 23) (nI i) v (hv σ f) = some (hv σ (u2 f (M + 23) i v)) := sI_hv h.n36 (by decide) hi
theorem SM.R37 {M : Nat} {σ : Hp} (h : SM M σ) {f : Nat → Nat → Int32} : gR 10 37 M (hv σ f) = some (M + 24) := h.r37
theorem SM.A37 {M : Nat} {σ : Hp} (h : SM M σ) {f : Nat → Nat → Int32} {i : Nat} (hi : i < 48) : aI 1 (M + 24) (nI i) (hv σ f) = some (f (M + 24) i) := aI_hv h.n37 (by decide) hi
theorem SM.W37 {M : Nat} {σ : Hp} (h : SM M σ) {f : Nat → Nat → Int32} {i : Nat} {v : Int32} (hi : i < 48) : sI 1 (M + 24) (nI i) v (hv σ f) = some (hv σ (u2 f (M + 24) i v)) := sI_hv h.n37 (by decide) hi
theorem SM.R38 {M : Nat} {σ : Hp} (h : SM M σ) {f : Nat → Nat → Int32} : gR 10 38 M (hv σ f) = some (M + 25) := h.r38
theorem SM.A38 {M : Nat} {σ : Hp} (h : SM M σ) {f : Nat → Nat → Int32} {i : Nat} (hi : i < 100) : aI 0 (M + 25) (nI i) (hv σ f) = some (f (M + 25) i) := aI_hv h.n38 (by decide) hi
theorem SM.W38 {M : Nat} {σ : Hp} (h : SM M σ) {f : Nat → Nat → Int32} {i : Nat} {v : Int32} (hi : i < 100) : sI 0 (M + 25) (nI i) v (hv σ f) = some (hv σ (u2 f (M + 25) i v)) := sI_hv h.n38 (by decide) hi
theorem SX.R0 {N : Nat} {σ : Hp} (h : SX N σ) {f : Nat → Nat → Int32} : gR 0 0 N (hv σ f) = some (N + 1) := h.r0
theorem SX.R2 {N : Nat} {σ : Hp} (h : SX N σ) {f : Nat → Nat → Int32} : gR 0 2 N (hv σ f) = some (N + 10) := h.r2
theorem SX.R5 {N : Nat} {σ : Hp} (h : SX N σ) {f : Nat → Nat → Int32} : gR 0 5 N (hv σ f) = some (N + 11) := h.r5
theorem SX.R7 {N : Nat} {σ : Hp} (h : SX N σ) {f : Nat → Nat → Int32} : gR 0 7 N (hv σ f) = some (N + 12) := h.r7
theorem SX.R8 {N : Nat} {σ : Hp} (h : SX N σ) {f : Nat → Nat → Int32} : gR 0 8 N (hv σ f) = some (N + 110) := h.r8
theorem SX.R9 {N : Nat} {σ : Hp} (h : SX N σ) {f : Nat → Nat → Int32} : gR 0 9 N (hv σ f) = some (N + 208) := h.r9
theorem SX.R12 {N : Nat} {σ : Hp} (h : SX N σ) {f : Nat → Nat → Int32} : gR 0 12 N (hv σ f) = some (N + 210) := h.r12
theorem SX.R14 {N : Nat} {σ : Hp} (h : SX N σ) {f : Nat → Nat → Int32} : gR 0 14 N (hv σ f) = some (N + 211) := h.r14
theorem SX.R15 {N : Nat} {σ : Hp} (h : SX N σ) {f : Nat → Nat → Int32} : gR 0 15 N (hv σ f) = some (N + 212) := h.r15
theorem SX.R16 {N : Nat} {σ : Hp} (h : SX N σ) {f : Nat → Nat → Int32} : gR 0 16 N (hv σ f) = some (N + 213) := h.r16
theorem SX.R17 {N : Nat} {σ : Hp} (h : SX N σ) {f : Nat → Nat → Int32} : gR 0 17 N (hv σ f) = some (N + 224) := h.r17
theorem SX.R18 {N : Nat} {σ : Hp} (h : SX N σ) {f : Nat → Nat → Int32} : gR 0 18 N (hv σ f) = some (N + 227) := h.r18
theorem SX.R19 {N : Nat} {σ : Hp} (h : SX N σ) {f : Nat → Nat → Int32} : gR 0 19 N (hv σ f) = some (N + 230) := h.r19
theorem SX.R20 {N : Nat} {σ : Hp} (h : SX N σ) {f : Nat → Nat → Int32} : gR 0 20 N (hv σ f) = some (N + 231) := h.r20
theorem SX.R21 {N : Nat} {σ : Hp} (h : SX N σ) {f : Nat → Nat → Int32} : gR 0 21 N (hv σ f) = some (N + 232) := h.r21
theorem SX.R12_0 {N : Nat} {σ : Hp} (h : SX N σ) {f : Nat → Nat → Int32} : gR 1 0 (N + 12) (hv σ f) = some (N + 13) := h.r12_0
theorem SX.R110_0 {N : Nat} {σ : Hp} (h : SX N σ) {f : Nat → Nat → Int32} : gR 1 0 (N + 110) (hv σ f) = some (N + 111) := h.r110_0
theorem SX.R224_0 {N : Nat} {σ : Hp} (h : SX N σ) {f : Nat → Nat → Int32} : gR 7 0 (N + 224) (hv σ f) = some (N + 225) := h.r224_0
theorem SX.R224_1 {N : Nat} {σ : Hp} (h : SX N σ) {f : Nat → Nat → Int32} : gR 7 1 (N + 224) (hv σ f) = some (N + 226) := h.r224_1
theorem SX.R227_0 {N : Nat} {σ : Hp} (h : SX N σ) {f : Nat → Nat → Int32} : gR 8 0 (N + 227) (hv σ f) = some (N + 228) := h.r227_0
theorem SX.R227_1 {N : Nat} {σ : Hp} (h : SX N σ) {f : Nat → Nat → Int32} : gR 8 1 (N + 227) (hv σ f) = some (N + 229) := h.r227_1
theorem SX.R12_1 {N : Nat} {σ : Hp} (h : SX N σ) {f : Nat → Nat → Int32} : gR 1 1 (N + 12) (hv σ f) = some N := h.r12_1
theorem SX.R110_1 {N : Nat} {σ : Hp} (h : SX N σ) {f : Nat → Nat → Int32} : gR 1 1 (N + 110) (hv σ f) = some N := h.r110_1
theorem SX.R211_5 {N : Nat} {σ : Hp} (h : SX N σ) {f : Nat → Nat → Int32} : gR 5 5 (N + 211) (hv σ f) = some N := h.r211_5
theorem SX.R224_5 {N : Nat} {σ : Hp} (h : SX N σ) {f : Nat → Nat → Int32} : gR 7 5 (N + 224) (hv σ f) = some N := h.r224_5
theorem SX.R227_5 {N : Nat} {σ : Hp} (h : SX N σ) {f : Nat → Nat → Int32} : gR 8 5 (N + 227) (hv σ f) = some N := h.r227_5
theorem SX.A10 {N : Nat} {σ : Hp} (h : SX N σ) {f : Nat → Nat → Int32} {i : Nat} (hi : i < 24) : aI 0 (N + 10) (nI i) (hv σ f) = some (f (N + 10) i) := aI_hv h.n10 (by decide) hi
theorem SX.W10 {N : Nat} {σ : Hp} (h : SX N σ) {f : Nat → Nat → Int32} {i : Nat} {v : Int32} (hi : i < 24) : sI 0 (N + 10) (nI i) v (hv σ f) = some (hv σ (u2 f (N + 10) i v)) := sI_hv h.n10 (by decide) hi
theorem SX.A11 {N : Nat} {σ : Hp} (h : SX N σ) {f : Nat → Nat → Int32} {i : Nat} (hi : i < 11) : aI 0 (N + 11) (nI i) (hv σ f) = some (f (N + 11) i) := aI_hv h.n11 (by decide) hi
theorem SX.W11 {N : Nat} {σ : Hp} (h : SX N σ) {f : Nat → Nat → Int32} {i : Nat} {v : Int32} (hi : i < 11) : sI 0 (N + 11) (nI i) v (hv σ f) = some (hv σ (u2 f (N + 11) i v)) := sI_hv h.n11 (by decide) hi
theorem SX.A208 {N : Nat} {σ : Hp} (h : SX N σ) {f : Nat → Nat → Int32} {i : Nat} (hi : i < 8) : aI 0 (N + 208) (nI i) (hv σ f) = some (f (N + 208) i) := aI_hv h.n208 (by decide) hi
theorem SX.W208 {N : Nat} {σ : Hp} (h : SX N σ) {f : Nat → Nat → Int32} {i : Nat} {v : Int32} (hi : i < 8) : sI 0 (N + 208) (nI i) v (hv σ f) = some (hv σ (u2 f (N + 208) i v)) := sI_hv h.n208 (by decide) hi
theorem SX.A210 {N : Nat} {σ : Hp} (h : SX N σ) {f : Nat → Nat → Int32} {i : Nat} (hi : i < 160) : aI 2 (N + 210) (nI i) (hv σ f) = some (f (N + 210) i) := aI_hv h.n210 (by decide) hi
theorem SX.W210 {N : Nat} {σ : Hp} (h : SX N σ) {f : Nat → Nat → Int32} {i : Nat} {v : Int32} (hi : i < 160) : sI 2 (N + 210) (nI i) v (hv σ f) = some (hv σ (u2 f (N + 210) i v)) := sI_hv h.n210 (by decide) hi
theorem SX.A212 {N : Nat} {σ : Hp} (h : SX N σ) {f : Nat → Nat → Int32} {i : Nat} (hi : i < 8) : aI 0 (N + 212) (nI i) (hv σ f) = some (f (N + 212) i) := aI_hv h.n212 (by decide) hi
theorem SX.W212 {N : Nat} {σ : Hp} (h : SX N σ) {f : Nat → Nat → Int32} {i : Nat} {v : Int32} (hi : i < 8) : sI 0 (N + 212) (nI i) v (hv σ f) = some (hv σ (u2 f (N + 212) i v)) := sI_hv h.n212 (by decide) hi
theorem SX.A225 {N : Nat} {σ : Hp} (h : SX N σ) {f : Nat → Nat → Int32} {i : Nat} (hi : i < 8) : aI 0 (N + 225) (nI i) (hv σ f) = some (f (N + 225) i) := aI_hv h.n225 (by decide) hi
theorem SX.W225 {N : Nat} {σ : Hp} (h : SX N σ) {f : Nat → Nat → Int32} {i : Nat} {v : Int32} (hi : i < 8) : sI 0 (N + 225) (nI i) v (hv σ f) = some (hv σ (u2 f (N + 225) i v)) := sI_hv h.n225 (by decide) hi
theorem SX.A226 {N : Nat} {σ : Hp} (h : SX N σ) {f : Nat → Nat → Int32} {i : Nat} (hi : i < 8) : aI 0 (N + 226) (nI i) (hv σ f) = some (f (N + 226) i) := aI_hv h.n226 (by decide) hi
theorem SX.W226 {N : Nat} {σ : Hp} (h : SX N σ) {f : Nat → Nat → Int32} {i : Nat} {v : Int32} (hi : i < 8) : sI 0 (N + 226) (nI i) v (hv σ f) = some (hv σ (u2 f (N + 226) i v)) := sI_hv h.n226 (by decide) hi
theorem SX.A228 {N : Nat} {σ : Hp} (h : SX N σ) {f : Nat → Nat → Int32} {i : Nat} (hi : i < 8) : aI 0 (N + 228) (nI i) (hv σ f) = some (f (N + 228) i) := aI_hv h.n228 (by decide) hi
theorem SX.W228 {N : Nat} {σ : Hp} (h : SX N σ) {f : Nat → Nat → Int32} {i : Nat} {v : Int32} (hi : i < 8) : sI 0 (N + 228) (nI i) v (hv σ f) = some (hv σ (u2 f (N + 228) i v)) := sI_hv h.n228 (by decide) hi
theorem SX.A229 {N : Nat} {σ : Hp} (h : SX N σ) {f : Nat → Nat → Int32} {i : Nat} (hi : i < 8) : aI 0 (N + 229) (nI i) (hv σ f) = some (f (N + 229) i) := aI_hv h.n229 (by decide) hi
theorem SX.W229 {N : Nat} {σ : Hp} (h : SX N σ) {f : Nat → Nat → Int32} {i : Nat} {v : Int32} (hi : i < 8) : sI 0 (N + 229) (nI i) v (hv σ f) = some (hv σ (u2 f (N + 229) i v)) := sI_hv h.n229 (by decide) hi
theorem SX.A230 {N : Nat} {σ : Hp} (h : SX N σ) {f : Nat → Nat → Int32} {i : Nat} (hi : i < 4) : aI 0 (N + 230) (nI i) (hv σ f) = some (f (N + 230) i) := aI_hv h.n230 (by decide) hi
theorem SX.W230 {N : Nat} {σ : Hp} (h : SX N σ) {f : Nat → Nat → Int32} {i : Nat} {v : Int32} (hi : i < 4) : sI 0 (N + 230) (nI i) v (hv σ f) = some (hv σ (u2 f (N + 230) i v)) := sI_hv h.n230 (by decide) hi
theorem SX.A231 {N : Nat} {σ : Hp} (h : SX N σ) {f : Nat → Nat → Int32} {i : Nat} (hi : i < 8) : aI 0 (N + 231) (nI i) (hv σ f) = some (f (N + 231) i) := aI_hv h.n231 (by decide) hi
theorem SX.W231 {N : Nat} {σ : Hp} (h : SX N σ) {f : Nat → Nat → Int32} {i : Nat} {v : Int32} (hi : i < 8) : sI 0 (N + 231) (nI i) v (hv σ f) = some (hv σ (u2 f (N + 231) i v)) := sI_hv h.n231 (by decide) hi
theorem SX.J {N : Nat} {σ : Hp} (h : SX N σ) {f : Nat → Nat → Int32} {r : Nat} (hr : r < 8) : aR 6 (N + 1) (nI r) (hv σ f) = some (N + (2 + r)) := h.jrow hr
theorem SX.AJ {N : Nat} {σ : Hp} (h : SX N σ) {f : Nat → Nat → Int32} {r i : Nat} (hr : r < 8) (hi : i < 8) : aI 1 (N + (2 + r)) (nI i) (hv σ f) = some (f (N + (2 + r)) i) := aI_hv (h.njrow hr) (by decide) hi
theorem SX.WJ {N : Nat} {σ : Hp} (h : SX N σ) {f : Nat → Nat → Int32} {r i : Nat} {v : Int32} (hr : r < 8) (hi : i < 8) : sI 1 (N + (2 + r)) (nI i) v (hv σ f) = some (hv σ (u2 f (N + (2 + r)) i v)) := sI_hv (h.njrow hr) (by decide) hi
theorem SX.K {N : Nat} {σ : Hp} (h : SX N σ) {f : Nat → Nat → Int32} {r : Nat} (hr : r < 10) : aR 7 (N + 213) (nI r) (hv σ f) = some (N + (214 + r)) := h.arow hr
theorem SX.AK {N : Nat} {σ : Hp} (h : SX N σ) {f : Nat → Nat → Int32} {r i : Nat} (hr : r < 10) (hi : i < 10) : aI 0 (N + (214 + r)) (nI i) (hv σ f) = some (f (N + (214 + r)) i) := aI_hv (h.narow hr) (by decide) hi
theorem SX.WK {N : Nat} {σ : Hp} (h : SX N σ) {f : Nat → Nat → Int32} {r i : Nat} {v : Int32} (hr : r < 10) (hi : i < 10) : sI 0 (N + (214 + r)) (nI i) v (hv σ f) = some (hv σ (u2 f (N + (214 + r)) i v)) := sI_hv (h.narow hr) (by decide) hi
theorem SX.P {N : Nat} {σ : Hp} (h : SX N σ) {f : Nat → Nat → Int32} {p : Nat} (hp : p < 4) : aR 5 (N + 232) (nI p) (hv σ f) = some (N + (233 + 3 * p)) := h.pup hp
theorem SX.PD {N : Nat} {σ : Hp} (h : SX N σ) {f : Nat → Nat → Int32} {p : Nat} (hp : p < 4) : gR 9 0 (N + (233 + 3 * p)) (hv σ f) = some (N + (234 + 3 * p)) := h.pdays hp
theorem SX.PR {N : Nat} {σ : Hp} (h : SX N σ) {f : Nat → Nat → Int32} {p : Nat} (hp : p < 4) : gR 9 1 (N + (233 + 3 * p)) (hv σ f) = some (N + (235 + 3 * p)) := h.prights hp
theorem SX.PG {N : Nat} {σ : Hp} (h : SX N σ) {f : Nat → Nat → Int32} {ρ : Type} {z : Option ρ} {p : Nat} (hp : p < 4) : gd 9 (N + (233 + 3 * p)) (hv σ f) z = z := gd_hv (h.tpup hp)
theorem SX.PI {N : Nat} {σ : Hp} (h : SX N σ) {f : Nat → Nat → Int32} {p k : Nat} (hp : p < 4) : gI 9 k (N + (233 + 3 * p)) (hv σ f) = some (f (N + (233 + 3 * p)) k) := gI_hv (h.tpup hp)
theorem SX.PW {N : Nat} {σ : Hp} (h : SX N σ) {f : Nat → Nat → Int32} {p k : Nat} {v : Int32} (hp : p < 4) : pI 9 k (N + (233 + 3 * p)) v (hv σ f) = some (hv σ (u2 f (N + (233 + 3 * p)) k v)) := pI_hv (h.tpup hp)
theorem SX.APD {N : Nat} {σ : Hp} (h : SX N σ) {f : Nat → Nat → Int32} {p i : Nat} (hp : p < 4) (hi : i < 12) : aI 0 (N + (234 + 3 * p)) (nI i) (hv σ f) = some (f (N + (234 + 3 * p)) i) := aI_hv (h.npdays hp) (by decide) hi
theorem SX.WPD {N : Nat} {σ : Hp} (h : SX N σ) {f : Nat → Nat → Int32} {p i : Nat} {v : Int32} (hp : p < 4) (hi : i < 12) : sI 0 (N + (234 + 3 * p)) (nI i) v (hv σ f) = some (hv σ (u2 f (N + (234 + 3 * p)) i v)) := sI_hv (h.npdays hp) (by decide) hi
theorem SX.APR {N : Nat} {σ : Hp} (h : SX N σ) {f : Nat → Nat → Int32} {p i : Nat} (hp : p < 4) (hi : i < 12) : aI 1 (N + (235 + 3 * p)) (nI i) (hv σ f) = some (f (N + (235 + 3 * p)) i) := aI_hv (h.nprights hp) (by decide) hi
theorem SX.WPR {N : Nat} {σ : Hp} (h : SX N σ) {f : Nat → Nat → Int32} {p i : Nat} {v : Int32} (hp : p < 4) (hi : i < 12) : sI 1 (N + (235 + 3 * p)) (nI i) v (hv σ f) = some (hv σ (u2 f (N + (235 + 3 * p)) i v)) := sI_hv (h.nprights hp) (by decide) hi
/-- a house at H of the component at N -/
def HS (N H : Nat) (σ : Hp) : Prop := hT σ H = some (.inl 1) ∧ gR 1 0 H σ = some (H + 1) ∧ gR 1 1 H σ = some N ∧ aN 3 (H + 1) σ = some 48 ∧ ∀ c, c < 48 → aR 3 (H + 1) (nI c) σ = some (H + (2 + 2 * c)) ∧ hT σ (H + (2 + 2 * c)) = some (.inl 3) ∧ gR 3 2 (H + (2 + 2 * c)) σ = some (H + (3 + 2 * c)) ∧ hT σ (H + (3 + 2 * c)) = some (.inl 4)
theorem SX.h12 {N : Nat} {σ : Hp} (h : SX N σ) : HS N (N + 12) σ := ⟨h.t12, h.r12_0, h.r12_1, h.n13, fun c hc => by
  have e1 : N + 12 + (2 + 2 * c) = N + (14 + 2 * c) := by omega
  have e2 : N + 12 + (3 + 2 * c) = N + (15 + 2 * c) := by omega
  rw [e1, e2]
  exact ⟨h.c hc, h.tc hc, h.ghc hc, h.tgc hc⟩⟩
theorem SX.h110 {N : Nat} {σ : Hp} (h : SX N σ) : HS N (N + 110) σ := ⟨h.t110, h.r110_0, h.r110_1, h.n111, fun c hc => by
  have e1 : N + 110 + (2 + 2 * c) = N + (112 + 2 * c) := by omega
  have e2 : N + 110 + (3 + 2 * c) = N + (113 + 2 * c) := by omega
  rw [e1, e2]
  exact ⟨h.d hc, h.td hc, h.ghd hc, h.tgd hc⟩⟩
theorem HS.D {N H : Nat} {σ : Hp} (h : HS N H σ) {f : Nat → Nat → Int32} {ρ : Type} {z : Option ρ} : gd 1 H (hv σ f) z = z := gd_hv h.1
theorem HS.R0 {N H : Nat} {σ : Hp} (h : HS N H σ) {f : Nat → Nat → Int32} : gR 1 0 H (hv σ f) = some (H + 1) := h.2.1
theorem HS.R1 {N H : Nat} {σ : Hp} (h : HS N H σ) {f : Nat → Nat → Int32} : gR 1 1 H (hv σ f) = some N := h.2.2.1
theorem HS.N {N H : Nat} {σ : Hp} (h : HS N H σ) {f : Nat → Nat → Int32} : aL 3 (H + 1) (hv σ f) = some (nI 48) := by
  have e : aN 3 (H + 1) (hv σ f) = some 48 := h.2.2.2.1
  unfold aL
  rw [e]
  rfl
theorem HS.C {N H : Nat} {σ : Hp} (h : HS N H σ) {f : Nat → Nat → Int32} {c : Nat} (hc : c < 48) : aR 3 (H + 1) (nI c) (hv σ f) = some (H + (2 + 2 * c)) := (h.2.2.2.2 c hc).1
theorem HS.CD {N H : Nat} {σ : Hp} (h : HS N H σ) {f : Nat → Nat → Int32} {ρ : Type} {z : Option ρ} {c : Nat} (hc : c < 48) : gd 3 (H + (2 + 2 * c)) (hv σ f) z = z := gd_hv (h.2.2.2.2 c hc).2.1
theorem HS.CI {N H : Nat} {σ : Hp} (h : HS N H σ) {f : Nat → Nat → Int32} {c k : Nat} (hc : c < 48) : gI 3 k (H + (2 + 2 * c)) (hv σ f) = some (f (H + (2 + 2 * c)) k) := gI_hv (h.2.2.2.2 c hc).2.1
theorem HS.CW {N H : Nat} {σ : Hp} (h : HS N H σ) {f : Nat → Nat → Int32} {c k : Nat} {v : Int32} (hc : c < 48) : pI 3 k (H + (2 + 2 * c)) v (hv σ f) = some (hv σ (u2 f (H + (2 + 2 * c)) k v)) := pI_hv (h.2.2.2.2 c hc).2.1
theorem HS.G {N H : Nat} {σ : Hp} (h : HS N H σ) {f : Nat → Nat → Int32} {c : Nat} (hc : c < 48) : gR 3 2 (H + (2 + 2 * c)) (hv σ f) = some (H + (3 + 2 * c)) := (h.2.2.2.2 c hc).2.2.1
theorem HS.GD {N H : Nat} {σ : Hp} (h : HS N H σ) {f : Nat → Nat → Int32} {ρ : Type} {z : Option ρ} {c : Nat} (hc : c < 48) : gd 4 (H + (3 + 2 * c)) (hv σ f) z = z := gd_hv (h.2.2.2.2 c hc).2.2.2
theorem HS.GI {N H : Nat} {σ : Hp} (h : HS N H σ) {f : Nat → Nat → Int32} {c k : Nat} (hc : c < 48) : gI 4 k (H + (3 + 2 * c)) (hv σ f) = some (f (H + (3 + 2 * c)) k) := gI_hv (h.2.2.2.2 c hc).2.2.2
theorem HS.GW {N H : Nat} {σ : Hp} (h : HS N H σ) {f : Nat → Nat → Int32} {c k : Nat} {v : Int32} (hc : c < 48) : pI 4 k (H + (3 + 2 * c)) v (hv σ f) = some (hv σ (u2 f (H + (3 + 2 * c)) k v)) := pI_hv (h.2.2.2.2 c hc).2.2.2
theorem SX.C12 {N : Nat} {σ : Hp} (h : SX N σ) {f : Nat → Nat → Int32} {c : Nat} (hc : c < 48) : aR 3 (N + 13) (nI c) (hv σ f) = some (N + 12 + (2 + 2 * c)) := (h.h12).C hc
/-! ops over named ints -/
def OkMf (M : Nat) (F : Hp → Option (Int32 × Hp)) (o : St → Int32 × St) : Prop := ∀ σ f S, Good S → RepM M (hv σ f) S → ∃ f', F (hv σ f) = some ((o S).1, hv σ f') ∧ RepM M (hv σ f') (o S).2 ∧ ∀ a k, a < M ∨ M + 26 ≤ a → f' a k = f a k
def OkXf (N : Nat) (F : Hp → Option (Int32 × Hp)) (o : St → Int32 × St) : Prop := ∀ σ f S, Good S → RepX N (hv σ f) S → ∃ f', F (hv σ f) = some ((o S).1, hv σ f') ∧ RepX N (hv σ f') (o S).2 ∧ ∀ a k, a < N ∨ N + 245 ≤ a → f' a k = f a k
theorem OkMf.ok {M : Nat} {F : Hp → Option (Int32 × Hp)} {o : St → Int32 × St} (h : OkMf M F o) : OkM M F o := fun σ S g r => by
  obtain ⟨f', h1, h2, h3⟩ := h σ σ.2.1 S g r
  exact ⟨hv σ f', h1, h2, fun a ha => ⟨rfl, fun k => h3 a k ha, fun _ => rfl, fun _ => rfl⟩, rfl⟩
theorem OkXf.ok {N : Nat} {F : Hp → Option (Int32 × Hp)} {o : St → Int32 × St} (h : OkXf N F o) : OkX N F o := fun σ S g r => by
  obtain ⟨f', h1, h2, h3⟩ := h σ σ.2.1 S g r
  exact ⟨hv σ f', h1, h2, fun a ha => ⟨rfl, fun k => h3 a k (by omega), fun _ => rfl, fun _ => rfl⟩, Nat.le_refl _⟩
section RP
variable {M N : Nat} {σ : Hp} {f : Nat → Nat → Int32} {S : St}
theorem RepM.s0 (h : RepM M (hv σ f) S) : f M 0 = nI (S.1 0) := h.2.2.1 0 (by decide)
theorem RepM.s1 (h : RepM M (hv σ f) S) : f M 1 = nI (S.1 1) := h.2.2.1 1 (by decide)
theorem RepM.s6 (h : RepM M (hv σ f) S) : f M 6 = nI (S.1 6) := h.2.2.1 6 (by decide)
theorem RepM.s7 (h : RepM M (hv σ f) S) : f M 7 = nI (S.1 7) := h.2.2.1 7 (by decide)
theorem RepM.s19 (h : RepM M (hv σ f) S) : f M 19 = nI (S.1 19) := h.2.2.1 19 (by decide)
theorem RepM.s29 (h : RepM M (hv σ f) S) : f M 29 = nI (S.1 29) := h.2.2.1 29 (by decide)
theorem RepM.a2 (h : RepM M (hv σ f) S) {i : Nat} (hi : i < 14) : f (M + 1) i = nI (S.2 2 i) := h.2.2.2 (2, 1, 14) (by decide) i hi
theorem RepM.a3 (h : RepM M (hv σ f) S) {i : Nat} (hi : i < 14) : f (M + 2) i = nI (S.2 3 i) := h.2.2.2 (3, 2, 14) (by decide) i hi
theorem RepM.a5 (h : RepM M (hv σ f) S) {i : Nat} (hi : i < 24) : f (M + 4) i = nI (S.2 5 i) := h.2.2.2 (5, 4, 24) (by decide) i hi
theorem RepM.a8 (h : RepM M (hv σ f) S) {i : Nat} (hi : i < 11) : f (M + 5) i = nI (S.2 8 i) := h.2.2.2 (8, 5, 11) (by decide) i hi
theorem RepM.a9 (h : RepM M (hv σ f) S) {i : Nat} (hi : i < 48) : f (M + 6) i = e1 (S.2 9 i) := h.2.2.2 (9, 6, 48) (by decide) i hi
theorem RepM.a10 (h : RepM M (hv σ f) S) {i : Nat} (hi : i < 48) : f (M + 7) i = nI (S.2 10 i) := h.2.2.2 (10, 7, 48) (by decide) i hi
theorem RepM.a11 (h : RepM M (hv σ f) S) {i : Nat} (hi : i < 48) : f (M + 8) i = e1 (S.2 11 i) := h.2.2.2 (11, 8, 48) (by decide) i hi
theorem RepM.a12 (h : RepM M (hv σ f) S) {i : Nat} (hi : i < 48) : f (M + 9) i = nI (S.2 12 i) := h.2.2.2 (12, 9, 48) (by decide) i hi
theorem RepM.a13 (h : RepM M (hv σ f) S) {i : Nat} (hi : i < 48) : f (M + 10) i = e1 (S.2 13 i) := h.2.2.2 (13, 10, 48) (by decide) i hi
theorem RepM.a14 (h : RepM M (hv σ f) S) {i : Nat} (hi : i < 8) : f (M + 11) i = e1 (S.2 14 i) := h.2.2.2 (14, 11, 8) (by decide) i hi
theorem RepM.a20 (h : RepM M (hv σ f) S) {i : Nat} (hi : i < 160) : f (M + 16) i = nI (S.2 20 i) := h.2.2.2 (20, 16, 160) (by decide) i hi
theorem RepM.a30 (h : RepM M (hv σ f) S) {i : Nat} (hi : i < 30) : f (M + 18) i = nI (S.2 30 i) := h.2.2.2 (30, 18, 30) (by decide) i hi
theorem RepM.a35 (h : RepM M (hv σ f) S) {i : Nat} (hi : i < 4) : f (M + 22) i = nI (S.2 35 i) := h.2.2.2 (35, 22, 4) (by decide) i hi
theorem RepM.a36 (h : RepM M (hv σ f) S) {i : Nat} (hi : i < 48) : f (M + 23) i = nI (S.2 36 i) := h.2.2.2 (36, 23, 48) (by decide) i hi
theorem RepM.a37 (h : RepM M (hv σ f) S) {i : Nat} (hi : i < 48) : f (M + 24) i = nI (S.2 37 i) := h.2.2.2 (37, 24, 48) (by decide) i hi
theorem RepM.a38 (h : RepM M (hv σ f) S) {i : Nat} (hi : i < 100) : f (M + 25) i = nI (S.2 38 i) := h.2.2.2 (38, 25, 100) (by decide) i hi
theorem RepX.s1 (h : RepX N (hv σ f) S) : f N 1 = nI (S.1 1) := h.2.2.1 (1, 1) (by decide)
theorem RepX.s6 (h : RepX N (hv σ f) S) : f N 3 = nI (S.1 6) := h.2.2.1 (3, 6) (by decide)
theorem RepX.s7 (h : RepX N (hv σ f) S) : f N 4 = nI (S.1 7) := h.2.2.1 (4, 7) (by decide)
theorem RepX.s0 (h : RepX N (hv σ f) S) : f N 6 = nI (S.1 0) := h.2.2.1 (6, 0) (by decide)
theorem RepX.s29 (h : RepX N (hv σ f) S) : f N 11 = nI (S.1 29) := h.2.2.1 (11, 29) (by decide)
theorem RepX.s19 (h : RepX N (hv σ f) S) : f N 13 = nI (S.1 19) := h.2.2.1 (13, 19) (by decide)
theorem RepX.a5 (h : RepX N (hv σ f) S) {i : Nat} (hi : i < 24) : f (N + 10) i = nI (S.2 5 i) := h.2.2.2.1 (10, 5, 24) (by decide) i hi
theorem RepX.a8 (h : RepX N (hv σ f) S) {i : Nat} (hi : i < 11) : f (N + 11) i = nI (S.2 8 i) := h.2.2.2.1 (11, 8, 11) (by decide) i hi
theorem RepX.a14 (h : RepX N (hv σ f) S) {i : Nat} (hi : i < 8) : f (N + 208) i = e1 (S.2 14 i) := h.2.2.2.1 (208, 14, 8) (by decide) i hi
theorem RepX.a9 (h : RepX N (hv σ f) S) {c : Nat} (hc : c < 48) : f (N + 12 + (2 + 2 * c)) 0 = e1 (S.2 9 c) := by
  have e : N + 12 + (2 + 2 * c) = N + (14 + 2 * c) := by omega
  rw [e]
  exact (h.2.2.2.2.2.1 c hc).1
theorem RepX.a10 (h : RepX N (hv σ f) S) {c : Nat} (hc : c < 48) : f (N + 12 + (2 + 2 * c)) 1 = nI (S.2 10 c) := by
  have e : N + 12 + (2 + 2 * c) = N + (14 + 2 * c) := by omega
  rw [e]
  exact (h.2.2.2.2.2.1 c hc).2.1
theorem RepX.a13 (h : RepX N (hv σ f) S) {c : Nat} (hc : c < 48) : f (N + 12 + (2 + 2 * c)) 3 = e1 (S.2 13 c) := by
  have e : N + 12 + (2 + 2 * c) = N + (14 + 2 * c) := by omega
  rw [e]
  exact (h.2.2.2.2.2.1 c hc).2.2.1
theorem RepX.a11 (h : RepX N (hv σ f) S) {c : Nat} (hc : c < 48) : f (N + 12 + (3 + 2 * c)) 0 = e1 (S.2 11 c) := by
  have e : N + 12 + (3 + 2 * c) = N + (15 + 2 * c) := by omega
  rw [e]
  exact (h.2.2.2.2.2.1 c hc).2.2.2.1
theorem RepX.a12 (h : RepX N (hv σ f) S) {c : Nat} (hc : c < 48) : f (N + 12 + (3 + 2 * c)) 1 = nI (S.2 12 c) := by
  have e : N + 12 + (3 + 2 * c) = N + (15 + 2 * c) := by omega
  rw [e]
  exact (h.2.2.2.2.2.1 c hc).2.2.2.2
theorem RepX.a35 (h : RepX N (hv σ f) S) {p : Nat} (hp : p < 4) : f (N + (233 + 3 * p)) 2 = nI (S.2 35 p) := (h.2.2.2.2.2.2.2.1 p hp).1
theorem RepX.a36 (h : RepX N (hv σ f) S) {p k : Nat} (hp : p < 4) (hk : k < 12) : f (N + (234 + 3 * p)) k = nI (S.2 36 (12 * p + k)) := ((h.2.2.2.2.2.2.2.1 p hp).2 k hk).1
theorem RepX.a37 (h : RepX N (hv σ f) S) {p k : Nat} (hp : p < 4) (hk : k < 12) : f (N + (235 + 3 * p)) k = nI (S.2 37 (12 * p + k)) := ((h.2.2.2.2.2.2.2.1 p hp).2 k hk).2
theorem RepX.a38 (h : RepX N (hv σ f) S) {a b : Nat} (ha : a < 10) (hb : b < 10) : f (N + (214 + a)) b = nI (S.2 38 (10 * a + b)) := h.2.2.2.2.2.2.2.2.1 a b ha hb
end RP
end
section
set_option maxRecDepth 100000
/-! pure law 5: marks, likeness -/
theorem nx_and (a b : Nat) : nI a &&& nI b = nI (a &&& b) := by
  apply Int32.toBitVec_inj.1
  show BitVec.ofNat 32 a &&& BitVec.ofNat 32 b = BitVec.ofNat 32 (a &&& b)
  apply BitVec.eq_of_getLsbD_eq
  intro i hi
  simp [hi]
def oMarks (t m : Int32) (S : St) : Int32 × St := if inR t 0 23 then (if inR m 0 255 then (nI (S.2 5 t.toNatClampNeg), w2 S 5 t.toNatClampNeg m.toNatClampNeg) else (-3, S)) else (-2, S)
theorem m_marks (M : Nat) (t m : Int32) : OkM M (fun σ => F_X10_marks σ M t m) (oMarks t m) := by
  intro σ S g h
  have s := h.1
  simp only [F_X10_marks, oMarks, gd_at s.1, x10_isThing, x10_inR _ m 0 255 0 255 rfl rfl, b2_some]
  rcases in_split t 0 23 (by omega) (by omega) with ⟨j, -, hj, rfl⟩ | ht
  case inr => simp only [if_neg ht, if00]; exact ⟨σ, rfl, h, FrM.rf⟩
  rcases in_split m 0 255 (by omega) (by omega) with ⟨k, -, hk, rfl⟩ | hm
  case inr => simp only [if_pos (inR_of (Nat.zero_le j) hj (by omega)), if10, if_neg hm, if00]; exact ⟨σ, rfl, h, FrM.rf⟩
  simp only [if_pos (inR_of (Nat.zero_le j) hj (by omega)), if_pos (inR_of (Nat.zero_le k) hk (by omega)), if10, s.r5, b1_some, aI_at s.n5 (show j < 24 by omega) (by decide), sI_at s.n5 (show j < 24 by omega) (by decide), nI_clamp (show j < 2 ^ 31 by omega), nI_clamp (show k < 2 ^ 31 by omega)]
  refine ⟨setI σ (M + 4) j (nI k), ?_, h.set (5, 4, 24) (by decide) j k, FrM.rf.si (by decide)⟩
  rw [h.2.2.2 (5, 4, 24) (by decide) j (by show j < 24; omega)]
  rfl
theorem x_marks (N : Nat) (t m : Int32) : OkX N (fun σ => F_X0_marks σ N t m) (oMarks t m) := by
  intro σ S g h
  have s := h.1
  simp only [F_X0_marks, oMarks, gd_at s.t0, x0_isThing, x0_inR _ m 0 255 0 255 (by decide) (by decide), b2_some]
  rcases in_split t 0 23 (by omega) (by omega) with ⟨j, -, hj, rfl⟩ | ht
  case inr => simp only [if_neg ht, if00]; exact ⟨σ, rfl, h, FrX.rf⟩
  rcases in_split m 0 255 (by omega) (by omega) with ⟨k, -, hk, rfl⟩ | hm
  case inr => simp only [if_pos (inR_of (Nat.zero_le j) hj (by omega)), if10, if_neg hm, if00]; exact ⟨σ, rfl, h, FrX.rf⟩
  simp only [if_pos (inR_of (Nat.zero_le j) hj (by omega)), if_pos (inR_of (Nat.zero_le k) hk (by omega)), if10, s.r2, b1_some, aI_at s.n10 (show j < 24 by omega) (by decide), sI_at s.n10 (show j < 24 by omega) (by decide), nI_clamp (show j < 2 ^ 31 by omega), nI_clamp (show k < 2 ^ 31 by omega)]
  refine ⟨setI σ (N + 10) j (nI k), ?_, h.wAr (10, 5, 24) (by decide) j k, FrX.rf.si (by decide)⟩
  rw [h.2.2.2.1 (10, 5, 24) (by decide) j (by show j < 24; omega)]
  rfl
/-! likeness -/
def pcn (m : Nat) : Nat → Nat
  | 0 => 0
  | i + 1 => pcn m i + m / 2 ^ i % 2
theorem pcn_le (m : Nat) : ∀ i, pcn m i ≤ i
  | 0 => Nat.le_refl _
  | i + 1 => by
    have := pcn_le m i
    show pcn m i + m / 2 ^ i % 2 ≤ i + 1
    omega
def lkn (S : St) (a b : Nat) : Nat := pcn (S.2 5 a &&& S.2 5 b) 8
theorem lkn_le (S : St) (a b : Nat) : lkn S a b ≤ 8 := pcn_le _ 8
theorem lkn_comm (S : St) (a b : Nat) : lkn S a b = lkn S b a := by unfold lkn; rw [Nat.and_comm]
theorem bit_ok : ∀ m, m < 256 → ∀ i, i < 8 → (nI m >>> (nI i &&& 31)) &&& 1 = nI (m / 2 ^ i % 2) := by decide +kernel
theorem bc_ok : ∀ m, m < 256 → (F_J0_bitCount (hp0 0) (nI m)).map (fun z => z.1) = some (nI (pcn m 8)) := by decide +kernel
theorem bc (σ : Hp) {m : Nat} (hm : m < 256) : F_J0_bitCount σ (nI m) = some (nI (pcn m 8), σ) := by
  have h := bc_ok m hm
  unfold F_J0_bitCount at h ⊢
  simp only [Option.map_some, Option.some.injEq] at h
  rw [h]
theorem and_lt {a b : Nat} (h : a < 256) : a &&& b < 256 := Nat.lt_of_le_of_lt Nat.and_le_left h
theorem m_lk {M : Nat} {σ : Hp} {S : St} (g : Good S) (h : RepM M σ S) {a b : Nat} (ha : a < 24) (hb : b < 24) : F_X10_likeness σ M (nI a) (nI b) = some (nI (lkn S a b), σ) := by
  have s := h.1
  simp only [F_X10_likeness, gd_at s.1, s.r5, b1_some, aI_at s.n5 ha (by decide), aI_at s.n5 hb (by decide)]
  have e1 := h.2.2.2 (5, 4, 24) (by decide) a ha
  have e2 := h.2.2.2 (5, 4, 24) (by decide) b hb
  have e1 : hI σ (M + 4) a = nI (S.2 5 a) := e1
  have e2 : hI σ (M + 4) b = nI (S.2 5 b) := e2
  rw [e1, e2, nx_and]
  have hm : S.2 5 a &&& S.2 5 b < 256 := and_lt (g.2.2.2.2.2.2.2.1 a ha)
  unfold lkn
  generalize S.2 5 a &&& S.2 5 b = m at hm
  obtain ⟨n, hn⟩ := it_FU (body := fun rec st => B_X10_likeness_20 σ (nI m) rec st.1 st.2) (fun i => (nI (pcn m i), nI i)) 0 8 (by decide) (by decide) (fun i _ hi rec => by
    simp only [B_X10_likeness_20, litI 8, le_lit (show 8 < 2147483648 by decide) (show i < 2147483648 by omega), if_neg (show ¬ 8 ≤ i by omega), bit_ok m hm i hi, nI_add, nI_1]
    rfl)
  show it (fun rec st => B_X10_likeness_20 σ (nI m) rec st.1 st.2) FU (nI 0, nI 0) = _
  have hn' : it (fun rec st => B_X10_likeness_20 σ (nI m) rec st.1 st.2) FU (nI 0, nI 0) = _ := hn
  rw [hn']
  simp only [B_X10_likeness_20, litI 8, le_lit (show 8 < 2147483648 by decide) (show 8 < 2147483648 by decide), Nat.le_refl, if_true]
theorem x_lk {N : Nat} {σ : Hp} {S : St} (g : Good S) (h : RepX N σ S) {a b : Nat} (ha : a < 24) (hb : b < 24) : F_X0_likeness σ N (nI a) (nI b) = some (nI (lkn S a b), σ) := by
  have s := h.1
  have e1 : hI σ (N + 10) a = nI (S.2 5 a) := h.2.2.2.1 (10, 5, 24) (by decide) a ha
  have e2 : hI σ (N + 10) b = nI (S.2 5 b) := h.2.2.2.1 (10, 5, 24) (by decide) b hb
  simp only [F_X0_likeness, gd_at s.t0, s.r2, b1_some, aI_at s.n10 ha (by decide), aI_at s.n10 hb (by decide), e1, e2, nx_and, bc σ (and_lt (b := S.2 5 b) (g.2.2.2.2.2.2.2.1 a ha)), b2_some]
  rfl
theorem x_isLike {N : Nat} {σ : Hp} {S : St} (g : Good S) (h : RepX N σ S) {a b : Nat} (ha : a < 24) (hb : b < 24) : F_X0_isLike σ N (nI a) (nI b) = some (if S.1 6 ≤ lkn S a b then 1 else 0, σ) := by
  have s := h.1
  have e1 : hI σ N 3 = nI (S.1 6) := h.2.2.1 (3, 6) (by decide)
  have h6 := g.2.2.1
  have hl := lkn_le S a b
  simp only [F_X0_isLike, gd_at s.t0, x_lk g h ha hb, b2_some, gI_at s.t0, b1_some, e1, lt_lit (show lkn S a b < 2147483648 by omega) (show S.1 6 < 2147483648 by omega)]
  by_cases q : S.1 6 ≤ lkn S a b
  · rw [if_neg (by omega), if_pos q]
  · rw [if_pos (by omega), if_neg q]
def oLike (a b : Int32) (S : St) : Int32 × St := if inR a 0 23 ∧ inR b 0 23 then (nI (lkn S a.toNatClampNeg b.toNatClampNeg), S) else (-2, S)
theorem m_like (M : Nat) (a b : Int32) : OkM M (fun σ => F_X10_like σ M a b) (oLike a b) := by
  intro σ S g h
  have s := h.1
  simp only [F_X10_like, oLike, gd_at s.1, x10_isThing, b2_some]
  rcases in_split a 0 23 (by omega) (by omega) with ⟨j, -, hj, rfl⟩ | ha
  case inr => rw [if_neg ha, if00, if_neg (fun q => ha q.1)]; exact ⟨σ, rfl, h, FrM.rf⟩
  rcases in_split b 0 23 (by omega) (by omega) with ⟨k, -, hk, rfl⟩ | hb
  case inr => rw [if_pos (inR_of (Nat.zero_le j) hj (by omega)), if10, if_neg hb, if00, if_neg (fun q => hb q.2)]; exact ⟨σ, rfl, h, FrM.rf⟩
  have q1 := inR_of (Nat.zero_le j) hj (by omega)
  have q2 := inR_of (Nat.zero_le k) hk (by omega)
  rw [if_pos q1, if10, if_pos q2, if10, if_pos ⟨q1, q2⟩, m_lk g h (by omega) (by omega), b2_some, nI_clamp (show j < 2 ^ 31 by omega), nI_clamp (show k < 2 ^ 31 by omega)]
  exact ⟨σ, rfl, h, FrM.rf⟩
theorem x_like (N : Nat) (a b : Int32) : OkX N (fun σ => F_X0_like σ N a b) (oLike a b) := by
  intro σ S g h
  have s := h.1
  simp only [F_X0_like, oLike, gd_at s.t0, x0_isThing, b2_some]
  rcases in_split a 0 23 (by omega) (by omega) with ⟨j, -, hj, rfl⟩ | ha
  case inr => rw [if_neg ha, if00, if_neg (fun q => ha q.1)]; exact ⟨σ, rfl, h, FrX.rf⟩
  rcases in_split b 0 23 (by omega) (by omega) with ⟨k, -, hk, rfl⟩ | hb
  case inr => rw [if_pos (inR_of (Nat.zero_le j) hj (by omega)), if10, if_neg hb, if00, if_neg (fun q => hb q.2)]; exact ⟨σ, rfl, h, FrX.rf⟩
  have q1 := inR_of (Nat.zero_le j) hj (by omega)
  have q2 := inR_of (Nat.zero_le k) hk (by omega)
  rw [if_pos q1, if10, if_pos q2, if10, if_pos ⟨q1, q2⟩, x_lk g h (by omega) (by omega), b2_some, nI_clamp (show j < 2 ^ 31 by omega), nI_clamp (show k < 2 ^ 31 by omega)]
  exact ⟨σ, rfl, h, FrX.rf⟩
end
section
set_option maxRecDepth 100000
/-! pure law 6: erase, set, fall, figures, answer, clear, corner -/
theorem cl_I {j : Nat} (h : j < 2147483648) : (nI j).toNatClampNeg = j := nI_clamp h
theorem w1_id (S : St) (k : Nat) : w1 S k (S.1 k) = S := by
  unfold w1
  have e : (fun j => if j = k then S.1 k else S.1 j) = S.1 := by
    funext j
    by_cases h : j = k
    · rw [if_pos h, h]
    · rw [if_neg h]
  rw [e]
def oErase (S : St) : Int32 × St := (nI (S.1 19), w1 S 19 0)
theorem m_erase (M : Nat) : OkMf M (fun σ => F_X10_erase σ M) oErase := by
  intro σ f S g h
  have s : SM M σ := h.1
  simp (decide := true) (disch := omega) only [F_X10_erase, gd_hv s.1, gI_hv s.1, pI_hv s.1, b1_some, b2_some, litI, neg1, nI_add, nI_mul, e1_p1, nI_e0, ib, ib1, ite_not, if_true, if_false, not_true_eq_false, not_false_eq_true, setI_hv, h.s19]
  exact ⟨_, rfl, h.setS 19 0, fun a k ha => u2_n (by omega)⟩
theorem x_erase (N : Nat) : OkXf N (fun σ => F_X0_erase σ N) oErase := by
  intro σ f S g h
  have s : SX N σ := h.1
  simp (decide := true) (disch := omega) only [F_X0_erase, gd_hv s.t0, gI_hv s.t0, pI_hv s.t0, b1_some, b2_some, litI, neg1, nI_add, nI_mul, e1_p1, nI_e0, ib, ib1, ite_not, if_true, if_false, not_true_eq_false, not_false_eq_true, setI_hv, h.s19]
  exact ⟨_, rfl, h.wSc (13, 19) (by decide) (by decide) 0, fun a k ha => u2_n (by omega)⟩
def oSet (w v : Int32) (S : St) : Int32 × St := if w = nI 0 ∧ inR v 1 8 then (nI (S.1 6), w1 S 6 v.toNatClampNeg) else if w = nI 1 ∧ inR v 0 100 then (nI (S.1 7), w1 S 7 v.toNatClampNeg) else (-3, S)
theorem m_set (M : Nat) (w v : Int32) : OkMf M (fun σ => F_X10_set σ M w v) (oSet w v) := by
  intro σ f S g h
  have s : SM M σ := h.1
  simp only [F_X10_set, F_X10_set_26, oSet, gd_hv s.1, x10_inR _ v 1 8 1 8 rfl rfl, x10_inR _ v 0 100 0 100 rfl rfl, b2_some]
  by_cases w0 : w = nI 0
  · subst w0
    rcases in_split v 1 8 (by omega) (by omega) with ⟨j, hj0, hj, rfl⟩ | hv
    · have q := eq_true (inR_of hj0 hj (by omega))
      simp (decide := true) (disch := omega) only [gd_hv s.1, gI_hv s.1, pI_hv s.1, b1_some, b2_some, litI, neg1, nI_add, nI_mul, e1_p1, nI_e0, ib, ib1, ite_not, if_true, if_false, not_true_eq_false, not_false_eq_true, setI_hv, q, h.s6, eq_lit, and_self, cl_I]
      exact ⟨_, rfl, h.setS 6 j, fun a k ha => u2_n (by omega)⟩
    · simp (decide := true) (disch := omega) only [gd_hv s.1, gI_hv s.1, pI_hv s.1, b1_some, b2_some, litI, neg1, nI_add, nI_mul, e1_p1, nI_e0, ib, ib1, ite_not, if_true, if_false, not_true_eq_false, not_false_eq_true, setI_hv, hv, eq_lit, and_false, false_and]
      exact ⟨_, rfl, h, fun _ _ _ => rfl⟩
  · by_cases w1' : w = nI 1
    · subst w1'
      rcases in_split v 0 100 (by omega) (by omega) with ⟨j, hj0, hj, rfl⟩ | hv
      · have q := eq_true (inR_of hj0 hj (by omega))
        simp (decide := true) (disch := omega) only [gd_hv s.1, gI_hv s.1, pI_hv s.1, b1_some, b2_some, litI, neg1, nI_add, nI_mul, e1_p1, nI_e0, ib, ib1, ite_not, if_true, if_false, not_true_eq_false, not_false_eq_true, setI_hv, q, h.s7, eq_lit, and_self, cl_I, false_and]
        exact ⟨_, rfl, h.setS 7 j, fun a k ha => u2_n (by omega)⟩
      · simp (decide := true) (disch := omega) only [gd_hv s.1, gI_hv s.1, pI_hv s.1, b1_some, b2_some, litI, neg1, nI_add, nI_mul, e1_p1, nI_e0, ib, ib1, ite_not, if_true, if_false, not_true_eq_false, not_false_eq_true, setI_hv, hv, eq_lit, and_false, false_and]
        exact ⟨_, rfl, h, fun _ _ _ => rfl⟩
    · simp (decide := true) (disch := omega) only [gd_hv s.1, gI_hv s.1, pI_hv s.1, b1_some, b2_some, litI, neg1, nI_add, nI_mul, e1_p1, nI_e0, ib, ib1, ite_not, if_true, if_false, not_true_eq_false, not_false_eq_true, setI_hv, w0, w1', false_and]
      exact ⟨_, rfl, h, fun _ _ _ => rfl⟩
theorem x_set (N : Nat) (w v : Int32) : OkXf N (fun σ => F_X0_set σ N w v) (oSet w v) := by
  intro σ f S g h
  have s : SX N σ := h.1
  simp only [F_X0_set, F_X0_set_29, F_X0_set_53, F_X0_set_67, oSet, gd_hv s.t0, x0_inR _ w 0 1 0 1 (by decide) (by decide), b2_some]
  rcases in_split w 0 1 (by omega) (by omega) with ⟨i, hi0, hi, rfl⟩ | hw
  case inr =>
    have n0 : ¬ w = nI 0 := fun q => hw (q ▸ inR_of (by omega) (by omega) (by omega))
    have n1 : ¬ w = nI 1 := fun q => hw (q ▸ inR_of (by omega) (by omega) (by omega))
    simp (decide := true) (disch := omega) only [b1_some, b2_some, litI, neg1, nI_add, nI_mul, e1_p1, nI_e0, ib, ib1, ite_not, if_true, if_false, not_true_eq_false, not_false_eq_true, setI_hv, hw, n0, n1, false_and]
    exact ⟨_, rfl, h, fun _ _ _ => rfl⟩
  have qi := eq_true (inR_of hi0 hi (by omega))
  have hi' : i = 0 ∨ i = 1 := by omega
  rcases hi' with rfl | rfl
  · have e : ∀ τ, F_X0_isIn τ v.toInt64 ((1 - nI 0 : Int32).toInt64) 8 = some (if inR v 1 8 then 1 else 0, τ) := fun τ => x0_inR τ v _ _ 1 8 (by decide) (by decide)
    simp only [qi, if_true, e, show ((nI 0 : Int32) = 0) = True from eq_true rfl, if10, b2_some]
    rcases in_split v 1 8 (by omega) (by omega) with ⟨j, hj0, hj, rfl⟩ | hv
    · have q := eq_true (inR_of hj0 hj (by omega))
      simp (decide := true) (disch := omega) only [gd_hv s.t0, gI_hv s.t0, pI_hv s.t0, b1_some, b2_some, litI, neg1, nI_add, nI_mul, e1_p1, nI_e0, ib, ib1, ite_not, if_true, if_false, not_true_eq_false, not_false_eq_true, setI_hv, q, h.s6, eq_lit, and_self, cl_I, u2_n]
      refine ⟨_, rfl, ?_, fun a k ha => ?_⟩
      · rw [h.s7]
        have r := (h.wSc (3, 6) (by decide) (by decide) j).wSc (4, 7) (by decide) (by decide) (S.1 7)
        have e2 : w1 (w1 S 6 j) 7 (S.1 7) = w1 S 6 j := w1_id (w1 S 6 j) 7
        rw [e2] at r
        exact r
      · rw [u2_n (by omega), u2_n (by omega)]
    · simp (decide := true) (disch := omega) only [b1_some, b2_some, litI, neg1, nI_add, nI_mul, e1_p1, nI_e0, ib, ib1, ite_not, if_true, if_false, not_true_eq_false, not_false_eq_true, setI_hv, hv, eq_lit, and_false, false_and]
      exact ⟨_, rfl, h, fun _ _ _ => rfl⟩
  · have e : ∀ τ, F_X0_isIn τ v.toInt64 ((1 - nI 1 : Int32).toInt64) 100 = some (if inR v 0 100 then 1 else 0, τ) := fun τ => x0_inR τ v _ _ 0 100 (by decide) (by decide)
    simp only [qi, if_true, e, show ((nI 1 : Int32) = 0) = False from eq_false (by decide), if_false, if10, b2_some]
    rcases in_split v 0 100 (by omega) (by omega) with ⟨j, hj0, hj, rfl⟩ | hv
    · have q := eq_true (inR_of hj0 hj (by omega))
      simp (decide := true) (disch := omega) only [gd_hv s.t0, gI_hv s.t0, pI_hv s.t0, b1_some, b2_some, litI, neg1, nI_add, nI_mul, e1_p1, nI_e0, ib, ib1, ite_not, if_true, if_false, not_true_eq_false, not_false_eq_true, setI_hv, q, h.s7, eq_lit, and_self, cl_I, false_and]
      refine ⟨_, rfl, ?_, fun a k ha => ?_⟩
      · rw [h.s6]
        have r := (h.wSc (3, 6) (by decide) (by decide) (S.1 6)).wSc (4, 7) (by decide) (by decide) j
        rw [w1_id] at r
        exact r
      · rw [u2_n (by omega), u2_n (by omega)]
    · simp (decide := true) (disch := omega) only [b1_some, b2_some, litI, neg1, nI_add, nI_mul, e1_p1, nI_e0, ib, ib1, ite_not, if_true, if_false, not_true_eq_false, not_false_eq_true, setI_hv, hv, eq_lit, and_false, false_and]
      exact ⟨_, rfl, h, fun _ _ _ => rfl⟩
def oFall (k v : Int32) (S : St) : Int32 × St := if inR k 0 10 ∧ inR v 0 30 then (nI (S.2 8 k.toNatClampNeg), w2 S 8 k.toNatClampNeg v.toNatClampNeg) else (-3, S)
theorem m_fall (M : Nat) (k v : Int32) : OkMf M (fun σ => F_X10_fall σ M k v) (oFall k v) := by
  intro σ f S g h
  have s : SM M σ := h.1
  simp only [F_X10_fall, oFall, gd_hv s.1, x10_inR _ k 0 10 0 10 rfl rfl, x10_inR _ v 0 30 0 30 rfl rfl, b2_some]
  rcases in_split k 0 10 (by omega) (by omega) with ⟨i, -, hi, rfl⟩ | hk
  case inr => simp (decide := true) (disch := omega) only [b1_some, b2_some, litI, neg1, nI_add, nI_mul, e1_p1, nI_e0, ib, ib1, ite_not, if_true, if_false, not_true_eq_false, not_false_eq_true, setI_hv, hk, false_and]; exact ⟨_, rfl, h, fun _ _ _ => rfl⟩
  have qi := eq_true (inR_of (Nat.zero_le i) hi (by omega))
  rcases in_split v 0 30 (by omega) (by omega) with ⟨j, -, hj, rfl⟩ | hv
  case inr => simp (decide := true) (disch := omega) only [b1_some, b2_some, litI, neg1, nI_add, nI_mul, e1_p1, nI_e0, ib, ib1, ite_not, if_true, if_false, not_true_eq_false, not_false_eq_true, setI_hv, qi, hv, and_false]; exact ⟨_, rfl, h, fun _ _ _ => rfl⟩
  have qj := eq_true (inR_of (Nat.zero_le j) hj (by omega))
  simp (decide := true) (disch := omega) only [gd_hv s.1, gI_hv s.1, pI_hv s.1, s.R8, s.A8, s.W8, b1_some, b2_some, litI, neg1, nI_add, nI_mul, e1_p1, nI_e0, ib, ib1, ite_not, if_true, if_false, not_true_eq_false, not_false_eq_true, setI_hv, qi, qj, and_self, h.a8, cl_I]
  exact ⟨_, rfl, h.set (8, 5, 11) (by decide) i j, fun a k ha => u2_n (by omega)⟩
theorem x_fall (N : Nat) (k v : Int32) : OkXf N (fun σ => F_X0_fall σ N k v) (oFall k v) := by
  intro σ f S g h
  have s : SX N σ := h.1
  simp only [F_X0_fall, oFall, gd_hv s.t0, x0_inR _ k 0 10 0 10 (by decide) (by decide), x0_inR _ v 0 30 0 30 (by decide) (by decide), b2_some]
  rcases in_split k 0 10 (by omega) (by omega) with ⟨i, -, hi, rfl⟩ | hk
  case inr => simp (decide := true) (disch := omega) only [b1_some, b2_some, litI, neg1, nI_add, nI_mul, e1_p1, nI_e0, ib, ib1, ite_not, if_true, if_false, not_true_eq_false, not_false_eq_true, setI_hv, hk, false_and]; exact ⟨_, rfl, h, fun _ _ _ => rfl⟩
  have qi := eq_true (inR_of (Nat.zero_le i) hi (by omega))
  rcases in_split v 0 30 (by omega) (by omega) with ⟨j, -, hj, rfl⟩ | hv
  case inr => simp (decide := true) (disch := omega) only [b1_some, b2_some, litI, neg1, nI_add, nI_mul, e1_p1, nI_e0, ib, ib1, ite_not, if_true, if_false, not_true_eq_false, not_false_eq_true, setI_hv, qi, hv, and_false]; exact ⟨_, rfl, h, fun _ _ _ => rfl⟩
  have qj := eq_true (inR_of (Nat.zero_le j) hj (by omega))
  simp (decide := true) (disch := omega) only [gd_hv s.t0, gI_hv s.t0, pI_hv s.t0, s.R5, s.A11, s.W11, b1_some, b2_some, litI, neg1, nI_add, nI_mul, e1_p1, nI_e0, ib, ib1, ite_not, if_true, if_false, not_true_eq_false, not_false_eq_true, setI_hv, qi, qj, and_self, h.a8, cl_I]
  exact ⟨_, rfl, h.wAr (11, 8, 11) (by decide) i j, fun a k ha => u2_n (by omega)⟩
/-! a write into the table of figures -/
theorem RepX.wAl {N : Nat} {σ : Hp} {f : Nat → Nat → Int32} {S : St} (h : RepX N (hv σ f) S) {a b : Nat} (ha : a < 10) (hb : b < 10) (v : Nat) : RepX N (hv σ (u2 (u2 f (N + (214 + a)) b (nI v)) (N + (214 + b)) a (nI v))) (w2 (w2 S 38 (10 * a + b) v) 38 (10 * b + a) v) := by
  obtain ⟨h1, h2, hA, hB, hC, hD, hE, hF, hG, hH⟩ := h
  have hx3 : ∀ x ∈ xAr, x.1 < 214 ∧ x.2.1 ≠ 38 := by decide
  refine ⟨h1, h2, (hA.ne (by omega)).ne (by omega), ((hB.ne (fun x hx => by have := hx3 x hx; omega)).ne (fun x hx => by have := hx3 x hx; omega)).cg (fun x hx i => by rw [w2_ne (hx3 x hx).2, w2_ne (hx3 x hx).2]), ?_, ((hD.ne (by omega)).ne (by omega)).cg (fun k _ _ i => by rw [w2_ne (by omega), w2_ne (by omega)]), ?_, ((hF.ne (by omega)).ne (by omega)).cg (fun k _ _ i => by rw [w2_ne (by omega), w2_ne (by omega)]), ?_, ?_⟩
  · rw [jn_w2 (by decide), jn_w2 (by decide)]; exact (hC.ne (by omega)).ne (by omega)
  · rw [w2_nf (by decide), w2_nf (by decide)]; exact (hE.ne (by omega)).ne (by omega)
  · intro x y hx hy
    have g := hG x y hx hy
    show u2 (u2 f (N + (214 + a)) b (nI v)) (N + (214 + b)) a (nI v) (N + (214 + x)) y = nI ((w2 (w2 S 38 (10 * a + b) v) 38 (10 * b + a) v).2 38 (10 * x + y))
    rw [w2_2, w2_2]
    by_cases q : x = b ∧ y = a
    · rw [u2_eq (by omega) q.2, if_pos ⟨rfl, by omega⟩]
    · rw [u2_n (by omega), if_neg (by omega)]
      by_cases q2 : x = a ∧ y = b
      · rw [u2_eq (by omega) q2.2, if_pos ⟨rfl, by omega⟩]
      · rw [u2_n (by omega), if_neg (by omega)]
        exact g
  · rw [w2_1, w2_1, w2_nf (by decide), w2_nf (by decide)]; exact (hH.ne (by omega)).ne (by omega)
def oFigures (a b v : Int32) (S : St) : Int32 × St := if inR a 0 9 ∧ inR b 0 9 ∧ ¬ a = b then (if inR v 0 9 then (nI (S.2 38 (10 * a.toNatClampNeg + b.toNatClampNeg)), w2 (w2 S 38 (10 * a.toNatClampNeg + b.toNatClampNeg) v.toNatClampNeg) 38 (10 * b.toNatClampNeg + a.toNatClampNeg) v.toNatClampNeg) else (-3, S)) else (-2, S)
theorem m_figures (M : Nat) (a b v : Int32) : OkMf M (fun σ => F_X10_figures σ M a b v) (oFigures a b v) := by
  intro σ f S g h
  have s : SM M σ := h.1
  simp only [F_X10_figures, oFigures, gd_hv s.1, x10_inR _ a 0 9 0 9 rfl rfl, x10_inR _ b 0 9 0 9 rfl rfl, x10_inR _ v 0 9 0 9 rfl rfl, b2_some]
  rcases in_split a 0 9 (by omega) (by omega) with ⟨i, -, hi, rfl⟩ | hk
  case inr => simp (decide := true) (disch := omega) only [b1_some, b2_some, litI, neg1, nI_add, nI_mul, e1_p1, nI_e0, ib, ib1, ite_not, if_true, if_false, not_true_eq_false, not_false_eq_true, setI_hv, hk, false_and]; exact ⟨_, rfl, h, fun _ _ _ => rfl⟩
  have qi := eq_true (inR_of (Nat.zero_le i) hi (by omega))
  rcases in_split b 0 9 (by omega) (by omega) with ⟨j, -, hj, rfl⟩ | hv
  case inr => simp (decide := true) (disch := omega) only [b1_some, b2_some, litI, neg1, nI_add, nI_mul, e1_p1, nI_e0, ib, ib1, ite_not, if_true, if_false, not_true_eq_false, not_false_eq_true, setI_hv, qi, hv, and_false, false_and]; exact ⟨_, rfl, h, fun _ _ _ => rfl⟩
  have qj := eq_true (inR_of (Nat.zero_le j) hj (by omega))
  by_cases hij : i = j
  · subst hij
    simp (decide := true) (disch := omega) only [b1_some, b2_some, litI, neg1, nI_add, nI_mul, e1_p1, nI_e0, ib, ib1, ite_not, if_true, if_false, not_true_eq_false, not_false_eq_true, setI_hv, qi, and_false]
    exact ⟨_, rfl, h, fun _ _ _ => rfl⟩
  rcases in_split v 0 9 (by omega) (by omega) with ⟨k, -, hk, rfl⟩ | hv
  case inr => simp (decide := true) (disch := omega) only [b1_some, b2_some, litI, neg1, nI_add, nI_mul, e1_p1, nI_e0, ib, ib1, ite_not, if_true, if_false, not_true_eq_false, not_false_eq_true, setI_hv, qi, qj, hv, hij, eq_lit, and_self]; exact ⟨_, rfl, h, fun _ _ _ => rfl⟩
  have qk := eq_true (inR_of (Nat.zero_le k) hk (by omega))
  simp (decide := true) (disch := omega) only [gd_hv s.1, gI_hv s.1, pI_hv s.1, s.R38, s.A38, s.W38, b1_some, b2_some, litI, neg1, nI_add, nI_mul, e1_p1, nI_e0, ib, ib1, ite_not, if_true, if_false, not_true_eq_false, not_false_eq_true, setI_hv, qi, qj, qk, hij, eq_lit, and_self, h.a38, cl_I]
  exact ⟨_, rfl, (h.set (38, 25, 100) (by decide) (10 * i + j) k).set (38, 25, 100) (by decide) (10 * j + i) k, fun a k ha => by rw [u2_n (by omega), u2_n (by omega)]⟩
theorem x_figures (N : Nat) (a b v : Int32) : OkXf N (fun σ => F_X0_figures σ N a b v) (oFigures a b v) := by
  intro σ f S g h
  have s : SX N σ := h.1
  simp only [F_X0_figures, oFigures, gd_hv s.t0, x0_inR _ a 0 9 0 9 (by decide) (by decide), x0_inR _ b 0 9 0 9 (by decide) (by decide), x0_inR _ v 0 9 0 9 (by decide) (by decide), b2_some]
  rcases in_split a 0 9 (by omega) (by omega) with ⟨i, -, hi, rfl⟩ | hk
  case inr => simp (decide := true) (disch := omega) only [b1_some, b2_some, litI, neg1, nI_add, nI_mul, e1_p1, nI_e0, ib, ib1, ite_not, if_true, if_false, not_true_eq_false, not_false_eq_true, setI_hv, hk, false_and]; exact ⟨_, rfl, h, fun _ _ _ => rfl⟩
  have qi := eq_true (inR_of (Nat.zero_le i) hi (by omega))
  rcases in_split b 0 9 (by omega) (by omega) with ⟨j, -, hj, rfl⟩ | hv
  case inr => simp (decide := true) (disch := omega) only [b1_some, b2_some, litI, neg1, nI_add, nI_mul, e1_p1, nI_e0, ib, ib1, ite_not, if_true, if_false, not_true_eq_false, not_false_eq_true, setI_hv, qi, hv, and_false, false_and]; exact ⟨_, rfl, h, fun _ _ _ => rfl⟩
  have qj := eq_true (inR_of (Nat.zero_le j) hj (by omega))
  by_cases hij : i = j
  · subst hij
    simp (decide := true) (disch := omega) only [b1_some, b2_some, litI, neg1, nI_add, nI_mul, e1_p1, nI_e0, ib, ib1, ite_not, if_true, if_false, not_true_eq_false, not_false_eq_true, setI_hv, qi, and_false]
    exact ⟨_, rfl, h, fun _ _ _ => rfl⟩
  rcases in_split v 0 9 (by omega) (by omega) with ⟨k, -, hk, rfl⟩ | hv
  case inr => simp (decide := true) (disch := omega) only [b1_some, b2_some, litI, neg1, nI_add, nI_mul, e1_p1, nI_e0, ib, ib1, ite_not, if_true, if_false, not_true_eq_false, not_false_eq_true, setI_hv, qi, qj, hv, hij, eq_lit, and_self]; exact ⟨_, rfl, h, fun _ _ _ => rfl⟩
  have qk := eq_true (inR_of (Nat.zero_le k) hk (by omega))
  simp (decide := true) (disch := omega) only [gd_hv s.t0, gI_hv s.t0, pI_hv s.t0, s.R16, s.K, s.AK, s.WK, b1_some, b2_some, litI, neg1, nI_add, nI_mul, e1_p1, nI_e0, ib, ib1, ite_not, if_true, if_false, not_true_eq_false, not_false_eq_true, setI_hv, qi, qj, qk, hij, eq_lit, and_self, h.a38, cl_I]
  exact ⟨_, rfl, h.wAl (by omega) (by omega) k, fun a k ha => by rw [u2_n (by omega), u2_n (by omega)]⟩
/-! a pupil's answer -/
theorem RepX.wPu {N : Nat} {σ : Hp} {f : Nat → Nat → Int32} {S : St} (h : RepX N (hv σ f) S) {p n : Nat} (hp : p < 4) (hn : n < 12) (d r m : Nat) : RepX N (hv σ (u2 (u2 (u2 f (N + (234 + 3 * p)) n (nI d)) (N + (235 + 3 * p)) n (nI r)) (N + (233 + 3 * p)) 2 (nI m))) (w2 (w2 (w2 S 36 (12 * p + n) d) 37 (12 * p + n) r) 35 p m) := by
  obtain ⟨h1, h2, hA, hB, hC, hD, hE, hF, hG, hH⟩ := h
  have hx3 : ∀ x ∈ xAr, x.1 < 214 ∧ x.2.1 < 35 := by decide
  refine ⟨h1, h2, ((hA.ne (by omega)).ne (by omega)).ne (by omega), (((hB.ne (fun x hx => by have := hx3 x hx; omega)).ne (fun x hx => by have := hx3 x hx; omega)).ne (fun x hx => by have := hx3 x hx; omega)).cg (fun x hx i => by have := (hx3 x hx).2; rw [w2_ne (by omega), w2_ne (by omega), w2_ne (by omega)]), ?_, (((hD.ne (by omega)).ne (by omega)).ne (by omega)).cg (fun k _ _ i => by rw [w2_ne (by omega), w2_ne (by omega), w2_ne (by omega)]), ?_, ?_, ?_, ?_⟩
  · rw [jn_w2 (by decide), jn_w2 (by decide), jn_w2 (by decide)]; exact ((hC.ne (by omega)).ne (by omega)).ne (by omega)
  · rw [w2_nf (by decide), w2_nf (by decide), w2_nf (by decide)]; exact ((hE.ne (by omega)).ne (by omega)).ne (by omega)
  · intro x hx
    have g := hF x hx
    refine ⟨?_, fun k hk => ⟨?_, ?_⟩⟩
    · show u2 (u2 (u2 f (N + (234 + 3 * p)) n (nI d)) (N + (235 + 3 * p)) n (nI r)) (N + (233 + 3 * p)) 2 (nI m) (N + (233 + 3 * x)) 2 = nI ((w2 (w2 (w2 S 36 (12 * p + n) d) 37 (12 * p + n) r) 35 p m).2 35 x)
      rw [w2_2]
      by_cases q : x = p
      · rw [u2_eq (by omega) rfl, if_pos ⟨rfl, q⟩]
      · rw [u2_n (by omega), u2_n (by omega), u2_n (by omega), if_neg (by omega), w2_ne (by decide), w2_ne (by decide)]
        exact g.1
    · show u2 (u2 (u2 f (N + (234 + 3 * p)) n (nI d)) (N + (235 + 3 * p)) n (nI r)) (N + (233 + 3 * p)) 2 (nI m) (N + (234 + 3 * x)) k = nI ((w2 (w2 (w2 S 36 (12 * p + n) d) 37 (12 * p + n) r) 35 p m).2 36 (12 * x + k))
      rw [u2_n (by omega), u2_n (by omega), w2_ne (by decide), w2_ne (by decide), w2_2]
      by_cases q : x = p ∧ k = n
      · rw [u2_eq (by omega) q.2, if_pos ⟨rfl, by omega⟩]
      · rw [u2_n (by omega), if_neg (by omega)]
        exact (g.2 k hk).1
    · show u2 (u2 (u2 f (N + (234 + 3 * p)) n (nI d)) (N + (235 + 3 * p)) n (nI r)) (N + (233 + 3 * p)) 2 (nI m) (N + (235 + 3 * x)) k = nI ((w2 (w2 (w2 S 36 (12 * p + n) d) 37 (12 * p + n) r) 35 p m).2 37 (12 * x + k))
      rw [u2_n (by omega), w2_ne (by decide), w2_2]
      by_cases q : x = p ∧ k = n
      · rw [u2_eq (by omega) q.2, if_pos ⟨rfl, by omega⟩]
      · rw [u2_n (by omega), u2_n (by omega), if_neg (by omega), w2_ne (by decide)]
        exact (g.2 k hk).2
  · rw [w2_nf (by decide), w2_nf (by decide), w2_nf (by decide)]; exact ((hG.ne (by omega)).ne (by omega)).ne (by omega)
  · rw [w2_1, w2_1, w2_1, w2_nf (by decide), w2_nf (by decide), w2_nf (by decide)]; exact ((hH.ne (by omega)).ne (by omega)).ne (by omega)
theorem nar01 : ∀ r, r ≤ 1 → vp_nar .boolean (nI r) = nI r := by
  intro r hr
  have : r = 0 ∨ r = 1 := by omega
  rcases this with rfl | rfl
  · rfl
  · rfl
def oAnswer (p d : Int32) (r : Nat) (S : St) : Int32 × St := if inR p 0 3 then (if inR d 1 60 then (if S.2 35 p.toNatClampNeg = 12 then (-5, S) else (nI (S.2 35 p.toNatClampNeg + 1), w2 (w2 (w2 S 36 (12 * p.toNatClampNeg + S.2 35 p.toNatClampNeg) d.toNatClampNeg) 37 (12 * p.toNatClampNeg + S.2 35 p.toNatClampNeg) r) 35 p.toNatClampNeg (S.2 35 p.toNatClampNeg + 1))) else (-3, S)) else (-2, S)
theorem m_answer (M : Nat) (p d : Int32) (r : Nat) (hr : r ≤ 1) : OkMf M (fun σ => F_X10_answer σ M p d (nI r)) (oAnswer p d r) := by
  intro σ f S g h
  have s : SM M σ := h.1
  simp only [F_X10_answer, oAnswer, gd_hv s.1, x10_isPupil, x10_inR _ d 1 60 1 60 rfl rfl, b2_some]
  rcases in_split p 0 3 (by omega) (by omega) with ⟨i, -, hi, rfl⟩ | hk
  case inr => simp (decide := true) (disch := omega) only [b1_some, b2_some, litI, neg1, nI_add, nI_mul, e1_p1, nI_e0, ib, ib1, ite_not, if_true, if_false, not_true_eq_false, not_false_eq_true, setI_hv, hk]; exact ⟨_, rfl, h, fun _ _ _ => rfl⟩
  have qi := eq_true (inR_of (Nat.zero_le i) hi (by omega))
  rcases in_split d 1 60 (by omega) (by omega) with ⟨j, hj0, hj, rfl⟩ | hv
  case inr => simp (decide := true) (disch := omega) only [b1_some, b2_some, litI, neg1, nI_add, nI_mul, e1_p1, nI_e0, ib, ib1, ite_not, if_true, if_false, not_true_eq_false, not_false_eq_true, setI_hv, qi, hv]; exact ⟨_, rfl, h, fun _ _ _ => rfl⟩
  have qj := eq_true (inR_of hj0 hj (by omega))
  have hb : S.2 35 i ≤ 12 := g.2.2.2.2.2.2.2.2.2.2.2.2.2.2.1 i (by omega)
  by_cases q : S.2 35 i = 12
  · simp (decide := true) (disch := omega) only [gd_hv s.1, gI_hv s.1, pI_hv s.1, s.R35, s.A35, s.W35, b1_some, b2_some, litI, neg1, nI_add, nI_mul, e1_p1, nI_e0, ib, ib1, ite_not, if_true, if_false, not_true_eq_false, not_false_eq_true, setI_hv, qi, qj, h.a35, cl_I, eq_lit, q]
    exact ⟨_, rfl, h, fun _ _ _ => rfl⟩
  · simp (decide := true) (disch := omega) only [gd_hv s.1, gI_hv s.1, pI_hv s.1, s.R35, s.A35, s.W35, s.R36, s.A36, s.W36, s.R37, s.A37, s.W37, b1_some, b2_some, litI, neg1, nI_add, nI_mul, e1_p1, nI_e0, ib, ib1, ite_not, if_true, if_false, not_true_eq_false, not_false_eq_true, setI_hv, qi, qj, h.a35, cl_I, eq_lit, q, u2_n, u2_e, nar01 r hr]
    exact ⟨_, rfl, ((h.set (36, 23, 48) (by decide) (12 * i + S.2 35 i) j).set (37, 24, 48) (by decide) (12 * i + S.2 35 i) r).set (35, 22, 4) (by decide) i (S.2 35 i + 1), fun a k ha => by rw [u2_n (by omega), u2_n (by omega), u2_n (by omega)]⟩
theorem x_answer (N : Nat) (p d : Int32) (r : Nat) (hr : r ≤ 1) : OkXf N (fun σ => F_X0_answer σ N p d (nI r)) (oAnswer p d r) := by
  intro σ f S g h
  have s : SX N σ := h.1
  simp only [F_X0_answer, oAnswer, gd_hv s.t0, x0_isPupil, x0_inR _ d 1 60 1 60 (by decide) (by decide), b2_some]
  rcases in_split p 0 3 (by omega) (by omega) with ⟨i, -, hi, rfl⟩ | hk
  case inr => simp (decide := true) (disch := omega) only [b1_some, b2_some, litI, neg1, nI_add, nI_mul, e1_p1, nI_e0, ib, ib1, ite_not, if_true, if_false, not_true_eq_false, not_false_eq_true, setI_hv, hk]; exact ⟨_, rfl, h, fun _ _ _ => rfl⟩
  have qi := eq_true (inR_of (Nat.zero_le i) hi (by omega))
  rcases in_split d 1 60 (by omega) (by omega) with ⟨j, hj0, hj, rfl⟩ | hv
  case inr => simp (decide := true) (disch := omega) only [b1_some, b2_some, litI, neg1, nI_add, nI_mul, e1_p1, nI_e0, ib, ib1, ite_not, if_true, if_false, not_true_eq_false, not_false_eq_true, setI_hv, qi, hv]; exact ⟨_, rfl, h, fun _ _ _ => rfl⟩
  have qj := eq_true (inR_of hj0 hj (by omega))
  have hb : S.2 35 i ≤ 12 := g.2.2.2.2.2.2.2.2.2.2.2.2.2.2.1 i (by omega)
  by_cases q : S.2 35 i = 12
  · simp (decide := true) (disch := omega) only [gd_hv s.t0, gI_hv s.t0, pI_hv s.t0, s.R21, s.P, s.PI, b1_some, b2_some, litI, neg1, nI_add, nI_mul, e1_p1, nI_e0, ib, ib1, ite_not, if_true, if_false, not_true_eq_false, not_false_eq_true, setI_hv, qi, qj, h.a35, cl_I, eq_lit, q]
    exact ⟨_, rfl, h, fun _ _ _ => rfl⟩
  · simp (decide := true) (disch := omega) only [gd_hv s.t0, gI_hv s.t0, pI_hv s.t0, s.R21, s.P, s.PI, s.PW, s.PD, s.PR, s.WPD, s.WPR, b1_some, b2_some, litI, neg1, nI_add, nI_mul, e1_p1, nI_e0, ib, ib1, ite_not, if_true, if_false, not_true_eq_false, not_false_eq_true, setI_hv, qi, qj, h.a35, cl_I, eq_lit, q, u2_n, u2_e, nar01 r hr]
    exact ⟨_, rfl, h.wPu (by omega) (by omega) j r _, fun a k ha => by rw [u2_n (by omega), u2_n (by omega), u2_n (by omega)]⟩
end
section
set_option maxRecDepth 100000
/-! pure law 7: corners: clear, corner, where, put -/
theorem w2_n {S : St} {k i v q j : Nat} (h : ¬ (q = k ∧ j = i)) : (w2 S k i v).2 q j = S.2 q j := if_neg h
theorem RepX.hs {N : Nat} {σ : Hp} {f f' : Nat → Nat → Int32} {S S' : St} (h : RepX N (hv σ f) S) (hf : ∀ a k, (∀ o, 14 ≤ o → o < 110 → a ≠ N + o) → f' a k = f a k) (h1 : S'.1 = S.1) (h2 : ∀ k, k < 9 ∨ 13 < k → S'.2 k = S.2 k)
    (hd : ∀ c, c < 48 → f' (N + 12 + (2 + 2 * c)) 0 = e1 (S'.2 9 c) ∧ f' (N + 12 + (2 + 2 * c)) 1 = nI (S'.2 10 c) ∧ f' (N + 12 + (2 + 2 * c)) 3 = e1 (S'.2 13 c) ∧ f' (N + 12 + (3 + 2 * c)) 0 = e1 (S'.2 11 c) ∧ f' (N + 12 + (3 + 2 * c)) 1 = nI (S'.2 12 c)) : RepX N (hv σ f') S' := by
  obtain ⟨g1, g2, hA, hB, hC, hD, hE, hF, hG, L, l1, l2, l3, l4⟩ := h
  have hx3 : ∀ x ∈ xAr, (x.1 < 14 ∨ 110 ≤ x.1) ∧ (x.2.1 < 9 ∨ 13 < x.2.1) := by decide
  have ho : ∀ o k, o < 14 ∨ 110 ≤ o → f' (N + o) k = f (N + o) k := fun o k q => hf _ _ (fun o' _ _ e => by omega)
  refine ⟨g1, g2, fun x hx => ?_, fun x hx i hi => ?_, fun a b ha hb => ?_, fun c hc => ?_, fun i hi => ?_, fun p hp => ?_, fun a b ha hb => ?_, L, l1, l2, l3, fun i hi => ?_⟩
  · rw [h1]
    exact (ho 0 _ (by omega)).trans (hA x hx)
  · rw [h2 _ (hx3 x hx).2]
    exact (ho _ _ (hx3 x hx).1).trans (hB x hx i hi)
  · have e : jn S' a b = jn S a b := by
      unfold jn
      rw [h1, h2 2 (by omega), h2 3 (by omega)]
    rw [e]
    have e2 : hI (hv σ f') (N + (2 + a)) b = hI (hv σ f) (N + (2 + a)) b := ho _ _ (by omega)
    rw [e2]
    exact hC a b ha hb
  · have e1 : N + (14 + 2 * c) = N + 12 + (2 + 2 * c) := by omega
    have e2 : N + (15 + 2 * c) = N + 12 + (3 + 2 * c) := by omega
    rw [e1, e2]
    exact hd c hc
  · rw [h2 20 (by omega)]
    exact (ho _ _ (by omega)).trans (hE i hi)
  · rw [h2 35 (by omega), h2 36 (by omega), h2 37 (by omega)]
    exact ⟨(ho _ _ (by omega)).trans (hF p hp).1, fun k hk => ⟨(ho _ _ (by omega)).trans ((hF p hp).2 k hk).1, (ho _ _ (by omega)).trans ((hF p hp).2 k hk).2⟩⟩
  · rw [h2 38 (by omega)]
    exact (ho _ _ (by omega)).trans (hG a b ha hb)
  · rw [h1] at hi
    obtain ⟨a, q1, q2, q3, q4⟩ := l4 i hi
    refine ⟨a, q1, q2, q3, ?_⟩
    rw [h2 30 (by omega)]
    unfold LnAt
    have ea : ∀ k, hI (hv σ f') a k = hI (hv σ f) a k := fun k => hf _ _ (fun o' _ _ e => by omega)
    rw [ea, ea]
    exact q4
/-! is it there -/
section TH
variable {N H : Nat} {σ : Hp} {f : Nat → Nat → Int32} {c : Nat}
theorem HS.there (hs : HS N H σ) (hc : c < 48) {t : Nat} (ht : t < 1000) (e : f (H + (2 + 2 * c)) 0 = e1 t) : F_X2_isThere_3 (hv σ f) (H + (2 + 2 * c)) = some (if t ≠ 0 then nI 1 else nI 0, hv σ f) := by
  by_cases q : t = 0
  · simp (decide := true) (disch := omega) only [F_X2_isThere_3, hs.D, hs.R0, hs.R1, hs.N, hs.C, hs.CD, hs.CI, hs.CW, hs.G, hs.GD, hs.GI, hs.GW, b1_some, b2_some, litI, neg1, nI_add, nI_mul, e1_p1, nI_e0, ib, ib1, ite_not, if_true, if_false, not_true_eq_false, not_false_eq_true, setI_hv, e, e1_inj, q, ne_eq]
  · simp (decide := true) (disch := omega) only [F_X2_isThere_3, hs.D, hs.R0, hs.R1, hs.N, hs.C, hs.CD, hs.CI, hs.CW, hs.G, hs.GD, hs.GI, hs.GW, b1_some, b2_some, litI, neg1, nI_add, nI_mul, e1_p1, nI_e0, ib, ib1, ite_not, if_true, if_false, not_true_eq_false, not_false_eq_true, setI_hv, e, e1_inj, q, ne_eq]
theorem HS.ghost (hs : HS N H σ) (hc : c < 48) {t w : Nat} (ht : t < 1000) (hw : w < 1000) (e : f (H + (3 + 2 * c)) 0 = e1 t) (e' : f (H + (3 + 2 * c)) 1 = nI w) : F_X4_isThere (hv σ f) (H + (3 + 2 * c)) = some (if t ≠ 0 ∧ w ≠ 0 then nI 1 else nI 0, hv σ f) := by
  by_cases q : t = 0
  · simp (decide := true) (disch := omega) only [F_X4_isThere, F_X2_isThere_4, hs.D, hs.R0, hs.R1, hs.N, hs.C, hs.CD, hs.CI, hs.CW, hs.G, hs.GD, hs.GI, hs.GW, b1_some, b2_some, litI, neg1, nI_add, nI_mul, e1_p1, nI_e0, ib, ib1, ite_not, if_true, if_false, not_true_eq_false, not_false_eq_true, setI_hv, e, e1_inj, q, ne_eq, false_and]
  · by_cases q2 : w = 0
    · simp (decide := true) (disch := omega) only [F_X4_isThere, F_X2_isThere_4, hs.D, hs.R0, hs.R1, hs.N, hs.C, hs.CD, hs.CI, hs.CW, hs.G, hs.GD, hs.GI, hs.GW, b1_some, b2_some, litI, neg1, nI_add, nI_mul, e1_p1, nI_e0, ib, ib1, ite_not, if_true, if_false, not_true_eq_false, not_false_eq_true, setI_hv, e, e', e1_inj, eq_lit, le_lit, q, q2, ne_eq, and_false, Nat.le_refl]
    · simp (decide := true) (disch := omega) only [F_X4_isThere, F_X2_isThere_4, hs.D, hs.R0, hs.R1, hs.N, hs.C, hs.CD, hs.CI, hs.CW, hs.G, hs.GD, hs.GI, hs.GW, b1_some, b2_some, litI, neg1, nI_add, nI_mul, e1_p1, nI_e0, ib, ib1, ite_not, if_true, if_false, not_true_eq_false, not_false_eq_true, setI_hv, e, e', e1_inj, eq_lit, le_lit, q, q2, ne_eq, and_self, show ¬ w ≤ 0 by omega]
end TH
theorem Good.cn {S : St} (g : Good S) {c : Nat} (hc : c < 48) : S.2 9 c ≤ 24 ∧ S.2 10 c ≤ 100 ∧ S.2 11 c ≤ 24 ∧ S.2 12 c ≤ 100 ∧ S.2 13 c ≤ S.1 0 + 1 ∧ (S.2 9 c = 0 → S.2 10 c = 0 ∧ S.2 11 c = 0) ∧ (S.2 11 c = 0 ↔ S.2 12 c = 0) := g.2.2.2.2.2.2.2.2.2.1 c hc
theorem Good.dy {S : St} (g : Good S) : S.1 0 ≤ 400 := g.1
theorem Good.un {S : St} (g : Good S) {c d : Nat} (hc : c < 48) (hd : d < 48) (e : S.2 9 c = S.2 9 d) (h0 : S.2 9 c ≠ 0) : c = d := g.2.2.2.2.2.2.2.2.2.2.1 c d hc hd e h0
def oClear (c : Int32) (S : St) : Int32 × St := if inR c 0 47 then (if S.2 9 c.toNatClampNeg = 0 then (-4, S) else (e1 (S.2 9 c.toNatClampNeg), w2 (w2 (w2 (w2 S 9 c.toNatClampNeg 0) 11 c.toNatClampNeg 0) 10 c.toNatClampNeg 0) 12 c.toNatClampNeg 0)) else (-2, S)
theorem m_clear (M : Nat) (c : Int32) : OkMf M (fun σ => F_X10_clear σ M c) (oClear c) := by
  intro σ f S g h
  have s : SM M σ := h.1
  simp only [F_X10_clear, oClear, gd_hv s.1, x10_isCorner, b2_some]
  rcases in_split c 0 47 (by omega) (by omega) with ⟨i, -, hi, rfl⟩ | hk
  case inr => simp (decide := true) (disch := omega) only [b1_some, b2_some, litI, neg1, nI_add, nI_mul, e1_p1, nI_e0, ib, ib1, ite_not, if_true, if_false, not_true_eq_false, not_false_eq_true, setI_hv, hk]; exact ⟨_, rfl, h, fun _ _ _ => rfl⟩
  have qi := eq_true (inR_of (Nat.zero_le i) hi (by omega))
  have hb := g.cn (c := i) (by omega)
  by_cases q : S.2 9 i = 0
  · simp (decide := true) (disch := omega) only [gd_hv s.1, gI_hv s.1, pI_hv s.1, s.R9, s.A9, s.W9, b1_some, b2_some, litI, neg1, nI_add, nI_mul, e1_p1, nI_e0, ib, ib1, ite_not, if_true, if_false, not_true_eq_false, not_false_eq_true, setI_hv, qi, h.a9, cl_I, e1_inj, q]
    exact ⟨_, rfl, h, fun _ _ _ => rfl⟩
  · simp (decide := true) (disch := omega) only [gd_hv s.1, gI_hv s.1, pI_hv s.1, s.R9, s.A9, s.W9, s.R10, s.A10, s.W10, s.R11, s.A11, s.W11, s.R12, s.A12, s.W12, b1_some, b2_some, litI, neg1, nI_add, nI_mul, e1_p1, nI_e0, ib, ib1, ite_not, if_true, if_false, not_true_eq_false, not_false_eq_true, setI_hv, qi, h.a9, cl_I, e1_inj, q]
    exact ⟨_, rfl, (((h.set (9, 6, 48) (by decide) i 0).set (11, 8, 48) (by decide) i 0).set (10, 7, 48) (by decide) i 0).set (12, 9, 48) (by decide) i 0, fun a k ha => by rw [u2_n (by omega), u2_n (by omega), u2_n (by omega), u2_n (by omega)]⟩
theorem x_clear (N : Nat) (c : Int32) : OkXf N (fun σ => F_X0_clear σ N c) (oClear c) := by
  intro σ f S g h
  have s : SX N σ := h.1
  simp only [F_X0_clear, oClear, gd_hv s.t0, x0_isCorner, b2_some]
  rcases in_split c 0 47 (by omega) (by omega) with ⟨i, -, hi, rfl⟩ | hk
  case inr => simp (decide := true) (disch := omega) only [b1_some, b2_some, litI, neg1, nI_add, nI_mul, e1_p1, nI_e0, ib, ib1, ite_not, if_true, if_false, not_true_eq_false, not_false_eq_true, setI_hv, hk]; exact ⟨_, rfl, h, fun _ _ _ => rfl⟩
  have qi := eq_true (inR_of (Nat.zero_le i) hi (by omega))
  have hb := g.cn (c := i) (by omega)
  have th := s.h12.there (f := f) (c := i) (by omega) (by omega : S.2 9 i < 1000) (h.a9 (by omega))
  by_cases q : S.2 9 i = 0
  · simp (decide := true) (disch := omega) only [gd_hv s.t0, gI_hv s.t0, pI_hv s.t0, s.R7, s.R12_0, s.C12, s.h12.CD, s.h12.CI, s.h12.CW, s.h12.G, s.h12.GD, s.h12.GI, s.h12.GW, th, b1_some, b2_some, litI, neg1, nI_add, nI_mul, e1_p1, nI_e0, ib, ib1, ite_not, if_true, if_false, not_true_eq_false, not_false_eq_true, setI_hv, qi, h.a9, cl_I, e1_inj, q, ne_eq, not_true_eq_false]
    exact ⟨_, rfl, h, fun _ _ _ => rfl⟩
  · simp (decide := true) (disch := omega) only [gd_hv s.t0, gI_hv s.t0, pI_hv s.t0, s.R7, s.R12_0, s.C12, s.h12.CD, s.h12.CI, s.h12.CW, s.h12.G, s.h12.GD, s.h12.GI, s.h12.GW, th, F_X2_lay_3, F_X2_lay_4, b1_some, b2_some, litI, neg1, nI_add, nI_mul, e1_p1, nI_e0, ib, ib1, ite_not, if_true, if_false, not_true_eq_false, not_false_eq_true, setI_hv, qi, h.a9, cl_I, e1_inj, q, ne_eq]
    refine ⟨_, rfl, h.hs (fun a k ha => ?_) rfl (fun k hk => ?_) (fun d hd => ?_), fun a k ha => by rw [u2_n (by omega), u2_n (by omega), u2_n (by omega), u2_n (by omega)]⟩
    · have e1 := ha (14 + 2 * i) (by omega) (by omega)
      have e2 := ha (15 + 2 * i) (by omega) (by omega)
      rw [u2_n (by omega), u2_n (by omega), u2_n (by omega), u2_n (by omega)]
    · rw [w2_nf (by omega), w2_nf (by omega), w2_nf (by omega), w2_nf (by omega)]
    · by_cases e : d = i
      · subst e
        simp (decide := true) (disch := omega) only [u2_n, u2_e, w2_n, w2_eq, h.a13]
      · simp (decide := true) (disch := omega) only [u2_n, w2_n]
        exact ⟨h.a9 hd, h.a10 hd, h.a13 hd, h.a11 hd, h.a12 hd⟩
def oCorner (c w : Int32) (S : St) : Int32 × St := if inR c 0 47 then (if w = nI 0 then (e1 (S.2 9 c.toNatClampNeg), S) else if w = nI 1 then (if S.2 9 c.toNatClampNeg = 0 then -1 else nI (S.2 10 c.toNatClampNeg), S) else if w = nI 2 then (e1 (S.2 11 c.toNatClampNeg), S) else if w = nI 3 then (if S.2 11 c.toNatClampNeg = 0 then -1 else nI (S.2 12 c.toNatClampNeg), S) else if w = nI 4 then (e1 (S.2 13 c.toNatClampNeg), S) else (-3, S)) else (-2, S)
theorem m_corner (M : Nat) (c w : Int32) : OkMf M (fun σ => F_X10_corner σ M c w) (oCorner c w) := by
  intro σ f S g h
  have s : SM M σ := h.1
  simp only [F_X10_corner, oCorner, gd_hv s.1, x10_isCorner, b2_some]
  rcases in_split c 0 47 (by omega) (by omega) with ⟨i, -, hi, rfl⟩ | hk
  case inr => simp (decide := true) (disch := omega) only [b1_some, b2_some, litI, neg1, nI_add, nI_mul, e1_p1, nI_e0, ib, ib1, ite_not, if_true, if_false, not_true_eq_false, not_false_eq_true, setI_hv, hk]; exact ⟨_, rfl, h, fun _ _ _ => rfl⟩
  have qi := eq_true (inR_of (Nat.zero_le i) hi (by omega))
  have hb := g.cn (c := i) (by omega)
  simp (decide := true) (disch := omega) only [gd_hv s.1, gI_hv s.1, pI_hv s.1, s.R9, s.A9, s.W9, s.R10, s.A10, s.W10, s.R11, s.A11, s.W11, s.R12, s.A12, s.W12, s.R13, s.A13, s.W13, b1_some, b2_some, litI, neg1, nI_add, nI_mul, e1_p1, nI_e0, ib, ib1, ite_not, if_true, if_false, not_true_eq_false, not_false_eq_true, setI_hv, qi, h.a9, h.a10, h.a11, h.a12, h.a13, cl_I, e1_inj]
  refine ⟨f, ?_, ?_, fun _ _ _ => rfl⟩
  · repeat' split
    all_goals rfl
  · repeat' split
    all_goals exact h
theorem x_corner (N : Nat) (c w : Int32) : OkXf N (fun σ => F_X0_corner σ N c w) (oCorner c w) := by
  intro σ f S g h
  have s : SX N σ := h.1
  simp only [F_X0_corner, oCorner, gd_hv s.t0, x0_isCorner, b2_some]
  rcases in_split c 0 47 (by omega) (by omega) with ⟨i, -, hi, rfl⟩ | hk
  case inr => simp (decide := true) (disch := omega) only [b1_some, b2_some, litI, neg1, nI_add, nI_mul, e1_p1, nI_e0, ib, ib1, ite_not, if_true, if_false, not_true_eq_false, not_false_eq_true, setI_hv, hk]; exact ⟨_, rfl, h, fun _ _ _ => rfl⟩
  have qi := eq_true (inR_of (Nat.zero_le i) hi (by omega))
  have hb := g.cn (c := i) (by omega)
  have th := s.h12.there (f := f) (c := i) (by omega) (by omega : S.2 9 i < 1000) (h.a9 (by omega))
  have gh := s.h12.ghost (f := f) (c := i) (by omega) (by omega : S.2 11 i < 1000) (by omega : S.2 12 i < 1000) (h.a11 (by omega)) (h.a12 (by omega))
  by_cases q1 : S.2 11 i = 0 <;> by_cases q2 : S.2 9 i = 0
  all_goals
    have q3 : (S.2 12 i = 0) = (S.2 11 i = 0) := propext (by omega)
    simp (decide := true) (disch := omega) only [gd_hv s.t0, gI_hv s.t0, pI_hv s.t0, s.R7, s.R12_0, s.C12, s.h12.CD, s.h12.CI, s.h12.CW, s.h12.G, s.h12.GD, s.h12.GI, s.h12.GW, th, gh, q1, q2, q3, b1_some, b2_some, litI, neg1, nI_add, nI_mul, e1_p1, nI_e0, ib, ib1, ite_not, if_true, if_false, not_true_eq_false, not_false_eq_true, setI_hv, qi, h.a9, h.a10, h.a11, h.a12, h.a13, cl_I, e1_inj, eq_lit, ne_eq, and_self, and_false, false_and]
    refine ⟨f, ?_, ?_, fun _ _ _ => rfl⟩
    · repeat' split
      all_goals rfl
    · repeat' split
      all_goals exact h
/-! where a thing is: 0 nowhere, c + 1 in the corner c -/
def wl (S : St) (t : Nat) : Nat → Nat
  | 0 => 0
  | n + 1 => if S.2 9 n = t + 1 then n + 1 else wl S t n
def whr (S : St) (t : Nat) : Nat := wl S t 48
theorem wl_le (S : St) (t : Nat) : ∀ n, wl S t n ≤ n
  | 0 => Nat.le_refl _
  | n + 1 => by
    have := wl_le S t n
    unfold wl
    split <;> omega
theorem wl_none {S : St} {t : Nat} : ∀ n, (∀ c, c < n → S.2 9 c ≠ t + 1) → wl S t n = 0
  | 0, _ => rfl
  | n + 1, h => by
    unfold wl
    rw [if_neg (h n (by omega))]
    exact wl_none n (fun c hc => h c (by omega))
theorem wl_at {S : St} (g : Good S) {t c : Nat} (hc : c < 48) (e : S.2 9 c = t + 1) : ∀ n, c < n → n ≤ 48 → wl S t n = c + 1
  | 0, h, _ => by omega
  | n + 1, h, h' => by
    unfold wl
    by_cases q : S.2 9 n = t + 1
    · rw [if_pos q, g.un (by omega) hc (q.trans e.symm) (by omega)]
    · rw [if_neg q]
      refine wl_at g hc e n ?_ (by omega)
      by_cases q2 : c = n
      · subst q2
        exact absurd e q
      · omega
theorem whr_le (S : St) (t : Nat) : whr S t ≤ 48 := wl_le S t 48
theorem m_where' {M : Nat} {σ : Hp} {f : Nat → Nat → Int32} {S : St} (g : Good S) (h : RepM M (hv σ f) S) {t : Nat} (ht : t < 24) : F_X10_cornerOf (hv σ f) M (nI t) = some (e1 (whr S t), hv σ f) := by
  have s : SM M σ := h.1
  unfold F_X10_cornerOf L_X10_cornerOf_4
  rw [gd_hv s.1]
  obtain ⟨n, hn⟩ := it_FU (body := fun rec st => B_X10_cornerOf_4 (hv σ f) M (nI t) rec st.1 st.2) (fun i => (e1 (wl S t i), nI i)) 0 48 (by decide) (by decide) (fun i _ hi rec => by
    have hb := g.cn hi
    simp (decide := true) (disch := omega) only [B_X10_cornerOf_4, gd_hv s.1, gI_hv s.1, pI_hv s.1, s.R9, s.A9, s.W9, b1_some, b2_some, litI, neg1, nI_add, nI_mul, e1_p1, nI_e0, ib, ib1, ite_not, if_true, if_false, not_true_eq_false, not_false_eq_true, setI_hv, h.a9, le_lit, e1_nI, show ¬ 48 ≤ i by omega]
    show _ = rec (e1 (if S.2 9 i = t + 1 then i + 1 else wl S t i), nI (i + 1))
    by_cases q : S.2 9 i = t + 1
    · rw [if_pos q, if_pos q, e1_s]
    · rw [if_neg q, if_neg q])
  refine Eq.trans (b := it (fun rec st => B_X10_cornerOf_4 (hv σ f) M (nI t) rec st.1 st.2) FU (e1 (wl S t 0), nI 0)) rfl (hn.trans ?_)
  simp (decide := true) (disch := omega) only [B_X10_cornerOf_4, b1_some, b2_some, litI, neg1, nI_add, nI_mul, e1_p1, nI_e0, ib, ib1, ite_not, if_true, if_false, not_true_eq_false, not_false_eq_true, setI_hv, le_lit, Nat.le_refl]
  rfl
theorem x_where' {N : Nat} {σ : Hp} {f : Nat → Nat → Int32} {S : St} (g : Good S) (h : RepX N (hv σ f) S) {t : Nat} (ht : t < 24) : F_X0_whereIs (hv σ f) N (nI t) = some (e1 (whr S t), hv σ f) := by
  have s : SX N σ := h.1
  unfold F_X0_whereIs L_X0_whereIs_2
  rw [gd_hv s.t0]
  have step : ∀ i, i < 48 → S.2 9 i ≠ t + 1 → ∀ rec, B_X0_whereIs_2 (hv σ f) N (nI t) rec (nI i) = rec (nI (i + 1)) := fun i hi q rec => by
    have hb := g.cn hi
    simp (decide := true) (disch := omega) only [B_X0_whereIs_2, gd_hv s.t0, gI_hv s.t0, pI_hv s.t0, s.R7, s.R12_0, s.C12, s.h12.CD, s.h12.CI, s.h12.CW, s.h12.G, s.h12.GD, s.h12.GI, s.h12.GW, b1_some, b2_some, litI, neg1, nI_add, nI_mul, e1_p1, nI_e0, ib, ib1, ite_not, if_true, if_false, not_true_eq_false, not_false_eq_true, setI_hv, h.a9, le_lit, e1_nI, show ¬ 48 ≤ i by omega, q]
  by_cases q : ∃ c, c < 48 ∧ S.2 9 c = t + 1
  · obtain ⟨c, hc, e⟩ := q
    obtain ⟨n, hn⟩ := it_FU (body := fun rec st => B_X0_whereIs_2 (hv σ f) N (nI t) rec st) (fun i => nI i) 0 c (by omega) (by omega) (fun i _ hi rec => step i (by omega) (fun q => by have := g.un (by omega) hc (q.trans e.symm) (by omega); omega) rec)
    refine Eq.trans (b := it (fun rec st => B_X0_whereIs_2 (hv σ f) N (nI t) rec st) FU (nI 0)) rfl (hn.trans ?_)
    have hb := g.cn hc
    have ew : whr S t = c + 1 := wl_at g hc e 48 hc (by omega)
    simp (decide := true) (disch := omega) only [B_X0_whereIs_2, gd_hv s.t0, gI_hv s.t0, pI_hv s.t0, s.R7, s.R12_0, s.C12, s.h12.CD, s.h12.CI, s.h12.CW, s.h12.G, s.h12.GD, s.h12.GI, s.h12.GW, b1_some, b2_some, litI, neg1, nI_add, nI_mul, e1_p1, nI_e0, ib, ib1, ite_not, if_true, if_false, not_true_eq_false, not_false_eq_true, setI_hv, h.a9, le_lit, e1_nI, show ¬ 48 ≤ c by omega, e, ew, e1_s]
  · obtain ⟨n, hn⟩ := it_FU (body := fun rec st => B_X0_whereIs_2 (hv σ f) N (nI t) rec st) (fun i => nI i) 0 48 (by omega) (by omega) (fun i _ hi rec => step i hi (fun e => q ⟨i, hi, e⟩) rec)
    refine Eq.trans (b := it (fun rec st => B_X0_whereIs_2 (hv σ f) N (nI t) rec st) FU (nI 0)) rfl (hn.trans ?_)
    have ew : whr S t = 0 := wl_none 48 (fun c hc e => q ⟨c, hc, e⟩)
    simp (decide := true) (disch := omega) only [B_X0_whereIs_2, b1_some, b2_some, litI, neg1, nI_add, nI_mul, e1_p1, nI_e0, ib, ib1, ite_not, if_true, if_false, not_true_eq_false, not_false_eq_true, setI_hv, le_lit, Nat.le_refl, ew]
def oWhere (t : Int32) (S : St) : Int32 × St := if inR t 0 23 then (e1 (whr S t.toNatClampNeg), S) else (-2, S)
theorem m_where (M : Nat) (t : Int32) : OkMf M (fun σ => F_X10_where σ M t) (oWhere t) := by
  intro σ f S g h
  have s : SM M σ := h.1
  simp only [F_X10_where, oWhere, gd_hv s.1, x10_isThing, b2_some]
  rcases in_split t 0 23 (by omega) (by omega) with ⟨i, -, hi, rfl⟩ | hk
  case inr => simp (decide := true) (disch := omega) only [b1_some, b2_some, litI, neg1, nI_add, nI_mul, e1_p1, nI_e0, ib, ib1, ite_not, if_true, if_false, not_true_eq_false, not_false_eq_true, setI_hv, hk]; exact ⟨_, rfl, h, fun _ _ _ => rfl⟩
  have qi := eq_true (inR_of (Nat.zero_le i) hi (by omega))
  simp (decide := true) (disch := omega) only [b1_some, b2_some, litI, neg1, nI_add, nI_mul, e1_p1, nI_e0, ib, ib1, ite_not, if_true, if_false, not_true_eq_false, not_false_eq_true, setI_hv, qi, m_where' g h, cl_I]
  exact ⟨_, rfl, h, fun _ _ _ => rfl⟩
theorem x_where (N : Nat) (t : Int32) : OkXf N (fun σ => F_X0_where σ N t) (oWhere t) := by
  intro σ f S g h
  have s : SX N σ := h.1
  simp only [F_X0_where, oWhere, gd_hv s.t0, x0_isThing, b2_some]
  rcases in_split t 0 23 (by omega) (by omega) with ⟨i, -, hi, rfl⟩ | hk
  case inr => simp (decide := true) (disch := omega) only [b1_some, b2_some, litI, neg1, nI_add, nI_mul, e1_p1, nI_e0, ib, ib1, ite_not, if_true, if_false, not_true_eq_false, not_false_eq_true, setI_hv, hk]; exact ⟨_, rfl, h, fun _ _ _ => rfl⟩
  have qi := eq_true (inR_of (Nat.zero_le i) hi (by omega))
  simp (decide := true) (disch := omega) only [b1_some, b2_some, litI, neg1, nI_add, nI_mul, e1_p1, nI_e0, ib, ib1, ite_not, if_true, if_false, not_true_eq_false, not_false_eq_true, setI_hv, qi, x_where' g h, cl_I]
  exact ⟨_, rfl, h, fun _ _ _ => rfl⟩
/-! put -/
def putS (t c : Nat) (S : St) : St := w2 (w2 (w2 (w2 (w2 S 11 c (if 0 < S.2 10 c then S.2 9 c else 0)) 12 c (S.2 10 c)) 9 c (t + 1)) 10 c 100) 13 c (S.1 0 + 1)
def oPut (t c : Int32) (S : St) : Int32 × St := if inR t 0 23 ∧ inR c 0 47 then (if whr S t.toNatClampNeg = 0 then (e1 (S.2 9 c.toNatClampNeg), putS t.toNatClampNeg c.toNatClampNeg S) else (-4, S)) else (-2, S)
theorem m_put (M : Nat) (t c : Int32) : OkMf M (fun σ => F_X10_put σ M t c) (oPut t c) := by
  intro σ f S g h
  have s : SM M σ := h.1
  simp only [F_X10_put, oPut, gd_hv s.1, x10_isThing, x10_isCorner, b2_some]
  rcases in_split t 0 23 (by omega) (by omega) with ⟨i, -, hi, rfl⟩ | hk
  case inr => simp (decide := true) (disch := omega) only [b1_some, b2_some, litI, neg1, nI_add, nI_mul, e1_p1, nI_e0, ib, ib1, ite_not, if_true, if_false, not_true_eq_false, not_false_eq_true, setI_hv, hk, false_and]; exact ⟨_, rfl, h, fun _ _ _ => rfl⟩
  have qi := eq_true (inR_of (Nat.zero_le i) hi (by omega))
  rcases in_split c 0 47 (by omega) (by omega) with ⟨j, -, hj, rfl⟩ | hk
  case inr => simp (decide := true) (disch := omega) only [b1_some, b2_some, litI, neg1, nI_add, nI_mul, e1_p1, nI_e0, ib, ib1, ite_not, if_true, if_false, not_true_eq_false, not_false_eq_true, setI_hv, qi, hk, and_false]; exact ⟨_, rfl, h, fun _ _ _ => rfl⟩
  have qj := eq_true (inR_of (Nat.zero_le j) hj (by omega))
  have hb := g.cn (c := j) (by omega)
  have hd := g.dy
  have hw := whr_le S i
  by_cases q : whr S i = 0
  case neg =>
    simp (decide := true) (disch := omega) only [b1_some, b2_some, litI, neg1, nI_add, nI_mul, e1_p1, nI_e0, ib, ib1, ite_not, if_true, if_false, not_true_eq_false, not_false_eq_true, setI_hv, qi, qj, m_where' g h, cl_I, and_self, e1_inj, q]
    exact ⟨_, rfl, h, fun _ _ _ => rfl⟩
  have fin : RepM M (hv σ (u2 (u2 (u2 (u2 (u2 f (M + 8) j (e1 (if 0 < S.2 10 j then S.2 9 j else 0))) (M + 9) j (nI (S.2 10 j))) (M + 6) j (e1 (i + 1))) (M + 7) j (nI 100)) (M + 10) j (e1 (S.1 0 + 1)))) (putS i j S) := ((((h.set (11, 8, 48) (by decide) j _).set (12, 9, 48) (by decide) j _).set (9, 6, 48) (by decide) j (i + 1)).set (10, 7, 48) (by decide) j 100).set (13, 10, 48) (by decide) j (S.1 0 + 1)
  rw [e1_s, e1_s] at fin
  by_cases q1 : S.2 9 j = 0
  · have z := (hb.2.2.2.2.2.1 q1).1
    rw [z, if_neg (by omega)] at fin
    simp (decide := true) (disch := omega) only [gd_hv s.1, gI_hv s.1, pI_hv s.1, s.R9, s.A9, s.W9, s.R10, s.A10, s.W10, s.R11, s.A11, s.W11, s.R12, s.A12, s.W12, s.R13, s.A13, s.W13, b1_some, b2_some, litI, neg1, nI_add, nI_mul, e1_p1, nI_e0, ib, ib1, ite_not, if_true, if_false, not_true_eq_false, not_false_eq_true, setI_hv, F_X10_put_54, F_X10_put_55, F_X10_put_72, F_X10_put_93, qi, qj, m_where' g h, cl_I, and_self, e1_inj, q, h.a9, q1, u2_n, h.s0]
    exact ⟨_, rfl, fin, fun a k ha => by rw [u2_n (by omega), u2_n (by omega), u2_n (by omega), u2_n (by omega), u2_n (by omega)]⟩
  · by_cases q2 : S.2 10 j = 0
    · rw [q2, if_neg (by omega)] at fin
      simp (decide := true) (disch := omega) only [gd_hv s.1, gI_hv s.1, pI_hv s.1, s.R9, s.A9, s.W9, s.R10, s.A10, s.W10, s.R11, s.A11, s.W11, s.R12, s.A12, s.W12, s.R13, s.A13, s.W13, b1_some, b2_some, litI, neg1, nI_add, nI_mul, e1_p1, nI_e0, ib, ib1, ite_not, if_true, if_false, not_true_eq_false, not_false_eq_true, setI_hv, F_X10_put_54, F_X10_put_55, F_X10_put_72, F_X10_put_93, qi, qj, m_where' g h, cl_I, and_self, e1_inj, q, h.a9, q1, h.a10, q2, le_lit, Nat.le_refl, u2_n, h.s0]
      exact ⟨_, rfl, fin, fun a k ha => by rw [u2_n (by omega), u2_n (by omega), u2_n (by omega), u2_n (by omega), u2_n (by omega)]⟩
    · rw [if_pos (by omega)] at fin
      simp (decide := true) (disch := omega) only [gd_hv s.1, gI_hv s.1, pI_hv s.1, s.R9, s.A9, s.W9, s.R10, s.A10, s.W10, s.R11, s.A11, s.W11, s.R12, s.A12, s.W12, s.R13, s.A13, s.W13, b1_some, b2_some, litI, neg1, nI_add, nI_mul, e1_p1, nI_e0, ib, ib1, ite_not, if_true, if_false, not_true_eq_false, not_false_eq_true, setI_hv, F_X10_put_54, F_X10_put_55, F_X10_put_72, F_X10_put_93, qi, qj, m_where' g h, cl_I, and_self, e1_inj, q, h.a9, q1, h.a10, le_lit, eq_lit, show ¬ S.2 10 j ≤ 0 by omega, u2_n, h.s0]
      exact ⟨_, rfl, fin, fun a k ha => by rw [u2_n (by omega), u2_n (by omega), u2_n (by omega), u2_n (by omega), u2_n (by omega)]⟩
theorem x_put (N : Nat) (t c : Int32) : OkXf N (fun σ => F_X0_put σ N t c) (oPut t c) := by
  intro σ f S g h
  have s : SX N σ := h.1
  simp only [F_X0_put, oPut, gd_hv s.t0, x0_isThing, x0_isCorner, b2_some]
  rcases in_split t 0 23 (by omega) (by omega) with ⟨i, -, hi, rfl⟩ | hk
  case inr => simp (decide := true) (disch := omega) only [b1_some, b2_some, litI, neg1, nI_add, nI_mul, e1_p1, nI_e0, ib, ib1, ite_not, if_true, if_false, not_true_eq_false, not_false_eq_true, setI_hv, hk, false_and]; exact ⟨_, rfl, h, fun _ _ _ => rfl⟩
  have qi := eq_true (inR_of (Nat.zero_le i) hi (by omega))
  rcases in_split c 0 47 (by omega) (by omega) with ⟨j, -, hj, rfl⟩ | hk
  case inr => simp (decide := true) (disch := omega) only [b1_some, b2_some, litI, neg1, nI_add, nI_mul, e1_p1, nI_e0, ib, ib1, ite_not, if_true, if_false, not_true_eq_false, not_false_eq_true, setI_hv, qi, hk, and_false]; exact ⟨_, rfl, h, fun _ _ _ => rfl⟩
  have qj := eq_true (inR_of (Nat.zero_le j) hj (by omega))
  have hb := g.cn (c := j) (by omega)
  have hd := g.dy
  have hw := whr_le S i
  by_cases q : whr S i = 0
  case neg =>
    simp (decide := true) (disch := omega) only [b1_some, b2_some, litI, neg1, nI_add, nI_mul, e1_p1, nI_e0, ib, ib1, ite_not, if_true, if_false, not_true_eq_false, not_false_eq_true, setI_hv, qi, qj, x_where' g h, cl_I, and_self, e1_inj, q]
    exact ⟨_, rfl, h, fun _ _ _ => rfl⟩
  have fin : RepX N (hv σ (u2 (u2 (u2 (u2 (u2 f (N + 12 + (3 + 2 * j)) 0 (e1 (if 0 < S.2 10 j then S.2 9 j else 0))) (N + 12 + (3 + 2 * j)) 1 (nI (S.2 10 j))) (N + 12 + (2 + 2 * j)) 0 (nI i)) (N + 12 + (2 + 2 * j)) 1 (nI 100)) (N + 12 + (2 + 2 * j)) 3 (nI (S.1 0)))) (putS i j S) := by
    refine h.hs (fun a k ha => ?_) rfl (fun k hk => ?_) (fun d hd => ?_)
    · have e1 := ha (14 + 2 * j) (by omega) (by omega)
      have e2 := ha (15 + 2 * j) (by omega) (by omega)
      rw [u2_n (by omega), u2_n (by omega), u2_n (by omega), u2_n (by omega), u2_n (by omega)]
    · unfold putS
      rw [w2_nf (by omega), w2_nf (by omega), w2_nf (by omega), w2_nf (by omega), w2_nf (by omega)]
    · unfold putS
      by_cases e : d = j
      · subst e
        simp (decide := true) (disch := omega) only [u2_n, u2_e, w2_n, w2_eq, e1_s]
      · simp (decide := true) (disch := omega) only [u2_n, w2_n]
        exact ⟨h.a9 hd, h.a10 hd, h.a13 hd, h.a11 hd, h.a12 hd⟩
  by_cases q2 : S.2 10 j = 0
  · rw [if_neg (by omega)] at fin
    simp (decide := true) (disch := omega) only [gd_hv s.t0, gI_hv s.t0, pI_hv s.t0, s.R7, s.R12_0, s.C12, s.h12.CD, s.h12.CI, s.h12.CW, s.h12.G, s.h12.GD, s.h12.GI, s.h12.GW, b1_some, b2_some, litI, neg1, nI_add, nI_mul, e1_p1, nI_e0, ib, ib1, ite_not, if_true, if_false, not_true_eq_false, not_false_eq_true, setI_hv, F_X3_cover, F_X3_cover_24, F_X2_lay_3, F_X2_lay_4, qi, qj, x_where' g h, cl_I, and_self, e1_inj, q, h.a9, h.a10, q2, le_lit, Nat.le_refl, u2_n, h.s0]
    rw [q2] at fin
    exact ⟨_, rfl, fin, fun a k ha => by rw [u2_n (by omega), u2_n (by omega), u2_n (by omega), u2_n (by omega), u2_n (by omega)]⟩
  · rw [if_pos (by omega)] at fin
    simp (decide := true) (disch := omega) only [gd_hv s.t0, gI_hv s.t0, pI_hv s.t0, s.R7, s.R12_0, s.C12, s.h12.CD, s.h12.CI, s.h12.CW, s.h12.G, s.h12.GD, s.h12.GI, s.h12.GW, b1_some, b2_some, litI, neg1, nI_add, nI_mul, e1_p1, nI_e0, ib, ib1, ite_not, if_true, if_false, not_true_eq_false, not_false_eq_true, setI_hv, F_X3_cover, F_X3_cover_24, F_X2_lay_3, F_X2_lay_4, qi, qj, x_where' g h, cl_I, and_self, e1_inj, q, h.a9, h.a10, le_lit, show ¬ S.2 10 j ≤ 0 by omega, u2_n, h.s0]
    exact ⟨_, rfl, fin, fun a k ha => by rw [u2_n (by omega), u2_n (by omega), u2_n (by omega), u2_n (by omega), u2_n (by omega)]⟩
end
section
set_option maxRecDepth 100000
/-! pure law 8: doors -/
abbrev mtc (S : St) (a b k : Nat) : Prop := (S.2 2 k = a ∧ S.2 3 k = b) ∨ (S.2 2 k = b ∧ S.2 3 k = a)
def jl (S : St) (a b : Nat) : Nat → Nat
  | 0 => 0
  | k + 1 => if jl S a b k = 1 ∨ mtc S a b k then 1 else 0
theorem jl_01 (S : St) (a b : Nat) : ∀ n, jl S a b n = 0 ∨ jl S a b n = 1
  | 0 => Or.inl rfl
  | n + 1 => by
    unfold jl
    split
    · exact Or.inr rfl
    · exact Or.inl rfl
theorem jl_iff (S : St) (a b : Nat) : ∀ n, jl S a b n = 1 ↔ ∃ k, k < n ∧ mtc S a b k
  | 0 => ⟨fun h => (Nat.zero_ne_one h).elim, fun ⟨k, h, _⟩ => absurd h (Nat.not_lt_zero k)⟩
  | n + 1 => by
    have ih := jl_iff S a b n
    unfold jl
    by_cases q : jl S a b n = 1 ∨ mtc S a b n
    · rw [if_pos q]
      refine ⟨fun _ => ?_, fun _ => rfl⟩
      rcases q with q | q
      · obtain ⟨k, h1, h2⟩ := ih.mp q
        exact ⟨k, by omega, h2⟩
      · exact ⟨n, by omega, q⟩
    · rw [if_neg q]
      refine ⟨fun h => absurd h (by decide), fun ⟨k, h1, h2⟩ => ?_⟩
      exfalso
      apply q
      by_cases e : k = n
      · subst e
        exact Or.inr h2
      · exact Or.inl (ih.mpr ⟨k, by omega, h2⟩)
theorem jl_jn (S : St) (a b : Nat) : jl S a b (S.1 1) = 1 ↔ jn S a b := jl_iff S a b (S.1 1)
theorem jn_comm (S : St) (a b : Nat) : jn S a b ↔ jn S b a := by
  constructor
  · rintro ⟨k, h, q | q⟩
    · exact ⟨k, h, Or.inr q⟩
    · exact ⟨k, h, Or.inl q⟩
  · rintro ⟨k, h, q | q⟩
    · exact ⟨k, h, Or.inr q⟩
    · exact ⟨k, h, Or.inl q⟩
theorem Good.dr {S : St} (g : Good S) {k : Nat} (hk : k < S.1 1) : S.2 2 k < 8 ∧ S.2 3 k < 8 ∧ S.2 2 k ≠ S.2 3 k := g.2.2.2.2.2.2.1 k hk
theorem Good.dm {S : St} (g : Good S) : S.1 1 ≤ 14 := g.2.1
theorem m_joined {M : Nat} {σ : Hp} {f : Nat → Nat → Int32} {S : St} (g : Good S) (h : RepM M (hv σ f) S) {a b : Nat} (ha : a < 8) (hb : b < 8) : F_X10_areJoined (hv σ f) M (nI a) (nI b) = some (nI (jl S a b (S.1 1)), hv σ f) := by
  have s : SM M σ := h.1
  have hd := g.dm
  unfold F_X10_areJoined L_X10_areJoined_5
  rw [gd_hv s.1]
  obtain ⟨n, hn⟩ := it_FU (body := fun rec st => B_X10_areJoined_5 (hv σ f) M (nI a) (nI b) rec st.1 st.2) (fun i => (nI (jl S a b i), nI i)) 0 (S.1 1) (by omega) (by omega) (fun i _ hi rec => by
    have hr := g.dr hi
    show B_X10_areJoined_5 (hv σ f) M (nI a) (nI b) rec (nI (jl S a b i)) (nI i) = rec (nI (if jl S a b i = 1 ∨ mtc S a b i then 1 else 0), nI (i + 1))
    rcases jl_01 S a b i with e | e
    · simp (decide := true) (disch := omega) only [B_X10_areJoined_5, F_X10_areJoined_40, mtc, gd_hv s.1, gI_hv s.1, pI_hv s.1, s.R2, s.A2, s.W2, s.R3, s.A3, s.W3, b1_some, b2_some, litI, neg1, nI_add, nI_mul, e1_p1, nI_e0, ib, ib1, ite_not, if_true, if_false, not_true_eq_false, not_false_eq_true, setI_hv, h.s1, h.a2, h.a3, le_lit, eq_lit, show ¬ S.1 1 ≤ i by omega, e, false_or]
      repeat' split
      all_goals first | rfl | (exfalso; omega)
    · simp (decide := true) (disch := omega) only [B_X10_areJoined_5, gd_hv s.1, gI_hv s.1, pI_hv s.1, s.R2, s.A2, s.W2, s.R3, s.A3, s.W3, b1_some, b2_some, litI, neg1, nI_add, nI_mul, e1_p1, nI_e0, ib, ib1, ite_not, if_true, if_false, not_true_eq_false, not_false_eq_true, setI_hv, h.s1, le_lit, eq_lit, show ¬ S.1 1 ≤ i by omega, e, true_or])
  refine Eq.trans (b := it (fun rec st => B_X10_areJoined_5 (hv σ f) M (nI a) (nI b) rec st.1 st.2) FU (nI (jl S a b 0), nI 0)) rfl (hn.trans ?_)
  rcases jl_01 S a b (S.1 1) with e | e
  · simp (decide := true) (disch := omega) only [B_X10_areJoined_5, gd_hv s.1, gI_hv s.1, pI_hv s.1, b1_some, b2_some, litI, neg1, nI_add, nI_mul, e1_p1, nI_e0, ib, ib1, ite_not, if_true, if_false, not_true_eq_false, not_false_eq_true, setI_hv, h.s1, le_lit, Nat.le_refl, e]
    exact zr_0 _
  · simp (decide := true) (disch := omega) only [B_X10_areJoined_5, gd_hv s.1, gI_hv s.1, pI_hv s.1, b1_some, b2_some, litI, neg1, nI_add, nI_mul, e1_p1, nI_e0, ib, ib1, ite_not, if_true, if_false, not_true_eq_false, not_false_eq_true, setI_hv, h.s1, le_lit, Nat.le_refl, e]
    exact zr_1 _
def doorS (a b : Nat) (S : St) : St := w1 (w2 (w2 S 2 (S.1 1) a) 3 (S.1 1) b) 1 (S.1 1 + 1)
theorem jn_door (S : St) (a b x y : Nat) : jn (doorS a b S) x y ↔ jn S x y ∨ (a = x ∧ b = y) ∨ (a = y ∧ b = x) := by
  have e1 : (doorS a b S).1 1 = S.1 1 + 1 := w1_eq
  have e2 : ∀ k, (doorS a b S).2 2 k = if k = S.1 1 then a else S.2 2 k := fun k => by
    show (w2 (w2 S 2 (S.1 1) a) 3 (S.1 1) b).2 2 k = _
    rw [w2_ne (by decide), w2_2]
    by_cases q : k = S.1 1
    · rw [if_pos ⟨rfl, q⟩, if_pos q]
    · rw [if_neg (fun z => q z.2), if_neg q]
  have e3 : ∀ k, (doorS a b S).2 3 k = if k = S.1 1 then b else S.2 3 k := fun k => by
    show (w2 (w2 S 2 (S.1 1) a) 3 (S.1 1) b).2 3 k = _
    rw [w2_2, w2_ne (by decide)]
    by_cases q : k = S.1 1
    · rw [if_pos ⟨rfl, q⟩, if_pos q]
    · rw [if_neg (fun z => q z.2), if_neg q]
  unfold jn
  rw [e1]
  constructor
  · rintro ⟨k, hk, q⟩
    rw [e2, e3] at q
    by_cases z : k = S.1 1
    · rw [if_pos z, if_pos z] at q
      exact Or.inr q
    · rw [if_neg z, if_neg z] at q
      exact Or.inl ⟨k, by omega, q⟩
  · rintro (⟨k, hk, q⟩ | q)
    · refine ⟨k, by omega, ?_⟩
      rw [e2, e3, if_neg (by omega), if_neg (by omega)]
      exact q
    · refine ⟨S.1 1, by omega, ?_⟩
      rw [e2, e3, if_pos rfl, if_pos rfl]
      exact q
def oDoor (a b : Int32) (S : St) : Int32 × St := if inR a 0 7 ∧ inR b 0 7 ∧ ¬ a = b then (if jl S a.toNatClampNeg b.toNatClampNeg (S.1 1) = 1 then (-4, S) else if S.1 1 = 14 then (-5, S) else (nI (S.1 1 + 1), doorS a.toNatClampNeg b.toNatClampNeg S)) else (-2, S)
theorem m_door (M : Nat) (a b : Int32) : OkMf M (fun σ => F_X10_door σ M a b) (oDoor a b) := by
  intro σ f S g h
  have s : SM M σ := h.1
  have hd := g.dm
  simp only [F_X10_door, oDoor, gd_hv s.1, x10_isRoom, b2_some]
  rcases in_split a 0 7 (by omega) (by omega) with ⟨i, -, hi, rfl⟩ | hk
  case inr => simp (decide := true) (disch := omega) only [b1_some, b2_some, litI, neg1, nI_add, nI_mul, e1_p1, nI_e0, ib, ib1, ite_not, if_true, if_false, not_true_eq_false, not_false_eq_true, setI_hv, hk, false_and]; exact ⟨_, rfl, h, fun _ _ _ => rfl⟩
  have qi := eq_true (inR_of (Nat.zero_le i) hi (by omega))
  rcases in_split b 0 7 (by omega) (by omega) with ⟨j, -, hj, rfl⟩ | hv
  case inr => simp (decide := true) (disch := omega) only [b1_some, b2_some, litI, neg1, nI_add, nI_mul, e1_p1, nI_e0, ib, ib1, ite_not, if_true, if_false, not_true_eq_false, not_false_eq_true, setI_hv, qi, hv, and_false, false_and]; exact ⟨_, rfl, h, fun _ _ _ => rfl⟩
  have qj := eq_true (inR_of (Nat.zero_le j) hj (by omega))
  by_cases hij : i = j
  · subst hij
    simp (decide := true) (disch := omega) only [b1_some, b2_some, litI, neg1, nI_add, nI_mul, e1_p1, nI_e0, ib, ib1, ite_not, if_true, if_false, not_true_eq_false, not_false_eq_true, setI_hv, qi, and_false]
    exact ⟨_, rfl, h, fun _ _ _ => rfl⟩
  have hjo := m_joined g h (a := i) (b := j) (by omega) (by omega)
  rcases jl_01 S i j (S.1 1) with e | e
  · simp (decide := true) (disch := omega) only [b1_some, b2_some, litI, neg1, nI_add, nI_mul, e1_p1, nI_e0, ib, ib1, ite_not, if_true, if_false, not_true_eq_false, not_false_eq_true, setI_hv, qi, qj, hij, eq_lit, and_self, hjo, e, cl_I]
    by_cases q : S.1 1 = 14
    · simp (decide := true) (disch := omega) only [gd_hv s.1, gI_hv s.1, pI_hv s.1, b1_some, b2_some, litI, neg1, nI_add, nI_mul, e1_p1, nI_e0, ib, ib1, ite_not, if_true, if_false, not_true_eq_false, not_false_eq_true, setI_hv, h.s1, q]
      exact ⟨_, rfl, h, fun _ _ _ => rfl⟩
    · simp (decide := true) (disch := omega) only [gd_hv s.1, gI_hv s.1, pI_hv s.1, s.R2, s.A2, s.W2, s.R3, s.A3, s.W3, b1_some, b2_some, litI, neg1, nI_add, nI_mul, e1_p1, nI_e0, ib, ib1, ite_not, if_true, if_false, not_true_eq_false, not_false_eq_true, setI_hv, eq_lit, h.s1, q, u2_n, u2_e]
      exact ⟨_, rfl, ((h.set (2, 1, 14) (by decide) (S.1 1) i).set (3, 2, 14) (by decide) (S.1 1) j).setS 1 (S.1 1 + 1), fun a k ha => by rw [u2_n (by omega), u2_n (by omega), u2_n (by omega)]⟩
  · simp (decide := true) (disch := omega) only [gd_hv s.1, gI_hv s.1, pI_hv s.1, b1_some, b2_some, litI, neg1, nI_add, nI_mul, e1_p1, nI_e0, ib, ib1, ite_not, if_true, if_false, not_true_eq_false, not_false_eq_true, setI_hv, qi, qj, hij, eq_lit, and_self, hjo, e, h.s1, cl_I]
    exact ⟨_, rfl, h, fun _ _ _ => rfl⟩
theorem RepX.jo {N : Nat} {σ : Hp} {f : Nat → Nat → Int32} {S : St} (h : RepX N (hv σ f) S) {a b : Nat} (ha : a < 8) (hb : b < 8) : f (N + (2 + a)) b = nI (jl S a b (S.1 1)) := by
  have hc := h.2.2.2.2.1 a b ha hb
  rcases jl_01 S a b (S.1 1) with e | e
  · rw [e]
    exact hc.2 (fun q => by rw [(jl_jn S a b).mpr q] at e; cases e)
  · rw [e]
    exact hc.1 ((jl_jn S a b).mp e)
theorem RepX.wDoor {N : Nat} {σ : Hp} {f : Nat → Nat → Int32} {S : St} (h : RepX N (hv σ f) S) {a b : Nat} (ha : a < 8) (hb : b < 8) : RepX N (hv σ (u2 (u2 (u2 f (N + (2 + a)) b (nI 1)) (N + (2 + b)) a (nI 1)) N 1 (nI (S.1 1 + 1)))) (doorS a b S) := by
  obtain ⟨h1, h2, hA, hB, hC, hD, hE, hF, hG, hH⟩ := h
  have hx3 : ∀ x ∈ xAr, 10 ≤ x.1 ∧ 5 ≤ x.2.1 := by decide
  have e3 : ∀ k, 4 ≤ k → (doorS a b S).2 k = S.2 k := fun k hk => by
    unfold doorS
    rw [w1_2, w2_nf (by omega), w2_nf (by omega)]
  refine ⟨h1, h2, ((hA.ne (by omega)).ne (by omega)).set (1, 1) (by decide) (S.1 1 + 1), (((hB.ne (fun x hx => by have := hx3 x hx; omega)).ne (fun x hx => by have := hx3 x hx; omega)).ne0).cg (fun x hx i => by rw [e3 _ (by have := hx3 x hx; omega)]), fun x y hx hy => ?_, (((hD.ne (by omega)).ne (by omega)).ne0).cg (fun k _ _ i => by rw [e3 _ (by omega)]), ?_, (((hF.ne (by omega)).ne (by omega)).ne0).cg (fun k _ _ i => by rw [e3 _ (by omega)]), ?_, ?_⟩
  · have hc := hC x y hx hy
    have hj := jn_door S a b x y
    show (jn (doorS a b S) x y → u2 (u2 (u2 f (N + (2 + a)) b (nI 1)) (N + (2 + b)) a (nI 1)) N 1 (nI (S.1 1 + 1)) (N + (2 + x)) y = 1) ∧ (¬ jn (doorS a b S) x y → u2 (u2 (u2 f (N + (2 + a)) b (nI 1)) (N + (2 + b)) a (nI 1)) N 1 (nI (S.1 1 + 1)) (N + (2 + x)) y = 0)
    rw [u2_n (by omega), hj]
    by_cases q : x = b ∧ y = a
    · rw [u2_eq (by omega) q.2]
      exact ⟨fun _ => rfl, fun z => absurd (Or.inr (Or.inr ⟨q.2.symm, q.1.symm⟩)) z⟩
    · rw [u2_n (by omega)]
      by_cases q2 : x = a ∧ y = b
      · rw [u2_eq (by omega) q2.2]
        exact ⟨fun _ => rfl, fun z => absurd (Or.inr (Or.inl ⟨q2.1.symm, q2.2.symm⟩)) z⟩
      · rw [u2_n (by omega)]
        refine ⟨fun z => hc.1 ?_, fun z => hc.2 (fun w => z (Or.inl w))⟩
        rcases z with z | z | z
        · exact z
        · exact absurd ⟨z.1.symm, z.2.symm⟩ q2
        · exact absurd ⟨z.2.symm, z.1.symm⟩ q
  · rw [e3 20 (by omega)]; exact ((hE.ne (by omega)).ne (by omega)).ne0
  · rw [e3 38 (by omega)]; exact ((hG.ne (by omega)).ne (by omega)).ne0
  · have e4 : (doorS a b S).1 29 = S.1 29 := w1_ne (by decide)
    rw [e3 30 (by omega), e4]
    exact ((hH.ne (by omega)).ne (by omega)).ne0
theorem nar1 : vp_nar .boolean (nI 1) = nI 1 := rfl
theorem x_door (N : Nat) (a b : Int32) : OkXf N (fun σ => F_X0_door σ N a b) (oDoor a b) := by
  intro σ f S g h
  have s : SX N σ := h.1
  have hd := g.dm
  simp only [F_X0_door, oDoor, gd_hv s.t0, x0_isRoom, b2_some]
  rcases in_split a 0 7 (by omega) (by omega) with ⟨i, -, hi, rfl⟩ | hk
  case inr => simp (decide := true) (disch := omega) only [b1_some, b2_some, litI, neg1, nI_add, nI_mul, e1_p1, nI_e0, ib, ib1, ite_not, if_true, if_false, not_true_eq_false, not_false_eq_true, setI_hv, hk, false_and]; exact ⟨_, rfl, h, fun _ _ _ => rfl⟩
  have qi := eq_true (inR_of (Nat.zero_le i) hi (by omega))
  rcases in_split b 0 7 (by omega) (by omega) with ⟨j, -, hj, rfl⟩ | hv
  case inr => simp (decide := true) (disch := omega) only [b1_some, b2_some, litI, neg1, nI_add, nI_mul, e1_p1, nI_e0, ib, ib1, ite_not, if_true, if_false, not_true_eq_false, not_false_eq_true, setI_hv, qi, hv, and_false, false_and]; exact ⟨_, rfl, h, fun _ _ _ => rfl⟩
  have qj := eq_true (inR_of (Nat.zero_le j) hj (by omega))
  by_cases hij : i = j
  · subst hij
    simp (decide := true) (disch := omega) only [b1_some, b2_some, litI, neg1, nI_add, nI_mul, e1_p1, nI_e0, ib, ib1, ite_not, if_true, if_false, not_true_eq_false, not_false_eq_true, setI_hv, qi, and_false]
    exact ⟨_, rfl, h, fun _ _ _ => rfl⟩
  rcases jl_01 S i j (S.1 1) with e | e
  · simp (decide := true) (disch := omega) only [gd_hv s.t0, gI_hv s.t0, pI_hv s.t0, s.R0, s.J, s.AJ, b1_some, b2_some, litI, neg1, nI_add, nI_mul, e1_p1, nI_e0, ib, ib1, ite_not, if_true, if_false, not_true_eq_false, not_false_eq_true, setI_hv, qi, qj, hij, eq_lit, and_self, h.jo, e, cl_I]
    by_cases q : S.1 1 = 14
    · simp (decide := true) (disch := omega) only [gd_hv s.t0, gI_hv s.t0, pI_hv s.t0, s.R0, b1_some, b2_some, litI, neg1, nI_add, nI_mul, e1_p1, nI_e0, ib, ib1, ite_not, if_true, if_false, not_true_eq_false, not_false_eq_true, setI_hv, h.s1, q]
      exact ⟨_, rfl, h, fun _ _ _ => rfl⟩
    · simp (decide := true) (disch := omega) only [gd_hv s.t0, gI_hv s.t0, pI_hv s.t0, s.R0, s.J, s.WJ, b1_some, b2_some, litI, neg1, nI_add, nI_mul, e1_p1, nI_e0, ib, ib1, ite_not, if_true, if_false, not_true_eq_false, not_false_eq_true, setI_hv, eq_lit, h.s1, q, u2_n, u2_e, nar1]
      exact ⟨_, rfl, h.wDoor (by omega) (by omega), fun a k ha => by rw [u2_n (by omega), u2_n (by omega), u2_n (by omega)]⟩
  · simp (decide := true) (disch := omega) only [gd_hv s.t0, gI_hv s.t0, pI_hv s.t0, s.R0, s.J, s.AJ, b1_some, b2_some, litI, neg1, nI_add, nI_mul, e1_p1, nI_e0, ib, ib1, ite_not, if_true, if_false, not_true_eq_false, not_false_eq_true, setI_hv, qi, qj, hij, eq_lit, and_self, h.jo, e, h.s1, cl_I]
    exact ⟨_, rfl, h, fun _ _ _ => rfl⟩
end
section
set_option maxRecDepth 100000
/-! pure law 9: how far rooms are -/
def rch (J : Nat → Nat → Prop) (a : Nat) : Nat → Nat → Prop
  | 0, r => r = a
  | n + 1, r => rch J a n r ∨ ∃ q, q < 8 ∧ rch J a n q ∧ J q r
theorem rch_up {J : Nat → Nat → Prop} {a n r : Nat} (h : rch J a n r) : ∀ k, rch J a (n + k) r
  | 0 => h
  | k + 1 => Or.inl (rch_up h k)
theorem rch_mono {J : Nat → Nat → Prop} {a n m r : Nat} (h : rch J a n r) (hm : n ≤ m) : rch J a m r := by
  have := rch_up h (m - n)
  rwa [Nat.add_sub_cancel' hm] at this
/-- d: none is 0, n doors is n + 1 -/
def IsD (J : Nat → Nat → Prop) (a b d : Nat) : Prop := (d = 0 ∧ ∀ n, n < 8 → ¬ rch J a n b) ∨ ∃ n, n < 8 ∧ d = n + 1 ∧ rch J a n b ∧ ∀ m, m < n → ¬ rch J a m b
theorem IsD.uniq {J : Nat → Nat → Prop} {a b d d' : Nat} (h : IsD J a b d) (h' : IsD J a b d') : d = d' := by
  rcases h with ⟨h1, h2⟩ | ⟨n, h1, h2, h3, h4⟩ <;> rcases h' with ⟨g1, g2⟩ | ⟨m, g1, g2, g3, g4⟩
  · omega
  · exact absurd g3 (h2 m g1)
  · exact absurd h3 (g2 n h1)
  · by_cases q : n < m
    · exact absurd h3 (g4 n q)
    · by_cases q2 : m < n
      · exact absurd g3 (h4 m q2)
      · omega
theorem IsD.ex (J : Nat → Nat → Prop) (a b : Nat) : ∃ d, IsD J a b d := by
  have key : ∀ k, k ≤ 8 → (∃ n, n < k ∧ rch J a n b ∧ ∀ m, m < n → ¬ rch J a m b) ∨ ∀ n, n < k → ¬ rch J a n b := by
    intro k
    induction k with
    | zero => exact fun _ => Or.inr (fun n hn => absurd hn (Nat.not_lt_zero n))
    | succ k ih =>
      intro hk
      rcases ih (by omega) with ⟨n, h1, h2⟩ | h
      · exact Or.inl ⟨n, by omega, h2⟩
      · rcases Classical.em (rch J a k b) with q | q
        · exact Or.inl ⟨k, by omega, q, h⟩
        · refine Or.inr (fun n hn => ?_)
          by_cases e : n = k
          · subst e
            exact q
          · exact h n (by omega)
  rcases key 8 (Nat.le_refl _) with ⟨n, h1, h2, h3⟩ | h
  · exact ⟨n + 1, Or.inr ⟨n, h1, rfl, h2, h3⟩⟩
  · exact ⟨0, Or.inl ⟨rfl, h⟩⟩
noncomputable def dst (S : St) (a b : Nat) : Nat := Classical.choose (IsD.ex (jn S) a b)
theorem dst_is (S : St) (a b : Nat) : IsD (jn S) a b (dst S a b) := Classical.choose_spec (IsD.ex (jn S) a b)
theorem dst_eq {S : St} {a b d : Nat} (h : IsD (jn S) a b d) : dst S a b = d := (dst_is S a b).uniq h
theorem dst_le (S : St) (a b : Nat) : dst S a b ≤ 8 := by
  rcases dst_is S a b with ⟨h, -⟩ | ⟨n, h1, h2, -⟩ <;> omega
/-! rooms are eight: what is reached at all is reached after seven doors -/
theorem sum_lt {f g : Nat → Nat} (h : ∀ r, f r ≤ g r) : ∀ n, (∃ r, r < n ∧ f r < g r) → sumR f 0 n + 1 ≤ sumR g 0 n
  | 0, ⟨r, hr, _⟩ => absurd hr (Nat.not_lt_zero r)
  | n + 1, ⟨r, hr, q⟩ => by
    have hle : ∀ n, sumR f 0 n ≤ sumR g 0 n := fun n => by
      induction n with
      | zero => exact Nat.le_refl _
      | succ n ih =>
        have := h (0 + n)
        show sumR f 0 n + f (0 + n) ≤ sumR g 0 n + g (0 + n)
        omega
    have h1 := hle n
    have h2 := h n
    have e1 : sumR f 0 (n + 1) = sumR f 0 n + f n := by show sumR f 0 n + f (0 + n) = _; rw [Nat.zero_add]
    have e2 : sumR g 0 (n + 1) = sumR g 0 n + g n := by show sumR g 0 n + g (0 + n) = _; rw [Nat.zero_add]
    rw [e1, e2]
    by_cases e : r = n
    · subst e
      omega
    · have := sum_lt h n ⟨r, by omega, q⟩
      omega
theorem sum_full {f : Nat → Nat} (h : ∀ r, f r ≤ 1) : ∀ n, n ≤ sumR f 0 n → ∀ r, r < n → f r = 1
  | 0, _, r, hr => absurd hr (Nat.not_lt_zero r)
  | n + 1, q, r, hr => by
    have e1 : sumR f 0 (n + 1) = sumR f 0 n + f n := by show sumR f 0 n + f (0 + n) = _; rw [Nat.zero_add]
    have h1 := sumR_le h 0 n
    have h2 := h n
    by_cases e : r = n
    · subst e
      omega
    · exact sum_full h n (by omega) r (by omega)
noncomputable def ind (P : Prop) : Nat := @ite Nat P (Classical.propDecidable P) 1 0
theorem ind_1 {P : Prop} (h : P) : ind P = 1 := if_pos h
theorem ind_0 {P : Prop} (h : ¬ P) : ind P = 0 := if_neg h
theorem ind_le (P : Prop) : ind P ≤ 1 := by
  rcases Classical.em P with h | h
  · rw [ind_1 h]; omega
  · rw [ind_0 h]; omega
theorem rch_st {J : Nat → Nat → Prop} {a m : Nat} (h : ∀ r, r < 8 → rch J a (m + 1) r → rch J a m r) : ∀ k r, r < 8 → rch J a (m + k) r → rch J a m r
  | 0, _, _, q => q
  | k + 1, r, hr, q => by
    rcases q with q | ⟨z, hz, q1, q2⟩
    · exact rch_st h k r hr q
    · exact h r hr (Or.inr ⟨z, hz, rch_st h k z hz q1, q2⟩)
theorem rch_7 {J : Nat → Nat → Prop} {a b d : Nat} (ha : a < 8) (hb : b < 8) (h : rch J a d b) : rch J a 7 b := by
  have key : ∀ n, (∃ m, m < n ∧ ∀ r, r < 8 → rch J a (m + 1) r → rch J a m r) ∨ n + 1 ≤ sumR (fun r => ind (r < 8 ∧ rch J a n r)) 0 8 := by
    intro n
    induction n with
    | zero =>
      right
      have h0 : sumR (fun _ => 0) 0 8 + 1 ≤ sumR (fun r => ind (r < 8 ∧ rch J a 0 r)) 0 8 := sum_lt (fun r => Nat.zero_le _) 8 ⟨a, ha, by rw [ind_1 ⟨ha, rfl⟩]; omega⟩
      omega
    | succ n ih =>
      rcases ih with ⟨m, h1, h2⟩ | ih
      · exact Or.inl ⟨m, by omega, h2⟩
      · rcases Classical.em (∀ r, r < 8 → rch J a (n + 1) r → rch J a n r) with q | q
        · exact Or.inl ⟨n, by omega, q⟩
        · right
          have ex : ∃ r, r < 8 ∧ rch J a (n + 1) r ∧ ¬ rch J a n r := by
            apply Classical.byContradiction
            intro z
            apply q
            intro r hr h1
            apply Classical.byContradiction
            intro h2
            exact z ⟨r, hr, h1, h2⟩
          obtain ⟨r, hr, h1, h2⟩ := ex
          have h0 : sumR (fun r => ind (r < 8 ∧ rch J a n r)) 0 8 + 1 ≤ sumR (fun r => ind (r < 8 ∧ rch J a (n + 1) r)) 0 8 := by
            refine sum_lt (fun r => ?_) 8 ⟨r, hr, by rw [ind_0 (fun z => h2 z.2), ind_1 ⟨hr, h1⟩]; omega⟩
            rcases Classical.em (r < 8 ∧ rch J a n r) with z | z
            · rw [ind_1 z, ind_1 ⟨z.1, Or.inl z.2⟩]
              exact Nat.le_refl _
            · rw [ind_0 z]
              exact Nat.zero_le _
          omega
  rcases key 7 with ⟨m, h1, h2⟩ | q
  · have : rch J a m b := rch_st h2 d b hb (rch_mono h (by omega))
    exact rch_mono this (by omega)
  · have := sum_full (fun r => ind_le _) 8 (by omega) b hb
    rcases Classical.em (b < 8 ∧ rch J a 7 b) with z | z
    · exact z.2
    · rw [ind_0 z] at this
      omega
/-! the twin's way: rounds over all doors -/
def up (d : Nat → Nat) (x v : Nat) : Nat → Nat := fun r => if r = x then v else d r
def rlx (x y : Nat) (d : Nat → Nat) : Nat → Nat :=
  up (up d x (if d y + 1 < d x then d y + 1 else d x)) y (if up d x (if d y + 1 < d x then d y + 1 else d x) x + 1 < up d x (if d y + 1 < d x then d y + 1 else d x) y then up d x (if d y + 1 < d x then d y + 1 else d x) x + 1 else up d x (if d y + 1 < d x then d y + 1 else d x) y)
theorem rlx_at {x y : Nat} (hxy : x ≠ y) (d : Nat → Nat) : rlx x y d x = min (d x) (d y + 1) ∧ rlx x y d y = min (d y) (min (d x) (d y + 1) + 1) ∧ ∀ r, r ≠ x → r ≠ y → rlx x y d r = d r := by
  unfold rlx up
  simp only [if_true, if_neg hxy, if_neg (Ne.symm hxy)]
  refine ⟨?_, ?_, fun r h1 h2 => ?_⟩
  · split <;> omega
  · repeat' split
    all_goals omega
  · rw [if_neg h2, if_neg h1]
def pss (S : St) (d : Nat → Nat) : Nat → (Nat → Nat)
  | 0 => d
  | k + 1 => rlx (S.2 2 k) (S.2 3 k) (pss S d k)
def tn (S : St) (a : Nat) : Nat → (Nat → Nat)
  | 0 => fun r => if r = a then 0 else 100
  | n + 1 => pss S (tn S a n) (S.1 1)
theorem pss_le {S : St} (g : Good S) (d : Nat → Nat) : ∀ k, k ≤ S.1 1 → ∀ r, pss S d k r ≤ d r
  | 0, _, r => Nat.le_refl _
  | k + 1, hk, r => by
    have h := rlx_at (g.dr (k := k) (by omega)).2.2 (pss S d k)
    have ih := pss_le g d k (by omega)
    show rlx (S.2 2 k) (S.2 3 k) (pss S d k) r ≤ d r
    have i1 := ih r
    by_cases q : r = S.2 2 k
    · rw [q] at i1 ⊢
      rw [h.1]
      omega
    · by_cases q2 : r = S.2 3 k
      · rw [q2] at i1 ⊢
        rw [h.2.1]
        omega
      · rw [h.2.2 r q q2]
        exact i1
theorem pss_snd {S : St} (g : Good S) {a : Nat} {d : Nat → Nat} (hd : ∀ r, d r ≤ 100 ∧ (d r < 100 → rch (jn S) a (d r) r)) : ∀ k, k ≤ S.1 1 → ∀ r, pss S d k r ≤ 100 ∧ (pss S d k r < 100 → rch (jn S) a (pss S d k r) r)
  | 0, _, r => hd r
  | k + 1, hk, r => by
    have hg := g.dr (k := k) (by omega)
    have h := rlx_at hg.2.2 (pss S d k)
    have ih := pss_snd g hd k (by omega)
    have j1 : jn S (S.2 2 k) (S.2 3 k) := ⟨k, by omega, Or.inl ⟨rfl, rfl⟩⟩
    have j2 : jn S (S.2 3 k) (S.2 2 k) := ⟨k, by omega, Or.inr ⟨rfl, rfl⟩⟩
    show rlx (S.2 2 k) (S.2 3 k) (pss S d k) r ≤ 100 ∧ (rlx (S.2 2 k) (S.2 3 k) (pss S d k) r < 100 → rch (jn S) a (rlx (S.2 2 k) (S.2 3 k) (pss S d k) r) r)
    have ix := ih (S.2 2 k)
    have iy := ih (S.2 3 k)
    have sx : rlx (S.2 2 k) (S.2 3 k) (pss S d k) (S.2 2 k) ≤ 100 ∧ (rlx (S.2 2 k) (S.2 3 k) (pss S d k) (S.2 2 k) < 100 → rch (jn S) a (rlx (S.2 2 k) (S.2 3 k) (pss S d k) (S.2 2 k)) (S.2 2 k)) := by
      rw [h.1]
      refine ⟨by omega, fun q => ?_⟩
      by_cases z : pss S d k (S.2 3 k) + 1 < pss S d k (S.2 2 k)
      · have e : min (pss S d k (S.2 2 k)) (pss S d k (S.2 3 k) + 1) = pss S d k (S.2 3 k) + 1 := by omega
        rw [e]
        exact Or.inr ⟨_, hg.2.1, iy.2 (by omega), j2⟩
      · have e : min (pss S d k (S.2 2 k)) (pss S d k (S.2 3 k) + 1) = pss S d k (S.2 2 k) := by omega
        rw [e]
        exact ix.2 (by omega)
    by_cases q : r = S.2 2 k
    · rw [q]
      exact sx
    · by_cases q2 : r = S.2 3 k
      · rw [q2, h.2.1]
        rw [h.1] at sx
        refine ⟨by omega, fun q => ?_⟩
        by_cases z : min (pss S d k (S.2 2 k)) (pss S d k (S.2 3 k) + 1) + 1 < pss S d k (S.2 3 k)
        · have e : min (pss S d k (S.2 3 k)) (min (pss S d k (S.2 2 k)) (pss S d k (S.2 3 k) + 1) + 1) = min (pss S d k (S.2 2 k)) (pss S d k (S.2 3 k) + 1) + 1 := by omega
          rw [e]
          exact Or.inr ⟨_, hg.1, sx.2 (by omega), j1⟩
        · have e : min (pss S d k (S.2 3 k)) (min (pss S d k (S.2 2 k)) (pss S d k (S.2 3 k) + 1) + 1) = pss S d k (S.2 3 k) := by omega
          rw [e]
          exact iy.2 (by omega)
      · rw [h.2.2 r q q2]
        exact ih r
theorem tn_snd {S : St} (g : Good S) (a : Nat) : ∀ n r, tn S a n r ≤ 100 ∧ (tn S a n r < 100 → rch (jn S) a (tn S a n r) r)
  | 0, r => by
    show (if r = a then 0 else 100) ≤ 100 ∧ ((if r = a then 0 else 100) < 100 → rch (jn S) a (if r = a then 0 else 100) r)
    by_cases q : r = a
    · rw [if_pos q]
      exact ⟨by omega, fun _ => q⟩
    · rw [if_neg q]
      exact ⟨by omega, fun z => by omega⟩
  | n + 1, r => pss_snd g (tn_snd g a n) (S.1 1) (Nat.le_refl _) r
theorem pss_dn {S : St} (g : Good S) (d : Nat → Nat) {k0 : Nat} : ∀ k, k0 < k → k ≤ S.1 1 → pss S d k (S.2 3 k0) ≤ d (S.2 2 k0) + 1 ∧ pss S d k (S.2 2 k0) ≤ d (S.2 3 k0) + 1
  | 0, h, _ => absurd h (Nat.not_lt_zero k0)
  | k + 1, hk, hl => by
    have hg := g.dr (k := k) (by omega)
    have h := rlx_at hg.2.2 (pss S d k)
    have p := pss_le g d k (by omega)
    by_cases e : k0 = k
    · subst e
      show rlx _ _ (pss S d k0) _ ≤ _ ∧ rlx _ _ (pss S d k0) _ ≤ _
      rw [h.1, h.2.1]
      have p1 := p (S.2 2 k0)
      have p2 := p (S.2 3 k0)
      omega
    · have ih := pss_dn g d (k0 := k0) k (by omega) (by omega)
      have mono : ∀ r, rlx (S.2 2 k) (S.2 3 k) (pss S d k) r ≤ pss S d k r := fun r => by
        by_cases q : r = S.2 2 k
        · rw [q, h.1]
          omega
        · by_cases q2 : r = S.2 3 k
          · rw [q2, h.2.1]
            omega
          · rw [h.2.2 r q q2]
            exact Nat.le_refl _
      exact ⟨Nat.le_trans (mono _) ih.1, Nat.le_trans (mono _) ih.2⟩
theorem tn_cmp {S : St} (g : Good S) (a : Nat) : ∀ n m r, m ≤ n → rch (jn S) a m r → tn S a n r ≤ m
  | 0, m, r, hm, h => by
    have : m = 0 := by omega
    subst this
    have h : r = a := h
    show (if r = a then 0 else 100) ≤ 0
    rw [if_pos h]
    exact Nat.le_refl _
  | n + 1, m, r, hm, h => by
    have p := pss_le g (tn S a n) (S.1 1) (Nat.le_refl _)
    show pss S (tn S a n) (S.1 1) r ≤ m
    cases m with
    | zero => exact Nat.le_trans (p r) (tn_cmp g a n 0 r (by omega) h)
    | succ m =>
      rcases h with h | ⟨q, hq, h1, k, hk, z | z⟩
      · have := tn_cmp g a n m r (by omega) h
        exact Nat.le_trans (p r) (by omega)
      · have i := tn_cmp g a n m q (by omega) h1
        have := (pss_dn g (tn S a n) (S.1 1) hk (Nat.le_refl _)).1
        rw [z.1, z.2] at this
        omega
      · have i := tn_cmp g a n m q (by omega) h1
        have := (pss_dn g (tn S a n) (S.1 1) hk (Nat.le_refl _)).2
        rw [z.1, z.2] at this
        omega
theorem tn_dst {S : St} (g : Good S) {a b : Nat} (ha : a < 8) (hb : b < 8) : dst S a b = if tn S a 8 b < 100 then tn S a 8 b + 1 else 0 := by
  apply dst_eq
  have s := tn_snd g a 8 b
  by_cases q : tn S a 8 b < 100
  · rw [if_pos q]
    have r := s.2 q
    have r7 := rch_7 ha hb r
    have c7 := tn_cmp g a 8 7 b (by omega) r7
    exact Or.inr ⟨_, by omega, rfl, r, fun m hm z => by have := tn_cmp g a 8 m b (by omega) z; omega⟩
  · rw [if_neg q]
    exact Or.inl ⟨rfl, fun n hn z => by have := tn_cmp g a 8 n b (by omega) z; omega⟩
end
section
set_option maxRecDepth 100000
/-! pure law 10: the two ways to find how far rooms are -/
/-- an array of the heap that holds D up to n -/
def fz (f : Nat → Nat → Int32) (A n : Nat) (D : Nat → Nat) : Nat → Nat → Int32 := fun x k => if x = A ∧ k < n then nI (D k) else f x k
theorem fz_rd {f : Nat → Nat → Int32} {A n k : Nat} {D : Nat → Nat} (h : k < n) : fz f A n D A k = nI (D k) := if_pos ⟨rfl, h⟩
theorem fz_off {f : Nat → Nat → Int32} {A n x k : Nat} {D : Nat → Nat} (h : x ≠ A) : fz f A n D x k = f x k := if_neg (fun q => h q.1)
theorem fz_hi {f : Nat → Nat → Int32} {A n x k : Nat} {D : Nat → Nat} (h : ¬ (x = A ∧ k < n)) : fz f A n D x k = f x k := if_neg h
theorem fz_0 (f : Nat → Nat → Int32) (A : Nat) (D : Nat → Nat) : fz f A 0 D = f := by
  funext x k
  exact if_neg (fun q => absurd q.2 (Nat.not_lt_zero k))
theorem fz_up {f : Nat → Nat → Int32} {A n i v : Nat} {D : Nat → Nat} (h : i < n) : u2 (fz f A n D) A i (nI v) = fz f A n (up D i v) := by
  funext x k
  unfold u2 fz up
  by_cases q : x = A ∧ k = i
  · rw [if_pos q, if_pos ⟨q.1, by omega⟩, if_pos q.2]
  · rw [if_neg q]
    by_cases q2 : x = A ∧ k < n
    · rw [if_pos q2, if_pos q2, if_neg (fun z => q ⟨q2.1, z⟩)]
    · rw [if_neg q2, if_neg q2]
theorem fz_grow (f : Nat → Nat → Int32) (A i : Nat) (D : Nat → Nat) : u2 (fz f A i D) A i (nI (D i)) = fz f A (i + 1) D := by
  funext x k
  unfold u2 fz
  by_cases q : x = A ∧ k = i
  · rw [if_pos q, if_pos ⟨q.1, by omega⟩, q.2]
  · rw [if_neg q]
    by_cases q2 : x = A ∧ k < i
    · rw [if_pos q2, if_pos ⟨q2.1, by omega⟩]
    · rw [if_neg q2, if_neg (fun z => by omega)]
theorem fz_cg {f : Nat → Nat → Int32} {A n : Nat} {D D' : Nat → Nat} (h : ∀ k, k < n → D k = D' k) : fz f A n D = fz f A n D' := by
  funext x k
  unfold fz
  by_cases q : x = A ∧ k < n
  · rw [if_pos q, if_pos q, h k q.2]
  · rw [if_neg q, if_neg q]
theorem RepM.sc {M : Nat} {σ : Hp} {f f' : Nat → Nat → Int32} {S : St} (h : RepM M (hv σ f) S) (hf : ∀ o k, o = 0 ∧ k ∈ pSc ∨ (∃ x ∈ pTab, x.2.1 = o) → f' (M + o) k = f (M + o) k) : RepM M (hv σ f') S :=
  ⟨h.1, h.2.1, fun k hk => (hf 0 k (Or.inl ⟨rfl, hk⟩)).trans (h.2.2.1 k hk), fun x hx i hi => (hf x.2.1 i (Or.inr ⟨x, hx, rfl⟩)).trans (h.2.2.2 x hx i hi)⟩
theorem pTab_n3 : ∀ x ∈ pTab, x.2.1 ≠ 3 ∧ x.2.1 ≠ 12 ∧ x.2.1 ≠ 13 ∧ x.2.1 ≠ 14 ∧ x.2.1 ≠ 15 ∧ x.2.1 ≠ 17 ∧ x.2.1 ≠ 19 ∧ x.2.1 ≠ 20 ∧ x.2.1 ≠ 21 := by decide
theorem RepM.sa {M : Nat} {σ : Hp} {f f' : Nat → Nat → Int32} {S : St} (h : RepM M (hv σ f) S) (o : Nat) (ho : o = 3 ∨ o = 12 ∨ o = 13 ∨ o = 14 ∨ o = 15 ∨ o = 17 ∨ o = 19 ∨ o = 20 ∨ o = 21) (hf : ∀ x k, x ≠ M + o → f' x k = f x k) : RepM M (hv σ f') S :=
  h.sc (fun o' k q => hf _ _ (fun e => by
    rcases q with q | ⟨x, hx, q⟩
    · omega
    · have := pTab_n3 x hx
      omega))
theorem RepM.zz {M : Nat} {σ : Hp} {f : Nat → Nat → Int32} {S : St} (h : RepM M (hv σ f) S) (o n : Nat) (D : Nat → Nat) (ho : o = 3 ∨ o = 12 ∨ o = 13 ∨ o = 14 ∨ o = 15 ∨ o = 17 ∨ o = 19 ∨ o = 20 ∨ o = 21) : RepM M (hv σ (fz f (M + o) n D)) S := h.sa o ho (fun x k hx => fz_off hx)
theorem rlx_up {x y : Nat} (d : Nat → Nat) (v w : Nat) (hv : v = if d y + 1 < d x then d y + 1 else d x) (hw : w = if up d x v x + 1 < up d x v y then up d x v x + 1 else up d x v y) : up (up d x v) y w = rlx x y d := by
  subst hw
  subst hv
  rfl
theorem m_pass {M : Nat} {σ : Hp} {f : Nat → Nat → Int32} {S : St} (g : Good S) (h : RepM M (hv σ f) S) {d : Nat → Nat} (hb : ∀ r, d r ≤ 100) (rec33 : Hp × Int32 → Option (Int32 × Hp)) (x2 x3 : Int32) : L_X10_doorsTo_42 rec33 M x2 x3 FU (hv σ (fz f (M + 3) 8 d), 0) = rec33 (hv σ (fz f (M + 3) 8 (pss S d (S.1 1))), x3 + 1) := by
  have s : SM M σ := h.1
  have hdm := g.dm
  unfold L_X10_doorsTo_42
  obtain ⟨n, hn⟩ := it_FU (body := fun rec st => B_X10_doorsTo_42 rec33 M x2 x3 rec st.1 st.2) (fun i => (hv σ (fz f (M + 3) 8 (pss S d i)), nI i)) 0 (S.1 1) (by omega) (by omega) (fun i _ hi rec => by
    have hg := g.dr hi
    have h' := h.zz 3 8 (pss S d i) (by omega)
    have b1 := Nat.le_trans (pss_le g d i (by omega) (S.2 2 i)) (hb _)
    have b2 := Nat.le_trans (pss_le g d i (by omega) (S.2 3 i)) (hb _)
    have hxy := hg.2.2
    show B_X10_doorsTo_42 rec33 M x2 x3 rec (hv σ (fz f (M + 3) 8 (pss S d i))) (nI i) = rec (hv σ (fz f (M + 3) 8 (rlx (S.2 2 i) (S.2 3 i) (pss S d i))), nI (i + 1))
    by_cases q : pss S d i (S.2 2 i) ≤ pss S d i (S.2 3 i) + 1
    · have e1 : ∀ r, up (pss S d i) (S.2 2 i) (pss S d i (S.2 2 i)) r = pss S d i r := fun r => by
        unfold up
        by_cases z : r = S.2 2 i
        · rw [if_pos z, z]
        · rw [if_neg z]
      by_cases q2 : pss S d i (S.2 3 i) ≤ pss S d i (S.2 2 i) + 1
      · simp (decide := true) (disch := omega) only [B_X10_doorsTo_42, F_X10_doorsTo_113, gd_hv s.1, gI_hv s.1, pI_hv s.1, s.R2, s.A2, s.W2, s.R3, s.A3, s.W3, s.R4, s.A4, s.W4, b1_some, b2_some, litI, neg1, nI_add, nI_mul, e1_p1, nI_e0, ib, ib1, ite_not, if_true, if_false, not_true_eq_false, not_false_eq_true, setI_hv, h'.s1, h'.a2, h'.a3, fz_rd, le_lit, show ¬ S.1 1 ≤ i by omega, q, q2, fz_up, e1]
        rw [rlx_up _ _ _ (by rw [if_neg (by omega)]) (by rw [e1, e1, if_neg (by omega)])]
      · simp (decide := true) (disch := omega) only [B_X10_doorsTo_42, F_X10_doorsTo_113, gd_hv s.1, gI_hv s.1, pI_hv s.1, s.R2, s.A2, s.W2, s.R3, s.A3, s.W3, s.R4, s.A4, s.W4, b1_some, b2_some, litI, neg1, nI_add, nI_mul, e1_p1, nI_e0, ib, ib1, ite_not, if_true, if_false, not_true_eq_false, not_false_eq_true, setI_hv, h'.s1, h'.a2, h'.a3, fz_rd, le_lit, show ¬ S.1 1 ≤ i by omega, q, q2, fz_up, e1]
        rw [rlx_up _ _ _ (by rw [if_neg (by omega)]) (by rw [e1, e1, if_pos (by omega)])]
    · have e1 : up (pss S d i) (S.2 2 i) (pss S d i (S.2 3 i) + 1) (S.2 2 i) = pss S d i (S.2 3 i) + 1 := if_pos rfl
      have e2 : up (pss S d i) (S.2 2 i) (pss S d i (S.2 3 i) + 1) (S.2 3 i) = pss S d i (S.2 3 i) := if_neg (Ne.symm hxy)
      simp (decide := true) (disch := omega) only [B_X10_doorsTo_42, F_X10_doorsTo_113, gd_hv s.1, gI_hv s.1, pI_hv s.1, s.R2, s.A2, s.W2, s.R3, s.A3, s.W3, s.R4, s.A4, s.W4, b1_some, b2_some, litI, neg1, nI_add, nI_mul, e1_p1, nI_e0, ib, ib1, ite_not, if_true, if_false, not_true_eq_false, not_false_eq_true, setI_hv, h'.s1, h'.a2, h'.a3, fz_rd, le_lit, show ¬ S.1 1 ≤ i by omega, q, fz_up, e1, e2, show pss S d i (S.2 3 i) ≤ pss S d i (S.2 3 i) + 1 + 1 by omega]
      rw [rlx_up _ _ _ (by rw [if_pos (by omega)]) (by rw [e1, e2, if_neg (by omega)])])
  refine Eq.trans (b := it (fun rec st => B_X10_doorsTo_42 rec33 M x2 x3 rec st.1 st.2) FU (hv σ (fz f (M + 3) 8 (pss S d 0)), nI 0)) rfl (hn.trans ?_)
  have h' := h.zz 3 8 (pss S d (S.1 1)) (by omega)
  simp (decide := true) (disch := omega) only [B_X10_doorsTo_42, gd_hv s.1, gI_hv s.1, pI_hv s.1, b1_some, h'.s1, Nat.le_refl, le_lit, if_true]
theorem m_dst {M : Nat} {σ : Hp} {f : Nat → Nat → Int32} {S : St} (g : Good S) (h : RepM M (hv σ f) S) {a b : Nat} (ha : a < 8) (hb : b < 8) : F_X10_doorsTo (hv σ f) M (nI a) (nI b) = some (e1 (dst S a b), hv σ (fz f (M + 3) 8 (tn S a 8))) := by
  have s : SM M σ := h.1
  unfold F_X10_doorsTo L_X10_doorsTo_2
  rw [gd_hv s.1]
  obtain ⟨n, hn⟩ := it_FU (body := fun rec st => B_X10_doorsTo_2 M (nI a) (nI b) rec st.1 st.2) (fun i => (hv σ (fz f (M + 3) i (tn S a 0)), nI i)) 0 8 (by omega) (by omega) (fun i _ hi rec => by
    show B_X10_doorsTo_2 M (nI a) (nI b) rec (hv σ (fz f (M + 3) i (tn S a 0))) (nI i) = rec (hv σ (fz f (M + 3) (i + 1) (tn S a 0)), nI (i + 1))
    rw [← fz_grow f (M + 3) i (tn S a 0)]
    show _ = rec (hv σ (u2 (fz f (M + 3) i (tn S a 0)) (M + 3) i (nI (if i = a then 0 else 100))), nI (i + 1))
    by_cases q : i = a
    · simp (decide := true) (disch := omega) only [B_X10_doorsTo_2, gd_hv s.1, gI_hv s.1, pI_hv s.1, s.R4, s.A4, s.W4, b1_some, b2_some, litI, neg1, nI_add, nI_mul, e1_p1, nI_e0, ib, ib1, ite_not, if_true, if_false, not_true_eq_false, not_false_eq_true, setI_hv, le_lit, eq_lit, show ¬ 8 ≤ i by omega, q, show ¬ 8 ≤ a by omega]
    · simp (decide := true) (disch := omega) only [B_X10_doorsTo_2, gd_hv s.1, gI_hv s.1, pI_hv s.1, s.R4, s.A4, s.W4, b1_some, b2_some, litI, neg1, nI_add, nI_mul, e1_p1, nI_e0, ib, ib1, ite_not, if_true, if_false, not_true_eq_false, not_false_eq_true, setI_hv, le_lit, eq_lit, show ¬ 8 ≤ i by omega, q])
  rw [fz_0] at hn
  refine Eq.trans (b := it (fun rec st => B_X10_doorsTo_2 M (nI a) (nI b) rec st.1 st.2) FU (hv σ f, nI 0)) rfl (hn.trans ?_)
  simp (decide := true) (disch := omega) only [B_X10_doorsTo_2, litI, le_lit, Nat.le_refl, if_true]
  unfold L_X10_doorsTo_33
  obtain ⟨n', hn'⟩ := it_FU (body := fun rec st => B_X10_doorsTo_33 M (nI b) rec st.1 st.2) (fun i => (hv σ (fz f (M + 3) 8 (tn S a i)), nI i)) 0 8 (by omega) (by omega) (fun i _ hi rec => by
    show B_X10_doorsTo_33 M (nI b) rec (hv σ (fz f (M + 3) 8 (tn S a i))) (nI i) = rec (hv σ (fz f (M + 3) 8 (pss S (tn S a i) (S.1 1))), nI (i + 1))
    unfold B_X10_doorsTo_33
    rw [m_pass g h (fun r => (tn_snd g a i r).1) rec (nI b) (nI i)]
    simp (decide := true) (disch := omega) only [b1_some, b2_some, litI, neg1, nI_add, nI_mul, e1_p1, nI_e0, ib, ib1, ite_not, if_true, if_false, not_true_eq_false, not_false_eq_true, setI_hv, le_lit, show ¬ 8 ≤ i by omega])
  refine hn'.trans ?_
  have ht := tn_snd g a 8 b
  rw [tn_dst g ha hb]
  by_cases q : tn S a 8 b < 100
  · simp (decide := true) (disch := omega) only [B_X10_doorsTo_33, F_X10_doorsTo_171, gd_hv s.1, gI_hv s.1, pI_hv s.1, s.R4, s.A4, s.W4, b1_some, b2_some, litI, neg1, nI_add, nI_mul, e1_p1, nI_e0, ib, ib1, ite_not, if_true, if_false, not_true_eq_false, not_false_eq_true, setI_hv, le_lit, lt_lit, fz_rd, Nat.le_refl, q, e1_s]
  · simp (decide := true) (disch := omega) only [B_X10_doorsTo_33, F_X10_doorsTo_171, gd_hv s.1, gI_hv s.1, pI_hv s.1, s.R4, s.A4, s.W4, b1_some, b2_some, litI, neg1, nI_add, nI_mul, e1_p1, nI_e0, ib, ib1, ite_not, if_true, if_false, not_true_eq_false, not_false_eq_true, setI_hv, le_lit, lt_lit, fz_rd, Nat.le_refl, q]
/-! bits -/
theorem bitN : ∀ m, m < 256 → ∀ i, i < 8 → (nI m >>> (nI i &&& nI 31)) &&& nI 1 = nI (m / 2 ^ i % 2) := by decide +kernel
theorem orN : ∀ m, m < 256 → ∀ i, i < 8 → nI m ||| (nI 1 <<< (nI i &&& nI 31)) = nI (m ||| 2 ^ i) := by decide +kernel
theorem shN : ∀ i, i < 8 → nI 1 <<< (nI i &&& nI 31) = nI (2 ^ i) := by decide +kernel
theorem or_0 : ∀ m, m < 256 → nI m ||| nI 0 = nI m := by decide +kernel
theorem or_b : ∀ q, q < 8 → ∀ m, m < 256 → m ||| 2 ^ q < 256 ∧ ∀ z, z < 8 → (m ||| 2 ^ q) / 2 ^ z % 2 = if z = q then 1 else m / 2 ^ z % 2 := by decide +kernel
theorem p2_b : ∀ a, a < 8 → 2 ^ a < 256 ∧ ∀ z, z < 8 → 2 ^ a / 2 ^ z % 2 = if z = a then 1 else 0 := by decide +kernel
def rwq (S : St) (r t : Nat) : Nat → Nat
  | 0 => t
  | q + 1 => if jl S r q (S.1 1) = 1 then rwq S r t q ||| 2 ^ q else rwq S r t q
def thn (S : St) (m : Nat) : Nat → Nat
  | 0 => m
  | r + 1 => if m / 2 ^ r % 2 = 1 then rwq S r (thn S m r) 8 else thn S m r
def cmm (S : St) (a : Nat) : Nat → Nat
  | 0 => 2 ^ a
  | n + 1 => thn S (cmm S a n) 8
theorem rwq_b (S : St) {r t : Nat} (ht : t < 256) : ∀ q, q ≤ 8 → rwq S r t q < 256 ∧ ∀ z, z < 8 → (rwq S r t q / 2 ^ z % 2 = 1 ↔ t / 2 ^ z % 2 = 1 ∨ (z < q ∧ jn S r z))
  | 0, _ => ⟨ht, fun z hz => ⟨fun h => Or.inl h, fun h => h.elim id (fun w => absurd w.1 (Nat.not_lt_zero z))⟩⟩
  | q + 1, hq => by
    have ih := rwq_b S (r := r) ht q (by omega)
    unfold rwq
    by_cases e : jl S r q (S.1 1) = 1
    · rw [if_pos e]
      have ob := or_b q (by omega) _ ih.1
      refine ⟨ob.1, fun z hz => ?_⟩
      rw [ob.2 z hz]
      by_cases w : z = q
      · rw [if_pos w]
        exact ⟨fun _ => Or.inr ⟨by omega, by rw [w]; exact (jl_jn S r q).mp e⟩, fun _ => rfl⟩
      · rw [if_neg w, ih.2 z hz]
        constructor
        · rintro (h | h)
          · exact Or.inl h
          · exact Or.inr ⟨by omega, h.2⟩
        · rintro (h | h)
          · exact Or.inl h
          · exact Or.inr ⟨by omega, h.2⟩
    · rw [if_neg e]
      refine ⟨ih.1, fun z hz => ?_⟩
      rw [ih.2 z hz]
      constructor
      · rintro (h | h)
        · exact Or.inl h
        · exact Or.inr ⟨by omega, h.2⟩
      · rintro (h | h)
        · exact Or.inl h
        · refine Or.inr ⟨?_, h.2⟩
          by_cases w : z = q
          · rw [w] at h
            exact absurd ((jl_jn S r q).mpr h.2) e
          · omega
theorem thn_b (S : St) {m : Nat} (hm : m < 256) : ∀ r, r ≤ 8 → thn S m r < 256 ∧ ∀ z, z < 8 → (thn S m r / 2 ^ z % 2 = 1 ↔ m / 2 ^ z % 2 = 1 ∨ ∃ x, x < r ∧ m / 2 ^ x % 2 = 1 ∧ jn S x z)
  | 0, _ => ⟨hm, fun z hz => ⟨fun h => Or.inl h, fun h => h.elim id (fun ⟨x, w, _⟩ => absurd w (Nat.not_lt_zero x))⟩⟩
  | r + 1, hr => by
    have ih := thn_b S hm r (by omega)
    unfold thn
    by_cases e : m / 2 ^ r % 2 = 1
    · rw [if_pos e]
      have rb := rwq_b S (r := r) ih.1 8 (Nat.le_refl _)
      refine ⟨rb.1, fun z hz => ?_⟩
      rw [rb.2 z hz, ih.2 z hz]
      constructor
      · rintro ((h | ⟨x, h1, h2⟩) | h)
        · exact Or.inl h
        · exact Or.inr ⟨x, by omega, h2⟩
        · exact Or.inr ⟨r, by omega, e, h.2⟩
      · rintro (h | ⟨x, h1, h2, h3⟩)
        · exact Or.inl (Or.inl h)
        · by_cases w : x = r
          · rw [w] at h3
            exact Or.inr ⟨hz, h3⟩
          · exact Or.inl (Or.inr ⟨x, by omega, h2, h3⟩)
    · rw [if_neg e]
      refine ⟨ih.1, fun z hz => ?_⟩
      rw [ih.2 z hz]
      constructor
      · rintro (h | ⟨x, h1, h2⟩)
        · exact Or.inl h
        · exact Or.inr ⟨x, by omega, h2⟩
      · rintro (h | ⟨x, h1, h2, h3⟩)
        · exact Or.inl h
        · refine Or.inr ⟨x, ?_, h2, h3⟩
          by_cases w : x = r
          · rw [w] at h2
            exact absurd h2 e
          · omega
theorem cmm_b (S : St) {a : Nat} (ha : a < 8) : ∀ n, cmm S a n < 256 ∧ ∀ z, z < 8 → (cmm S a n / 2 ^ z % 2 = 1 ↔ rch (jn S) a n z)
  | 0 => by
    have pb := p2_b a ha
    refine ⟨pb.1, fun z hz => ?_⟩
    show 2 ^ a / 2 ^ z % 2 = 1 ↔ z = a
    rw [pb.2 z hz]
    by_cases w : z = a
    · rw [if_pos w]
      exact ⟨fun _ => w, fun _ => rfl⟩
    · rw [if_neg w]
      exact ⟨fun q => absurd q (by decide), fun q => absurd q w⟩
  | n + 1 => by
    have ih := cmm_b S ha n
    have tb := thn_b S ih.1 8 (Nat.le_refl _)
    refine ⟨tb.1, fun z hz => (tb.2 z hz).trans ?_⟩
    show _ ↔ rch (jn S) a n z ∨ ∃ q, q < 8 ∧ rch (jn S) a n q ∧ jn S q z
    rw [ih.2 z hz]
    constructor
    · rintro (h | ⟨x, h1, h2, h3⟩)
      · exact Or.inl h
      · exact Or.inr ⟨x, h1, (ih.2 x h1).mp h2, h3⟩
    · rintro (h | ⟨x, h1, h2, h3⟩)
      · exact Or.inl h
      · exact Or.inr ⟨x, h1, (ih.2 x h1).mpr h2, h3⟩
theorem x_row {N : Nat} {σ : Hp} {f : Nat → Nat → Int32} {S : St} (h : RepX N (hv σ f) S) {m r t : Nat} (hm : m < 256) (hr : r < 8) (ht : t < 256) (rec7 rec32 : Int32 × Int32 → Option (Int32 × Hp)) (x2 x4 : Int32) : L_X0_awayOf_42 rec7 rec32 (hv σ f) N x2 (nI m) x4 (nI r) FU (nI t, 0) = rec32 (nI (if m / 2 ^ r % 2 = 1 then rwq S r t 8 else t), nI (r + 1)) := by
  have s : SX N σ := h.1
  unfold L_X0_awayOf_42
  by_cases e : m / 2 ^ r % 2 = 1
  · obtain ⟨n, hn⟩ := it_FU (body := fun rec st => B_X0_awayOf_42 rec7 rec32 (hv σ f) N x2 (nI m) x4 (nI r) rec st.1 st.2) (fun i => (nI (rwq S r t i), nI i)) 0 8 (by omega) (by omega) (fun i _ hi rec => by
      have rb := rwq_b S (r := r) ht i (by omega)
      show B_X0_awayOf_42 rec7 rec32 (hv σ f) N x2 (nI m) x4 (nI r) rec (nI (rwq S r t i)) (nI i) = rec (nI (if jl S r i (S.1 1) = 1 then rwq S r t i ||| 2 ^ i else rwq S r t i), nI (i + 1))
      rcases jl_01 S r i (S.1 1) with j | j
      · simp (decide := true) (disch := omega) only [B_X0_awayOf_42, gd_hv s.t0, gI_hv s.t0, pI_hv s.t0, s.R0, s.J, s.AJ, b1_some, b2_some, litI, neg1, nI_add, nI_mul, e1_p1, nI_e0, ib, ib1, ite_not, if_true, if_false, not_true_eq_false, not_false_eq_true, setI_hv, h.jo, le_lit, eq_lit, show ¬ 8 ≤ i by omega, bitN m hm r hr, e, j, or_0 _ rb.1]
      · simp (decide := true) (disch := omega) only [B_X0_awayOf_42, gd_hv s.t0, gI_hv s.t0, pI_hv s.t0, s.R0, s.J, s.AJ, b1_some, b2_some, litI, neg1, nI_add, nI_mul, e1_p1, nI_e0, ib, ib1, ite_not, if_true, if_false, not_true_eq_false, not_false_eq_true, setI_hv, h.jo, le_lit, eq_lit, show ¬ 8 ≤ i by omega, bitN m hm r hr, e, j, orN _ rb.1 i hi])
    refine Eq.trans (b := it (fun rec st => B_X0_awayOf_42 rec7 rec32 (hv σ f) N x2 (nI m) x4 (nI r) rec st.1 st.2) FU (nI (rwq S r t 0), nI 0)) rfl (hn.trans ?_)
    simp (decide := true) (disch := omega) only [B_X0_awayOf_42, b1_some, b2_some, litI, neg1, nI_add, nI_mul, e1_p1, nI_e0, ib, ib1, ite_not, if_true, if_false, not_true_eq_false, not_false_eq_true, setI_hv, le_lit, Nat.le_refl, e]
  · have b2 : m / 2 ^ r % 2 < 2 := Nat.mod_lt _ (by omega)
    obtain ⟨n, hn⟩ := it_FU (body := fun rec st => B_X0_awayOf_42 rec7 rec32 (hv σ f) N x2 (nI m) x4 (nI r) rec st.1 st.2) (fun i => (nI t, nI 0)) 0 0 (by omega) (by omega) (fun i _ hi rec => by omega)
    refine Eq.trans (b := it (fun rec st => B_X0_awayOf_42 rec7 rec32 (hv σ f) N x2 (nI m) x4 (nI r) rec st.1 st.2) FU (nI t, nI 0)) rfl (hn.trans ?_)
    simp (decide := true) (disch := omega) only [B_X0_awayOf_42, b1_some, b2_some, litI, neg1, nI_add, nI_mul, e1_p1, nI_e0, ib, ib1, ite_not, if_true, if_false, not_true_eq_false, not_false_eq_true, setI_hv, le_lit, eq_lit, bitN m hm r hr, e]
theorem x_round {N : Nat} {σ : Hp} {f : Nat → Nat → Int32} {S : St} (h : RepX N (hv σ f) S) {m : Nat} (hm : m < 256) (rec7 : Int32 × Int32 → Option (Int32 × Hp)) (x2 x4 : Int32) : L_X0_awayOf_32 rec7 (hv σ f) N x2 (nI m) x4 FU (nI m, 0) = rec7 (nI (thn S m 8), x4 + 1) := by
  unfold L_X0_awayOf_32
  obtain ⟨n, hn⟩ := it_FU (body := fun rec st => B_X0_awayOf_32 rec7 (hv σ f) N x2 (nI m) x4 rec st.1 st.2) (fun i => (nI (thn S m i), nI i)) 0 8 (by omega) (by omega) (fun i _ hi rec => by
    have tb := thn_b S hm i (by omega)
    show B_X0_awayOf_32 rec7 (hv σ f) N x2 (nI m) x4 rec (nI (thn S m i)) (nI i) = rec (nI (if m / 2 ^ i % 2 = 1 then rwq S i (thn S m i) 8 else thn S m i), nI (i + 1))
    unfold B_X0_awayOf_32
    rw [x_row h hm hi tb.1 rec7 rec x2 x4]
    simp (decide := true) (disch := omega) only [litI, le_lit, show ¬ 8 ≤ i by omega, if_false])
  refine Eq.trans (b := it (fun rec st => B_X0_awayOf_32 rec7 (hv σ f) N x2 (nI m) x4 rec st.1 st.2) FU (nI (thn S m 0), nI 0)) rfl (hn.trans ?_)
  simp (decide := true) (disch := omega) only [B_X0_awayOf_32, litI, le_lit, Nat.le_refl, if_true]
theorem x_dst {N : Nat} {σ : Hp} {f : Nat → Nat → Int32} {S : St} (h : RepX N (hv σ f) S) {a b : Nat} (ha : a < 8) (hb : b < 8) : F_X0_awayOf (hv σ f) N (nI a) (nI b) = some (e1 (dst S a b), hv σ f) := by
  have s : SX N σ := h.1
  unfold F_X0_awayOf L_X0_awayOf_7
  rw [gd_hv s.t0]
  have e0 : (1 : Int32) <<< (nI a &&& 31) = nI (2 ^ a) := shN a ha
  rw [e0]
  have step : ∀ n, n < 8 → ¬ rch (jn S) a n b → ∀ rec, B_X0_awayOf_7 (hv σ f) N (nI b) rec (nI (cmm S a n)) (nI n) = rec (nI (cmm S a (n + 1)), nI (n + 1)) := fun n hn q rec => by
    have cb := cmm_b S ha n
    have z : ¬ cmm S a n / 2 ^ b % 2 = 1 := fun w => q ((cb.2 b hb).mp w)
    have b2 : cmm S a n / 2 ^ b % 2 < 2 := Nat.mod_lt _ (by omega)
    unfold B_X0_awayOf_7
    rw [x_round h cb.1 rec (nI b) (nI n)]
    simp (decide := true) (disch := omega) only [b1_some, b2_some, litI, neg1, nI_add, nI_mul, e1_p1, nI_e0, ib, ib1, ite_not, if_true, if_false, not_true_eq_false, not_false_eq_true, setI_hv, le_lit, eq_lit, show ¬ 8 ≤ n by omega, bitN _ cb.1 b hb, z]
    rfl
  rcases dst_is S a b with ⟨d0, no⟩ | ⟨n, hn8, d0, yes, no⟩
  · obtain ⟨n, hn⟩ := it_FU (body := fun rec st => B_X0_awayOf_7 (hv σ f) N (nI b) rec st.1 st.2) (fun i => (nI (cmm S a i), nI i)) 0 8 (by omega) (by omega) (fun i _ hi rec => step i hi (no i hi) rec)
    refine Eq.trans (b := it (fun rec st => B_X0_awayOf_7 (hv σ f) N (nI b) rec st.1 st.2) FU (nI (cmm S a 0), nI 0)) rfl (hn.trans ?_)
    simp (decide := true) (disch := omega) only [B_X0_awayOf_7, b1_some, b2_some, litI, neg1, nI_add, nI_mul, e1_p1, nI_e0, ib, ib1, ite_not, if_true, if_false, not_true_eq_false, not_false_eq_true, setI_hv, le_lit, Nat.le_refl, d0]
  · obtain ⟨k, hk⟩ := it_FU (body := fun rec st => B_X0_awayOf_7 (hv σ f) N (nI b) rec st.1 st.2) (fun i => (nI (cmm S a i), nI i)) 0 n (by omega) (by omega) (fun i _ hi rec => step i (by omega) (no i hi) rec)
    refine Eq.trans (b := it (fun rec st => B_X0_awayOf_7 (hv σ f) N (nI b) rec st.1 st.2) FU (nI (cmm S a 0), nI 0)) rfl (hk.trans ?_)
    have cb := cmm_b S ha n
    have z : cmm S a n / 2 ^ b % 2 = 1 := (cb.2 b hb).mpr yes
    simp (decide := true) (disch := omega) only [B_X0_awayOf_7, b1_some, b2_some, litI, neg1, nI_add, nI_mul, e1_p1, nI_e0, ib, ib1, ite_not, if_true, if_false, not_true_eq_false, not_false_eq_true, setI_hv, le_lit, eq_lit, show ¬ 8 ≤ n by omega, bitN _ cb.1 b hb, z, d0, e1_s]
noncomputable def oAway (a b : Int32) (S : St) : Int32 × St := if inR a 0 7 ∧ inR b 0 7 then (e1 (dst S a.toNatClampNeg b.toNatClampNeg), S) else (-2, S)
theorem m_away (M : Nat) (a b : Int32) : OkMf M (fun σ => F_X10_away σ M a b) (oAway a b) := by
  intro σ f S g h
  have s : SM M σ := h.1
  simp only [F_X10_away, oAway, gd_hv s.1, x10_isRoom, b2_some]
  rcases in_split a 0 7 (by omega) (by omega) with ⟨i, -, hi, rfl⟩ | hk
  case inr => simp (decide := true) (disch := omega) only [b1_some, b2_some, litI, neg1, nI_add, nI_mul, e1_p1, nI_e0, ib, ib1, ite_not, if_true, if_false, not_true_eq_false, not_false_eq_true, setI_hv, hk, false_and]; exact ⟨_, rfl, h, fun _ _ _ => rfl⟩
  have qi := eq_true (inR_of (Nat.zero_le i) hi (by omega))
  rcases in_split b 0 7 (by omega) (by omega) with ⟨j, -, hj, rfl⟩ | hv
  case inr => simp (decide := true) (disch := omega) only [b1_some, b2_some, litI, neg1, nI_add, nI_mul, e1_p1, nI_e0, ib, ib1, ite_not, if_true, if_false, not_true_eq_false, not_false_eq_true, setI_hv, qi, hv, and_false, false_and]; exact ⟨_, rfl, h, fun _ _ _ => rfl⟩
  have qj := eq_true (inR_of (Nat.zero_le j) hj (by omega))
  simp (decide := true) (disch := omega) only [b1_some, b2_some, litI, neg1, nI_add, nI_mul, e1_p1, nI_e0, ib, ib1, ite_not, if_true, if_false, not_true_eq_false, not_false_eq_true, setI_hv, qi, qj, and_self, m_dst g h, cl_I]
  exact ⟨_, rfl, h.zz 3 8 _ (by omega), fun a k ha => fz_off (by omega)⟩
theorem x_away (N : Nat) (a b : Int32) : OkXf N (fun σ => F_X0_away σ N a b) (oAway a b) := by
  intro σ f S g h
  have s : SX N σ := h.1
  simp only [F_X0_away, oAway, gd_hv s.t0, x0_isRoom, b2_some]
  rcases in_split a 0 7 (by omega) (by omega) with ⟨i, -, hi, rfl⟩ | hk
  case inr => simp (decide := true) (disch := omega) only [b1_some, b2_some, litI, neg1, nI_add, nI_mul, e1_p1, nI_e0, ib, ib1, ite_not, if_true, if_false, not_true_eq_false, not_false_eq_true, setI_hv, hk, false_and]; exact ⟨_, rfl, h, fun _ _ _ => rfl⟩
  have qi := eq_true (inR_of (Nat.zero_le i) hi (by omega))
  rcases in_split b 0 7 (by omega) (by omega) with ⟨j, -, hj, rfl⟩ | hv
  case inr => simp (decide := true) (disch := omega) only [b1_some, b2_some, litI, neg1, nI_add, nI_mul, e1_p1, nI_e0, ib, ib1, ite_not, if_true, if_false, not_true_eq_false, not_false_eq_true, setI_hv, qi, hv, and_false, false_and]; exact ⟨_, rfl, h, fun _ _ _ => rfl⟩
  have qj := eq_true (inR_of (Nat.zero_le j) hj (by omega))
  simp (decide := true) (disch := omega) only [b1_some, b2_some, litI, neg1, nI_add, nI_mul, e1_p1, nI_e0, ib, ib1, ite_not, if_true, if_false, not_true_eq_false, not_false_eq_true, setI_hv, qi, qj, and_self, x_dst h, cl_I]
  exact ⟨_, rfl, h, fun _ _ _ => rfl⟩
end
section
set_option maxRecDepth 100000
/-! pure law 11: sums over a room; days; walks -/
/-- an array of the heap that holds D up to n -/
def fy (f : Nat → Nat → Int32) (A n : Nat) (D : Nat → Int32) : Nat → Nat → Int32 := fun x k => if x = A ∧ k < n then D k else f x k
theorem fy_rd {f : Nat → Nat → Int32} {A n k : Nat} {D : Nat → Int32} (h : k < n) : fy f A n D A k = D k := if_pos ⟨rfl, h⟩
theorem fy_off {f : Nat → Nat → Int32} {A n x k : Nat} {D : Nat → Int32} (h : ¬ (x = A ∧ k < n)) : fy f A n D x k = f x k := if_neg h
theorem fy_0 (f : Nat → Nat → Int32) (A : Nat) (D : Nat → Int32) : fy f A 0 D = f := by
  funext x k
  exact if_neg (fun q => absurd q.2 (Nat.not_lt_zero k))
theorem fy_grow (f : Nat → Nat → Int32) (A i : Nat) (D : Nat → Int32) : u2 (fy f A i D) A i (D i) = fy f A (i + 1) D := by
  funext x k
  unfold u2 fy
  by_cases q : x = A ∧ k = i
  · rw [if_pos q, if_pos ⟨q.1, by omega⟩, q.2]
  · rw [if_neg q]
    by_cases q2 : x = A ∧ k < i
    · rw [if_pos q2, if_pos ⟨q2.1, by omega⟩]
    · rw [if_neg q2, if_neg (fun z => by omega)]
theorem u2_com {f : Nat → Nat → Int32} {A B i j : Nat} {v w : Int32} (h : ¬ (A = B ∧ i = j)) : u2 (u2 f A i v) B j w = u2 (u2 f B j w) A i v := by
  funext x k
  show (if x = B ∧ k = j then w else if x = A ∧ k = i then v else f x k) = (if x = A ∧ k = i then v else if x = B ∧ k = j then w else f x k)
  by_cases q : x = A ∧ k = i
  · rw [if_neg (fun z => h ⟨by omega, by omega⟩), if_pos q, if_pos q]
  · rw [if_neg q, if_neg q]
theorem u2_u2 {f : Nat → Nat → Int32} {A i : Nat} {v w : Int32} : u2 (u2 f A i v) A i w = u2 f A i w := by
  funext x k
  unfold u2
  by_cases q : x = A ∧ k = i
  · rw [if_pos q, if_pos q]
  · rw [if_neg q, if_neg q, if_neg q]
theorem u2_id {f : Nat → Nat → Int32} {A i : Nat} {v : Int32} (h : f A i = v) : u2 f A i v = f := by
  funext x k
  unfold u2
  by_cases q : x = A ∧ k = i
  · rw [if_pos q, q.1, q.2, h]
  · rw [if_neg q]
theorem fy_u2 {f : Nat → Nat → Int32} {A B n i : Nat} {v : Int32} {D : Nat → Int32} (h : A ≠ B) : u2 (fy f A n D) B i v = fy (u2 f B i v) A n D := by
  funext x k
  show (if x = B ∧ k = i then v else if x = A ∧ k < n then D k else f x k) = (if x = A ∧ k < n then D k else if x = B ∧ k = i then v else f x k)
  by_cases q : x = B ∧ k = i
  · rw [if_pos q, if_neg (fun z => h (by omega)), if_pos q]
  · rw [if_neg q, if_neg q]
def wA (S : St) (k : Nat) (D : Nat → Nat) : St := (S.1, fun q => if q = k then D else S.2 q)
theorem wA_1 (S : St) (k : Nat) (D : Nat → Nat) : (wA S k D).1 = S.1 := rfl
theorem wA_e {S : St} {k : Nat} {D : Nat → Nat} : (wA S k D).2 k = D := if_pos rfl
theorem wA_n {S : St} {k q : Nat} {D : Nat → Nat} (h : q ≠ k) : (wA S k D).2 q = S.2 q := if_neg h
theorem RepM.fy {M : Nat} {σ : Hp} {f : Nat → Nat → Int32} {S : St} (h : RepM M (hv σ f) S) (x : Nat × Nat × Nat) (hx : x ∈ pTab) (D : Nat → Nat) (f' : Nat → Nat → Int32) (hf : f' = fun a k => if a = M + x.2.1 ∧ k < x.2.2 then enc x.1 (D k) else f a k) : RepM M (hv σ f') (wA S x.1 D) := by
  subst hf
  obtain ⟨h1, h2, h3, h4⟩ := h
  refine ⟨h1, h2, fun k hk => ?_, fun y hy j hj => ?_⟩
  · have e : ¬ (M = M + x.2.1 ∧ k < x.2.2) := fun q => by have := pTab_pos x hx; omega
    show (if M = M + x.2.1 ∧ k < x.2.2 then enc x.1 (D k) else f M k) = _
    rw [if_neg e]
    exact h3 k hk
  · show (if M + y.2.1 = M + x.2.1 ∧ j < x.2.2 then enc x.1 (D j) else f (M + y.2.1) j) = enc y.1 ((wA S x.1 D).2 y.1 j)
    by_cases e : y.2.1 = x.2.1
    · have : y = x := pTab_inj y hy x hx e
      subst this
      rw [if_pos ⟨rfl, hj⟩, wA_e]
    · rw [if_neg (fun q => e (by omega)), wA_n (fun q => e (by rw [pTab_inj1 y hy x hx q]))]
      exact h4 y hy j hj
/-! how many stand in a room -/
def stn (T : Nat → Nat) (r : Nat) : Nat := sumR (fun c => if T c = 0 then 0 else 1) (6 * r) 6
theorem stn_le (T : Nat → Nat) (r : Nat) : stn T r ≤ 6 := Nat.le_trans (sumR_le (m := 1) (fun k => by split <;> omega) _ 6) (by omega)
theorem sum_b {f : Nat → Nat} {m : Nat} (h : ∀ k, f k ≤ m) (a n : Nat) (hm : m * n < 1000000) : sumR f a n < 1000000 := Nat.lt_of_le_of_lt (sumR_le h a n) hm
theorem m_stand {M : Nat} {σ : Hp} {f : Nat → Nat → Int32} {S : St} (g : Good S) (h : RepM M (hv σ f) S) {r : Nat} (hr : r < 8) : F_X10_standIn (hv σ f) M (nI r) = some (nI (stn (S.2 9) r), hv σ f) := by
  have s : SM M σ := h.1
  unfold F_X10_standIn L_X10_standIn_7
  rw [gd_hv s.1, show (6 : Int32) * nI r = nI (6 * r) from nI_mul 6 r]
  obtain ⟨n, hn⟩ := it_FU (body := fun rec st => B_X10_standIn_7 (hv σ f) M (nI r) rec st.1 st.2) (fun i => (nI (sumR (fun c => if S.2 9 c = 0 then 0 else 1) (6 * r) i), nI (6 * r + i))) 0 6 (by omega) (by omega) (fun i _ hi rec => by
    have hb := g.cn (c := 6 * r + i) (by omega)
    show B_X10_standIn_7 (hv σ f) M (nI r) rec (nI (sumR (fun c => if S.2 9 c = 0 then 0 else 1) (6 * r) i)) (nI (6 * r + i)) = rec (nI (sumR (fun c => if S.2 9 c = 0 then 0 else 1) (6 * r) i + if S.2 9 (6 * r + i) = 0 then 0 else 1), nI (6 * r + i + 1))
    by_cases q : S.2 9 (6 * r + i) = 0
    · simp (decide := true) (disch := omega) only [B_X10_standIn_7, gd_hv s.1, gI_hv s.1, pI_hv s.1, s.R9, s.A9, s.W9, b1_some, b2_some, litI, neg1, nI_add, nI_mul, e1_p1, nI_e0, ib, ib1, ite_not, if_true, if_false, not_true_eq_false, not_false_eq_true, setI_hv, h.a9, le_lit, e1_inj, show ¬ 6 * r + 6 ≤ 6 * r + i by omega, q]
    · simp (decide := true) (disch := omega) only [B_X10_standIn_7, gd_hv s.1, gI_hv s.1, pI_hv s.1, s.R9, s.A9, s.W9, b1_some, b2_some, litI, neg1, nI_add, nI_mul, e1_p1, nI_e0, ib, ib1, ite_not, if_true, if_false, not_true_eq_false, not_false_eq_true, setI_hv, h.a9, le_lit, e1_inj, show ¬ 6 * r + 6 ≤ 6 * r + i by omega, q])
  refine Eq.trans (b := it (fun rec st => B_X10_standIn_7 (hv σ f) M (nI r) rec st.1 st.2) FU (nI (sumR (fun c => if S.2 9 c = 0 then 0 else 1) (6 * r) 0), nI (6 * r + 0))) rfl (hn.trans ?_)
  simp (decide := true) (disch := omega) only [B_X10_standIn_7, b1_some, b2_some, litI, neg1, nI_add, nI_mul, e1_p1, nI_e0, ib, ib1, ite_not, if_true, if_false, not_true_eq_false, not_false_eq_true, setI_hv, le_lit, Nat.le_refl]
  rfl
/-! a house with what it holds -/
def HD (H : Nat) (f : Nat → Nat → Int32) (T K G W : Nat → Nat) : Prop := ∀ c, c < 48 → f (H + (2 + 2 * c)) 0 = e1 (T c) ∧ f (H + (2 + 2 * c)) 1 = nI (K c) ∧ f (H + (3 + 2 * c)) 0 = e1 (G c) ∧ f (H + (3 + 2 * c)) 1 = nI (W c)
def HB (T K G W : Nat → Nat) : Prop := ∀ c, c < 48 → T c ≤ 24 ∧ K c ≤ 100 ∧ G c ≤ 24 ∧ W c ≤ 100 ∧ (T c = 0 → K c = 0) ∧ (G c = 0 ↔ W c = 0)
theorem RepX.hd {N : Nat} {σ : Hp} {f : Nat → Nat → Int32} {S : St} (h : RepX N (hv σ f) S) : HD (N + 12) f (S.2 9) (S.2 10) (S.2 11) (S.2 12) := fun c hc => ⟨h.a9 hc, h.a10 hc, h.a11 hc, h.a12 hc⟩
theorem Good.hb {S : St} (g : Good S) : HB (S.2 9) (S.2 10) (S.2 11) (S.2 12) := fun c hc => by
  have := g.cn hc
  exact ⟨this.1, this.2.1, this.2.2.1, this.2.2.2.1, fun q => (this.2.2.2.2.2.1 q).1, this.2.2.2.2.2.2⟩
theorem x_held {N H : Nat} {σ : Hp} {f : Nat → Nat → Int32} {T K G W : Nat → Nat} (hs : HS N H σ) (hd : HD H f T K G W) (hb : HB T K G W) {r : Nat} (hr : r < 8) : F_X1_held (hv σ f) H (nI r) = some (nI (stn T r), hv σ f) := by
  unfold F_X1_held L_X1_held_7
  rw [hs.D, show nI r * (6 : Int32) = nI (6 * r) from (nI_mul r 6).trans (by rw [Nat.mul_comm])]
  obtain ⟨n, hn⟩ := it_FU (body := fun rec st => B_X1_held_7 H (nI r) rec st.1 st.2.1 st.2.2) (fun i => (hv σ f, nI (sumR (fun c => if T c = 0 then 0 else 1) (6 * r) i), nI (6 * r + i))) 0 6 (by omega) (by omega) (fun i _ hi rec => by
    have b := hb (6 * r + i) (by omega)
    have th := hs.there (f := f) (c := 6 * r + i) (by omega) (by omega : T (6 * r + i) < 1000) (hd _ (by omega)).1
    show B_X1_held_7 H (nI r) rec (hv σ f) (nI (sumR (fun c => if T c = 0 then 0 else 1) (6 * r) i)) (nI (6 * r + i)) = rec (hv σ f, nI (sumR (fun c => if T c = 0 then 0 else 1) (6 * r) i + if T (6 * r + i) = 0 then 0 else 1), nI (6 * r + i + 1))
    by_cases q : T (6 * r + i) = 0
    · simp (decide := true) (disch := omega) only [B_X1_held_7, hs.D, hs.R0, hs.R1, hs.N, hs.C, hs.CD, hs.CI, hs.CW, hs.G, hs.GD, hs.GI, hs.GW, th, b1_some, b2_some, litI, neg1, nI_add, nI_mul, e1_p1, nI_e0, ib, ib1, ite_not, if_true, if_false, not_true_eq_false, not_false_eq_true, setI_hv, le_lit, show ¬ (r + 1) * 6 ≤ 6 * r + i by omega, q, ne_eq]
    · simp (decide := true) (disch := omega) only [B_X1_held_7, hs.D, hs.R0, hs.R1, hs.N, hs.C, hs.CD, hs.CI, hs.CW, hs.G, hs.GD, hs.GI, hs.GW, th, b1_some, b2_some, litI, neg1, nI_add, nI_mul, e1_p1, nI_e0, ib, ib1, ite_not, if_true, if_false, not_true_eq_false, not_false_eq_true, setI_hv, le_lit, eq_lit, show ¬ (r + 1) * 6 ≤ 6 * r + i by omega, q, ne_eq])
  refine Eq.trans (b := it (fun rec st => B_X1_held_7 H (nI r) rec st.1 st.2.1 st.2.2) FU (hv σ f, nI (sumR (fun c => if T c = 0 then 0 else 1) (6 * r) 0), nI (6 * r + 0))) rfl (hn.trans ?_)
  simp (decide := true) (disch := omega) only [B_X1_held_7, b1_some, b2_some, litI, neg1, nI_add, nI_mul, e1_p1, nI_e0, ib, ib1, ite_not, if_true, if_false, not_true_eq_false, not_false_eq_true, setI_hv, le_lit, show (r + 1) * 6 ≤ 6 * r + 6 by omega]
  rfl
/-! likes in a room -/
def lkf (S : St) (T : Nat → Nat) (c k : Nat) : Nat := if k = c then 0 else if T k = 0 then 0 else if S.1 6 ≤ lkn S (T k - 1) (T c - 1) then 1 else 0
def lks (S : St) (T : Nat → Nat) (c : Nat) : Nat := sumR (lkf S T c) (6 * (c / 6)) 6
theorem lkf_le (S : St) (T : Nat → Nat) (c k : Nat) : lkf S T c k ≤ 1 := by
  unfold lkf
  repeat' split
  all_goals omega
theorem lks_le (S : St) (T : Nat → Nat) (c : Nat) : lks S T c ≤ 6 := Nat.le_trans (sumR_le (lkf_le S T c) _ 6) (by omega)
theorem Good.tl {S : St} (g : Good S) : 1 ≤ S.1 6 ∧ S.1 6 ≤ 8 := g.2.2.1
theorem c6 {c : Nat} (hc : c < 48) : nI c / nI 6 = nI (c / 6) := pk_div (by omega) (by omega) (by omega)
theorem m_likeB {M : Nat} {σ : Hp} {f : Nat → Nat → Int32} {S : St} (g : Good S) (h : RepM M (hv σ f) S) {c : Nat} (hc : c < 48) (h0 : S.2 9 c ≠ 0) : F_X10_likeBeside (hv σ f) M (nI c) = some (nI (lks S (S.2 9) c), hv σ f) := by
  have s : SM M σ := h.1
  have bc := g.cn hc
  have tl := g.tl
  unfold F_X10_likeBeside L_X10_likeBeside_10
  rw [gd_hv s.1, show nI c / (6 : Int32) * 6 = nI (6 * (c / 6)) from by rw [litI 6, c6 hc, nI_mul, Nat.mul_comm]]
  obtain ⟨n, hn⟩ := it_FU (body := fun rec st => B_X10_likeBeside_10 M (nI c) rec st.1 st.2.1 st.2.2) (fun i => (hv σ f, nI (sumR (lkf S (S.2 9) c) (6 * (c / 6)) i), nI (6 * (c / 6) + i))) 0 6 (by omega) (by omega) (fun i _ hi rec => by
    have hb := g.cn (c := 6 * (c / 6) + i) (by omega)
    have hl := lkn_le S (S.2 9 (6 * (c / 6) + i) - 1) (S.2 9 c - 1)
    show B_X10_likeBeside_10 M (nI c) rec (hv σ f) (nI (sumR (lkf S (S.2 9) c) (6 * (c / 6)) i)) (nI (6 * (c / 6) + i)) = rec (hv σ f, nI (sumR (lkf S (S.2 9) c) (6 * (c / 6)) i + if 6 * (c / 6) + i = c then 0 else if S.2 9 (6 * (c / 6) + i) = 0 then 0 else if S.1 6 ≤ lkn S (S.2 9 (6 * (c / 6) + i) - 1) (S.2 9 c - 1) then 1 else 0), nI (6 * (c / 6) + i + 1))
    by_cases q1 : 6 * (c / 6) + i = c
    · simp (decide := true) (disch := omega) only [B_X10_likeBeside_10, b1_some, b2_some, litI, neg1, nI_add, nI_mul, e1_p1, nI_e0, ib, ib1, ite_not, if_true, if_false, not_true_eq_false, not_false_eq_true, setI_hv, c6, le_lit, eq_lit, show ¬ c / 6 * 6 + 6 ≤ 6 * (c / 6) + i by omega, q1, show ¬ c / 6 * 6 + 6 ≤ c by omega]
    · by_cases q2 : S.2 9 (6 * (c / 6) + i) = 0
      · simp (decide := true) (disch := omega) only [B_X10_likeBeside_10, gd_hv s.1, gI_hv s.1, pI_hv s.1, s.R9, s.A9, s.W9, b1_some, b2_some, litI, neg1, nI_add, nI_mul, e1_p1, nI_e0, ib, ib1, ite_not, if_true, if_false, not_true_eq_false, not_false_eq_true, setI_hv, c6, le_lit, eq_lit, h.a9, e1_inj, show ¬ c / 6 * 6 + 6 ≤ 6 * (c / 6) + i by omega, q1, q2]
      · by_cases q3 : S.1 6 ≤ lkn S (S.2 9 (6 * (c / 6) + i) - 1) (S.2 9 c - 1)
        · simp (decide := true) (disch := omega) only [B_X10_likeBeside_10, gd_hv s.1, gI_hv s.1, pI_hv s.1, s.R9, s.A9, s.W9, b1_some, b2_some, litI, neg1, nI_add, nI_mul, e1_p1, nI_e0, ib, ib1, ite_not, if_true, if_false, not_true_eq_false, not_false_eq_true, setI_hv, c6, le_lit, lt_lit, eq_lit, h.a9, h.s6, e1_inj, e1_of, m_lk g h, show ¬ c / 6 * 6 + 6 ≤ 6 * (c / 6) + i by omega, q1, q2, q3, show ¬ lkn S (S.2 9 (6 * (c / 6) + i) - 1) (S.2 9 c - 1) < S.1 6 by omega]
        · simp (decide := true) (disch := omega) only [B_X10_likeBeside_10, gd_hv s.1, gI_hv s.1, pI_hv s.1, s.R9, s.A9, s.W9, b1_some, b2_some, litI, neg1, nI_add, nI_mul, e1_p1, nI_e0, ib, ib1, ite_not, if_true, if_false, not_true_eq_false, not_false_eq_true, setI_hv, c6, le_lit, lt_lit, eq_lit, h.a9, h.s6, e1_inj, e1_of, m_lk g h, show ¬ c / 6 * 6 + 6 ≤ 6 * (c / 6) + i by omega, q1, q2, q3, show lkn S (S.2 9 (6 * (c / 6) + i) - 1) (S.2 9 c - 1) < S.1 6 by omega])
  refine Eq.trans (b := it (fun rec st => B_X10_likeBeside_10 M (nI c) rec st.1 st.2.1 st.2.2) FU (hv σ f, nI (sumR (lkf S (S.2 9) c) (6 * (c / 6)) 0), nI (6 * (c / 6) + 0))) rfl (hn.trans ?_)
  show B_X10_likeBeside_10 M (nI c) _ (hv σ f) _ (nI (6 * (c / 6) + 6)) = _
  unfold B_X10_likeBeside_10
  rw [if_pos (by rw [litI 6, c6 hc, nI_mul, nI_add, le_lit (by omega) (by omega)]; omega)]
  rfl
/-! the component's own -/
def LkX (N : Nat) (f : Nat → Nat → Int32) (S : St) : Prop := (∀ i, i < 24 → f (N + 10) i = nI (S.2 5 i)) ∧ f N 3 = nI (S.1 6) ∧ f N 4 = nI (S.1 7) ∧ ∀ i, i < 11 → f (N + 11) i = nI (S.2 8 i)
theorem RepX.lk {N : Nat} {σ : Hp} {f : Nat → Nat → Int32} {S : St} (h : RepX N (hv σ f) S) : LkX N f S := ⟨fun i hi => h.a5 hi, h.s6, h.s7, fun i hi => h.a8 hi⟩
theorem Good.mk {S : St} (g : Good S) {t : Nat} (ht : t < 24) : S.2 5 t < 256 := g.2.2.2.2.2.2.2.1 t ht
theorem xl_lk {N : Nat} {σ : Hp} {f : Nat → Nat → Int32} {S : St} (g : Good S) (s : SX N σ) (h : LkX N f S) {a b : Nat} (ha : a < 24) (hb : b < 24) : F_X0_likeness (hv σ f) N (nI a) (nI b) = some (nI (lkn S a b), hv σ f) := by
  simp (decide := true) (disch := omega) only [F_X0_likeness, gd_hv s.t0, gI_hv s.t0, pI_hv s.t0, s.R2, s.A10, s.W10, b1_some, b2_some, litI, neg1, nI_add, nI_mul, e1_p1, nI_e0, ib, ib1, ite_not, if_true, if_false, not_true_eq_false, not_false_eq_true, setI_hv, h.1, nx_and, bc _ (and_lt (b := S.2 5 b) (g.mk ha))]
  rfl
theorem xl_isLike {N : Nat} {σ : Hp} {f : Nat → Nat → Int32} {S : St} (g : Good S) (s : SX N σ) (h : LkX N f S) {a b : Nat} (ha : a < 24) (hb : b < 24) : F_X0_isLike (hv σ f) N (nI a) (nI b) = some (if S.1 6 ≤ lkn S a b then nI 1 else nI 0, hv σ f) := by
  have tl := g.tl
  have hl := lkn_le S a b
  by_cases q : S.1 6 ≤ lkn S a b
  · simp (decide := true) (disch := omega) only [F_X0_isLike, gd_hv s.t0, gI_hv s.t0, pI_hv s.t0, xl_lk g s h, b1_some, b2_some, litI, neg1, nI_add, nI_mul, e1_p1, nI_e0, ib, ib1, ite_not, if_true, if_false, not_true_eq_false, not_false_eq_true, setI_hv, h.2.1, lt_lit, show ¬ lkn S a b < S.1 6 by omega, q]
  · simp (decide := true) (disch := omega) only [F_X0_isLike, gd_hv s.t0, gI_hv s.t0, pI_hv s.t0, xl_lk g s h, b1_some, b2_some, litI, neg1, nI_add, nI_mul, e1_p1, nI_e0, ib, ib1, ite_not, if_true, if_false, not_true_eq_false, not_false_eq_true, setI_hv, h.2.1, lt_lit, show lkn S a b < S.1 6 by omega, q]
theorem x_likes {N H : Nat} {σ : Hp} {f : Nat → Nat → Int32} {S : St} {T : Nat → Nat} (g : Good S) (s : SX N σ) (hs : HS N H σ) (hk : LkX N f S) (hd : ∀ c, c < 48 → f (H + (2 + 2 * c)) 0 = e1 (T c) ∧ T c ≤ 24) {c : Nat} (hc : c < 48) (h0 : T c ≠ 0) : F_X1_likes (hv σ f) H (nI c) = some (nI (lks S T c), hv σ f) := by
  have bc := hd c hc
  unfold F_X1_likes L_X1_likes_10
  rw [hs.D, show nI c / (6 : Int32) * 6 = nI (6 * (c / 6)) from by rw [litI 6, c6 hc, nI_mul, Nat.mul_comm]]
  obtain ⟨n, hn⟩ := it_FU (body := fun rec st => B_X1_likes_10 H (nI c) rec st.1 st.2.1 st.2.2) (fun i => (hv σ f, nI (sumR (lkf S T c) (6 * (c / 6)) i), nI (6 * (c / 6) + i))) 0 6 (by omega) (by omega) (fun i _ hi rec => by
    have hb := hd (6 * (c / 6) + i) (by omega)
    have th := hs.there (f := f) (c := 6 * (c / 6) + i) (by omega) (by omega : T (6 * (c / 6) + i) < 1000) hb.1
    show B_X1_likes_10 H (nI c) rec (hv σ f) (nI (sumR (lkf S T c) (6 * (c / 6)) i)) (nI (6 * (c / 6) + i)) = rec (hv σ f, nI (sumR (lkf S T c) (6 * (c / 6)) i + if 6 * (c / 6) + i = c then 0 else if T (6 * (c / 6) + i) = 0 then 0 else if S.1 6 ≤ lkn S (T (6 * (c / 6) + i) - 1) (T c - 1) then 1 else 0), nI (6 * (c / 6) + i + 1))
    by_cases q1 : 6 * (c / 6) + i = c
    · simp (decide := true) (disch := omega) only [B_X1_likes_10, b1_some, b2_some, litI, neg1, nI_add, nI_mul, e1_p1, nI_e0, ib, ib1, ite_not, if_true, if_false, not_true_eq_false, not_false_eq_true, setI_hv, c6, le_lit, eq_lit, q1, show ¬ (c / 6 + 1) * 6 ≤ c by omega]
    · by_cases q2 : T (6 * (c / 6) + i) = 0
      · simp (decide := true) (disch := omega) only [B_X1_likes_10, hs.D, hs.R0, hs.R1, hs.N, hs.C, hs.CD, hs.CI, hs.CW, hs.G, hs.GD, hs.GI, hs.GW, th, b1_some, b2_some, litI, neg1, nI_add, nI_mul, e1_p1, nI_e0, ib, ib1, ite_not, if_true, if_false, not_true_eq_false, not_false_eq_true, setI_hv, c6, le_lit, eq_lit, show ¬ (c / 6 + 1) * 6 ≤ 6 * (c / 6) + i by omega, q1, q2, ne_eq]
      · have tk := xl_isLike g s hk (a := T (6 * (c / 6) + i) - 1) (b := T c - 1) (by omega) (by omega)
        by_cases q3 : S.1 6 ≤ lkn S (T (6 * (c / 6) + i) - 1) (T c - 1)
        · simp (decide := true) (disch := omega) only [B_X1_likes_10, hs.D, hs.R0, hs.R1, hs.N, hs.C, hs.CD, hs.CI, hs.CW, hs.G, hs.GD, hs.GI, hs.GW, th, b1_some, b2_some, litI, neg1, nI_add, nI_mul, e1_p1, nI_e0, ib, ib1, ite_not, if_true, if_false, not_true_eq_false, not_false_eq_true, setI_hv, c6, le_lit, eq_lit, hb.1, bc.1, e1_of, tk, show ¬ (c / 6 + 1) * 6 ≤ 6 * (c / 6) + i by omega, q1, q2, q3, ne_eq]
        · simp (decide := true) (disch := omega) only [B_X1_likes_10, hs.D, hs.R0, hs.R1, hs.N, hs.C, hs.CD, hs.CI, hs.CW, hs.G, hs.GD, hs.GI, hs.GW, th, b1_some, b2_some, litI, neg1, nI_add, nI_mul, e1_p1, nI_e0, ib, ib1, ite_not, if_true, if_false, not_true_eq_false, not_false_eq_true, setI_hv, c6, le_lit, eq_lit, hb.1, bc.1, e1_of, tk, show ¬ (c / 6 + 1) * 6 ≤ 6 * (c / 6) + i by omega, q1, q2, q3, ne_eq])
  refine Eq.trans (b := it (fun rec st => B_X1_likes_10 H (nI c) rec st.1 st.2.1 st.2.2) FU (hv σ f, nI (sumR (lkf S T c) (6 * (c / 6)) 0), nI (6 * (c / 6) + 0))) rfl (hn.trans ?_)
  show B_X1_likes_10 H (nI c) _ (hv σ f) _ (nI (6 * (c / 6) + 6)) = _
  unfold B_X1_likes_10
  rw [if_pos (by rw [litI 6, litI 1, c6 hc, nI_add, nI_mul, le_lit (by omega) (by omega)]; omega)]
  rfl
end
section
set_option maxRecDepth 100000
/-! pure law 12: a day goes by -/
def dKv (S : St) (v c : Nat) : Nat := if S.2 9 c = 0 then 0 else v - (S.2 8 (v / 10) + lks S (S.2 9) c)
def dWv (S : St) (v : Nat) : Nat := v - S.2 8 (v / 10)
def dGv (S : St) (w t : Nat) : Nat := if dWv S w = 0 then 0 else t
theorem dKv_le (S : St) {v c : Nat} (h : v ≤ 100) : dKv S v c ≤ 100 := by
  unfold dKv
  split <;> omega
theorem dWv_le (S : St) {v : Nat} (h : v ≤ 100) : dWv S v ≤ 100 := by
  unfold dWv
  omega
theorem HB.day {S : St} {K G W : Nat → Nat} (h : HB (S.2 9) K G W) : HB (S.2 9) (fun c => dKv S (K c) c) (fun c => dGv S (W c) (G c)) (fun c => dWv S (W c)) := fun c hc => by
  have b := h c hc
  have h1 := dKv_le S (c := c) b.2.1
  have h2 := dWv_le S b.2.2.2.1
  refine ⟨b.1, h1, ?_, h2, fun q => ?_, ?_⟩
  · show dGv S (W c) (G c) ≤ 24
    unfold dGv
    split <;> omega
  · show dKv S (K c) c = 0
    unfold dKv
    rw [if_pos q]
  · show dGv S (W c) (G c) = 0 ↔ dWv S (W c) = 0
    unfold dGv
    by_cases q : dWv S (W c) = 0
    · rw [if_pos q, q]
    · rw [if_neg q]
      have : W c ≠ 0 := fun z => q (by unfold dWv; omega)
      omega
theorem Good.fl {S : St} (g : Good S) {k : Nat} (hk : k < 11) : S.2 8 k ≤ 30 := g.2.2.2.2.2.2.2.2.1 k hk
theorem d10 {v : Nat} (h : v ≤ 100) : nI v / nI 10 = nI (v / 10) := pk_div (by omega) (by omega) (by omega)
def gb (H : Nat) (S : St) (K G W : Nat → Nat) (f : Nat → Nat → Int32) : Nat → (Nat → Nat → Int32)
  | 0 => f
  | i + 1 => u2 (u2 (u2 (gb H S K G W f i) (H + (2 + 2 * i)) 1 (nI (dKv S (K i) i))) (H + (3 + 2 * i)) 1 (nI (dWv S (W i)))) (H + (3 + 2 * i)) 0 (e1 (dGv S (W i) (G i)))
theorem gb_off {H : Nat} {S : St} {K G W : Nat → Nat} {f : Nat → Nat → Int32} {x k : Nat} : ∀ i, (∀ c, c < i → ¬ (x = H + (2 + 2 * c) ∧ k = 1) ∧ x ≠ H + (3 + 2 * c)) → gb H S K G W f i x k = f x k
  | 0, _ => rfl
  | i + 1, h => by
    have hi := h i (by omega)
    show u2 (u2 (u2 (gb H S K G W f i) (H + (2 + 2 * i)) 1 _) (H + (3 + 2 * i)) 1 _) (H + (3 + 2 * i)) 0 _ x k = f x k
    rw [u2_n (fun q => hi.2 q.1), u2_n (fun q => hi.2 q.1), u2_n hi.1]
    exact gb_off i (fun c hc => h c (by omega))
theorem gb_at {H : Nat} {S : St} {K G W : Nat → Nat} {f : Nat → Nat → Int32} {c : Nat} : ∀ i, c < i → gb H S K G W f i (H + (2 + 2 * c)) 1 = nI (dKv S (K c) c) ∧ gb H S K G W f i (H + (3 + 2 * c)) 0 = e1 (dGv S (W c) (G c)) ∧ gb H S K G W f i (H + (3 + 2 * c)) 1 = nI (dWv S (W c))
  | 0, h => absurd h (Nat.not_lt_zero c)
  | i + 1, h => by
    by_cases e : c = i
    · subst e
      show u2 (u2 (u2 (gb H S K G W f c) (H + (2 + 2 * c)) 1 _) (H + (3 + 2 * c)) 1 _) (H + (3 + 2 * c)) 0 _ _ 1 = _ ∧ u2 (u2 (u2 (gb H S K G W f c) (H + (2 + 2 * c)) 1 _) (H + (3 + 2 * c)) 1 _) (H + (3 + 2 * c)) 0 _ _ 0 = _ ∧ u2 (u2 (u2 (gb H S K G W f c) (H + (2 + 2 * c)) 1 _) (H + (3 + 2 * c)) 1 _) (H + (3 + 2 * c)) 0 _ _ 1 = _
      rw [u2_n (by omega), u2_n (by omega), u2_e, u2_e, u2_n (by omega), u2_e]
      exact ⟨rfl, rfl, rfl⟩
    · have ih := gb_at (H := H) (S := S) (K := K) (G := G) (W := W) (f := f) (c := c) i (by omega)
      show u2 (u2 (u2 (gb H S K G W f i) (H + (2 + 2 * i)) 1 _) (H + (3 + 2 * i)) 1 _) (H + (3 + 2 * i)) 0 _ _ 1 = _ ∧ u2 (u2 (u2 (gb H S K G W f i) (H + (2 + 2 * i)) 1 _) (H + (3 + 2 * i)) 1 _) (H + (3 + 2 * i)) 0 _ _ 0 = _ ∧ u2 (u2 (u2 (gb H S K G W f i) (H + (2 + 2 * i)) 1 _) (H + (3 + 2 * i)) 1 _) (H + (3 + 2 * i)) 0 _ _ 1 = _
      rw [u2_n (by omega), u2_n (by omega), u2_n (by omega), u2_n (by omega), u2_n (by omega), u2_n (by omega), u2_n (by omega), u2_n (by omega), u2_n (by omega)]
      exact ih
theorem LkX.cg {N : Nat} {f f' : Nat → Nat → Int32} {S : St} (h : LkX N f S) (e : ∀ x k, x ≤ N + 11 → f' x k = f x k) : LkX N f' S := ⟨fun i hi => (e _ _ (by omega)).trans (h.1 i hi), (e _ _ (by omega)).trans h.2.1, (e _ _ (by omega)).trans h.2.2.1, fun i hi => (e _ _ (by omega)).trans (h.2.2.2 i hi)⟩
theorem gb_1 {N H : Nat} {σ : Hp} {f : Nat → Nat → Int32} {S : St} (g : Good S) (s : SX N σ) (hs : HS N H σ) (hk : LkX N f S) (ht : ∀ c, c < 48 → f (H + (2 + 2 * c)) 0 = e1 (S.2 9 c)) {i v : Nat} (hi : i < 48) (hv' : f (H + (2 + 2 * i)) 1 = nI v) (hb : v ≤ 100 ∧ (S.2 9 i = 0 → v = 0)) (rec : Hp × Int32 → Option Hp) : B_X1_goBy_2 H rec (hv σ f) (nI i) = F_X1_goBy_47 rec (hv σ (u2 f (H + (2 + 2 * i)) 1 (nI (dKv S v i)))) H (nI i) (H + (2 + 2 * i)) := by
  have tb := (g.cn hi).1
  have th := hs.there (f := f) (c := i) hi (by omega : S.2 9 i < 1000) (ht i hi)
  by_cases q : S.2 9 i = 0
  · have v0 := hb.2 q
    have e : dKv S v i = v := by
      unfold dKv
      rw [if_pos q, v0]
    rw [e, u2_id hv']
    simp (decide := true) (disch := omega) only [B_X1_goBy_2, hs.D, hs.R0, hs.R1, hs.N, hs.C, hs.CD, hs.CI, hs.CW, hs.G, hs.GD, hs.GI, hs.GW, th, b1_some, b2_some, litI, neg1, nI_add, nI_mul, e1_p1, nI_e0, ib, ib1, ite_not, if_true, if_false, not_true_eq_false, not_false_eq_true, setI_hv, le_lit, show ¬ 48 ≤ i by omega, q, ne_eq]
  · have lk := x_likes g s hs hk (T := S.2 9) (fun c hc => ⟨ht c hc, (g.cn hc).1⟩) hi q
    have fl := g.fl (k := v / 10) (by omega)
    have ll := lks_le S (S.2 9) i
    have e : dKv S v i = v - (S.2 8 (v / 10) + lks S (S.2 9) i) := if_neg q
    rw [e]
    simp (decide := true) (disch := omega) only [B_X1_goBy_2, F_X2_fade_3, hs.D, hs.R0, hs.R1, hs.N, hs.C, hs.CD, hs.CI, hs.CW, hs.G, hs.GD, hs.GI, hs.GW, gd_hv s.t0, gI_hv s.t0, pI_hv s.t0, s.R5, s.A11, s.W11, th, lk, b1_some, b2_some, litI, neg1, nI_add, nI_mul, e1_p1, nI_e0, ib, ib1, ite_not, if_true, if_false, not_true_eq_false, not_false_eq_true, setI_hv, le_lit, eq_lit, show ¬ 48 ≤ i by omega, q, ne_eq, hv', d10, hk.2.2.2, fadeI]
theorem gb_2 {N H : Nat} {σ : Hp} {f : Nat → Nat → Int32} {S : St} (g : Good S) (s : SX N σ) (hs : HS N H σ) (hk : LkX N f S) {i t w : Nat} (hi : i < 48) (ht : f (H + (3 + 2 * i)) 0 = e1 t) (hw : f (H + (3 + 2 * i)) 1 = nI w) (hb : t ≤ 24 ∧ w ≤ 100 ∧ (t = 0 ↔ w = 0)) (rec : Hp × Int32 → Option Hp) : F_X1_goBy_47 rec (hv σ f) H (nI i) (H + (2 + 2 * i)) = rec (hv σ (u2 (u2 f (H + (3 + 2 * i)) 1 (nI (dWv S w))) (H + (3 + 2 * i)) 0 (e1 (dGv S w t))), nI (i + 1)) := by
  have gh := hs.ghost (f := f) (c := i) hi (by omega : t < 1000) (by omega : w < 1000) ht hw
  by_cases q : w = 0
  · have q2 : t = 0 := by omega
    have e1 : dWv S w = w := by unfold dWv; omega
    have e2 : dGv S w t = t := by
      unfold dGv
      rw [e1, if_pos q, q2]
    rw [e1, e2, u2_id hw, u2_id ht]
    simp (decide := true) (disch := omega) only [F_X1_goBy_47, hs.D, hs.R0, hs.R1, hs.N, hs.C, hs.CD, hs.CI, hs.CW, hs.G, hs.GD, hs.GI, hs.GW, gh, b1_some, b2_some, litI, neg1, nI_add, nI_mul, e1_p1, nI_e0, ib, ib1, ite_not, if_true, if_false, not_true_eq_false, not_false_eq_true, setI_hv, q, q2, ne_eq, and_self]
  · have q2 : ¬ t = 0 := by omega
    have fl := g.fl (k := w / 10) (by omega)
    by_cases q3 : dWv S w = 0
    · have e2 : dGv S w t = 0 := if_pos q3
      have q3' : w - S.2 8 (w / 10) = 0 := q3
      rw [e2, q3]
      have e3 : u2 (u2 (u2 f (H + (3 + 2 * i)) 1 (nI 0)) (H + (3 + 2 * i)) 0 (e1 0)) (H + (3 + 2 * i)) 1 (nI 0) = u2 (u2 f (H + (3 + 2 * i)) 1 (nI 0)) (H + (3 + 2 * i)) 0 (e1 0) := u2_id (by rw [u2_n (by omega), u2_e])
      simp (decide := true) (disch := omega) only [F_X1_goBy_47, F_X4_fade, F_X2_fade_4, F_X2_lay_4, hs.D, hs.R0, hs.R1, hs.N, hs.C, hs.CD, hs.CI, hs.CW, hs.G, hs.GD, hs.GI, hs.GW, gd_hv s.t0, gI_hv s.t0, pI_hv s.t0, s.R5, s.A11, s.W11, gh, b1_some, b2_some, litI, neg1, nI_add, nI_mul, e1_p1, nI_e0, ib, ib1, ite_not, if_true, if_false, not_true_eq_false, not_false_eq_true, setI_hv, q, q2, ne_eq, and_self, hw, d10, hk.2.2.2, fadeI, u2_e, q3', eq_lit, e3]
    · have e2 : dGv S w t = t := if_neg q3
      have e3 : dWv S w = w - S.2 8 (w / 10) := rfl
      have e4 : u2 f (H + (3 + 2 * i)) 1 (nI (dWv S w)) (H + (3 + 2 * i)) 0 = e1 t := by rw [u2_n (by omega), ht]
      rw [e2, u2_id e4]
      simp (decide := true) (disch := omega) only [F_X1_goBy_47, F_X4_fade, F_X2_fade_4, F_X2_lay_4, hs.D, hs.R0, hs.R1, hs.N, hs.C, hs.CD, hs.CI, hs.CW, hs.G, hs.GD, hs.GI, hs.GW, gd_hv s.t0, gI_hv s.t0, pI_hv s.t0, s.R5, s.A11, s.W11, gh, b1_some, b2_some, litI, neg1, nI_add, nI_mul, e1_p1, nI_e0, ib, ib1, ite_not, if_true, if_false, not_true_eq_false, not_false_eq_true, setI_hv, q, q2, ne_eq, and_self, hw, d10, hk.2.2.2, fadeI, u2_e, ← e3, q3, eq_lit]
theorem x_goBy {N H : Nat} {σ : Hp} {f : Nat → Nat → Int32} {S : St} {K G W : Nat → Nat} (g : Good S) (s : SX N σ) (hs : HS N H σ) (hN : N + 12 ≤ H) (hk : LkX N f S) (hd : HD H f (S.2 9) K G W) (hb : HB (S.2 9) K G W) : F_X1_goBy (hv σ f) H = some (hv σ (gb H S K G W f 48)) := by
  unfold F_X1_goBy L_X1_goBy_2
  rw [hs.D]
  obtain ⟨n, hn⟩ := it_FU (body := fun rec st => B_X1_goBy_2 H rec st.1 st.2) (fun i => (hv σ (gb H S K G W f i), nI i)) 0 48 (by omega) (by omega) (fun i _ hi rec => by
    have b := hb i hi
    have lk : LkX N (gb H S K G W f i) S := hk.cg (fun x k hx => gb_off i (fun c hc => by omega))
    have ht : ∀ c, c < 48 → gb H S K G W f i (H + (2 + 2 * c)) 0 = e1 (S.2 9 c) := fun c hc => (gb_off i (fun c' hc' => by omega)).trans (hd c hc).1
    have h1 := gb_1 g s hs lk ht hi ((gb_off i (fun c' hc' => by omega)).trans (hd i hi).2.1) ⟨b.2.1, b.2.2.2.2.1⟩ rec
    refine h1.trans ?_
    have lk2 : LkX N (u2 (gb H S K G W f i) (H + (2 + 2 * i)) 1 (nI (dKv S (K i) i))) S := lk.cg (fun x k hx => u2_n (by omega))
    exact gb_2 g s hs lk2 hi ((u2_n (by omega)).trans ((gb_off i (fun c' hc' => by omega)).trans (hd i hi).2.2.1)) ((u2_n (by omega)).trans ((gb_off i (fun c' hc' => by omega)).trans (hd i hi).2.2.2)) ⟨b.2.2.1, b.2.2.2.1, b.2.2.2.2.2⟩ rec)
  refine Eq.trans (b := it (fun rec st => B_X1_goBy_2 H rec st.1 st.2) FU (hv σ (gb H S K G W f 0), nI 0)) rfl (hn.trans ?_)
  simp (decide := true) (disch := omega) only [B_X1_goBy_2, litI, le_lit, Nat.le_refl, if_true]
theorem gb_hd {H : Nat} {f : Nat → Nat → Int32} {S : St} {K G W : Nat → Nat} (hd : HD H f (S.2 9) K G W) : HD H (gb H S K G W f 48) (S.2 9) (fun c => dKv S (K c) c) (fun c => dGv S (W c) (G c)) (fun c => dWv S (W c)) := fun c hc => by
  have a := gb_at (H := H) (S := S) (K := K) (G := G) (W := W) (f := f) 48 hc
  exact ⟨(gb_off 48 (fun c' hc' => by omega)).trans (hd c hc).1, a.1, a.2.1, a.2.2⟩
/-! the twin: strengths beside -/
theorem m_look {M : Nat} {σ : Hp} {f : Nat → Nat → Int32} {S : St} (g : Good S) (h : RepM M (hv σ f) S) : F_X10_lookAhead (hv σ f) M = some (hv σ (fz (fz f (M + 12) 48 (S.2 10)) (M + 13) 48 (S.2 12))) := by
  have s : SM M σ := h.1
  unfold F_X10_lookAhead L_X10_lookAhead_2
  rw [gd_hv s.1]
  obtain ⟨n, hn⟩ := it_FU (body := fun rec st => B_X10_lookAhead_2 M rec st.1 st.2) (fun i => (hv σ (fz (fz f (M + 12) i (S.2 10)) (M + 13) i (S.2 12)), nI i)) 0 48 (by omega) (by omega) (fun i _ hi rec => by
    have b := g.cn hi
    have h' : RepM M (hv σ (fz (fz f (M + 12) i (S.2 10)) (M + 13) i (S.2 12))) S := (h.zz 12 i (S.2 10) (by omega)).zz 13 i (S.2 12) (by omega)
    have e : u2 (u2 (fz (fz f (M + 12) i (S.2 10)) (M + 13) i (S.2 12)) (M + 12) i (nI (S.2 10 i))) (M + 13) i (nI (S.2 12 i)) = fz (fz f (M + 12) (i + 1) (S.2 10)) (M + 13) (i + 1) (S.2 12) := by
      have e1 : u2 (fz (fz f (M + 12) i (S.2 10)) (M + 13) i (S.2 12)) (M + 12) i (nI (S.2 10 i)) = fz (u2 (fz f (M + 12) i (S.2 10)) (M + 12) i (nI (S.2 10 i))) (M + 13) i (S.2 12) := fy_u2 (D := fun k => nI (S.2 12 k)) (by omega)
      rw [e1, fz_grow, fz_grow]
    show B_X10_lookAhead_2 M rec (hv σ (fz (fz f (M + 12) i (S.2 10)) (M + 13) i (S.2 12))) (nI i) = rec (hv σ (fz (fz f (M + 12) (i + 1) (S.2 10)) (M + 13) (i + 1) (S.2 12)), nI (i + 1))
    rw [← e]
    generalize fz (fz f (M + 12) i (S.2 10)) (M + 13) i (S.2 12) = f' at h'
    by_cases q1 : S.2 9 i = 0
    · have k0 := (b.2.2.2.2.2.1 q1).1
      have g0 := (b.2.2.2.2.2.1 q1).2
      have w0 : S.2 12 i = 0 := b.2.2.2.2.2.2.mp g0
      simp (decide := true) (disch := omega) only [B_X10_lookAhead_2, F_X10_lookAhead_33, gd_hv s.1, gI_hv s.1, pI_hv s.1, s.R9, s.A9, s.W9, s.R10, s.A10, s.W10, s.R11, s.A11, s.W11, s.R12, s.A12, s.W12, s.R15, s.A15, s.W15, s.R16, s.A16, s.W16, b1_some, b2_some, litI, neg1, nI_add, nI_mul, e1_p1, nI_e0, ib, ib1, ite_not, if_true, if_false, not_true_eq_false, not_false_eq_true, setI_hv, h'.a9, h'.a11, u2_n, le_lit, e1_inj, show ¬ 48 ≤ i by omega, q1, k0, g0, w0]
    · by_cases q2 : S.2 11 i = 0
      · have w0 : S.2 12 i = 0 := b.2.2.2.2.2.2.mp q2
        simp (decide := true) (disch := omega) only [B_X10_lookAhead_2, F_X10_lookAhead_33, gd_hv s.1, gI_hv s.1, pI_hv s.1, s.R9, s.A9, s.W9, s.R10, s.A10, s.W10, s.R11, s.A11, s.W11, s.R12, s.A12, s.W12, s.R15, s.A15, s.W15, s.R16, s.A16, s.W16, b1_some, b2_some, litI, neg1, nI_add, nI_mul, e1_p1, nI_e0, ib, ib1, ite_not, if_true, if_false, not_true_eq_false, not_false_eq_true, setI_hv, h'.a9, h'.a10, h'.a11, u2_n, le_lit, e1_inj, show ¬ 48 ≤ i by omega, q1, q2, w0]
      · simp (decide := true) (disch := omega) only [B_X10_lookAhead_2, F_X10_lookAhead_33, gd_hv s.1, gI_hv s.1, pI_hv s.1, s.R9, s.A9, s.W9, s.R10, s.A10, s.W10, s.R11, s.A11, s.W11, s.R12, s.A12, s.W12, s.R15, s.A15, s.W15, s.R16, s.A16, s.W16, b1_some, b2_some, litI, neg1, nI_add, nI_mul, e1_p1, nI_e0, ib, ib1, ite_not, if_true, if_false, not_true_eq_false, not_false_eq_true, setI_hv, h'.a9, h'.a10, h'.a11, h'.a12, u2_n, le_lit, e1_inj, show ¬ 48 ≤ i by omega, q1, q2])
  have z : fz (fz f (M + 12) 0 (S.2 10)) (M + 13) 0 (S.2 12) = f := by rw [fz_0, fz_0]
  rw [z] at hn
  refine Eq.trans (b := it (fun rec st => B_X10_lookAhead_2 M rec st.1 st.2) FU (hv σ f, nI 0)) rfl (hn.trans ?_)
  simp (decide := true) (disch := omega) only [B_X10_lookAhead_2, litI, le_lit, Nat.le_refl, if_true]
/-- the first i strengths from a place on, a day later -/
def gA (S : St) (at' i : Nat) (A : Nat → Nat) : Nat → Nat := fun k => if at' ≤ k ∧ k < at' + i then dKv S (A k) (k - at') else A k
def gW (S : St) (at' i : Nat) (B : Nat → Nat) : Nat → Nat := fun k => if at' ≤ k ∧ k < at' + i then dWv S (B k) else B k
theorem gA_s (S : St) (at' i : Nat) (A : Nat → Nat) : up (gA S at' i A) (at' + i) (dKv S (A (at' + i)) i) = gA S at' (i + 1) A := by
  funext k
  unfold up gA
  by_cases q : k = at' + i
  · rw [if_pos q, if_pos (by omega), q, Nat.add_sub_cancel_left]
  · rw [if_neg q]
    by_cases q2 : at' ≤ k ∧ k < at' + i
    · rw [if_pos q2, if_pos (by omega)]
    · rw [if_neg q2, if_neg (by omega)]
theorem gW_s (S : St) (at' i : Nat) (B : Nat → Nat) : up (gW S at' i B) (at' + i) (dWv S (B (at' + i))) = gW S at' (i + 1) B := by
  funext k
  unfold up gW
  by_cases q : k = at' + i
  · rw [if_pos q, if_pos (by omega), q]
  · rw [if_neg q]
    by_cases q2 : at' ≤ k ∧ k < at' + i
    · rw [if_pos q2, if_pos (by omega)]
    · rw [if_neg q2, if_neg (by omega)]
theorem m_goDay {M : Nat} {σ : Hp} {f : Nat → Nat → Int32} {S : St} (g : Good S) (h : RepM M (hv σ f) S) {n at' : Nat} {A B : Nat → Nat} (hn : at' + 48 ≤ n) (hn2 : n ≤ 240) (hA : ∀ k, k < n → A k ≤ 100) (hB : ∀ k, k < n → B k ≤ 100) : F_X10_goDay (hv σ (fz (fz f (M + 12) n A) (M + 13) n B)) M (nI at') (nI at') = some (hv σ (fz (fz f (M + 12) n (gA S at' 48 A)) (M + 13) n (gW S at' 48 B))) := by
  have s : SM M σ := h.1
  unfold F_X10_goDay L_X10_goDay_2
  rw [gd_hv s.1]
  obtain ⟨m, hm⟩ := it_FU (body := fun rec st => B_X10_goDay_2 M (nI at') (nI at') rec st.1 st.2) (fun i => (hv σ (fz (fz f (M + 12) n (gA S at' i A)) (M + 13) n (gW S at' i B)), nI i)) 0 48 (by omega) (by omega) (fun i _ hi rec => by
    have b := g.cn hi
    have h' : RepM M (hv σ (fz (fz f (M + 12) n (gA S at' i A)) (M + 13) n (gW S at' i B))) S := (h.zz 12 n _ (by omega)).zz 13 n _ (by omega)
    have e : u2 (u2 (fz (fz f (M + 12) n (gA S at' i A)) (M + 13) n (gW S at' i B)) (M + 12) (at' + i) (nI (dKv S (A (at' + i)) i))) (M + 13) (at' + i) (nI (dWv S (B (at' + i)))) = fz (fz f (M + 12) n (gA S at' (i + 1) A)) (M + 13) n (gW S at' (i + 1) B) := by
      have e1 : u2 (fz (fz f (M + 12) n (gA S at' i A)) (M + 13) n (gW S at' i B)) (M + 12) (at' + i) (nI (dKv S (A (at' + i)) i)) = fz (u2 (fz f (M + 12) n (gA S at' i A)) (M + 12) (at' + i) (nI (dKv S (A (at' + i)) i))) (M + 13) n (gW S at' i B) := fy_u2 (D := fun k => nI (gW S at' i B k)) (by omega)
      rw [e1, fz_up (by omega), fz_up (by omega), gA_s, gW_s]
    have rA : fz (fz f (M + 12) n (gA S at' i A)) (M + 13) n (gW S at' i B) (M + 12) (at' + i) = nI (A (at' + i)) := by
      rw [fz_off (by omega), fz_rd (by omega)]
      unfold gA
      rw [if_neg (by omega)]
    have rB : fz (fz f (M + 12) n (gA S at' i A)) (M + 13) n (gW S at' i B) (M + 13) (at' + i) = nI (B (at' + i)) := by
      rw [fz_rd (by omega)]
      unfold gW
      rw [if_neg (by omega)]
    show B_X10_goDay_2 M (nI at') (nI at') rec (hv σ (fz (fz f (M + 12) n (gA S at' i A)) (M + 13) n (gW S at' i B))) (nI i) = rec (hv σ (fz (fz f (M + 12) n (gA S at' (i + 1) A)) (M + 13) n (gW S at' (i + 1) B)), nI (i + 1))
    rw [← e]
    generalize fz (fz f (M + 12) n (gA S at' i A)) (M + 13) n (gW S at' i B) = f' at h' rA rB
    have bA := hA (at' + i) (by omega)
    have bB := hB (at' + i) (by omega)
    have fA := g.fl (k := A (at' + i) / 10) (by omega)
    have fB := g.fl (k := B (at' + i) / 10) (by omega)
    have ll := lks_le S (S.2 9) i
    have tail : ∀ y, F_X10_goDay_61 rec (hv σ f') M (nI at') (nI at') (nI i) (nI (B (at' + i))) y = rec (hv σ (u2 (u2 f' (M + 12) (at' + i) (if 0 ≤ y then y else 0)) (M + 13) (at' + i) (nI (dWv S (B (at' + i))))), nI (i + 1)) := fun y => by
      have e2 : dWv S (B (at' + i)) = B (at' + i) - S.2 8 (B (at' + i) / 10) := rfl
      by_cases q : S.2 8 (B (at' + i) / 10) ≤ B (at' + i)
      · by_cases q2 : (0 : Int32) ≤ y
        · simp (decide := true) (disch := omega) only [F_X10_goDay_61, F_X10_goDay_96, gd_hv s.1, gI_hv s.1, pI_hv s.1, s.R8, s.A8, s.W8, s.R15, s.A15, s.W15, s.R16, s.A16, s.W16, b1_some, b2_some, nI_add, show (10 : Int32) = nI 10 from rfl, d10, h'.a8, show (0 : Int32) = nI 0 from rfl, show (nI 0 ≤ y) = True from eq_true q2, if_true, fade0, q, nI_sub, le_lit, Nat.zero_le, e2, show (1 : Int32) = nI 1 from rfl]
        · simp (decide := true) (disch := omega) only [F_X10_goDay_61, F_X10_goDay_96, gd_hv s.1, gI_hv s.1, pI_hv s.1, s.R8, s.A8, s.W8, s.R15, s.A15, s.W15, s.R16, s.A16, s.W16, b1_some, b2_some, nI_add, show (10 : Int32) = nI 10 from rfl, d10, h'.a8, show (0 : Int32) = nI 0 from rfl, show (nI 0 ≤ y) = False from eq_false q2, if_true, if_false, fade0, q, nI_sub, le_lit, Nat.zero_le, e2, show (1 : Int32) = nI 1 from rfl]
      · have e3 : dWv S (B (at' + i)) = 0 := by omega
        by_cases q2 : (0 : Int32) ≤ y
        · simp (decide := true) (disch := omega) only [F_X10_goDay_61, F_X10_goDay_96, gd_hv s.1, gI_hv s.1, pI_hv s.1, s.R8, s.A8, s.W8, s.R15, s.A15, s.W15, s.R16, s.A16, s.W16, b1_some, b2_some, nI_add, show (10 : Int32) = nI 10 from rfl, d10, h'.a8, show (0 : Int32) = nI 0 from rfl, show (nI 0 ≤ y) = True from eq_true q2, if_true, if_false, fade0, q, e3, show (1 : Int32) = nI 1 from rfl]
        · simp (decide := true) (disch := omega) only [F_X10_goDay_61, F_X10_goDay_96, gd_hv s.1, gI_hv s.1, pI_hv s.1, s.R8, s.A8, s.W8, s.R15, s.A15, s.W15, s.R16, s.A16, s.W16, b1_some, b2_some, nI_add, show (10 : Int32) = nI 10 from rfl, d10, h'.a8, show (0 : Int32) = nI 0 from rfl, show (nI 0 ≤ y) = False from eq_false q2, if_true, if_false, fade0, q, e3, show (1 : Int32) = nI 1 from rfl]
    by_cases q1 : S.2 9 i = 0
    · have e2 : dKv S (A (at' + i)) i = 0 := if_pos q1
      simp (decide := true) (disch := omega) only [B_X10_goDay_2, gd_hv s.1, gI_hv s.1, pI_hv s.1, s.R9, s.A9, s.W9, s.R15, s.A15, s.W15, s.R16, s.A16, s.W16, b1_some, b2_some, litI, neg1, nI_add, nI_mul, e1_p1, nI_e0, ib, ib1, ite_not, if_true, if_false, not_true_eq_false, not_false_eq_true, setI_hv, le_lit, show ¬ 48 ≤ i by omega, h'.a9, e1_inj, q1, rA, rB, tail, e2]
    · have lk := m_likeB g h' hi q1
      have e2 : dKv S (A (at' + i)) i = A (at' + i) - (S.2 8 (A (at' + i) / 10) + lks S (S.2 9) i) := if_neg q1
      simp (decide := true) (disch := omega) only [B_X10_goDay_2, gd_hv s.1, gI_hv s.1, pI_hv s.1, s.R8, s.A8, s.W8, s.R9, s.A9, s.W9, s.R15, s.A15, s.W15, s.R16, s.A16, s.W16, b1_some, b2_some, litI, neg1, nI_add, nI_mul, e1_p1, nI_e0, ib, ib1, ite_not, if_true, if_false, not_true_eq_false, not_false_eq_true, setI_hv, le_lit, show ¬ 48 ≤ i by omega, h'.a9, h'.a8, e1_inj, q1, rA, rB, d10, lk, tail, sub_sub_I, fade0]
      by_cases q2 : S.2 8 (A (at' + i) / 10) + lks S (S.2 9) i ≤ A (at' + i)
      · rw [if_pos q2, nI_sub q2, e2]
      · have e3 : dKv S (A (at' + i)) i = 0 := by omega
        rw [if_neg q2, e3])
  have z1 : gA S at' 0 A = A := by
    funext k
    exact if_neg (by omega)
  have z2 : gW S at' 0 B = B := by
    funext k
    exact if_neg (by omega)
  rw [z1, z2] at hm
  refine Eq.trans (b := it (fun rec st => B_X10_goDay_2 M (nI at') (nI at') rec st.1 st.2) FU (hv σ (fz (fz f (M + 12) n A) (M + 13) n B), nI 0)) rfl (hm.trans ?_)
  simp (decide := true) (disch := omega) only [B_X10_goDay_2, litI, le_lit, Nat.le_refl, if_true]
end
section
set_option maxRecDepth 100000
/-! pure law 13: days -/
def dKn (S : St) : Nat → Nat → Nat
  | 0, c => S.2 10 c
  | j + 1, c => dKv S (dKn S j c) c
def dWn (S : St) : Nat → Nat → Nat
  | 0, c => S.2 12 c
  | j + 1, c => dWv S (dWn S j c)
def dGn (S : St) (j c : Nat) : Nat := if dWn S j c = 0 then 0 else S.2 11 c
theorem dGn_s (S : St) (j c : Nat) : dGv S (dWn S j c) (dGn S j c) = dGn S (j + 1) c := by
  unfold dGv dGn
  show (if dWv S (dWn S j c) = 0 then 0 else if dWn S j c = 0 then 0 else S.2 11 c) = if dWv S (dWn S j c) = 0 then 0 else S.2 11 c
  by_cases q : dWv S (dWn S j c) = 0
  · rw [if_pos q, if_pos q]
  · rw [if_neg q, if_neg q, if_neg (fun z => q (by unfold dWv; omega))]
theorem dGn_0 {S : St} (g : Good S) {c : Nat} (hc : c < 48) : dGn S 0 c = S.2 11 c := by
  have := g.cn hc
  unfold dGn
  show (if S.2 12 c = 0 then 0 else S.2 11 c) = _
  by_cases q : S.2 12 c = 0
  · rw [if_pos q]; omega
  · rw [if_neg q]
theorem HBn {S : St} (g : Good S) : ∀ j, HB (S.2 9) (dKn S j) (dGn S j) (dWn S j)
  | 0 => fun c hc => by
    rw [dGn_0 g hc]
    exact g.hb c hc
  | j + 1 => fun c hc => by
    have := (HBn g j).day c hc
    rw [← dGn_s]
    exact this
def daysS (n : Nat) (S : St) : St := w1 (wA (wA (wA S 10 (dKn S n)) 12 (dWn S n)) 11 (dGn S n)) 0 (S.1 0 + n)
/-! the component's days -/
def xb (N : Nat) (S : St) (f : Nat → Nat → Int32) : Nat → (Nat → Nat → Int32)
  | 0 => f
  | j + 1 => gb (N + 12) S (dKn S j) (dGn S j) (dWn S j) (xb N S f j) 48
theorem xb_off {N : Nat} {S : St} {f : Nat → Nat → Int32} {x k : Nat} (h : ∀ c, c < 48 → ¬ (x = N + 12 + (2 + 2 * c) ∧ k = 1) ∧ x ≠ N + 12 + (3 + 2 * c)) : ∀ j, xb N S f j x k = f x k
  | 0 => rfl
  | j + 1 => (gb_off 48 h).trans (xb_off h j)
theorem xb_hd {N : Nat} {S : St} {f : Nat → Nat → Int32} (g : Good S) (hd : HD (N + 12) f (S.2 9) (S.2 10) (S.2 11) (S.2 12)) : ∀ j, HD (N + 12) (xb N S f j) (S.2 9) (dKn S j) (dGn S j) (dWn S j)
  | 0 => fun c hc => by
    rw [dGn_0 g hc]
    exact hd c hc
  | j + 1 => fun c hc => by
    have := gb_hd (xb_hd g hd j) c hc
    rw [← dGn_s]
    exact this
theorem x_days' {N : Nat} {σ : Hp} {f : Nat → Nat → Int32} {S : St} (g : Good S) (h : RepX N (hv σ f) S) (j : Nat) : F_X1_goBy (hv σ (xb N S f j)) (N + 12) = some (hv σ (xb N S f (j + 1))) :=
  x_goBy g h.1 (SX.h12 h.1) (Nat.le_refl _) (h.lk.cg (fun x k hx => xb_off (fun c hc => by omega) j)) (xb_hd g h.hd j) (HBn g j)
def oDays (n : Int32) (S : St) : Int32 × St := if inR n 1 60 then (if S.1 0 + n.toNatClampNeg ≤ 400 then (nI (S.1 0 + n.toNatClampNeg), daysS n.toNatClampNeg S) else (-3, S)) else (-3, S)
theorem x_days (N : Nat) (n : Int32) : OkXf N (fun σ => F_X0_days σ N n) (oDays n) := by
  intro σ f S g h
  have s : SX N σ := h.1
  have dy := g.dy
  simp only [F_X0_days, oDays, gd_hv s.t0, x0_inR _ n 1 60 1 60 (by decide) (by decide), b2_some]
  rcases in_split n 1 60 (by omega) (by omega) with ⟨i, hi0, hi, rfl⟩ | hk
  case inr => simp (decide := true) (disch := omega) only [b1_some, b2_some, litI, neg1, nI_add, nI_mul, e1_p1, nI_e0, ib, ib1, ite_not, if_true, if_false, not_true_eq_false, not_false_eq_true, setI_hv, hk]; exact ⟨_, rfl, h, fun _ _ _ => rfl⟩
  have qi := eq_true (inR_of hi0 hi (by omega))
  by_cases q : S.1 0 + i ≤ 400
  case neg =>
    simp (decide := true) (disch := omega) only [gd_hv s.t0, gI_hv s.t0, pI_hv s.t0, b1_some, b2_some, litI, neg1, nI_add, nI_mul, e1_p1, nI_e0, ib, ib1, ite_not, if_true, if_false, not_true_eq_false, not_false_eq_true, setI_hv, qi, h.s0, le_lit, q, cl_I]
    exact ⟨_, rfl, h, fun _ _ _ => rfl⟩
  obtain ⟨r, hr⟩ := it_FU (body := fun rec st => B_X0_days_29 N (nI i) rec st.1 st.2) (fun j => (hv σ (xb N S f j), nI j)) 0 i (by omega) (by omega) (fun j _ hj rec => by
    simp (decide := true) (disch := omega) only [B_X0_days_29, gd_hv s.t0, gI_hv s.t0, pI_hv s.t0, s.R7, x_days' g h, b1_some, b2_some, litI, neg1, nI_add, nI_mul, e1_p1, nI_e0, ib, ib1, ite_not, if_true, if_false, not_true_eq_false, not_false_eq_true, setI_hv, le_lit, show ¬ i ≤ j by omega])
  have e0 : L_X0_days_29 N (nI i) FU (hv σ f, nI 0) = some (nI (S.1 0 + i), hv σ (u2 (xb N S f i) N 6 (nI (S.1 0 + i)))) := by
    refine hr.trans ?_
    have e6 : xb N S f i N 6 = nI (S.1 0) := (xb_off (fun c hc => by omega) i).trans h.s0
    simp (decide := true) (disch := omega) only [B_X0_days_29, F_X0_days_47, gd_hv s.t0, gI_hv s.t0, pI_hv s.t0, b1_some, b2_some, litI, neg1, nI_add, nI_mul, e1_p1, nI_e0, ib, ib1, ite_not, if_true, if_false, not_true_eq_false, not_false_eq_true, setI_hv, le_lit, Nat.le_refl, e6, u2_e]
  simp (decide := true) (disch := omega) only [gd_hv s.t0, gI_hv s.t0, pI_hv s.t0, b1_some, b2_some, litI, neg1, nI_add, nI_mul, e1_p1, nI_e0, ib, ib1, ite_not, if_true, if_false, not_true_eq_false, not_false_eq_true, setI_hv, qi, h.s0, le_lit, q, cl_I, e0]
  refine ⟨_, rfl, ?_, fun a k ha => (u2_n (by omega)).trans (xb_off (fun c hc => by omega) i)⟩
  have hd := xb_hd g h.hd i
  have h' : RepX N (hv σ (xb N S f i)) (wA (wA (wA S 10 (dKn S i)) 12 (dWn S i)) 11 (dGn S i)) := by
    refine h.hs (fun a k ha => xb_off (fun c hc => ?_) i) rfl (fun k hk => ?_) (fun c hc => ?_)
    · have e1 := ha (14 + 2 * c) (by omega) (by omega)
      have e2 := ha (15 + 2 * c) (by omega) (by omega)
      omega
    · rw [wA_n (by omega), wA_n (by omega), wA_n (by omega)]
    · have d := hd c hc
      rw [wA_n (by decide), wA_n (by decide), wA_n (by decide), wA_n (by decide), wA_n (by decide), wA_e, wA_n (by decide), wA_n (by decide), wA_n (by decide), wA_e, wA_n (by decide), wA_e]
      exact ⟨d.1, d.2.1, (xb_off (fun c hc => by omega) i).trans (h.a13 hc), d.2.2.1, d.2.2.2⟩
  exact h'.wSc (6, 0) (by decide) (by decide) (S.1 0 + i)
/-! the twin's days -/
theorem grow3 {F : Nat → Nat → Int32} {A B C i : Nat} {a b c : Nat → Int32} (h1 : A ≠ B) (h2 : A ≠ C) (h3 : B ≠ C) : u2 (u2 (u2 (fy (fy (fy F A i a) B i b) C i c) A i (a i)) B i (b i)) C i (c i) = fy (fy (fy F A (i + 1) a) B (i + 1) b) C (i + 1) c := by
  rw [fy_u2 (Ne.symm h2), fy_u2 (Ne.symm h1), fy_grow, fy_u2 (Ne.symm h3), fy_grow, fy_grow]
theorem m_days' {M : Nat} {σ : Hp} {f : Nat → Nat → Int32} {S : St} (g : Good S) (h : RepM M (hv σ f) S) (j : Nat) : F_X10_goDay (hv σ (fz (fz f (M + 12) 48 (dKn S j)) (M + 13) 48 (dWn S j))) M (nI 0) (nI 0) = some (hv σ (fz (fz f (M + 12) 48 (dKn S (j + 1))) (M + 13) 48 (dWn S (j + 1)))) := by
  have hb := HBn g j
  rw [m_goDay g h (n := 48) (at' := 0) (by omega) (by omega) (fun k hk => (hb k hk).2.1) (fun k hk => (hb k hk).2.2.2.1)]
  have e1 : fz f (M + 12) 48 (gA S 0 48 (dKn S j)) = fz f (M + 12) 48 (dKn S (j + 1)) := fz_cg (fun k hk => by
    show (if 0 ≤ k ∧ k < 0 + 48 then dKv S (dKn S j k) (k - 0) else dKn S j k) = dKv S (dKn S j k) k
    rw [if_pos (by omega)]
    rfl)
  have e2 : fz (fz f (M + 12) 48 (dKn S (j + 1))) (M + 13) 48 (gW S 0 48 (dWn S j)) = fz (fz f (M + 12) 48 (dKn S (j + 1))) (M + 13) 48 (dWn S (j + 1)) := fz_cg (fun k hk => by
    show (if 0 ≤ k ∧ k < 0 + 48 then dWv S (dWn S j k) else dWn S j k) = dWv S (dWn S j k)
    rw [if_pos (by omega)])
  rw [e1, e2]
theorem m_days (M : Nat) (n : Int32) : OkMf M (fun σ => F_X10_days σ M n) (oDays n) := by
  intro σ f S g h
  have s : SM M σ := h.1
  have dy := g.dy
  simp only [F_X10_days, oDays, gd_hv s.1, x10_inR _ n 1 60 1 60 rfl rfl, b2_some]
  rcases in_split n 1 60 (by omega) (by omega) with ⟨i, hi0, hi, rfl⟩ | hk
  case inr => simp (decide := true) (disch := omega) only [b1_some, b2_some, litI, neg1, nI_add, nI_mul, e1_p1, nI_e0, ib, ib1, ite_not, if_true, if_false, not_true_eq_false, not_false_eq_true, setI_hv, hk]; exact ⟨_, rfl, h, fun _ _ _ => rfl⟩
  have qi := eq_true (inR_of hi0 hi (by omega))
  by_cases q : S.1 0 + i ≤ 400
  case neg =>
    simp (decide := true) (disch := omega) only [gd_hv s.1, gI_hv s.1, pI_hv s.1, b1_some, b2_some, litI, neg1, nI_add, nI_mul, e1_p1, nI_e0, ib, ib1, ite_not, if_true, if_false, not_true_eq_false, not_false_eq_true, setI_hv, qi, h.s0, le_lit, q, cl_I]
    exact ⟨_, rfl, h, fun _ _ _ => rfl⟩
  have hb := HBn g i
  have h0 : RepM M (hv σ (fz (fz f (M + 12) 48 (dKn S i)) (M + 13) 48 (dWn S i))) S := (h.zz 12 48 _ (by omega)).zz 13 48 _ (by omega)
  have r1 : ∀ k, k < 48 → fz (fz f (M + 12) 48 (dKn S i)) (M + 13) 48 (dWn S i) (M + 12) k = nI (dKn S i k) := fun k hk => by rw [fz_off (by omega), fz_rd hk]
  have r2 : ∀ k, k < 48 → fz (fz f (M + 12) 48 (dKn S i)) (M + 13) 48 (dWn S i) (M + 13) k = nI (dWn S i k) := fun k hk => by rw [fz_rd hk]
  have off : ∀ a k, a ≠ M + 12 → a ≠ M + 13 → fz (fz f (M + 12) 48 (dKn S i)) (M + 13) 48 (dWn S i) a k = f a k := fun a k h1 h2 => by rw [fz_off h2, fz_off h1]
  obtain ⟨r, hr⟩ := it_FU (body := fun rec st => B_X10_days_31 M (nI i) rec st.1 st.2) (fun j => (hv σ (fz (fz f (M + 12) 48 (dKn S j)) (M + 13) 48 (dWn S j)), nI j)) 0 i (by omega) (by omega) (fun j _ hj rec => by
    simp (decide := true) (disch := omega) only [B_X10_days_31, m_days' g h, b1_some, b2_some, litI, neg1, nI_add, nI_mul, e1_p1, nI_e0, ib, ib1, ite_not, if_true, if_false, not_true_eq_false, not_false_eq_true, setI_hv, le_lit, show ¬ i ≤ j by omega])
  generalize fz (fz f (M + 12) 48 (dKn S i)) (M + 13) 48 (dWn S i) = F at h0 r1 r2 off hr
  obtain ⟨r', hr'⟩ := it_FU (body := fun rec st => B_X10_days_50 M (nI i) rec st.1 st.2) (fun c => (hv σ (fy (fy (fy F (M + 7) c (fun k => nI (dKn S i k))) (M + 9) c (fun k => nI (dWn S i k))) (M + 8) c (fun k => e1 (dGn S i k))), nI c)) 0 48 (by omega) (by omega) (fun c _ hc rec => by
    have b := hb c hc
    have bg := g.cn hc
    show B_X10_days_50 M (nI i) rec (hv σ (fy (fy (fy F (M + 7) c (fun k => nI (dKn S i k))) (M + 9) c (fun k => nI (dWn S i k))) (M + 8) c (fun k => e1 (dGn S i k)))) (nI c) = rec (hv σ (fy (fy (fy F (M + 7) (c + 1) (fun k => nI (dKn S i k))) (M + 9) (c + 1) (fun k => nI (dWn S i k))) (M + 8) (c + 1) (fun k => e1 (dGn S i k))), nI (c + 1))
    rw [← grow3 (by omega) (by omega) (by omega)]
    have z1 : fy (fy (fy F (M + 7) c (fun k => nI (dKn S i k))) (M + 9) c (fun k => nI (dWn S i k))) (M + 8) c (fun k => e1 (dGn S i k)) (M + 12) c = nI (dKn S i c) := by rw [fy_off (by omega), fy_off (by omega), fy_off (by omega), r1 c hc]
    have z2 : fy (fy (fy F (M + 7) c (fun k => nI (dKn S i k))) (M + 9) c (fun k => nI (dWn S i k))) (M + 8) c (fun k => e1 (dGn S i k)) (M + 13) c = nI (dWn S i c) := by rw [fy_off (by omega), fy_off (by omega), fy_off (by omega), r2 c hc]
    have z3 : fy (fy (fy F (M + 7) c (fun k => nI (dKn S i k))) (M + 9) c (fun k => nI (dWn S i k))) (M + 8) c (fun k => e1 (dGn S i k)) (M + 8) c = e1 (S.2 11 c) := by rw [fy_off (by omega), fy_off (by omega), fy_off (by omega), h0.a11 hc]
    generalize fy (fy (fy F (M + 7) c (fun k => nI (dKn S i k))) (M + 9) c (fun k => nI (dWn S i k))) (M + 8) c (fun k => e1 (dGn S i k)) = F' at z1 z2 z3
    by_cases z : dWn S i c = 0
    · have dg : dGn S i c = 0 := if_pos z
      simp (decide := true) (disch := omega) only [B_X10_days_50, gd_hv s.1, gI_hv s.1, pI_hv s.1, s.R10, s.A10, s.W10, s.R11, s.A11, s.W11, s.R12, s.A12, s.W12, s.R15, s.A15, s.W15, s.R16, s.A16, s.W16, b1_some, b2_some, litI, neg1, nI_add, nI_mul, e1_p1, nI_e0, ib, ib1, ite_not, if_true, if_false, not_true_eq_false, not_false_eq_true, setI_hv, le_lit, show ¬ 48 ≤ c by omega, z1, z2, z3, u2_n, u2_e, z, eq_lit, dg]
    · have dg : dGn S i c = S.2 11 c := if_neg z
      simp (decide := true) (disch := omega) only [B_X10_days_50, gd_hv s.1, gI_hv s.1, pI_hv s.1, s.R10, s.A10, s.W10, s.R11, s.A11, s.W11, s.R12, s.A12, s.W12, s.R15, s.A15, s.W15, s.R16, s.A16, s.W16, b1_some, b2_some, litI, neg1, nI_add, nI_mul, e1_p1, nI_e0, ib, ib1, ite_not, if_true, if_false, not_true_eq_false, not_false_eq_true, setI_hv, le_lit, show ¬ 48 ≤ c by omega, z1, z2, z3, u2_n, u2_e, z, eq_lit, dg])
  have fin : RepM M (hv σ (fy (fy (fy F (M + 7) 48 (fun k => nI (dKn S i k))) (M + 9) 48 (fun k => nI (dWn S i k))) (M + 8) 48 (fun k => e1 (dGn S i k)))) (wA (wA (wA S 10 (dKn S i)) 12 (dWn S i)) 11 (dGn S i)) :=
    ((h0.fy (10, 7, 48) (by decide) (dKn S i) _ rfl).fy (12, 9, 48) (by decide) (dWn S i) _ rfl).fy (11, 8, 48) (by decide) (dGn S i) _ rfl
  have e50 : L_X10_days_50 M (nI i) FU (hv σ (fy (fy (fy F (M + 7) 0 (fun k => nI (dKn S i k))) (M + 9) 0 (fun k => nI (dWn S i k))) (M + 8) 0 (fun k => e1 (dGn S i k))), nI 0) = some (nI (S.1 0 + i), hv σ (u2 (fy (fy (fy F (M + 7) 48 (fun k => nI (dKn S i k))) (M + 9) 48 (fun k => nI (dWn S i k))) (M + 8) 48 (fun k => e1 (dGn S i k))) M 0 (nI (S.1 0 + i)))) := by
    refine hr'.trans ?_
    have e0 : fy (fy (fy F (M + 7) 48 (fun k => nI (dKn S i k))) (M + 9) 48 (fun k => nI (dWn S i k))) (M + 8) 48 (fun k => e1 (dGn S i k)) M 0 = nI (S.1 0) := fin.s0
    simp (decide := true) (disch := omega) only [B_X10_days_50, F_X10_days_111, gd_hv s.1, gI_hv s.1, pI_hv s.1, b1_some, b2_some, litI, neg1, nI_add, nI_mul, e1_p1, nI_e0, ib, ib1, ite_not, if_true, if_false, not_true_eq_false, not_false_eq_true, setI_hv, le_lit, Nat.le_refl, e0, u2_e]
  rw [fy_0, fy_0, fy_0] at e50
  have e31 : L_X10_days_31 M (nI i) FU (hv σ (fz (fz f (M + 12) 48 (S.2 10)) (M + 13) 48 (S.2 12)), nI 0) = some (nI (S.1 0 + i), hv σ (u2 (fy (fy (fy F (M + 7) 48 (fun k => nI (dKn S i k))) (M + 9) 48 (fun k => nI (dWn S i k))) (M + 8) 48 (fun k => e1 (dGn S i k))) M 0 (nI (S.1 0 + i)))) := by
    refine hr.trans ?_
    simp (decide := true) (disch := omega) only [B_X10_days_31, b1_some, b2_some, litI, neg1, nI_add, nI_mul, e1_p1, nI_e0, ib, ib1, ite_not, if_true, if_false, not_true_eq_false, not_false_eq_true, setI_hv, le_lit, Nat.le_refl, e50]
  simp (decide := true) (disch := omega) only [gd_hv s.1, gI_hv s.1, pI_hv s.1, b1_some, b2_some, litI, neg1, nI_add, nI_mul, e1_p1, nI_e0, ib, ib1, ite_not, if_true, if_false, not_true_eq_false, not_false_eq_true, setI_hv, qi, h.s0, le_lit, q, cl_I, m_look g h, e31]
  refine ⟨_, rfl, fin.setS 0 (S.1 0 + i), fun a k ha => ?_⟩
  rw [u2_n (by omega), fy_off (by omega), fy_off (by omega), fy_off (by omega), off a k (by omega) (by omega)]
end
section
set_option maxRecDepth 100000
/-! pure law 14: a walk through a room -/
def wby (S : St) (v c : Nat) : Nat := if S.2 9 c = 0 then 0 else (100 - v) * S.1 7 / 100
def wkv (S : St) (v c : Nat) : Nat := v + wby S v c
theorem Good.gn {S : St} (g : Good S) : S.1 7 ≤ 100 := g.2.2.2.1
theorem wby_le {S : St} (g : Good S) {v : Nat} (c : Nat) : wby S v c ≤ 100 - v := by
  unfold wby
  split
  · omega
  · apply Nat.div_le_of_le_mul
    rw [Nat.mul_comm 100]
    exact Nat.mul_le_mul_left _ g.gn
theorem wkv_le {S : St} (g : Good S) {v : Nat} (c : Nat) (h : v ≤ 100) : wkv S v c ≤ 100 := by
  have := wby_le g (v := v) c
  unfold wkv
  omega
def wK (S : St) (r : Nat) (K : Nat → Nat) (j : Nat) : Nat → Nat := fun c => if 6 * r ≤ c ∧ c < 6 * r + j then wkv S (K c) c else K c
theorem HB.walk {S : St} {K G W : Nat → Nat} (g : Good S) (h : HB (S.2 9) K G W) (r j : Nat) : HB (S.2 9) (wK S r K j) G W := fun c hc => by
  have b := h c hc
  refine ⟨b.1, ?_, b.2.2.1, b.2.2.2.1, fun q => ?_, b.2.2.2.2.2⟩
  · unfold wK
    split
    · exact wkv_le g c b.2.1
    · exact b.2.1
  · unfold wK
    have := b.2.2.2.2.1 q
    split
    · unfold wkv wby
      rw [if_pos q, this]
    · exact this
theorem mulb {a b : Nat} (ha : a ≤ 100) (hb : b ≤ 100) : a * b ≤ 10000 := Nat.mul_le_mul ha hb
theorem d100 {v w : Nat} (h : v ≤ 100) (h2 : w ≤ 100) : nI (v * w) / nI 100 = nI (v * w / 100) := pk_div (by have := mulb h h2; omega) (by omega) (by omega)
/-! the component's -/
def wx (H : Nat) (S : St) (K : Nat → Nat) (r : Nat) (f : Nat → Nat → Int32) : Nat → (Nat → Nat → Int32)
  | 0 => f
  | j + 1 => u2 (wx H S K r f j) (H + (2 + 2 * (6 * r + j))) 1 (nI (wkv S (K (6 * r + j)) (6 * r + j)))
theorem wx_off {H : Nat} {S : St} {K : Nat → Nat} {r : Nat} {f : Nat → Nat → Int32} {x k : Nat} : ∀ i, (∀ j, j < i → ¬ (x = H + (2 + 2 * (6 * r + j)) ∧ k = 1)) → wx H S K r f i x k = f x k
  | 0, _ => rfl
  | i + 1, h => (u2_n (h i (by omega))).trans (wx_off i (fun j hj => h j (by omega)))
theorem wx_at {H : Nat} {S : St} {K : Nat → Nat} {r : Nat} {f : Nat → Nat → Int32} (hf : ∀ c, c < 48 → f (H + (2 + 2 * c)) 1 = nI (K c)) : ∀ i c, c < 48 → wx H S K r f i (H + (2 + 2 * c)) 1 = nI (wK S r K i c)
  | 0, c, hc => by
    unfold wK
    rw [if_neg (by omega)]
    exact hf c hc
  | i + 1, c, hc => by
    have ih := wx_at hf (S := S) (r := r) i c hc
    show u2 (wx H S K r f i) (H + (2 + 2 * (6 * r + i))) 1 _ (H + (2 + 2 * c)) 1 = _
    by_cases e : c = 6 * r + i
    · subst e
      rw [u2_e]
      unfold wK
      rw [if_pos (by omega)]
    · rw [u2_n (by omega), ih]
      unfold wK
      by_cases q : 6 * r ≤ c ∧ c < 6 * r + i
      · rw [if_pos q, if_pos (by omega)]
      · rw [if_neg q, if_neg (by omega)]
theorem x_walk' {N H : Nat} {σ : Hp} {f : Nat → Nat → Int32} {S : St} {K G W : Nat → Nat} (g : Good S) (s : SX N σ) (hs : HS N H σ) (hN : N + 12 ≤ H) (hk : LkX N f S) (hd : HD H f (S.2 9) K G W) (hb : HB (S.2 9) K G W) {r : Nat} (hr : r < 8) : F_X1_walk (hv σ f) H (nI r) = some (nI (sumR (fun c => wby S (K c) c) (6 * r) 6), hv σ (wx H S K r f 6)) := by
  unfold F_X1_walk L_X1_walk_7
  rw [hs.D, show nI r * (6 : Int32) = nI (6 * r) from (nI_mul r 6).trans (by rw [Nat.mul_comm])]
  obtain ⟨n, hn⟩ := it_FU (body := fun rec st => B_X1_walk_7 H (nI r) rec st.1 st.2.1 st.2.2) (fun i => (hv σ (wx H S K r f i), nI (sumR (fun c => wby S (K c) c) (6 * r) i), nI (6 * r + i))) 0 6 (by omega) (by omega) (fun i _ hi rec => by
    have b := hb (6 * r + i) (by omega)
    have d := hd (6 * r + i) (by omega)
    have gn := g.gn
    have e0 : wx H S K r f i (H + (2 + 2 * (6 * r + i))) 0 = e1 (S.2 9 (6 * r + i)) := (wx_off i (fun j hj => by omega)).trans d.1
    have e1' : wx H S K r f i (H + (2 + 2 * (6 * r + i))) 1 = nI (K (6 * r + i)) := (wx_off i (fun j hj => by omega)).trans d.2.1
    have e4 : wx H S K r f i N 4 = nI (S.1 7) := (wx_off i (fun j hj => by omega)).trans hk.2.2.1
    have th := hs.there (f := wx H S K r f i) (c := 6 * r + i) (by omega) (by omega : S.2 9 (6 * r + i) < 1000) e0
    show B_X1_walk_7 H (nI r) rec (hv σ (wx H S K r f i)) (nI (sumR (fun c => wby S (K c) c) (6 * r) i)) (nI (6 * r + i)) = rec (hv σ (u2 (wx H S K r f i) (H + (2 + 2 * (6 * r + i))) 1 (nI (K (6 * r + i) + wby S (K (6 * r + i)) (6 * r + i)))), nI (sumR (fun c => wby S (K c) c) (6 * r) i + wby S (K (6 * r + i)) (6 * r + i)), nI (6 * r + i + 1))
    generalize wx H S K r f i = f' at e0 e1' e4 th
    by_cases q : S.2 9 (6 * r + i) = 0
    · have e : wby S (K (6 * r + i)) (6 * r + i) = 0 := if_pos q
      simp (decide := true) (disch := omega) only [B_X1_walk_7, F_X1_walk_56, hs.D, hs.R0, hs.R1, hs.N, hs.C, hs.CD, hs.CI, hs.CW, hs.G, hs.GD, hs.GI, hs.GW, th, b1_some, b2_some, litI, neg1, nI_add, nI_mul, e1_p1, nI_e0, ib, ib1, ite_not, if_true, if_false, not_true_eq_false, not_false_eq_true, setI_hv, le_lit, show ¬ (r + 1) * 6 ≤ 6 * r + i by omega, q, ne_eq, e1', e]
    · have e : wby S (K (6 * r + i)) (6 * r + i) = (100 - K (6 * r + i)) * S.1 7 / 100 := if_neg q
      simp (decide := true) (disch := omega) only [B_X1_walk_7, F_X1_walk_56, hs.D, hs.R0, hs.R1, hs.N, hs.C, hs.CD, hs.CI, hs.CW, hs.G, hs.GD, hs.GI, hs.GW, gd_hv s.t0, gI_hv s.t0, pI_hv s.t0, th, b1_some, b2_some, litI, neg1, nI_add, nI_mul, e1_p1, nI_e0, ib, ib1, ite_not, if_true, if_false, not_true_eq_false, not_false_eq_true, setI_hv, le_lit, eq_lit, show ¬ (r + 1) * 6 ≤ 6 * r + i by omega, q, ne_eq, e1', e4, nI_sub, d100, e])
  refine Eq.trans (b := it (fun rec st => B_X1_walk_7 H (nI r) rec st.1 st.2.1 st.2.2) FU (hv σ (wx H S K r f 0), nI (sumR (fun c => wby S (K c) c) (6 * r) 0), nI (6 * r + 0))) rfl (hn.trans ?_)
  simp (decide := true) (disch := omega) only [B_X1_walk_7, b1_some, b2_some, litI, neg1, nI_add, nI_mul, e1_p1, nI_e0, ib, ib1, ite_not, if_true, if_false, not_true_eq_false, not_false_eq_true, setI_hv, le_lit, show (r + 1) * 6 ≤ 6 * r + 6 by omega]
theorem wx_hd {H : Nat} {f : Nat → Nat → Int32} {S : St} {K G W : Nat → Nat} (hd : HD H f (S.2 9) K G W) (r : Nat) : HD H (wx H S K r f 6) (S.2 9) (wK S r K 6) G W := fun c hc =>
  ⟨(wx_off 6 (fun j hj => by omega)).trans (hd c hc).1, wx_at (fun c hc => (hd c hc).2.1) 6 c hc, (wx_off 6 (fun j hj => by omega)).trans (hd c hc).2.2.1, (wx_off 6 (fun j hj => by omega)).trans (hd c hc).2.2.2⟩
def walkS (r : Nat) (S : St) : St := wA (w2 S 14 r (S.1 0 + 1)) 10 (wK S r (S.2 10) 6)
def oWalk (r : Int32) (S : St) : Int32 × St := if inR r 0 7 then (nI (sumR (fun c => wby S (S.2 10 c) c) (6 * r.toNatClampNeg) 6), walkS r.toNatClampNeg S) else (-2, S)
theorem x_walk (N : Nat) (r : Int32) : OkXf N (fun σ => F_X0_walk σ N r) (oWalk r) := by
  intro σ f S g h
  have s : SX N σ := h.1
  have dy := g.dy
  simp only [F_X0_walk, oWalk, gd_hv s.t0, x0_isRoom, b2_some]
  rcases in_split r 0 7 (by omega) (by omega) with ⟨i, -, hi, rfl⟩ | hk
  case inr => simp (decide := true) (disch := omega) only [b1_some, b2_some, litI, neg1, nI_add, nI_mul, e1_p1, nI_e0, ib, ib1, ite_not, if_true, if_false, not_true_eq_false, not_false_eq_true, setI_hv, hk]; exact ⟨_, rfl, h, fun _ _ _ => rfl⟩
  have qi := eq_true (inR_of (Nat.zero_le i) hi (by omega))
  have h1 : RepX N (hv σ (u2 f (N + 208) i (nI (S.1 0)))) (w2 S 14 i (S.1 0 + 1)) := by
    have := h.wAr (208, 14, 8) (by decide) i (S.1 0 + 1)
    have e : enc 14 (S.1 0 + 1) = nI (S.1 0) := e1_s _
    rw [e] at this
    exact this
  have hd : HD (N + 12) (u2 f (N + 208) i (nI (S.1 0))) (S.2 9) (S.2 10) (S.2 11) (S.2 12) := fun c hc => by
    have d := h.hd c hc
    rw [u2_n (by omega), u2_n (by omega), u2_n (by omega), u2_n (by omega)]
    exact d
  have lk : LkX N (u2 f (N + 208) i (nI (S.1 0))) S := h.lk.cg (fun x k hx => u2_n (by omega))
  have w := x_walk' g s s.h12 (Nat.le_refl _) lk hd g.hb (r := i) (by omega)
  simp (decide := true) (disch := omega) only [gd_hv s.t0, gI_hv s.t0, pI_hv s.t0, s.R7, s.R9, s.A208, s.W208, b1_some, b2_some, litI, neg1, nI_add, nI_mul, e1_p1, nI_e0, ib, ib1, ite_not, if_true, if_false, not_true_eq_false, not_false_eq_true, setI_hv, qi, h.s0, cl_I, w]
  refine ⟨_, rfl, ?_, fun a k ha => (wx_off 6 (fun j hj => by omega)).trans (u2_n (by omega))⟩
  refine h1.hs (fun a k ha => wx_off 6 (fun j hj => ?_)) rfl (fun k hk => wA_n (by omega)) (fun c hc => ?_)
  · have e1 := ha (14 + 2 * (6 * i + j)) (by omega) (by omega)
    omega
  · have d := wx_hd hd i c hc
    unfold walkS
    rw [wA_n (by decide), wA_e, wA_n (by decide), wA_n (by decide), wA_n (by decide), w2_n (by omega), w2_n (by omega), w2_n (by omega), w2_n (by omega)]
    exact ⟨d.1, d.2.1, (wx_off 6 (fun j hj => by omega)).trans ((u2_n (by omega)).trans (h.a13 hc)), d.2.2.1, d.2.2.2⟩
/-! the twin's -/
def wAt (S : St) (r at' j : Nat) (A : Nat → Nat) : Nat → Nat := fun k => if at' + 6 * r ≤ k ∧ k < at' + 6 * r + j then wkv S (A k) (k - at') else A k
theorem wAt_s (S : St) (r at' j : Nat) (A : Nat → Nat) : up (wAt S r at' j A) (at' + (6 * r + j)) (wkv S (A (at' + (6 * r + j))) (6 * r + j)) = wAt S r at' (j + 1) A := by
  funext k
  unfold up wAt
  by_cases q : k = at' + (6 * r + j)
  · rw [if_pos q, if_pos (by omega), q, Nat.add_sub_cancel_left]
  · rw [if_neg q]
    by_cases q2 : at' + 6 * r ≤ k ∧ k < at' + 6 * r + j
    · rw [if_pos q2, if_pos (by omega)]
    · rw [if_neg q2, if_neg (by omega)]
theorem m_goWalk {M : Nat} {σ : Hp} {f : Nat → Nat → Int32} {S : St} (g : Good S) (h : RepM M (hv σ f) S) {n at' r : Nat} {A B : Nat → Nat} (hr : r < 8) (hn : at' + 48 ≤ n) (hn2 : n ≤ 240) (hA : ∀ k, k < n → A k ≤ 100) : F_X10_goWalk (hv σ (fz (fz f (M + 12) n A) (M + 13) n B)) M (nI r) (nI at') = some (nI (sumR (fun c => wby S (A (at' + c)) c) (6 * r) 6), hv σ (fz (fz f (M + 12) n (wAt S r at' 6 A)) (M + 13) n B)) := by
  have s : SM M σ := h.1
  unfold F_X10_goWalk L_X10_goWalk_8
  rw [gd_hv s.1, show (6 : Int32) * nI r = nI (6 * r) from nI_mul 6 r]
  obtain ⟨m, hm⟩ := it_FU (body := fun rec st => B_X10_goWalk_8 M (nI r) (nI at') rec st.1 st.2.1 st.2.2) (fun i => (hv σ (fz (fz f (M + 12) n (wAt S r at' i A)) (M + 13) n B), nI (sumR (fun c => wby S (A (at' + c)) c) (6 * r) i), nI (6 * r + i))) 0 6 (by omega) (by omega) (fun i _ hi rec => by
    have gn := g.gn
    have b := g.cn (c := 6 * r + i) (by omega)
    have h' : RepM M (hv σ (fz (fz f (M + 12) n (wAt S r at' i A)) (M + 13) n B)) S := (h.zz 12 n _ (by omega)).zz 13 n _ (by omega)
    have e : u2 (fz (fz f (M + 12) n (wAt S r at' i A)) (M + 13) n B) (M + 12) (at' + (6 * r + i)) (nI (wkv S (A (at' + (6 * r + i))) (6 * r + i))) = fz (fz f (M + 12) n (wAt S r at' (i + 1) A)) (M + 13) n B := by
      have e1 : u2 (fz (fz f (M + 12) n (wAt S r at' i A)) (M + 13) n B) (M + 12) (at' + (6 * r + i)) (nI (wkv S (A (at' + (6 * r + i))) (6 * r + i))) = fz (u2 (fz f (M + 12) n (wAt S r at' i A)) (M + 12) (at' + (6 * r + i)) (nI (wkv S (A (at' + (6 * r + i))) (6 * r + i)))) (M + 13) n B := fy_u2 (D := fun k => nI (B k)) (by omega)
      rw [e1, fz_up (by omega), wAt_s]
    have rA : fz (fz f (M + 12) n (wAt S r at' i A)) (M + 13) n B (M + 12) (at' + (6 * r + i)) = nI (A (at' + (6 * r + i))) := by
      rw [fz_off (by omega), fz_rd (by omega)]
      unfold wAt
      rw [if_neg (by omega)]
    show B_X10_goWalk_8 M (nI r) (nI at') rec (hv σ (fz (fz f (M + 12) n (wAt S r at' i A)) (M + 13) n B)) (nI (sumR (fun c => wby S (A (at' + c)) c) (6 * r) i)) (nI (6 * r + i)) = rec (hv σ (fz (fz f (M + 12) n (wAt S r at' (i + 1) A)) (M + 13) n B), nI (sumR (fun c => wby S (A (at' + c)) c) (6 * r) i + wby S (A (at' + (6 * r + i))) (6 * r + i)), nI (6 * r + i + 1))
    rw [← e]
    generalize fz (fz f (M + 12) n (wAt S r at' i A)) (M + 13) n B = f' at h' rA
    have bA := hA (at' + (6 * r + i)) (by omega)
    have ew : wkv S (A (at' + (6 * r + i))) (6 * r + i) = A (at' + (6 * r + i)) + wby S (A (at' + (6 * r + i))) (6 * r + i) := rfl
    rw [ew]
    by_cases q : S.2 9 (6 * r + i) = 0
    · have e : wby S (A (at' + (6 * r + i))) (6 * r + i) = 0 := if_pos q
      simp (decide := true) (disch := omega) only [B_X10_goWalk_8, F_X10_goWalk_55, gd_hv s.1, gI_hv s.1, pI_hv s.1, s.R9, s.A9, s.W9, s.R15, s.A15, s.W15, b1_some, b2_some, litI, neg1, nI_add, nI_mul, e1_p1, nI_e0, ib, ib1, ite_not, if_true, if_false, not_true_eq_false, not_false_eq_true, setI_hv, le_lit, show ¬ 6 * r + 6 ≤ 6 * r + i by omega, h'.a9, e1_inj, q, rA, e]
    · have e : wby S (A (at' + (6 * r + i))) (6 * r + i) = (100 - A (at' + (6 * r + i))) * S.1 7 / 100 := if_neg q
      simp (decide := true) (disch := omega) only [B_X10_goWalk_8, F_X10_goWalk_55, gd_hv s.1, gI_hv s.1, pI_hv s.1, s.R9, s.A9, s.W9, s.R15, s.A15, s.W15, b1_some, b2_some, litI, neg1, nI_add, nI_mul, e1_p1, nI_e0, ib, ib1, ite_not, if_true, if_false, not_true_eq_false, not_false_eq_true, setI_hv, le_lit, show ¬ 6 * r + 6 ≤ 6 * r + i by omega, h'.a9, h'.s7, e1_inj, q, rA, nI_sub, d100, e])
  have z1 : wAt S r at' 0 A = A := by
    funext k
    exact if_neg (by omega)
  rw [z1] at hm
  refine Eq.trans (b := it (fun rec st => B_X10_goWalk_8 M (nI r) (nI at') rec st.1 st.2.1 st.2.2) FU (hv σ (fz (fz f (M + 12) n A) (M + 13) n B), nI (sumR (fun c => wby S (A (at' + c)) c) (6 * r) 0), nI (6 * r + 0))) rfl (hm.trans ?_)
  simp (decide := true) (disch := omega) only [B_X10_goWalk_8, b1_some, b2_some, litI, neg1, nI_add, nI_mul, e1_p1, nI_e0, ib, ib1, ite_not, if_true, if_false, not_true_eq_false, not_false_eq_true, setI_hv, le_lit, Nat.le_refl]
theorem fz_same {f : Nat → Nat → Int32} {A n : Nat} {D : Nat → Nat} (h : ∀ k, k < n → f A k = nI (D k)) : fz f A n D = f := by
  funext x k
  unfold fz
  by_cases q : x = A ∧ k < n
  · rw [if_pos q, q.1, h k q.2]
  · rw [if_neg q]
theorem wK_s (S : St) (r j : Nat) (K : Nat → Nat) : up (wK S r K j) (6 * r + j) (wkv S (K (6 * r + j)) (6 * r + j)) = wK S r K (j + 1) := by
  funext k
  unfold up wK
  by_cases q : k = 6 * r + j
  · rw [if_pos q, if_pos (by omega), q]
  · rw [if_neg q]
    by_cases q2 : 6 * r ≤ k ∧ k < 6 * r + j
    · rw [if_pos q2, if_pos (by omega)]
    · rw [if_neg q2, if_neg (by omega)]
theorem m_walk (M : Nat) (r : Int32) : OkMf M (fun σ => F_X10_walk σ M r) (oWalk r) := by
  intro σ f S g h
  have s : SM M σ := h.1
  have dy := g.dy
  simp only [F_X10_walk, oWalk, gd_hv s.1, x10_isRoom, b2_some]
  rcases in_split r 0 7 (by omega) (by omega) with ⟨i, -, hi, rfl⟩ | hk
  case inr => simp (decide := true) (disch := omega) only [b1_some, b2_some, litI, neg1, nI_add, nI_mul, e1_p1, nI_e0, ib, ib1, ite_not, if_true, if_false, not_true_eq_false, not_false_eq_true, setI_hv, hk]; exact ⟨_, rfl, h, fun _ _ _ => rfl⟩
  have qi := eq_true (inR_of (Nat.zero_le i) hi (by omega))
  have w := m_goWalk g h (n := 48) (at' := 0) (r := i) (A := S.2 10) (B := S.2 12) (by omega) (by omega) (by omega) (fun k hk => (g.cn hk).2.1)
  have es : sumR (fun c => wby S (S.2 10 (0 + c)) c) (6 * i) 6 = sumR (fun c => wby S (S.2 10 c) c) (6 * i) 6 := sumR_cg _ 6 (fun k hk => by
    show wby S (S.2 10 (0 + (6 * i + k))) _ = _
    rw [Nat.zero_add])
  rw [es] at w
  have h0 : RepM M (hv σ (fz (fz f (M + 12) 48 (wAt S i 0 6 (S.2 10))) (M + 13) 48 (S.2 12))) S := (h.zz 12 48 _ (by omega)).zz 13 48 _ (by omega)
  have r1 : ∀ j, j < 6 → fz (fz f (M + 12) 48 (wAt S i 0 6 (S.2 10))) (M + 13) 48 (S.2 12) (M + 12) (6 * i + j) = nI (wkv S (S.2 10 (6 * i + j)) (6 * i + j)) := fun j hj => by
    rw [fz_off (by omega), fz_rd (by omega)]
    unfold wAt
    rw [if_pos (by omega)]
    rfl
  have off : ∀ a k, a ≠ M + 12 → a ≠ M + 13 → fz (fz f (M + 12) 48 (wAt S i 0 6 (S.2 10))) (M + 13) 48 (S.2 12) a k = f a k := fun a k h1 h2 => by rw [fz_off h2, fz_off h1]
  generalize fz (fz f (M + 12) 48 (wAt S i 0 6 (S.2 10))) (M + 13) 48 (S.2 12) = F at h0 r1 off w
  generalize hcm : sumR (fun c => wby S (S.2 10 c) c) (6 * i) 6 = came at w
  obtain ⟨m, hm⟩ := it_FU (body := fun rec st => B_X10_walk_26 M (nI i) (nI came) rec st.1 st.2) (fun j => (hv σ (fz F (M + 7) 48 (wK S i (S.2 10) j)), nI (6 * i + j))) 0 6 (by omega) (by omega) (fun j _ hj rec => by
    have e : u2 (fz F (M + 7) 48 (wK S i (S.2 10) j)) (M + 7) (6 * i + j) (nI (wkv S (S.2 10 (6 * i + j)) (6 * i + j))) = fz F (M + 7) 48 (wK S i (S.2 10) (j + 1)) := by rw [fz_up (by omega), wK_s]
    have e2 : fz F (M + 7) 48 (wK S i (S.2 10) j) (M + 12) (6 * i + j) = nI (wkv S (S.2 10 (6 * i + j)) (6 * i + j)) := (fz_off (by omega)).trans (r1 j hj)
    show B_X10_walk_26 M (nI i) (nI came) rec (hv σ (fz F (M + 7) 48 (wK S i (S.2 10) j))) (nI (6 * i + j)) = rec (hv σ (fz F (M + 7) 48 (wK S i (S.2 10) (j + 1))), nI (6 * i + (j + 1)))
    rw [← e]
    simp (decide := true) (disch := omega) only [B_X10_walk_26, gd_hv s.1, gI_hv s.1, pI_hv s.1, s.R10, s.A10, s.W10, s.R15, s.A15, s.W15, b1_some, b2_some, litI, neg1, nI_add, nI_mul, e1_p1, nI_e0, ib, ib1, ite_not, if_true, if_false, not_true_eq_false, not_false_eq_true, setI_hv, le_lit, show ¬ 6 * i + 6 ≤ 6 * i + j by omega, e2]
    rfl)
  have z0 : fz F (M + 7) 48 (wK S i (S.2 10) 0) = F := fz_same (fun k hk => by
    unfold wK
    rw [if_neg (by omega)]
    exact h0.a10 hk)
  have fin : RepM M (hv σ (fz F (M + 7) 48 (wK S i (S.2 10) 6))) (wA S 10 (wK S i (S.2 10) 6)) := h0.fy (10, 7, 48) (by decide) _ _ rfl
  have e26 : L_X10_walk_26 M (nI i) (nI came) FU (hv σ (fz F (M + 7) 48 (wK S i (S.2 10) 0)), nI (6 * i + 0)) = some (nI came, hv σ (u2 (fz F (M + 7) 48 (wK S i (S.2 10) 6)) (M + 11) i (nI (S.1 0)))) := by
    refine hm.trans ?_
    have e0 : fz F (M + 7) 48 (wK S i (S.2 10) 6) M 0 = nI (S.1 0) := fin.s0
    simp (decide := true) (disch := omega) only [B_X10_walk_26, F_X10_walk_55, gd_hv s.1, gI_hv s.1, pI_hv s.1, s.R14, s.A14, s.W14, b1_some, b2_some, litI, neg1, nI_add, nI_mul, e1_p1, nI_e0, ib, ib1, ite_not, if_true, if_false, not_true_eq_false, not_false_eq_true, setI_hv, le_lit, Nat.le_refl, e0]
  rw [z0, Nat.add_zero] at e26
  have lk := m_look g h
  simp (decide := true) (disch := omega) only [b1_some, b2_some, litI, neg1, nI_add, nI_mul, e1_p1, nI_e0, ib, ib1, ite_not, if_true, if_false, not_true_eq_false, not_false_eq_true, setI_hv, qi, cl_I, lk, w, e26, hcm]
  refine ⟨_, rfl, ?_, fun a k ha => by rw [u2_n (by omega), fz_off (by omega), off a k (by omega) (by omega)]⟩
  have e14 : enc 14 (S.1 0 + 1) = nI (S.1 0) := e1_s _
  have r := (h0.set (14, 11, 8) (by decide) i (S.1 0 + 1)).fy (10, 7, 48) (by decide) (wK S i (S.2 10) 6) (u2 (fz F (M + 7) 48 (wK S i (S.2 10) 6)) (M + 11) i (nI (S.1 0))) (by
    show _ = fy (u2 F (M + 11) i (enc 14 (S.1 0 + 1))) (M + 7) 48 (fun k => nI (wK S i (S.2 10) 6 k))
    rw [e14]
    exact fy_u2 (by omega))
  exact r
end
section
set_option maxRecDepth 100000
/-! pure law 15: count, right, causes, asked, beside, cost -/
theorem m_cost' {M : Nat} {σ : Hp} {f : Nat → Nat → Int32} {S : St} (g : Good S) (h : RepM M (hv σ f) S) {r : Nat} (hr : r < 8) : F_X10_costOf (hv σ f) M (nI r) = some (e1 (if dst S 0 r = 0 then 0 else 2 * (dst S 0 r - 1) + stn (S.2 9) r + 1), hv σ (fz f (M + 3) 8 (tn S 0 8))) := by
  have s : SM M σ := h.1
  have h' := h.zz 3 8 (tn S 0 8) (by omega)
  have dl := dst_le S 0 r
  have md := m_dst g h (a := 0) (b := r) (by omega) hr
  by_cases q : dst S 0 r = 0
  · simp (decide := true) (disch := omega) only [F_X10_costOf, gd_hv s.1, gI_hv s.1, pI_hv s.1, b1_some, b2_some, litI, neg1, nI_add, nI_mul, e1_p1, nI_e0, ib, ib1, ite_not, if_true, if_false, not_true_eq_false, not_false_eq_true, setI_hv, md, e1_inj, q]
  · simp (decide := true) (disch := omega) only [F_X10_costOf, gd_hv s.1, gI_hv s.1, pI_hv s.1, b1_some, b2_some, litI, neg1, nI_add, nI_mul, e1_p1, nI_e0, ib, ib1, ite_not, if_true, if_false, not_true_eq_false, not_false_eq_true, setI_hv, md, e1_inj, q, m_stand g h' hr, e1_of, e1_s, Nat.add_sub_cancel]
theorem x_cost' {N : Nat} {σ : Hp} {f : Nat → Nat → Int32} {S : St} (g : Good S) (h : RepX N (hv σ f) S) {r : Nat} (hr : r < 8) : F_X0_costOf (hv σ f) N (nI r) = some (e1 (if dst S 0 r = 0 then 0 else 2 * (dst S 0 r - 1) + stn (S.2 9) r + 1), hv σ f) := by
  have s : SX N σ := h.1
  have dl := dst_le S 0 r
  have md := x_dst h (a := 0) (b := r) (by omega) hr
  by_cases q : dst S 0 r = 0
  · simp (decide := true) (disch := omega) only [F_X0_costOf, gd_hv s.t0, gI_hv s.t0, pI_hv s.t0, b1_some, b2_some, litI, neg1, nI_add, nI_mul, e1_p1, nI_e0, ib, ib1, ite_not, if_true, if_false, not_true_eq_false, not_false_eq_true, setI_hv, md, e1_inj, q]
  · simp (decide := true) (disch := omega) only [F_X0_costOf, gd_hv s.t0, gI_hv s.t0, pI_hv s.t0, s.R7, b1_some, b2_some, litI, neg1, nI_add, nI_mul, e1_p1, nI_e0, ib, ib1, ite_not, if_true, if_false, not_true_eq_false, not_false_eq_true, setI_hv, md, e1_inj, q, x_held s.h12 h.hd g.hb hr, e1_of, e1_s, Nat.add_sub_cancel]
noncomputable def cst (S : St) (r : Nat) : Nat := if dst S 0 r = 0 then 0 else 2 * (dst S 0 r - 1) + stn (S.2 9) r + 1
noncomputable def oCost (r : Int32) (S : St) : Int32 × St := if inR r 0 7 then (e1 (cst S r.toNatClampNeg), S) else (-2, S)
theorem m_cost (M : Nat) (r : Int32) : OkMf M (fun σ => F_X10_cost σ M r) (oCost r) := by
  intro σ f S g h
  have s : SM M σ := h.1
  simp only [F_X10_cost, oCost, gd_hv s.1, x10_isRoom, b2_some]
  rcases in_split r 0 7 (by omega) (by omega) with ⟨i, -, hi, rfl⟩ | hk
  case inr => simp (decide := true) (disch := omega) only [b1_some, b2_some, litI, neg1, nI_add, nI_mul, e1_p1, nI_e0, ib, ib1, ite_not, if_true, if_false, not_true_eq_false, not_false_eq_true, setI_hv, hk]; exact ⟨_, rfl, h, fun _ _ _ => rfl⟩
  have qi := eq_true (inR_of (Nat.zero_le i) hi (by omega))
  simp (decide := true) (disch := omega) only [b1_some, b2_some, litI, neg1, nI_add, nI_mul, e1_p1, nI_e0, ib, ib1, ite_not, if_true, if_false, not_true_eq_false, not_false_eq_true, setI_hv, qi, m_cost' g h, cl_I]
  exact ⟨_, rfl, h.zz 3 8 _ (by omega), fun a k ha => fz_off (by omega)⟩
theorem x_cost (N : Nat) (r : Int32) : OkXf N (fun σ => F_X0_cost σ N r) (oCost r) := by
  intro σ f S g h
  have s : SX N σ := h.1
  simp only [F_X0_cost, oCost, gd_hv s.t0, x0_isRoom, b2_some]
  rcases in_split r 0 7 (by omega) (by omega) with ⟨i, -, hi, rfl⟩ | hk
  case inr => simp (decide := true) (disch := omega) only [b1_some, b2_some, litI, neg1, nI_add, nI_mul, e1_p1, nI_e0, ib, ib1, ite_not, if_true, if_false, not_true_eq_false, not_false_eq_true, setI_hv, hk]; exact ⟨_, rfl, h, fun _ _ _ => rfl⟩
  have qi := eq_true (inR_of (Nat.zero_le i) hi (by omega))
  simp (decide := true) (disch := omega) only [b1_some, b2_some, litI, neg1, nI_add, nI_mul, e1_p1, nI_e0, ib, ib1, ite_not, if_true, if_false, not_true_eq_false, not_false_eq_true, setI_hv, qi, x_cost' g h, cl_I]
  exact ⟨_, rfl, h, fun _ _ _ => rfl⟩
/-! asked -/
theorem r6 {c : Nat} (hc : c < 48) : nI c - nI (c / 6) * nI 6 = nI (c % 6) := by
  rw [← c6 hc]
  exact pk_rem (by omega) (by omega) (by omega)
theorem r6' {c : Nat} (hc : c < 48) : nI c - nI (c / 6 * 6) = nI (c % 6) := by
  rw [← nI_mul]
  exact r6 hc
noncomputable def oAsked (t r : Int32) (S : St) : Int32 × St := if inR t 0 23 ∧ inR r 0 7 then (if whr S t.toNatClampNeg = 0 then (-1, S) else if dst S r.toNatClampNeg ((whr S t.toNatClampNeg - 1) / 6) = 0 then (-1, S) else (nI (dst S r.toNatClampNeg ((whr S t.toNatClampNeg - 1) / 6) - 1 + (whr S t.toNatClampNeg - 1) % 6 + 1), S)) else (-2, S)
theorem m_asked (M : Nat) (t r : Int32) : OkMf M (fun σ => F_X10_asked σ M t r) (oAsked t r) := by
  intro σ f S g h
  have s : SM M σ := h.1
  simp only [F_X10_asked, oAsked, gd_hv s.1, x10_isThing, x10_isRoom, b2_some]
  rcases in_split t 0 23 (by omega) (by omega) with ⟨i, -, hi, rfl⟩ | hk
  case inr => simp (decide := true) (disch := omega) only [b1_some, b2_some, litI, neg1, nI_add, nI_mul, e1_p1, nI_e0, ib, ib1, ite_not, if_true, if_false, not_true_eq_false, not_false_eq_true, setI_hv, hk, false_and]; exact ⟨_, rfl, h, fun _ _ _ => rfl⟩
  have qi := eq_true (inR_of (Nat.zero_le i) hi (by omega))
  rcases in_split r 0 7 (by omega) (by omega) with ⟨j, -, hj, rfl⟩ | hk
  case inr => simp (decide := true) (disch := omega) only [b1_some, b2_some, litI, neg1, nI_add, nI_mul, e1_p1, nI_e0, ib, ib1, ite_not, if_true, if_false, not_true_eq_false, not_false_eq_true, setI_hv, qi, hk, and_false]; exact ⟨_, rfl, h, fun _ _ _ => rfl⟩
  have qj := eq_true (inR_of (Nat.zero_le j) hj (by omega))
  have hw := whr_le S i
  by_cases q : whr S i = 0
  · simp (decide := true) (disch := omega) only [F_X10_asked_41, b1_some, b2_some, litI, neg1, nI_add, nI_mul, e1_p1, nI_e0, ib, ib1, ite_not, if_true, if_false, not_true_eq_false, not_false_eq_true, setI_hv, qi, qj, m_where' g h, cl_I, and_self, e1_inj, q]
    exact ⟨_, rfl, h, fun _ _ _ => rfl⟩
  · have dl := dst_le S j ((whr S i - 1) / 6)
    have md := m_dst g h (a := j) (b := (whr S i - 1) / 6) (by omega) (by omega)
    have fin := h.zz 3 8 (tn S j 8) (by omega)
    by_cases q2 : dst S j ((whr S i - 1) / 6) = 0
    · simp (decide := true) (disch := omega) only [F_X10_asked_41, b1_some, b2_some, litI, neg1, nI_add, nI_mul, e1_p1, nI_e0, ib, ib1, ite_not, if_true, if_false, not_true_eq_false, not_false_eq_true, setI_hv, qi, qj, m_where' g h, cl_I, and_self, e1_inj, q, e1_of, c6, md, q2]
      exact ⟨_, rfl, fin, fun a k ha => fz_off (by omega)⟩
    · simp (decide := true) (disch := omega) only [F_X10_asked_41, b1_some, b2_some, litI, neg1, nI_add, nI_mul, e1_p1, nI_e0, ib, ib1, ite_not, if_true, if_false, not_true_eq_false, not_false_eq_true, setI_hv, qi, qj, m_where' g h, cl_I, and_self, e1_inj, q, e1_of, c6, md, q2, r6']
      exact ⟨_, rfl, fin, fun a k ha => fz_off (by omega)⟩
theorem x_asked (N : Nat) (t r : Int32) : OkXf N (fun σ => F_X0_asked σ N t r) (oAsked t r) := by
  intro σ f S g h
  have s : SX N σ := h.1
  simp only [F_X0_asked, oAsked, gd_hv s.t0, x0_isThing, x0_isRoom, b2_some]
  rcases in_split t 0 23 (by omega) (by omega) with ⟨i, -, hi, rfl⟩ | hk
  case inr => simp (decide := true) (disch := omega) only [b1_some, b2_some, litI, neg1, nI_add, nI_mul, e1_p1, nI_e0, ib, ib1, ite_not, if_true, if_false, not_true_eq_false, not_false_eq_true, setI_hv, hk, false_and]; exact ⟨_, rfl, h, fun _ _ _ => rfl⟩
  have qi := eq_true (inR_of (Nat.zero_le i) hi (by omega))
  rcases in_split r 0 7 (by omega) (by omega) with ⟨j, -, hj, rfl⟩ | hk
  case inr => simp (decide := true) (disch := omega) only [b1_some, b2_some, litI, neg1, nI_add, nI_mul, e1_p1, nI_e0, ib, ib1, ite_not, if_true, if_false, not_true_eq_false, not_false_eq_true, setI_hv, qi, hk, and_false]; exact ⟨_, rfl, h, fun _ _ _ => rfl⟩
  have qj := eq_true (inR_of (Nat.zero_le j) hj (by omega))
  have hw := whr_le S i
  by_cases q : whr S i = 0
  · simp (decide := true) (disch := omega) only [F_X0_asked_41, b1_some, b2_some, litI, neg1, nI_add, nI_mul, e1_p1, nI_e0, ib, ib1, ite_not, if_true, if_false, not_true_eq_false, not_false_eq_true, setI_hv, qi, qj, x_where' g h, cl_I, and_self, e1_inj, q]
    exact ⟨_, rfl, h, fun _ _ _ => rfl⟩
  · have dl := dst_le S j ((whr S i - 1) / 6)
    have md := x_dst h (a := j) (b := (whr S i - 1) / 6) (by omega) (by omega)
    by_cases q2 : dst S j ((whr S i - 1) / 6) = 0
    · simp (decide := true) (disch := omega) only [F_X0_asked_41, b1_some, b2_some, litI, neg1, nI_add, nI_mul, e1_p1, nI_e0, ib, ib1, ite_not, if_true, if_false, not_true_eq_false, not_false_eq_true, setI_hv, qi, qj, x_where' g h, cl_I, and_self, e1_inj, q, e1_of, c6, md, q2]
      exact ⟨_, rfl, h, fun _ _ _ => rfl⟩
    · simp (decide := true) (disch := omega) only [F_X0_asked_41, b1_some, b2_some, litI, neg1, nI_add, nI_mul, e1_p1, nI_e0, ib, ib1, ite_not, if_true, if_false, not_true_eq_false, not_false_eq_true, setI_hv, qi, qj, x_where' g h, cl_I, and_self, e1_inj, q, e1_of, c6, md, q2, r6']
      exact ⟨_, rfl, h, fun _ _ _ => rfl⟩
/-! causes -/
def oCauses (c t : Int32) (S : St) : Int32 × St := if inR c 0 47 ∧ inR t 0 23 then (if S.2 9 c.toNatClampNeg = 0 ∨ S.2 9 c.toNatClampNeg = t.toNatClampNeg + 1 then (-4, S) else
  (nI ((if S.1 6 ≤ lkn S t.toNatClampNeg (S.2 9 c.toNatClampNeg - 1) then 1 else 0) + (if S.2 11 c.toNatClampNeg = t.toNatClampNeg + 1 then 2 else 0) + (if ¬ whr S t.toNatClampNeg = 0 ∧ (whr S t.toNatClampNeg - 1) % 6 = c.toNatClampNeg % 6 ∧ jl S ((whr S t.toNatClampNeg - 1) / 6) (c.toNatClampNeg / 6) (S.1 1) = 1 then 4 else 0)), S)) else (-2, S)
theorem m_causes (M : Nat) (c t : Int32) : OkMf M (fun σ => F_X10_causes σ M c t) (oCauses c t) := by
  intro σ f S g h
  have s : SM M σ := h.1
  simp only [F_X10_causes, oCauses, gd_hv s.1, x10_isThing, x10_isCorner, b2_some]
  rcases in_split c 0 47 (by omega) (by omega) with ⟨i, -, hi, rfl⟩ | hk
  case inr => simp (decide := true) (disch := omega) only [b1_some, b2_some, litI, neg1, nI_add, nI_mul, e1_p1, nI_e0, ib, ib1, ite_not, if_true, if_false, not_true_eq_false, not_false_eq_true, setI_hv, hk, false_and]; exact ⟨_, rfl, h, fun _ _ _ => rfl⟩
  have qi := eq_true (inR_of (Nat.zero_le i) hi (by omega))
  rcases in_split t 0 23 (by omega) (by omega) with ⟨j, -, hj, rfl⟩ | hk
  case inr => simp (decide := true) (disch := omega) only [b1_some, b2_some, litI, neg1, nI_add, nI_mul, e1_p1, nI_e0, ib, ib1, ite_not, if_true, if_false, not_true_eq_false, not_false_eq_true, setI_hv, qi, hk, and_false]; exact ⟨_, rfl, h, fun _ _ _ => rfl⟩
  have qj := eq_true (inR_of (Nat.zero_le j) hj (by omega))
  have hw := whr_le S j
  have b := g.cn (c := i) (by omega)
  have tl := g.tl
  refine ⟨f, ?_, ?_, fun _ _ _ => rfl⟩
  · by_cases q1 : S.2 9 i = 0
    · simp (decide := true) (disch := omega) only [gd_hv s.1, gI_hv s.1, pI_hv s.1, s.R9, s.A9, s.W9, b1_some, b2_some, litI, neg1, nI_add, nI_mul, e1_p1, nI_e0, ib, ib1, ite_not, if_true, if_false, not_true_eq_false, not_false_eq_true, setI_hv, qi, qj, h.a9, e1_inj, q1, cl_I, and_self, true_or]
    by_cases q2 : S.2 9 i = j + 1
    · simp (decide := true) (disch := omega) only [gd_hv s.1, gI_hv s.1, pI_hv s.1, s.R9, s.A9, s.W9, b1_some, b2_some, litI, neg1, nI_add, nI_mul, e1_p1, nI_e0, ib, ib1, ite_not, if_true, if_false, not_true_eq_false, not_false_eq_true, setI_hv, qi, qj, h.a9, e1_inj, e1_nI, q1, q2, cl_I, and_self, or_true, ite_self]
    have hl := lkn_le S j (S.2 9 i - 1)
    have lk := m_lk g h (a := j) (b := S.2 9 i - 1) (by omega) (by omega)
    have e9 : hI (hv σ f) (M + 6) i = nI (S.2 9 i - 1) := (h.a9 (by omega)).trans (e1_of (by omega))
    have e9' : f (M + 6) i = nI (S.2 9 i - 1) := e9
    have n1 : ¬ nI (S.2 9 i - 1) = nI j := by
      rw [eq_lit (by omega) (by omega)]
      omega
    have e88 : ∀ y0 y1, F_X10_causes_88 (hv σ f) M (nI i) (e1 (whr S j)) (nI y0) (nI y1) = some (nI (y1 + y0 + if ¬ whr S j = 0 ∧ (whr S j - 1) % 6 = i % 6 ∧ jl S ((whr S j - 1) / 6) (i / 6) (S.1 1) = 1 then 4 else 0), hv σ f) := fun y0 y1 => by
      by_cases w0 : whr S j = 0
      · simp (decide := true) (disch := omega) only [F_X10_causes_88, b1_some, b2_some, litI, neg1, nI_add, nI_mul, e1_p1, nI_e0, ib, ib1, ite_not, if_true, if_false, not_true_eq_false, not_false_eq_true, setI_hv, w0, false_and, Nat.add_zero]
      · by_cases w1 : (whr S j - 1) % 6 = i % 6
        · have jo := m_joined g h (a := (whr S j - 1) / 6) (b := i / 6) (by omega) (by omega)
          rcases jl_01 S ((whr S j - 1) / 6) (i / 6) (S.1 1) with z | z
          · simp (decide := true) (disch := omega) only [F_X10_causes_88, b1_some, b2_some, litI, neg1, nI_add, nI_mul, e1_p1, nI_e0, ib, ib1, ite_not, if_true, if_false, not_true_eq_false, not_false_eq_true, setI_hv, e1_of, w0, c6, r6', eq_lit, w1, jo, z, and_false]
          · simp (decide := true) (disch := omega) only [F_X10_causes_88, b1_some, b2_some, litI, neg1, nI_add, nI_mul, e1_p1, nI_e0, ib, ib1, ite_not, if_true, if_false, not_true_eq_false, not_false_eq_true, setI_hv, e1_of, w0, c6, r6', eq_lit, w1, jo, z, and_self]
        · simp (decide := true) (disch := omega) only [F_X10_causes_88, b1_some, b2_some, litI, neg1, nI_add, nI_mul, e1_p1, nI_e0, ib, ib1, ite_not, if_true, if_false, not_true_eq_false, not_false_eq_true, setI_hv, e1_of, w0, c6, r6', eq_lit, w1, and_false, false_and]
    by_cases q3 : S.1 6 ≤ lkn S j (S.2 9 i - 1) <;> by_cases q4 : S.2 11 i = j + 1
    · simp (decide := true) (disch := omega) only [F_X10_causes_69, gd_hv s.1, gI_hv s.1, pI_hv s.1, s.R9, s.A9, s.W9, s.R11, s.A11, s.W11, b1_some, b2_some, litI, neg1, nI_add, nI_mul, e1_p1, nI_e0, ib, ib1, ite_not, if_true, if_false, not_true_eq_false, not_false_eq_true, setI_hv, qi, qj, e9', n1, m_where' g h, lk, h.s6, h.a11, lt_lit, e1_nI, q1, q2, q3, q4, e88, cl_I, and_self, or_self, show ¬ lkn S j (S.2 9 i - 1) < S.1 6 by omega]
    · simp (decide := true) (disch := omega) only [F_X10_causes_69, gd_hv s.1, gI_hv s.1, pI_hv s.1, s.R9, s.A9, s.W9, s.R11, s.A11, s.W11, b1_some, b2_some, litI, neg1, nI_add, nI_mul, e1_p1, nI_e0, ib, ib1, ite_not, if_true, if_false, not_true_eq_false, not_false_eq_true, setI_hv, qi, qj, e9', n1, m_where' g h, lk, h.s6, h.a11, lt_lit, e1_nI, q1, q2, q3, q4, e88, cl_I, and_self, or_self, show ¬ lkn S j (S.2 9 i - 1) < S.1 6 by omega]
    · simp (decide := true) (disch := omega) only [F_X10_causes_69, gd_hv s.1, gI_hv s.1, pI_hv s.1, s.R9, s.A9, s.W9, s.R11, s.A11, s.W11, b1_some, b2_some, litI, neg1, nI_add, nI_mul, e1_p1, nI_e0, ib, ib1, ite_not, if_true, if_false, not_true_eq_false, not_false_eq_true, setI_hv, qi, qj, e9', n1, m_where' g h, lk, h.s6, h.a11, lt_lit, e1_nI, q1, q2, q3, q4, e88, cl_I, and_self, or_self, show lkn S j (S.2 9 i - 1) < S.1 6 by omega]
    · simp (decide := true) (disch := omega) only [F_X10_causes_69, gd_hv s.1, gI_hv s.1, pI_hv s.1, s.R9, s.A9, s.W9, s.R11, s.A11, s.W11, b1_some, b2_some, litI, neg1, nI_add, nI_mul, e1_p1, nI_e0, ib, ib1, ite_not, if_true, if_false, not_true_eq_false, not_false_eq_true, setI_hv, qi, qj, e9', n1, m_where' g h, lk, h.s6, h.a11, lt_lit, e1_nI, q1, q2, q3, q4, e88, cl_I, and_self, or_self, show lkn S j (S.2 9 i - 1) < S.1 6 by omega]
  · repeat' split
    all_goals exact h
theorem x_causes (N : Nat) (c t : Int32) : OkXf N (fun σ => F_X0_causes σ N c t) (oCauses c t) := by
  intro σ f S g h
  have s : SX N σ := h.1
  simp only [F_X0_causes, oCauses, gd_hv s.t0, x0_isThing, x0_isCorner, b2_some]
  rcases in_split c 0 47 (by omega) (by omega) with ⟨i, -, hi, rfl⟩ | hk
  case inr => simp (decide := true) (disch := omega) only [b1_some, b2_some, litI, neg1, nI_add, nI_mul, e1_p1, nI_e0, ib, ib1, ite_not, if_true, if_false, not_true_eq_false, not_false_eq_true, setI_hv, hk, false_and]; exact ⟨_, rfl, h, fun _ _ _ => rfl⟩
  have qi := eq_true (inR_of (Nat.zero_le i) hi (by omega))
  rcases in_split t 0 23 (by omega) (by omega) with ⟨j, -, hj, rfl⟩ | hk
  case inr => simp (decide := true) (disch := omega) only [b1_some, b2_some, litI, neg1, nI_add, nI_mul, e1_p1, nI_e0, ib, ib1, ite_not, if_true, if_false, not_true_eq_false, not_false_eq_true, setI_hv, qi, hk, and_false]; exact ⟨_, rfl, h, fun _ _ _ => rfl⟩
  have qj := eq_true (inR_of (Nat.zero_le j) hj (by omega))
  have hw := whr_le S j
  have b := g.cn (c := i) (by omega)
  have tl := g.tl
  have th := s.h12.there (f := f) (c := i) (by omega) (by omega : S.2 9 i < 1000) (h.a9 (by omega))
  have gh := s.h12.ghost (f := f) (c := i) (by omega) (by omega : S.2 11 i < 1000) (by omega : S.2 12 i < 1000) (h.a11 (by omega)) (h.a12 (by omega))
  refine ⟨f, ?_, ?_, fun _ _ _ => rfl⟩
  · by_cases q1 : S.2 9 i = 0
    · simp (decide := true) (disch := omega) only [gd_hv s.t0, gI_hv s.t0, pI_hv s.t0, s.R7, s.R12_0, s.C12, s.h12.CD, s.h12.CI, s.h12.CW, s.h12.G, s.h12.GD, s.h12.GI, s.h12.GW, th, b1_some, b2_some, litI, neg1, nI_add, nI_mul, e1_p1, nI_e0, ib, ib1, ite_not, if_true, if_false, not_true_eq_false, not_false_eq_true, setI_hv, qi, qj, q1, cl_I, and_self, true_or, ne_eq]
    by_cases q2 : S.2 9 i = j + 1
    · simp (decide := true) (disch := omega) only [gd_hv s.t0, gI_hv s.t0, pI_hv s.t0, s.R7, s.R12_0, s.C12, s.h12.CD, s.h12.CI, s.h12.CW, s.h12.G, s.h12.GD, s.h12.GI, s.h12.GW, th, b1_some, b2_some, litI, neg1, nI_add, nI_mul, e1_p1, nI_e0, ib, ib1, ite_not, if_true, if_false, not_true_eq_false, not_false_eq_true, setI_hv, qi, qj, h.a9, e1_s, q1, q2, cl_I, and_self, or_true, ite_self, ne_eq, eq_lit]
    have e9' : f (N + 12 + (2 + 2 * i)) 0 = nI (S.2 9 i - 1) := (h.a9 (by omega)).trans (e1_of (by omega))
    have lk := xl_isLike g s h.lk (a := j) (b := S.2 9 i - 1) (by omega) (by omega)
    have n1 : ¬ nI (S.2 9 i - 1) = nI j := by
      rw [eq_lit (by omega) (by omega)]
      omega
    have e99 : ∀ y0 y1, F_X0_causes_99 (hv σ f) N (nI i) (e1 (whr S j)) (nI y0) (nI y1) = some (nI (y1 + y0 + if ¬ whr S j = 0 ∧ (whr S j - 1) % 6 = i % 6 ∧ jl S ((whr S j - 1) / 6) (i / 6) (S.1 1) = 1 then 4 else 0), hv σ f) := fun y0 y1 => by
      by_cases w0 : whr S j = 0
      · simp (decide := true) (disch := omega) only [F_X0_causes_99, b1_some, b2_some, litI, neg1, nI_add, nI_mul, e1_p1, nI_e0, ib, ib1, ite_not, if_true, if_false, not_true_eq_false, not_false_eq_true, setI_hv, w0, false_and, Nat.add_zero]
      · by_cases w1 : (whr S j - 1) % 6 = i % 6
        · rcases jl_01 S ((whr S j - 1) / 6) (i / 6) (S.1 1) with z | z
          · simp (decide := true) (disch := omega) only [F_X0_causes_99, gd_hv s.t0, gI_hv s.t0, pI_hv s.t0, s.R0, s.J, s.AJ, h.jo, b1_some, b2_some, litI, neg1, nI_add, nI_mul, e1_p1, nI_e0, ib, ib1, ite_not, if_true, if_false, not_true_eq_false, not_false_eq_true, setI_hv, e1_of, w0, c6, r6', eq_lit, w1, z, and_false]
          · simp (decide := true) (disch := omega) only [F_X0_causes_99, gd_hv s.t0, gI_hv s.t0, pI_hv s.t0, s.R0, s.J, s.AJ, h.jo, b1_some, b2_some, litI, neg1, nI_add, nI_mul, e1_p1, nI_e0, ib, ib1, ite_not, if_true, if_false, not_true_eq_false, not_false_eq_true, setI_hv, e1_of, w0, c6, r6', eq_lit, w1, z, and_self]
        · simp (decide := true) (disch := omega) only [F_X0_causes_99, b1_some, b2_some, litI, neg1, nI_add, nI_mul, e1_p1, nI_e0, ib, ib1, ite_not, if_true, if_false, not_true_eq_false, not_false_eq_true, setI_hv, e1_of, w0, c6, r6', eq_lit, w1, and_false, false_and]
    have e69 : ∀ y1, F_X0_causes_69 (hv σ f) N (nI i) (nI j) (N + 12 + (2 + 2 * i)) (e1 (whr S j)) (nI y1) = some (nI (y1 + (if S.2 11 i = j + 1 then 2 else 0) + if ¬ whr S j = 0 ∧ (whr S j - 1) % 6 = i % 6 ∧ jl S ((whr S j - 1) / 6) (i / 6) (S.1 1) = 1 then 4 else 0), hv σ f) := fun y1 => by
      by_cases w0 : S.2 11 i = 0
      · simp (decide := true) (disch := omega) only [F_X0_causes_69, F_X0_causes_98, s.R7, s.R12_0, s.C12, s.h12.CD, s.h12.CI, s.h12.CW, s.h12.G, s.h12.GD, s.h12.GI, s.h12.GW, gh, b1_some, b2_some, litI, neg1, nI_add, nI_mul, e1_p1, nI_e0, ib, ib1, ite_not, if_true, if_false, not_true_eq_false, not_false_eq_true, setI_hv, w0, ne_eq, false_and, e99, show ¬ (0 = j + 1) by omega]
      · have w1 : ¬ S.2 12 i = 0 := by omega
        by_cases w2 : S.2 11 i = j + 1
        · simp (decide := true) (disch := omega) only [F_X0_causes_69, F_X0_causes_98, s.R7, s.R12_0, s.C12, s.h12.CD, s.h12.CI, s.h12.CW, s.h12.G, s.h12.GD, s.h12.GI, s.h12.GW, gh, b1_some, b2_some, litI, neg1, nI_add, nI_mul, e1_p1, nI_e0, ib, ib1, ite_not, if_true, if_false, not_true_eq_false, not_false_eq_true, setI_hv, w0, w1, ne_eq, and_self, and_true, e99, h.a11, e1_nI, eq_lit, w2, e1_s, show ¬ (j + 1 = 0) by omega]
        · simp (decide := true) (disch := omega) only [F_X0_causes_69, F_X0_causes_98, s.R7, s.R12_0, s.C12, s.h12.CD, s.h12.CI, s.h12.CW, s.h12.G, s.h12.GD, s.h12.GI, s.h12.GW, gh, b1_some, b2_some, litI, neg1, nI_add, nI_mul, e1_p1, nI_e0, ib, ib1, ite_not, if_true, if_false, not_true_eq_false, not_false_eq_true, setI_hv, w0, w1, ne_eq, and_self, e99, h.a11, e1_nI, eq_lit, w2]
    by_cases q3 : S.1 6 ≤ lkn S j (S.2 9 i - 1)
    · simp (decide := true) (disch := omega) only [gd_hv s.t0, gI_hv s.t0, pI_hv s.t0, s.R7, s.R12_0, s.C12, s.h12.CD, s.h12.CI, s.h12.CW, s.h12.G, s.h12.GD, s.h12.GI, s.h12.GW, th, b1_some, b2_some, litI, neg1, nI_add, nI_mul, e1_p1, nI_e0, ib, ib1, ite_not, if_true, if_false, not_true_eq_false, not_false_eq_true, setI_hv, qi, qj, e9', n1, x_where' g h, lk, q1, q2, q3, e69, cl_I, and_self, or_self, ne_eq, eq_lit]
    · simp (decide := true) (disch := omega) only [gd_hv s.t0, gI_hv s.t0, pI_hv s.t0, s.R7, s.R12_0, s.C12, s.h12.CD, s.h12.CI, s.h12.CW, s.h12.G, s.h12.GD, s.h12.GI, s.h12.GW, th, b1_some, b2_some, litI, neg1, nI_add, nI_mul, e1_p1, nI_e0, ib, ib1, ite_not, if_true, if_false, not_true_eq_false, not_false_eq_true, setI_hv, qi, qj, e9', n1, x_where' g h, lk, q1, q2, q3, e69, cl_I, and_self, or_self, ne_eq, eq_lit]
  · repeat' split
    all_goals exact h
end
section
set_option maxRecDepth 100000
/-! pure law 16: count -/
def ghs (S : St) : Nat := sumR (fun c => if S.2 11 c = 0 then 0 else 1) 0 48
def sts (T K : Nat → Nat) : Nat := sumR (fun c => if T c = 0 then 0 else K c) 0 48
def std (S : St) : Nat := sumR (fun r => stn (S.2 9) r) 0 8
def oCount (w : Int32) (S : St) : Int32 × St := (if w = nI 0 then nI (S.1 0) else if w = nI 1 then nI (S.1 1) else if w = nI 2 then nI (std S) else if w = nI 3 then nI (ghs S) else if w = nI 4 then nI (sts (S.2 9) (S.2 10)) else if w = nI 5 then nI (S.1 19) else if w = nI 6 then nI (S.1 29) else -3, S)
theorem m_std {M : Nat} {σ : Hp} {f : Nat → Nat → Int32} {S : St} (g : Good S) (h : RepM M (hv σ f) S) : L_X10_count_56 M FU (hv σ f, nI 0, nI 0) = some (nI (std S), hv σ f) := by
  unfold L_X10_count_56
  obtain ⟨m, hm⟩ := it_FU (body := fun rec st => B_X10_count_56 M rec st.1 st.2.1 st.2.2) (fun i => (hv σ f, nI (sumR (fun r => stn (S.2 9) r) 0 i), nI i)) 0 8 (by omega) (by omega) (fun i _ hi rec => by
    show B_X10_count_56 M rec (hv σ f) (nI (sumR (fun r => stn (S.2 9) r) 0 i)) (nI i) = rec (hv σ f, nI (sumR (fun r => stn (S.2 9) r) 0 i + stn (S.2 9) (0 + i)), nI (i + 1))
    simp (decide := true) (disch := omega) only [B_X10_count_56, b1_some, b2_some, litI, neg1, nI_add, nI_mul, e1_p1, nI_e0, ib, ib1, ite_not, if_true, if_false, not_true_eq_false, not_false_eq_true, setI_hv, le_lit, show ¬ 8 ≤ i by omega, m_stand g h, Nat.zero_add])
  refine hm.trans ?_
  simp (decide := true) (disch := omega) only [B_X10_count_56, b1_some, b2_some, litI, neg1, nI_add, nI_mul, e1_p1, nI_e0, ib, ib1, ite_not, if_true, if_false, not_true_eq_false, not_false_eq_true, setI_hv, le_lit, Nat.le_refl]
  rfl
theorem m_ghs {M : Nat} {σ : Hp} {f : Nat → Nat → Int32} {S : St} (g : Good S) (h : RepM M (hv σ f) S) : L_X10_count_80 (hv σ f) M FU (nI 0, nI 0) = some (nI (ghs S), hv σ f) := by
  have s : SM M σ := h.1
  unfold L_X10_count_80
  obtain ⟨m, hm⟩ := it_FU (body := fun rec st => B_X10_count_80 (hv σ f) M rec st.1 st.2) (fun i => (nI (sumR (fun c => if S.2 11 c = 0 then 0 else 1) 0 i), nI i)) 0 48 (by omega) (by omega) (fun i _ hi rec => by
    have b := g.cn hi
    show B_X10_count_80 (hv σ f) M rec (nI (sumR (fun c => if S.2 11 c = 0 then 0 else 1) 0 i)) (nI i) = rec (nI (sumR (fun c => if S.2 11 c = 0 then 0 else 1) 0 i + if S.2 11 (0 + i) = 0 then 0 else 1), nI (i + 1))
    rw [Nat.zero_add]
    by_cases q : S.2 11 i = 0
    · simp (decide := true) (disch := omega) only [B_X10_count_80, gd_hv s.1, gI_hv s.1, pI_hv s.1, s.R11, s.A11, s.W11, b1_some, b2_some, litI, neg1, nI_add, nI_mul, e1_p1, nI_e0, ib, ib1, ite_not, if_true, if_false, not_true_eq_false, not_false_eq_true, setI_hv, le_lit, show ¬ 48 ≤ i by omega, h.a11, e1_inj, q]
    · simp (decide := true) (disch := omega) only [B_X10_count_80, gd_hv s.1, gI_hv s.1, pI_hv s.1, s.R11, s.A11, s.W11, b1_some, b2_some, litI, neg1, nI_add, nI_mul, e1_p1, nI_e0, ib, ib1, ite_not, if_true, if_false, not_true_eq_false, not_false_eq_true, setI_hv, le_lit, show ¬ 48 ≤ i by omega, h.a11, e1_inj, q])
  refine hm.trans ?_
  simp (decide := true) (disch := omega) only [B_X10_count_80, b1_some, b2_some, litI, neg1, nI_add, nI_mul, e1_p1, nI_e0, ib, ib1, ite_not, if_true, if_false, not_true_eq_false, not_false_eq_true, setI_hv, le_lit, Nat.le_refl]
  rfl
theorem m_sts {M : Nat} {σ : Hp} {f : Nat → Nat → Int32} {S : St} (g : Good S) (h : RepM M (hv σ f) S) : L_X10_count_114 (hv σ f) M FU (nI 0, nI 0) = some (nI (sts (S.2 9) (S.2 10)), hv σ f) := by
  have s : SM M σ := h.1
  unfold L_X10_count_114
  obtain ⟨m, hm⟩ := it_FU (body := fun rec st => B_X10_count_114 (hv σ f) M rec st.1 st.2) (fun i => (nI (sumR (fun c => if S.2 9 c = 0 then 0 else S.2 10 c) 0 i), nI i)) 0 48 (by omega) (by omega) (fun i _ hi rec => by
    have b := g.cn hi
    show B_X10_count_114 (hv σ f) M rec (nI (sumR (fun c => if S.2 9 c = 0 then 0 else S.2 10 c) 0 i)) (nI i) = rec (nI (sumR (fun c => if S.2 9 c = 0 then 0 else S.2 10 c) 0 i + if S.2 9 (0 + i) = 0 then 0 else S.2 10 (0 + i)), nI (i + 1))
    rw [Nat.zero_add]
    by_cases q : S.2 9 i = 0
    · simp (decide := true) (disch := omega) only [B_X10_count_114, gd_hv s.1, gI_hv s.1, pI_hv s.1, s.R9, s.A9, s.W9, s.R10, s.A10, s.W10, b1_some, b2_some, litI, neg1, nI_add, nI_mul, e1_p1, nI_e0, ib, ib1, ite_not, if_true, if_false, not_true_eq_false, not_false_eq_true, setI_hv, le_lit, show ¬ 48 ≤ i by omega, h.a9, e1_inj, q]
    · simp (decide := true) (disch := omega) only [B_X10_count_114, gd_hv s.1, gI_hv s.1, pI_hv s.1, s.R9, s.A9, s.W9, s.R10, s.A10, s.W10, b1_some, b2_some, litI, neg1, nI_add, nI_mul, e1_p1, nI_e0, ib, ib1, ite_not, if_true, if_false, not_true_eq_false, not_false_eq_true, setI_hv, le_lit, show ¬ 48 ≤ i by omega, h.a9, h.a10, e1_inj, q])
  refine hm.trans ?_
  simp (decide := true) (disch := omega) only [B_X10_count_114, b1_some, b2_some, litI, neg1, nI_add, nI_mul, e1_p1, nI_e0, ib, ib1, ite_not, if_true, if_false, not_true_eq_false, not_false_eq_true, setI_hv, le_lit, Nat.le_refl]
  rfl
theorem m_count (M : Nat) (w : Int32) : OkMf M (fun σ => F_X10_count σ M w) (oCount w) := by
  intro σ f S g h
  have s : SM M σ := h.1
  refine ⟨f, ?_, h, fun _ _ _ => rfl⟩
  simp (decide := true) (disch := omega) only [F_X10_count, oCount, gd_hv s.1, gI_hv s.1, pI_hv s.1, b1_some, b2_some, litI, neg1, nI_add, nI_mul, e1_p1, nI_e0, ib, ib1, ite_not, if_true, if_false, not_true_eq_false, not_false_eq_true, setI_hv, m_std g h, m_ghs g h, m_sts g h, h.s0, h.s1, h.s19, h.s29]
  repeat' split
  all_goals rfl
theorem x_std {N : Nat} {σ : Hp} {f : Nat → Nat → Int32} {S : St} (g : Good S) (h : RepX N (hv σ f) S) : L_X0_count_56 N FU (hv σ f, nI 0, nI 0) = some (nI (std S), hv σ f) := by
  have s : SX N σ := h.1
  unfold L_X0_count_56
  obtain ⟨m, hm⟩ := it_FU (body := fun rec st => B_X0_count_56 N rec st.1 st.2.1 st.2.2) (fun i => (hv σ f, nI (sumR (fun r => stn (S.2 9) r) 0 i), nI i)) 0 8 (by omega) (by omega) (fun i _ hi rec => by
    show B_X0_count_56 N rec (hv σ f) (nI (sumR (fun r => stn (S.2 9) r) 0 i)) (nI i) = rec (hv σ f, nI (sumR (fun r => stn (S.2 9) r) 0 i + stn (S.2 9) (0 + i)), nI (i + 1))
    simp (decide := true) (disch := omega) only [B_X0_count_56, gd_hv s.t0, gI_hv s.t0, pI_hv s.t0, s.R7, b1_some, b2_some, litI, neg1, nI_add, nI_mul, e1_p1, nI_e0, ib, ib1, ite_not, if_true, if_false, not_true_eq_false, not_false_eq_true, setI_hv, le_lit, show ¬ 8 ≤ i by omega, x_held s.h12 h.hd g.hb, Nat.zero_add])
  refine hm.trans ?_
  simp (decide := true) (disch := omega) only [B_X0_count_56, b1_some, b2_some, litI, neg1, nI_add, nI_mul, e1_p1, nI_e0, ib, ib1, ite_not, if_true, if_false, not_true_eq_false, not_false_eq_true, setI_hv, le_lit, Nat.le_refl]
  rfl
theorem x_ghs {N : Nat} {σ : Hp} {f : Nat → Nat → Int32} {S : St} (g : Good S) (h : RepX N (hv σ f) S) : L_X0_count_83 N FU (hv σ f, nI 0, nI 0) = some (nI (ghs S), hv σ f) := by
  have s : SX N σ := h.1
  unfold L_X0_count_83
  obtain ⟨m, hm⟩ := it_FU (body := fun rec st => B_X0_count_83 N rec st.1 st.2.1 st.2.2) (fun i => (hv σ f, nI (sumR (fun c => if S.2 11 c = 0 then 0 else 1) 0 i), nI i)) 0 48 (by omega) (by omega) (fun i _ hi rec => by
    have b := g.cn hi
    have gh := s.h12.ghost (f := f) hi (by omega : S.2 11 i < 1000) (by omega : S.2 12 i < 1000) (h.a11 hi) (h.a12 hi)
    show B_X0_count_83 N rec (hv σ f) (nI (sumR (fun c => if S.2 11 c = 0 then 0 else 1) 0 i)) (nI i) = rec (hv σ f, nI (sumR (fun c => if S.2 11 c = 0 then 0 else 1) 0 i + if S.2 11 (0 + i) = 0 then 0 else 1), nI (i + 1))
    rw [Nat.zero_add]
    by_cases q : S.2 11 i = 0
    · simp (decide := true) (disch := omega) only [B_X0_count_83, gd_hv s.t0, gI_hv s.t0, pI_hv s.t0, s.R7, s.R12_0, s.C12, s.h12.CD, s.h12.CI, s.h12.CW, s.h12.G, s.h12.GD, s.h12.GI, s.h12.GW, gh, b1_some, b2_some, litI, neg1, nI_add, nI_mul, e1_p1, nI_e0, ib, ib1, ite_not, if_true, if_false, not_true_eq_false, not_false_eq_true, setI_hv, le_lit, show ¬ 48 ≤ i by omega, q, ne_eq, false_and]
    · have q2 : ¬ S.2 12 i = 0 := by omega
      simp (decide := true) (disch := omega) only [B_X0_count_83, gd_hv s.t0, gI_hv s.t0, pI_hv s.t0, s.R7, s.R12_0, s.C12, s.h12.CD, s.h12.CI, s.h12.CW, s.h12.G, s.h12.GD, s.h12.GI, s.h12.GW, gh, b1_some, b2_some, litI, neg1, nI_add, nI_mul, e1_p1, nI_e0, ib, ib1, ite_not, if_true, if_false, not_true_eq_false, not_false_eq_true, setI_hv, le_lit, eq_lit, show ¬ 48 ≤ i by omega, q, q2, ne_eq, and_self])
  refine hm.trans ?_
  simp (decide := true) (disch := omega) only [B_X0_count_83, b1_some, b2_some, litI, neg1, nI_add, nI_mul, e1_p1, nI_e0, ib, ib1, ite_not, if_true, if_false, not_true_eq_false, not_false_eq_true, setI_hv, le_lit, Nat.le_refl]
  rfl
theorem x_sts {N H : Nat} {σ : Hp} {f : Nat → Nat → Int32} {T K G W : Nat → Nat} (hs : HS N H σ) (hd : HD H f T K G W) (hb : HB T K G W) : F_X1_strength (hv σ f) H = some (nI (sts T K), hv σ f) := by
  have e0 : L_X1_strength_13 (H + 1) (nI 48) FU (hv σ f, nI 0, nI 0) = some (nI (sts T K), hv σ f) := by
    unfold L_X1_strength_13
    obtain ⟨m, hm⟩ := it_FU (body := fun rec st => B_X1_strength_13 (H + 1) (nI 48) rec st.1 st.2.1 st.2.2) (fun i => (hv σ f, nI (sumR (fun c => if T c = 0 then 0 else K c) 0 i), nI i)) 0 48 (by omega) (by omega) (fun i _ hi rec => by
      have b := hb i hi
      have d := hd i hi
      have th := hs.there (f := f) hi (by omega : T i < 1000) d.1
      show B_X1_strength_13 (H + 1) (nI 48) rec (hv σ f) (nI (sumR (fun c => if T c = 0 then 0 else K c) 0 i)) (nI i) = rec (hv σ f, nI (sumR (fun c => if T c = 0 then 0 else K c) 0 i + if T (0 + i) = 0 then 0 else K (0 + i)), nI (i + 1))
      rw [Nat.zero_add]
      by_cases q : T i = 0
      · simp (decide := true) (disch := omega) only [B_X1_strength_13, hs.D, hs.R0, hs.R1, hs.N, hs.C, hs.CD, hs.CI, hs.CW, hs.G, hs.GD, hs.GI, hs.GW, th, b1_some, b2_some, litI, neg1, nI_add, nI_mul, e1_p1, nI_e0, ib, ib1, ite_not, if_true, if_false, not_true_eq_false, not_false_eq_true, setI_hv, le_lit, show ¬ 48 ≤ i by omega, q, ne_eq]
      · simp (decide := true) (disch := omega) only [B_X1_strength_13, hs.D, hs.R0, hs.R1, hs.N, hs.C, hs.CD, hs.CI, hs.CW, hs.G, hs.GD, hs.GI, hs.GW, th, b1_some, b2_some, litI, neg1, nI_add, nI_mul, e1_p1, nI_e0, ib, ib1, ite_not, if_true, if_false, not_true_eq_false, not_false_eq_true, setI_hv, le_lit, eq_lit, show ¬ 48 ≤ i by omega, q, ne_eq, d.2.1])
    refine hm.trans ?_
    simp (decide := true) (disch := omega) only [B_X1_strength_13, b1_some, b2_some, litI, neg1, nI_add, nI_mul, e1_p1, nI_e0, ib, ib1, ite_not, if_true, if_false, not_true_eq_false, not_false_eq_true, setI_hv, le_lit, Nat.le_refl]
    rfl
  simp (decide := true) (disch := omega) only [F_X1_strength, hs.D, hs.R0, hs.R1, hs.N, hs.C, hs.CD, hs.CI, hs.CW, hs.G, hs.GD, hs.GI, hs.GW, b1_some, b2_some, litI, neg1, nI_add, nI_mul, e1_p1, nI_e0, ib, ib1, ite_not, if_true, if_false, not_true_eq_false, not_false_eq_true, setI_hv, e0]
theorem x_count (N : Nat) (w : Int32) : OkXf N (fun σ => F_X0_count σ N w) (oCount w) := by
  intro σ f S g h
  have s : SX N σ := h.1
  refine ⟨f, ?_, h, fun _ _ _ => rfl⟩
  simp (decide := true) (disch := omega) only [F_X0_count, oCount, gd_hv s.t0, gI_hv s.t0, pI_hv s.t0, s.R7, b1_some, b2_some, litI, neg1, nI_add, nI_mul, e1_p1, nI_e0, ib, ib1, ite_not, if_true, if_false, not_true_eq_false, not_false_eq_true, setI_hv, x_std g h, x_ghs g h, x_sts s.h12 h.hd g.hb, h.s0, h.s1, h.s19, h.s29]
  repeat' split
  all_goals rfl
end
section
set_option maxRecDepth 100000
/-! pure law 17: right -/
theorem it_gcd {β : Type} (body : (Int32 × Int32 → Option β) → Int32 × Int32 → Option β) (ex : Nat → Option β) (h0 : ∀ rec x, x < 1000 → body rec (nI x, nI 0) = ex x) (h1 : ∀ rec x y, 0 < y → x < 1000 → y < 1000 → body rec (nI x, nI y) = rec (nI y, nI (x % y))) : ∀ n x y, x < 1000 → y < 1000 → y < n → it body n (nI x, nI y) = ex (Nat.gcd x y) := by
  intro n
  induction n with
  | zero => intro x y _ _ h; omega
  | succ n ih =>
    intro x y hx hy h
    rw [it_s]
    by_cases q : y = 0
    · subst q
      rw [h0 _ x hx, Nat.gcd_zero_right]
    · have m := Nat.mod_lt x (by omega : 0 < y)
      rw [h1 _ x y (by omega) hx hy, ih y (x % y) hy (by omega) (by omega), Nat.gcd_comm x y, Nat.gcd_rec y x, Nat.gcd_comm]
theorem dz_ok {ρ : Type} {n : Nat} {k : Option ρ} (h0 : 0 < n) (h : n < 2147483648) : dz (nI n) k = k := if_neg (by
  rw [litI 0, eq_lit h (by omega)]
  omega)
def rtf (S : St) (c k : Nat) : Nat := if k = c then 0 else if S.2 9 k = 0 then 0 else if S.1 6 ≤ lkn S (S.2 9 k - 1) (S.2 9 c - 1) then S.2 10 k else 0
def rta (S : St) (c : Nat) : Nat → Nat
  | 0 => S.2 10 c + S.2 12 c
  | i + 1 => rta S c i + rtf S c (6 * (c / 6) + i)
theorem rta_le {S : St} (g : Good S) {c : Nat} (hc : c < 48) : ∀ i, i ≤ 6 → rta S c i ≤ 200 + 100 * i
  | 0, _ => by
    have := g.cn hc
    show S.2 10 c + S.2 12 c ≤ _
    omega
  | i + 1, hi => by
    have ih := rta_le g hc i (by omega)
    have b := g.cn (c := 6 * (c / 6) + i) (by omega)
    have : rtf S c (6 * (c / 6) + i) ≤ 100 := by
      unfold rtf
      repeat' split
      all_goals omega
    show rta S c i + rtf S c (6 * (c / 6) + i) ≤ _
    omega
def rtr (S : St) (c : Nat) (p : Int32) : Int32 := if rta S c 6 = 0 then -4 else if p = nI 0 then nI (S.2 10 c / Nat.gcd (rta S c 6) (S.2 10 c)) else nI (rta S c 6 / Nat.gcd (rta S c 6) (S.2 10 c))
def oRight (c p : Int32) (S : St) : Int32 × St := if inR c 0 47 then (if inR p 0 1 then (if S.2 9 c.toNatClampNeg = 0 then (-4, S) else (rtr S c.toNatClampNeg p, S)) else (-3, S)) else (-2, S)
theorem m_right' {M : Nat} {σ : Hp} {f : Nat → Nat → Int32} {S : St} (g : Good S) (h : RepM M (hv σ f) S) {c : Nat} (hc : c < 48) (p : Int32) : F_X10_right_148 (hv σ f) M (nI c) p (nI (rta S c 6)) = some (rtr S c p, hv σ f) := by
  have s : SM M σ := h.1
  have ha := rta_le g hc 6 (by omega)
  have b := g.cn hc
  unfold rtr
  by_cases q : rta S c 6 = 0
  · simp (decide := true) (disch := omega) only [F_X10_right_148, b1_some, b2_some, litI, neg1, nI_add, nI_mul, e1_p1, nI_e0, ib, ib1, ite_not, if_true, if_false, not_true_eq_false, not_false_eq_true, setI_hv, q]
  have gp : 0 < Nat.gcd (rta S c 6) (S.2 10 c) := Nat.gcd_pos_of_pos_left _ (by omega)
  have gl : Nat.gcd (rta S c 6) (S.2 10 c) ≤ rta S c 6 := Nat.le_of_dvd (by omega) (Nat.gcd_dvd_left _ _)
  have lp : L_X10_right_166 (hv σ f) M (nI c) p (nI (rta S c 6)) FU (nI (rta S c 6), nI (S.2 10 c)) = F_X10_right_189 (hv σ f) M (nI c) p (nI (rta S c 6)) (nI (Nat.gcd (rta S c 6) (S.2 10 c))) := by
    unfold L_X10_right_166
    refine it_gcd (fun rec st => B_X10_right_166 (hv σ f) M (nI c) p (nI (rta S c 6)) rec st.1 st.2) (fun x => F_X10_right_189 (hv σ f) M (nI c) p (nI (rta S c 6)) (nI x)) (fun rec x hx => ?_) (fun rec x y h0 hx hy => ?_) FU _ _ (by omega) (by omega) (FU_gt (by omega))
    · simp (decide := true) (disch := omega) only [B_X10_right_166, b1_some, b2_some, litI, neg1, nI_add, nI_mul, e1_p1, nI_e0, ib, ib1, ite_not, if_true, if_false, not_true_eq_false, not_false_eq_true, setI_hv]
    · have e : nI x - nI x / nI y * nI y = nI (x % y) := pk_rem (by omega) h0 (by omega)
      have e2 : (nI y = nI 0) = False := by rw [eq_lit (by omega) (by omega)]; exact eq_false (by omega)
      simp only [B_X10_right_166, litI, e2, if_false, e, dz_ok h0 (by omega)]
  simp (decide := true) (disch := omega) only [F_X10_right_148, gd_hv s.1, gI_hv s.1, pI_hv s.1, s.R10, s.A10, s.W10, b1_some, b2_some, litI, neg1, nI_add, nI_mul, e1_p1, nI_e0, ib, ib1, ite_not, if_true, if_false, not_true_eq_false, not_false_eq_true, setI_hv, eq_lit, q, h.a10, lp]
  have d1 : nI (S.2 10 c) / nI (Nat.gcd (rta S c 6) (S.2 10 c)) = nI (S.2 10 c / Nat.gcd (rta S c 6) (S.2 10 c)) := pk_div (by omega) gp (by omega)
  have d2 : nI (rta S c 6) / nI (Nat.gcd (rta S c 6) (S.2 10 c)) = nI (rta S c 6 / Nat.gcd (rta S c 6) (S.2 10 c)) := pk_div (by omega) gp (by omega)
  by_cases w : p = nI 0
  · simp (decide := true) (disch := omega) only [F_X10_right_189, gd_hv s.1, gI_hv s.1, pI_hv s.1, s.R10, s.A10, s.W10, b1_some, b2_some, litI, neg1, nI_add, nI_mul, e1_p1, nI_e0, ib, ib1, ite_not, if_true, if_false, not_true_eq_false, not_false_eq_true, setI_hv, h.a10, w, dz_ok, d1]
  · simp (decide := true) (disch := omega) only [F_X10_right_189, gd_hv s.1, gI_hv s.1, pI_hv s.1, s.R10, s.A10, s.W10, b1_some, b2_some, litI, neg1, nI_add, nI_mul, e1_p1, nI_e0, ib, ib1, ite_not, if_true, if_false, not_true_eq_false, not_false_eq_true, setI_hv, w, dz_ok, d2]
theorem m_right (M : Nat) (c p : Int32) : OkMf M (fun σ => F_X10_right σ M c p) (oRight c p) := by
  intro σ f S g h
  have s : SM M σ := h.1
  simp only [F_X10_right, oRight, gd_hv s.1, x10_isCorner, x10_inR _ p 0 1 0 1 rfl rfl, b2_some]
  rcases in_split c 0 47 (by omega) (by omega) with ⟨i, -, hi, rfl⟩ | hk
  case inr => simp (decide := true) (disch := omega) only [b1_some, b2_some, litI, neg1, nI_add, nI_mul, e1_p1, nI_e0, ib, ib1, ite_not, if_true, if_false, not_true_eq_false, not_false_eq_true, setI_hv, hk]; exact ⟨_, rfl, h, fun _ _ _ => rfl⟩
  have qi := eq_true (inR_of (Nat.zero_le i) hi (by omega))
  by_cases hp : inR p 0 1
  case neg => simp (decide := true) (disch := omega) only [b1_some, b2_some, litI, neg1, nI_add, nI_mul, e1_p1, nI_e0, ib, ib1, ite_not, if_true, if_false, not_true_eq_false, not_false_eq_true, setI_hv, qi, hp]; exact ⟨_, rfl, h, fun _ _ _ => rfl⟩
  have qp := eq_true hp
  have b := g.cn (c := i) (by omega)
  by_cases q : S.2 9 i = 0
  · simp (decide := true) (disch := omega) only [gd_hv s.1, gI_hv s.1, pI_hv s.1, s.R9, s.A9, s.W9, b1_some, b2_some, litI, neg1, nI_add, nI_mul, e1_p1, nI_e0, ib, ib1, ite_not, if_true, if_false, not_true_eq_false, not_false_eq_true, setI_hv, qi, qp, h.a9, e1_inj, q, cl_I]
    exact ⟨_, rfl, h, fun _ _ _ => rfl⟩
  have tl := g.tl
  obtain ⟨m, hm⟩ := it_FU (body := fun rec st => B_X10_right_72 M (nI i) p rec st.1 st.2.1 st.2.2) (fun j => (hv σ f, nI (rta S i j), nI (6 * (i / 6) + j))) 0 6 (by omega) (by omega) (fun j _ hj rec => by
    have hb := g.cn (c := 6 * (i / 6) + j) (by omega)
    have hl := lkn_le S (S.2 9 (6 * (i / 6) + j) - 1) (S.2 9 i - 1)
    show B_X10_right_72 M (nI i) p rec (hv σ f) (nI (rta S i j)) (nI (6 * (i / 6) + j)) = rec (hv σ f, nI (rta S i j + if 6 * (i / 6) + j = i then 0 else if S.2 9 (6 * (i / 6) + j) = 0 then 0 else if S.1 6 ≤ lkn S (S.2 9 (6 * (i / 6) + j) - 1) (S.2 9 i - 1) then S.2 10 (6 * (i / 6) + j) else 0), nI (6 * (i / 6) + j + 1))
    by_cases q1 : 6 * (i / 6) + j = i
    · simp (decide := true) (disch := omega) only [B_X10_right_72, b1_some, b2_some, litI, neg1, nI_add, nI_mul, e1_p1, nI_e0, ib, ib1, ite_not, if_true, if_false, not_true_eq_false, not_false_eq_true, setI_hv, c6, le_lit, eq_lit, q1, show ¬ i / 6 * 6 + 6 ≤ i by omega]
    · by_cases q2 : S.2 9 (6 * (i / 6) + j) = 0
      · simp (decide := true) (disch := omega) only [B_X10_right_72, gd_hv s.1, gI_hv s.1, pI_hv s.1, s.R9, s.A9, s.W9, b1_some, b2_some, litI, neg1, nI_add, nI_mul, e1_p1, nI_e0, ib, ib1, ite_not, if_true, if_false, not_true_eq_false, not_false_eq_true, setI_hv, c6, le_lit, eq_lit, h.a9, e1_inj, show ¬ i / 6 * 6 + 6 ≤ 6 * (i / 6) + j by omega, q1, q2]
      · by_cases q3 : S.1 6 ≤ lkn S (S.2 9 (6 * (i / 6) + j) - 1) (S.2 9 i - 1)
        · simp (decide := true) (disch := omega) only [B_X10_right_72, gd_hv s.1, gI_hv s.1, pI_hv s.1, s.R9, s.A9, s.W9, s.R10, s.A10, s.W10, b1_some, b2_some, litI, neg1, nI_add, nI_mul, e1_p1, nI_e0, ib, ib1, ite_not, if_true, if_false, not_true_eq_false, not_false_eq_true, setI_hv, c6, le_lit, lt_lit, eq_lit, h.a9, h.a10, h.s6, e1_of, m_lk g h, show ¬ i / 6 * 6 + 6 ≤ 6 * (i / 6) + j by omega, q1, q2, q3, show ¬ lkn S (S.2 9 (6 * (i / 6) + j) - 1) (S.2 9 i - 1) < S.1 6 by omega]
        · simp (decide := true) (disch := omega) only [B_X10_right_72, gd_hv s.1, gI_hv s.1, pI_hv s.1, s.R9, s.A9, s.W9, s.R10, s.A10, s.W10, b1_some, b2_some, litI, neg1, nI_add, nI_mul, e1_p1, nI_e0, ib, ib1, ite_not, if_true, if_false, not_true_eq_false, not_false_eq_true, setI_hv, c6, le_lit, lt_lit, eq_lit, h.a9, h.a10, h.s6, e1_of, m_lk g h, show ¬ i / 6 * 6 + 6 ≤ 6 * (i / 6) + j by omega, q1, q2, q3, show lkn S (S.2 9 (6 * (i / 6) + j) - 1) (S.2 9 i - 1) < S.1 6 by omega])
  have lp : L_X10_right_72 M (nI i) p FU (hv σ f, nI (S.2 10 i + S.2 12 i), nI (6 * (i / 6))) = some (rtr S i p, hv σ f) := by
    refine hm.trans ?_
    show B_X10_right_72 M (nI i) p m (hv σ f) (nI (rta S i 6)) (nI (6 * (i / 6) + 6)) = _
    unfold B_X10_right_72
    rw [if_pos (by rw [litI 6, c6 (by omega), nI_mul, nI_add, le_lit (by omega) (by omega)]; omega)]
    exact m_right' g h (by omega) p
  rw [Nat.mul_comm] at lp
  by_cases q2 : S.2 11 i = 0
  · have w0 : S.2 12 i = 0 := by omega
    rw [w0] at lp
    simp (decide := true) (disch := omega) only [gd_hv s.1, gI_hv s.1, pI_hv s.1, s.R9, s.A9, s.W9, s.R10, s.A10, s.W10, s.R11, s.A11, s.W11, s.R12, s.A12, s.W12, b1_some, b2_some, litI, neg1, nI_add, nI_mul, e1_p1, nI_e0, ib, ib1, ite_not, if_true, if_false, not_true_eq_false, not_false_eq_true, setI_hv, qi, qp, h.a9, h.a10, h.a11, e1_inj, q, q2, cl_I, c6, lp]
    exact ⟨_, rfl, h, fun _ _ _ => rfl⟩
  · simp (decide := true) (disch := omega) only [gd_hv s.1, gI_hv s.1, pI_hv s.1, s.R9, s.A9, s.W9, s.R10, s.A10, s.W10, s.R11, s.A11, s.W11, s.R12, s.A12, s.W12, b1_some, b2_some, litI, neg1, nI_add, nI_mul, e1_p1, nI_e0, ib, ib1, ite_not, if_true, if_false, not_true_eq_false, not_false_eq_true, setI_hv, qi, qp, h.a9, h.a10, h.a11, h.a12, e1_inj, q, q2, cl_I, c6, lp]
    exact ⟨_, rfl, h, fun _ _ _ => rfl⟩
theorem x_right' {N : Nat} {σ : Hp} {f : Nat → Nat → Int32} {S : St} (g : Good S) (h : RepX N (hv σ f) S) {c : Nat} (hc : c < 48) (p : Int32) : F_X0_right_158 (hv σ f) p (N + 12 + (2 + 2 * c)) (nI (rta S c 6)) = some (rtr S c p, hv σ f) := by
  have s : SX N σ := h.1
  have ha := rta_le g hc 6 (by omega)
  have b := g.cn hc
  unfold rtr
  by_cases q : rta S c 6 = 0
  · simp (decide := true) (disch := omega) only [F_X0_right_158, b1_some, b2_some, litI, neg1, nI_add, nI_mul, e1_p1, nI_e0, ib, ib1, ite_not, if_true, if_false, not_true_eq_false, not_false_eq_true, setI_hv, q]
  rw [Nat.gcd_comm]
  have gp : 0 < Nat.gcd (S.2 10 c) (rta S c 6) := Nat.gcd_pos_of_pos_right _ (by omega)
  have gl : Nat.gcd (S.2 10 c) (rta S c 6) ≤ rta S c 6 := Nat.le_of_dvd (by omega) (Nat.gcd_dvd_right _ _)
  have lp : L_X0_right_176 (hv σ f) p (N + 12 + (2 + 2 * c)) (nI (rta S c 6)) FU (nI (S.2 10 c), nI (rta S c 6)) = F_X0_right_199 (hv σ f) p (N + 12 + (2 + 2 * c)) (nI (rta S c 6)) (nI (Nat.gcd (S.2 10 c) (rta S c 6))) := by
    unfold L_X0_right_176
    refine it_gcd (fun rec st => B_X0_right_176 (hv σ f) p (N + 12 + (2 + 2 * c)) (nI (rta S c 6)) rec st.1 st.2) (fun x => F_X0_right_199 (hv σ f) p (N + 12 + (2 + 2 * c)) (nI (rta S c 6)) (nI x)) (fun rec x hx => ?_) (fun rec x y h0 hx hy => ?_) FU _ _ (by omega) (by omega) (FU_gt (by omega))
    · simp (decide := true) (disch := omega) only [B_X0_right_176, b1_some, b2_some, litI, neg1, nI_add, nI_mul, e1_p1, nI_e0, ib, ib1, ite_not, if_true, if_false, not_true_eq_false, not_false_eq_true, setI_hv]
    · have e : nI x - nI x / nI y * nI y = nI (x % y) := pk_rem (by omega) h0 (by omega)
      have e2 : (nI y = nI 0) = False := by rw [eq_lit (by omega) (by omega)]; exact eq_false (by omega)
      simp only [B_X0_right_176, litI, e2, if_false, e, dz_ok h0 (by omega)]
  simp (decide := true) (disch := omega) only [F_X0_right_158, s.R7, s.R12_0, s.C12, s.h12.CD, s.h12.CI, s.h12.CW, s.h12.G, s.h12.GD, s.h12.GI, s.h12.GW, b1_some, b2_some, litI, neg1, nI_add, nI_mul, e1_p1, nI_e0, ib, ib1, ite_not, if_true, if_false, not_true_eq_false, not_false_eq_true, setI_hv, eq_lit, q, h.a10, lp]
  have d1 : nI (S.2 10 c) / nI (Nat.gcd (S.2 10 c) (rta S c 6)) = nI (S.2 10 c / Nat.gcd (S.2 10 c) (rta S c 6)) := pk_div (by omega) gp (by omega)
  have d2 : nI (rta S c 6) / nI (Nat.gcd (S.2 10 c) (rta S c 6)) = nI (rta S c 6 / Nat.gcd (S.2 10 c) (rta S c 6)) := pk_div (by omega) gp (by omega)
  by_cases w : p = nI 0
  · simp (decide := true) (disch := omega) only [F_X0_right_199, s.R7, s.R12_0, s.C12, s.h12.CD, s.h12.CI, s.h12.CW, s.h12.G, s.h12.GD, s.h12.GI, s.h12.GW, b1_some, b2_some, litI, neg1, nI_add, nI_mul, e1_p1, nI_e0, ib, ib1, ite_not, if_true, if_false, not_true_eq_false, not_false_eq_true, setI_hv, h.a10, w, dz_ok, d1]
  · simp (decide := true) (disch := omega) only [F_X0_right_199, s.R7, s.R12_0, s.C12, s.h12.CD, s.h12.CI, s.h12.CW, s.h12.G, s.h12.GD, s.h12.GI, s.h12.GW, b1_some, b2_some, litI, neg1, nI_add, nI_mul, e1_p1, nI_e0, ib, ib1, ite_not, if_true, if_false, not_true_eq_false, not_false_eq_true, setI_hv, w, dz_ok, d2]
theorem x_right (N : Nat) (c p : Int32) : OkXf N (fun σ => F_X0_right σ N c p) (oRight c p) := by
  intro σ f S g h
  have s : SX N σ := h.1
  simp only [F_X0_right, oRight, gd_hv s.t0, x0_isCorner, x0_inR _ p 0 1 0 1 (by decide) (by decide), b2_some]
  rcases in_split c 0 47 (by omega) (by omega) with ⟨i, -, hi, rfl⟩ | hk
  case inr => simp (decide := true) (disch := omega) only [b1_some, b2_some, litI, neg1, nI_add, nI_mul, e1_p1, nI_e0, ib, ib1, ite_not, if_true, if_false, not_true_eq_false, not_false_eq_true, setI_hv, hk]; exact ⟨_, rfl, h, fun _ _ _ => rfl⟩
  have qi := eq_true (inR_of (Nat.zero_le i) hi (by omega))
  by_cases hp : inR p 0 1
  case neg => simp (decide := true) (disch := omega) only [b1_some, b2_some, litI, neg1, nI_add, nI_mul, e1_p1, nI_e0, ib, ib1, ite_not, if_true, if_false, not_true_eq_false, not_false_eq_true, setI_hv, qi, hp]; exact ⟨_, rfl, h, fun _ _ _ => rfl⟩
  have qp := eq_true hp
  have b := g.cn (c := i) (by omega)
  have th := s.h12.there (f := f) (c := i) (by omega) (by omega : S.2 9 i < 1000) (h.a9 (by omega))
  have gh := s.h12.ghost (f := f) (c := i) (by omega) (by omega : S.2 11 i < 1000) (by omega : S.2 12 i < 1000) (h.a11 (by omega)) (h.a12 (by omega))
  by_cases q : S.2 9 i = 0
  · simp (decide := true) (disch := omega) only [gd_hv s.t0, gI_hv s.t0, pI_hv s.t0, s.R7, s.R12_0, s.C12, s.h12.CD, s.h12.CI, s.h12.CW, s.h12.G, s.h12.GD, s.h12.GI, s.h12.GW, th, b1_some, b2_some, litI, neg1, nI_add, nI_mul, e1_p1, nI_e0, ib, ib1, ite_not, if_true, if_false, not_true_eq_false, not_false_eq_true, setI_hv, qi, qp, q, cl_I, ne_eq]
    exact ⟨_, rfl, h, fun _ _ _ => rfl⟩
  have tl := g.tl
  have e9' : f (N + 12 + (2 + 2 * i)) 0 = nI (S.2 9 i - 1) := (h.a9 (by omega)).trans (e1_of (by omega))
  obtain ⟨m, hm⟩ := it_FU (body := fun rec st => B_X0_right_84 N (nI i) p (N + 12 + (2 + 2 * i)) (nI (i / 6)) rec st.1 st.2.1 st.2.2) (fun j => (hv σ f, nI (rta S i j), nI (6 * (i / 6) + j))) 0 6 (by omega) (by omega) (fun j _ hj rec => by
    have hb := g.cn (c := 6 * (i / 6) + j) (by omega)
    have th := s.h12.there (f := f) (c := 6 * (i / 6) + j) (by omega) (by omega : S.2 9 (6 * (i / 6) + j) < 1000) (h.a9 (by omega))
    show B_X0_right_84 N (nI i) p (N + 12 + (2 + 2 * i)) (nI (i / 6)) rec (hv σ f) (nI (rta S i j)) (nI (6 * (i / 6) + j)) = rec (hv σ f, nI (rta S i j + if 6 * (i / 6) + j = i then 0 else if S.2 9 (6 * (i / 6) + j) = 0 then 0 else if S.1 6 ≤ lkn S (S.2 9 (6 * (i / 6) + j) - 1) (S.2 9 i - 1) then S.2 10 (6 * (i / 6) + j) else 0), nI (6 * (i / 6) + j + 1))
    by_cases q1 : 6 * (i / 6) + j = i
    · simp (decide := true) (disch := omega) only [B_X0_right_84, gd_hv s.t0, gI_hv s.t0, pI_hv s.t0, s.R7, s.R12_0, s.C12, s.h12.CD, s.h12.CI, s.h12.CW, s.h12.G, s.h12.GD, s.h12.GI, s.h12.GW, b1_some, b2_some, litI, neg1, nI_add, nI_mul, e1_p1, nI_e0, ib, ib1, ite_not, if_true, if_false, not_true_eq_false, not_false_eq_true, setI_hv, le_lit, eq_lit, q1, show ¬ 6 * (i / 6 + 1) ≤ i by omega]
    · by_cases q2 : S.2 9 (6 * (i / 6) + j) = 0
      · simp (decide := true) (disch := omega) only [B_X0_right_84, gd_hv s.t0, gI_hv s.t0, pI_hv s.t0, s.R7, s.R12_0, s.C12, s.h12.CD, s.h12.CI, s.h12.CW, s.h12.G, s.h12.GD, s.h12.GI, s.h12.GW, th, b1_some, b2_some, litI, neg1, nI_add, nI_mul, e1_p1, nI_e0, ib, ib1, ite_not, if_true, if_false, not_true_eq_false, not_false_eq_true, setI_hv, le_lit, eq_lit, show ¬ 6 * (i / 6 + 1) ≤ 6 * (i / 6) + j by omega, q1, q2, ne_eq]
      · have tk := xl_isLike g s h.lk (a := S.2 9 (6 * (i / 6) + j) - 1) (b := S.2 9 i - 1) (by omega) (by omega)
        have e9 : f (N + 12 + (2 + 2 * (6 * (i / 6) + j))) 0 = nI (S.2 9 (6 * (i / 6) + j) - 1) := (h.a9 (by omega)).trans (e1_of (by omega))
        by_cases q3 : S.1 6 ≤ lkn S (S.2 9 (6 * (i / 6) + j) - 1) (S.2 9 i - 1)
        · simp (decide := true) (disch := omega) only [B_X0_right_84, gd_hv s.t0, gI_hv s.t0, pI_hv s.t0, s.R7, s.R12_0, s.C12, s.h12.CD, s.h12.CI, s.h12.CW, s.h12.G, s.h12.GD, s.h12.GI, s.h12.GW, th, b1_some, b2_some, litI, neg1, nI_add, nI_mul, e1_p1, nI_e0, ib, ib1, ite_not, if_true, if_false, not_true_eq_false, not_false_eq_true, setI_hv, le_lit, eq_lit, e9, e9', h.a10, tk, show ¬ 6 * (i / 6 + 1) ≤ 6 * (i / 6) + j by omega, q1, q2, q3, ne_eq]
        · simp (decide := true) (disch := omega) only [B_X0_right_84, gd_hv s.t0, gI_hv s.t0, pI_hv s.t0, s.R7, s.R12_0, s.C12, s.h12.CD, s.h12.CI, s.h12.CW, s.h12.G, s.h12.GD, s.h12.GI, s.h12.GW, th, b1_some, b2_some, litI, neg1, nI_add, nI_mul, e1_p1, nI_e0, ib, ib1, ite_not, if_true, if_false, not_true_eq_false, not_false_eq_true, setI_hv, le_lit, eq_lit, e9, e9', h.a10, tk, show ¬ 6 * (i / 6 + 1) ≤ 6 * (i / 6) + j by omega, q1, q2, q3, ne_eq])
  have lp : L_X0_right_84 N (nI i) p (N + 12 + (2 + 2 * i)) (nI (i / 6)) FU (hv σ f, nI (S.2 10 i + S.2 12 i), nI (6 * (i / 6))) = some (rtr S i p, hv σ f) := by
    refine hm.trans ?_
    show B_X0_right_84 N (nI i) p (N + 12 + (2 + 2 * i)) (nI (i / 6)) m (hv σ f) (nI (rta S i 6)) (nI (6 * (i / 6) + 6)) = _
    unfold B_X0_right_84
    rw [if_pos (by rw [litI 6, litI 1, nI_add, nI_mul, le_lit (by omega) (by omega)]; omega)]
    exact x_right' g h (by omega) p
  by_cases q2 : S.2 11 i = 0
  · have w0 : S.2 12 i = 0 := by omega
    rw [w0] at lp
    simp (decide := true) (disch := omega) only [gd_hv s.t0, gI_hv s.t0, pI_hv s.t0, s.R7, s.R12_0, s.C12, s.h12.CD, s.h12.CI, s.h12.CW, s.h12.G, s.h12.GD, s.h12.GI, s.h12.GW, th, gh, b1_some, b2_some, litI, neg1, nI_add, nI_mul, e1_p1, nI_e0, ib, ib1, ite_not, if_true, if_false, not_true_eq_false, not_false_eq_true, setI_hv, qi, qp, h.a10, q, q2, cl_I, c6, lp, ne_eq, false_and, eq_lit]
    exact ⟨_, rfl, h, fun _ _ _ => rfl⟩
  · have w0 : ¬ S.2 12 i = 0 := by omega
    simp (decide := true) (disch := omega) only [gd_hv s.t0, gI_hv s.t0, pI_hv s.t0, s.R7, s.R12_0, s.C12, s.h12.CD, s.h12.CI, s.h12.CW, s.h12.G, s.h12.GD, s.h12.GI, s.h12.GW, th, gh, b1_some, b2_some, litI, neg1, nI_add, nI_mul, e1_p1, nI_e0, ib, ib1, ite_not, if_true, if_false, not_true_eq_false, not_false_eq_true, setI_hv, qi, qp, h.a10, h.a12, q, q2, w0, cl_I, c6, lp, ne_eq, and_self, eq_lit]
    exact ⟨_, rfl, h, fun _ _ _ => rfl⟩
end
section
set_option maxRecDepth 100000
/-! pure law 18: beside -/
theorem nI_e (k : Nat) : nI k + e1 0 = e1 k := by
  unfold e1
  rw [show nI 0 - 1 = -(1 : Int32) from by decide, Int32.sub_eq_add_neg]
theorem e1_lt {a b : Nat} (ha : a < 2147483648) (hb : b < 2147483648) : (e1 a < nI b) = (a ≤ b) := by
  apply propext
  rw [Int32.lt_iff_toInt_lt, e1_toInt ha, tI hb]
  omega
theorem nI_le_e1 {a b : Nat} (ha : a < 2147483648) (hb : b < 2147483648) : (nI b ≤ e1 a) = (b < a) := by
  apply propext
  rw [Int32.le_iff_toInt_le, e1_toInt ha, tI hb]
  omega
/-- downwards from k - 1; upwards, n left to look at -/
def nbd (T : Nat → Nat) (b : Nat) : Nat → Nat
  | 0 => 0
  | k + 1 => if T (b + k) = 0 then nbd T b k else T (b + k)
def nbu (T : Nat → Nat) (b : Nat) : Nat → Nat
  | 0 => 0
  | n + 1 => if T (b + (5 - n)) = 0 then nbu T b n else T (b + (5 - n))
def oBeside (t w : Int32) (S : St) : Int32 × St := if inR t 0 23 then (if inR w 0 1 then (if whr S t.toNatClampNeg = 0 then (-1, S) else (if w = nI 0 then e1 (nbd (S.2 9) ((whr S t.toNatClampNeg - 1) / 6 * 6) ((whr S t.toNatClampNeg - 1) % 6)) else e1 (nbu (S.2 9) ((whr S t.toNatClampNeg - 1) / 6 * 6) (5 - (whr S t.toNatClampNeg - 1) % 6)), S)) else (-3, S)) else (-2, S)
theorem m_bd {M : Nat} {σ : Hp} {f : Nat → Nat → Int32} {S : St} (g : Good S) (h : RepM M (hv σ f) S) {c : Nat} (hc : c < 48) : ∀ k n, k ≤ c % 6 → k + 1 < n → it (fun rec st => B_X10_beside_49 (hv σ f) M (nI 0) (nI c) rec st.1 st.2) n (e1 0, e1 (c / 6 * 6 + k)) = some (e1 (nbd (S.2 9) (c / 6 * 6) k), hv σ f) := by
  have s : SM M σ := h.1
  intro k
  induction k with
  | zero =>
    intro n hk hn
    obtain ⟨n, rfl⟩ : ∃ m, n = m + 1 := ⟨n - 1, by omega⟩
    rw [it_s]
    show B_X10_beside_49 (hv σ f) M (nI 0) (nI c) (it _ n) (e1 0) (e1 (c / 6 * 6 + 0)) = _
    generalize it (fun rec st => B_X10_beside_49 (hv σ f) M (nI 0) (nI c) rec st.1 st.2) n = r
    simp (decide := true) (disch := omega) only [B_X10_beside_49, b1_some, b2_some, litI, neg1, nI_add, nI_mul, e1_p1, nI_e0, ib, ib1, ite_not, if_true, if_false, not_true_eq_false, not_false_eq_true, setI_hv, c6, e1_lt, Nat.add_zero, Nat.le_refl]
    rfl
  | succ k ih =>
    intro n hk hn
    obtain ⟨n, rfl⟩ : ∃ m, n = m + 1 := ⟨n - 1, by omega⟩
    have ih' := ih n (by omega) (by omega)
    rw [it_s]
    have b := g.cn (c := c / 6 * 6 + k) (by omega)
    have bn : k + 2 < n + 1 := hn
    show B_X10_beside_49 (hv σ f) M (nI 0) (nI c) (it _ n) (e1 0) (e1 (c / 6 * 6 + k + 1)) = some (e1 (if S.2 9 (c / 6 * 6 + k) = 0 then nbd (S.2 9) (c / 6 * 6) k else S.2 9 (c / 6 * 6 + k)), hv σ f)
    by_cases q : S.2 9 (c / 6 * 6 + k) = 0
    · revert ih'
      generalize it (fun rec st => B_X10_beside_49 (hv σ f) M (nI 0) (nI c) rec st.1 st.2) n = r
      intro ih'
      simp (decide := true) (disch := omega) only [B_X10_beside_49, gd_hv s.1, gI_hv s.1, pI_hv s.1, s.R9, s.A9, s.W9, b1_some, b2_some, litI, neg1, nI_add, nI_mul, e1_p1, nI_e0, ib, ib1, ite_not, if_true, if_false, not_true_eq_false, not_false_eq_true, setI_hv, c6, e1_s, lt_lit, le_lit, show ¬ c / 6 * 6 + k < c / 6 * 6 by omega, show ¬ c / 6 * 6 + 6 ≤ c / 6 * 6 + k by omega, h.a9, q, nI_e, ih']
    · obtain ⟨n, rfl⟩ : ∃ m, n = m + 1 := ⟨n - 1, by omega⟩
      have step : it (fun rec st => B_X10_beside_49 (hv σ f) M (nI 0) (nI c) rec st.1 st.2) (n + 1) (e1 (S.2 9 (c / 6 * 6 + k)), e1 (c / 6 * 6 + k)) = some (e1 (S.2 9 (c / 6 * 6 + k)), hv σ f) := by
        rw [it_s]
        generalize it (fun rec st => B_X10_beside_49 (hv σ f) M (nI 0) (nI c) rec st.1 st.2) n = r
        by_cases z : k = 0
        · subst z
          simp (decide := true) (disch := omega) only [B_X10_beside_49, b1_some, b2_some, litI, neg1, nI_add, nI_mul, e1_p1, nI_e0, ib, ib1, ite_not, if_true, if_false, not_true_eq_false, not_false_eq_true, setI_hv, c6, e1_lt, Nat.add_zero, Nat.le_refl]
        · simp (decide := true) (disch := omega) only [B_X10_beside_49, b1_some, b2_some, litI, neg1, nI_add, nI_mul, e1_p1, nI_e0, ib, ib1, ite_not, if_true, if_false, not_true_eq_false, not_false_eq_true, setI_hv, c6, e1_lt, nI_le_e1, show ¬ c / 6 * 6 + k ≤ c / 6 * 6 by omega, show ¬ c / 6 * 6 + 6 < c / 6 * 6 + k by omega, e1_inj, q]
      revert step
      generalize it (fun rec st => B_X10_beside_49 (hv σ f) M (nI 0) (nI c) rec st.1 st.2) (n + 1) = r
      intro step
      simp (decide := true) (disch := omega) only [B_X10_beside_49, gd_hv s.1, gI_hv s.1, pI_hv s.1, s.R9, s.A9, s.W9, b1_some, b2_some, litI, neg1, nI_add, nI_mul, e1_p1, nI_e0, ib, ib1, ite_not, if_true, if_false, not_true_eq_false, not_false_eq_true, setI_hv, c6, e1_s, lt_lit, le_lit, show ¬ c / 6 * 6 + k < c / 6 * 6 by omega, show ¬ c / 6 * 6 + 6 ≤ c / 6 * 6 + k by omega, h.a9, q, nI_e, step]
theorem m_bu {M : Nat} {σ : Hp} {f : Nat → Nat → Int32} {S : St} (g : Good S) (h : RepM M (hv σ f) S) {c : Nat} (hc : c < 48) : ∀ k n, k ≤ 5 → k + 1 < n → it (fun rec st => B_X10_beside_49 (hv σ f) M (nI 1) (nI c) rec st.1 st.2) n (e1 0, nI (c / 6 * 6 + (6 - k))) = some (e1 (nbu (S.2 9) (c / 6 * 6) k), hv σ f) := by
  have s : SM M σ := h.1
  intro k
  induction k with
  | zero =>
    intro n hk hn
    obtain ⟨n, rfl⟩ : ∃ m, n = m + 1 := ⟨n - 1, by omega⟩
    rw [it_s]
    show B_X10_beside_49 (hv σ f) M (nI 1) (nI c) (it _ n) (e1 0) (nI (c / 6 * 6 + 6)) = _
    generalize it (fun rec st => B_X10_beside_49 (hv σ f) M (nI 1) (nI c) rec st.1 st.2) n = r
    simp (decide := true) (disch := omega) only [B_X10_beside_49, b1_some, b2_some, litI, neg1, nI_add, nI_mul, e1_p1, nI_e0, ib, ib1, ite_not, if_true, if_false, not_true_eq_false, not_false_eq_true, setI_hv, c6, lt_lit, le_lit, show ¬ c / 6 * 6 + 6 < c / 6 * 6 by omega, Nat.le_refl]
    rfl
  | succ k ih =>
    intro n hk hn
    obtain ⟨n, rfl⟩ : ∃ m, n = m + 1 := ⟨n - 1, by omega⟩
    have ih' := ih n (by omega) (by omega)
    rw [it_s]
    have e6 : 6 - (k + 1) = 5 - k := by omega
    have e7 : c / 6 * 6 + (5 - k) + 1 = c / 6 * 6 + (6 - k) := by omega
    have b := g.cn (c := c / 6 * 6 + (5 - k)) (by omega)
    rw [e6]
    show B_X10_beside_49 (hv σ f) M (nI 1) (nI c) (it _ n) (e1 0) (nI (c / 6 * 6 + (5 - k))) = some (e1 (if S.2 9 (c / 6 * 6 + (5 - k)) = 0 then nbu (S.2 9) (c / 6 * 6) k else S.2 9 (c / 6 * 6 + (5 - k))), hv σ f)
    by_cases q : S.2 9 (c / 6 * 6 + (5 - k)) = 0
    · revert ih'
      generalize it (fun rec st => B_X10_beside_49 (hv σ f) M (nI 1) (nI c) rec st.1 st.2) n = r
      intro ih'
      simp (decide := true) (disch := omega) only [B_X10_beside_49, gd_hv s.1, gI_hv s.1, pI_hv s.1, s.R9, s.A9, s.W9, b1_some, b2_some, litI, neg1, nI_add, nI_mul, e1_p1, nI_e0, ib, ib1, ite_not, if_true, if_false, not_true_eq_false, not_false_eq_true, setI_hv, c6, lt_lit, le_lit, show ¬ c / 6 * 6 + (5 - k) < c / 6 * 6 by omega, show ¬ c / 6 * 6 + 6 ≤ c / 6 * 6 + (5 - k) by omega, h.a9, q, e7, ih']
    · obtain ⟨n, rfl⟩ : ∃ m, n = m + 1 := ⟨n - 1, by omega⟩
      have step : it (fun rec st => B_X10_beside_49 (hv σ f) M (nI 1) (nI c) rec st.1 st.2) (n + 1) (e1 (S.2 9 (c / 6 * 6 + (5 - k))), nI (c / 6 * 6 + (6 - k))) = some (e1 (S.2 9 (c / 6 * 6 + (5 - k))), hv σ f) := by
        rw [it_s]
        generalize it (fun rec st => B_X10_beside_49 (hv σ f) M (nI 1) (nI c) rec st.1 st.2) n = r
        by_cases z : k = 0
        · subst z
          simp (decide := true) (disch := omega) only [B_X10_beside_49, b1_some, b2_some, litI, neg1, nI_add, nI_mul, e1_p1, nI_e0, ib, ib1, ite_not, if_true, if_false, not_true_eq_false, not_false_eq_true, setI_hv, c6, lt_lit, le_lit, show ¬ c / 6 * 6 + (6 - 0) < c / 6 * 6 by omega, show c / 6 * 6 + 6 ≤ c / 6 * 6 + (6 - 0) by omega]
        · simp (decide := true) (disch := omega) only [B_X10_beside_49, b1_some, b2_some, litI, neg1, nI_add, nI_mul, e1_p1, nI_e0, ib, ib1, ite_not, if_true, if_false, not_true_eq_false, not_false_eq_true, setI_hv, c6, lt_lit, le_lit, show ¬ c / 6 * 6 + (6 - k) < c / 6 * 6 by omega, show ¬ c / 6 * 6 + 6 ≤ c / 6 * 6 + (6 - k) by omega, e1_inj, q]
      revert step
      generalize it (fun rec st => B_X10_beside_49 (hv σ f) M (nI 1) (nI c) rec st.1 st.2) (n + 1) = r
      intro step
      simp (decide := true) (disch := omega) only [B_X10_beside_49, gd_hv s.1, gI_hv s.1, pI_hv s.1, s.R9, s.A9, s.W9, b1_some, b2_some, litI, neg1, nI_add, nI_mul, e1_p1, nI_e0, ib, ib1, ite_not, if_true, if_false, not_true_eq_false, not_false_eq_true, setI_hv, c6, lt_lit, le_lit, show ¬ c / 6 * 6 + (5 - k) < c / 6 * 6 by omega, show ¬ c / 6 * 6 + 6 ≤ c / 6 * 6 + (5 - k) by omega, h.a9, q, e7, step]
theorem m_beside (M : Nat) (t w : Int32) : OkMf M (fun σ => F_X10_beside σ M t w) (oBeside t w) := by
  intro σ f S g h
  have s : SM M σ := h.1
  simp only [F_X10_beside, oBeside, gd_hv s.1, x10_isThing, x10_inR _ w 0 1 0 1 rfl rfl, b2_some]
  rcases in_split t 0 23 (by omega) (by omega) with ⟨i, -, hi, rfl⟩ | hk
  case inr => simp (decide := true) (disch := omega) only [b1_some, b2_some, litI, neg1, nI_add, nI_mul, e1_p1, nI_e0, ib, ib1, ite_not, if_true, if_false, not_true_eq_false, not_false_eq_true, setI_hv, hk]; exact ⟨_, rfl, h, fun _ _ _ => rfl⟩
  have qi := eq_true (inR_of (Nat.zero_le i) hi (by omega))
  rcases in_split w 0 1 (by omega) (by omega) with ⟨j, -, hj, rfl⟩ | hp
  case inr => simp (decide := true) (disch := omega) only [b1_some, b2_some, litI, neg1, nI_add, nI_mul, e1_p1, nI_e0, ib, ib1, ite_not, if_true, if_false, not_true_eq_false, not_false_eq_true, setI_hv, qi, hp]; exact ⟨_, rfl, h, fun _ _ _ => rfl⟩
  have qp := eq_true (inR_of (Nat.zero_le j) hj (by omega))
  have hw := whr_le S i
  by_cases q : whr S i = 0
  · simp (decide := true) (disch := omega) only [b1_some, b2_some, litI, neg1, nI_add, nI_mul, e1_p1, nI_e0, ib, ib1, ite_not, if_true, if_false, not_true_eq_false, not_false_eq_true, setI_hv, qi, qp, m_where' g h, cl_I, q]
    exact ⟨_, rfl, h, fun _ _ _ => rfl⟩
  refine ⟨f, ?_, ?_, fun _ _ _ => rfl⟩
  · have hj' : j = 0 ∨ j = 1 := by omega
    rcases hj' with rfl | rfl
    · have lp := m_bd g h (c := whr S i - 1) (by omega) ((whr S i - 1) % 6) FU (Nat.le_refl _) (FU_gt (by omega))
      have e : (whr S i - 1) / 6 * 6 + (whr S i - 1) % 6 = whr S i - 1 := by omega
      rw [e] at lp
      have lp' : L_X10_beside_49 (hv σ f) M (nI 0) (nI (whr S i - 1)) FU (e1 0, e1 (whr S i - 1)) = _ := lp
      simp (decide := true) (disch := omega) only [b1_some, b2_some, litI, neg1, nI_add, nI_mul, e1_p1, nI_e0, ib, ib1, ite_not, if_true, if_false, not_true_eq_false, not_false_eq_true, setI_hv, qi, qp, m_where' g h, cl_I, q, e1_of, nI_e]
      rw [lp']
    · have lp := m_bu g h (c := whr S i - 1) (by omega) (5 - (whr S i - 1) % 6) FU (by omega) (FU_gt (by omega))
      have e : (whr S i - 1) / 6 * 6 + (6 - (5 - (whr S i - 1) % 6)) = whr S i - 1 + 1 := by omega
      rw [e] at lp
      have lp' : L_X10_beside_49 (hv σ f) M (nI 1) (nI (whr S i - 1)) FU (e1 0, nI (whr S i - 1 + 1)) = _ := lp
      simp (decide := true) (disch := omega) only [b1_some, b2_some, litI, neg1, nI_add, nI_mul, e1_p1, nI_e0, ib, ib1, ite_not, if_true, if_false, not_true_eq_false, not_false_eq_true, setI_hv, qi, qp, m_where' g h, cl_I, q, e1_of, eq_lit]
      rw [lp']
  · repeat' split
    all_goals exact h
theorem inE {k : Nat} (h : k ≤ 5) : inR (nI k) 0 5 = True := eq_true (inR_of (Nat.zero_le k) h (by omega))
theorem inE0 : inR (e1 0) 0 5 = False := eq_false (by
  rw [inR_iff (by omega) (by omega), e1_toInt (by omega)]
  omega)
theorem inE6 : inR (nI 6) 0 5 = False := eq_false (by
  rw [inR_iff (by omega) (by omega), tI (by omega)]
  omega)
theorem x_bd {N : Nat} {σ : Hp} {f : Nat → Nat → Int32} {S : St} (g : Good S) (h : RepX N (hv σ f) S) {c : Nat} (hc : c < 48) : ∀ k n, k ≤ 5 → k < n → it (fun rec st => B_X0_beside_57 N (nI c) (e1 0) rec st.1 st.2) n (hv σ f, e1 k) = some (e1 (nbd (S.2 9) (c / 6 * 6) k), hv σ f) := by
  have s : SX N σ := h.1
  intro k
  induction k with
  | zero =>
    intro n hk hn
    obtain ⟨n, rfl⟩ : ∃ m, n = m + 1 := ⟨n - 1, by omega⟩
    rw [it_s]
    generalize it (fun rec st => B_X0_beside_57 N (nI c) (e1 0) rec st.1 st.2) n = r
    simp only [B_X0_beside_57, x0_inR _ (e1 0) 0 5 0 5 (by decide) (by decide), inE0, if_false, b2_some]
    rfl
  | succ k ih =>
    intro n hk hn
    obtain ⟨n, rfl⟩ : ∃ m, n = m + 1 := ⟨n - 1, by omega⟩
    have ih' := ih n (by omega) (by omega)
    rw [it_s]
    have b := g.cn (c := c / 6 * 6 + k) (by omega)
    have th := s.h12.there (f := f) (c := c / 6 * 6 + k) (by omega) (by omega : S.2 9 (c / 6 * 6 + k) < 1000) (h.a9 (by omega))
    show B_X0_beside_57 N (nI c) (e1 0) (it _ n) (hv σ f) (e1 (k + 1)) = some (e1 (if S.2 9 (c / 6 * 6 + k) = 0 then nbd (S.2 9) (c / 6 * 6) k else S.2 9 (c / 6 * 6 + k)), hv σ f)
    rw [e1_s]
    revert ih'
    generalize it (fun rec st => B_X0_beside_57 N (nI c) (e1 0) rec st.1 st.2) n = r
    intro ih'
    simp only [B_X0_beside_57, x0_inR _ (nI k) 0 5 0 5 (by decide) (by decide), inE (show k ≤ 5 by omega), if_true, b2_some, if10]
    by_cases q : S.2 9 (c / 6 * 6 + k) = 0
    · simp (decide := true) (disch := omega) only [gd_hv s.t0, gI_hv s.t0, pI_hv s.t0, s.R7, s.R12_0, s.C12, s.h12.CD, s.h12.CI, s.h12.CW, s.h12.G, s.h12.GD, s.h12.GI, s.h12.GW, th, b1_some, b2_some, litI, neg1, nI_add, nI_mul, e1_p1, nI_e0, ib, ib1, ite_not, if_true, if_false, not_true_eq_false, not_false_eq_true, setI_hv, c6, q, ne_eq, nI_e, ih']
    · simp (decide := true) (disch := omega) only [gd_hv s.t0, gI_hv s.t0, pI_hv s.t0, s.R7, s.R12_0, s.C12, s.h12.CD, s.h12.CI, s.h12.CW, s.h12.G, s.h12.GD, s.h12.GI, s.h12.GW, th, b1_some, b2_some, litI, neg1, nI_add, nI_mul, e1_p1, nI_e0, ib, ib1, ite_not, if_true, if_false, not_true_eq_false, not_false_eq_true, setI_hv, c6, q, ne_eq, h.a9, eq_lit]
theorem x_bu {N : Nat} {σ : Hp} {f : Nat → Nat → Int32} {S : St} (g : Good S) (h : RepX N (hv σ f) S) {c : Nat} (hc : c < 48) : ∀ k n, k ≤ 5 → k < n → it (fun rec st => B_X0_beside_57 N (nI c) (nI 1) rec st.1 st.2) n (hv σ f, nI (6 - k)) = some (e1 (nbu (S.2 9) (c / 6 * 6) k), hv σ f) := by
  have s : SX N σ := h.1
  intro k
  induction k with
  | zero =>
    intro n hk hn
    obtain ⟨n, rfl⟩ : ∃ m, n = m + 1 := ⟨n - 1, by omega⟩
    rw [it_s]
    generalize it (fun rec st => B_X0_beside_57 N (nI c) (nI 1) rec st.1 st.2) n = r
    show B_X0_beside_57 N (nI c) (nI 1) r (hv σ f) (nI 6) = _
    simp only [B_X0_beside_57, x0_inR _ (nI 6) 0 5 0 5 (by decide) (by decide), inE6, if_false, b2_some]
    rfl
  | succ k ih =>
    intro n hk hn
    obtain ⟨n, rfl⟩ : ∃ m, n = m + 1 := ⟨n - 1, by omega⟩
    have ih' := ih n (by omega) (by omega)
    rw [it_s]
    have e6 : 6 - (k + 1) = 5 - k := by omega
    have e7 : 5 - k + 1 = 6 - k := by omega
    rw [e6]
    have b := g.cn (c := c / 6 * 6 + (5 - k)) (by omega)
    have th := s.h12.there (f := f) (c := c / 6 * 6 + (5 - k)) (by omega) (by omega : S.2 9 (c / 6 * 6 + (5 - k)) < 1000) (h.a9 (by omega))
    show B_X0_beside_57 N (nI c) (nI 1) (it _ n) (hv σ f) (nI (5 - k)) = some (e1 (if S.2 9 (c / 6 * 6 + (5 - k)) = 0 then nbu (S.2 9) (c / 6 * 6) k else S.2 9 (c / 6 * 6 + (5 - k))), hv σ f)
    revert ih'
    generalize it (fun rec st => B_X0_beside_57 N (nI c) (nI 1) rec st.1 st.2) n = r
    intro ih'
    simp only [B_X0_beside_57, x0_inR _ (nI (5 - k)) 0 5 0 5 (by decide) (by decide), inE (show 5 - k ≤ 5 by omega), if_true, b2_some, if10]
    by_cases q : S.2 9 (c / 6 * 6 + (5 - k)) = 0
    · simp (decide := true) (disch := omega) only [gd_hv s.t0, gI_hv s.t0, pI_hv s.t0, s.R7, s.R12_0, s.C12, s.h12.CD, s.h12.CI, s.h12.CW, s.h12.G, s.h12.GD, s.h12.GI, s.h12.GW, th, b1_some, b2_some, litI, neg1, nI_add, nI_mul, e1_p1, nI_e0, ib, ib1, ite_not, if_true, if_false, not_true_eq_false, not_false_eq_true, setI_hv, c6, q, ne_eq, e7, ih']
    · simp (decide := true) (disch := omega) only [gd_hv s.t0, gI_hv s.t0, pI_hv s.t0, s.R7, s.R12_0, s.C12, s.h12.CD, s.h12.CI, s.h12.CW, s.h12.G, s.h12.GD, s.h12.GI, s.h12.GW, th, b1_some, b2_some, litI, neg1, nI_add, nI_mul, e1_p1, nI_e0, ib, ib1, ite_not, if_true, if_false, not_true_eq_false, not_false_eq_true, setI_hv, c6, q, ne_eq, h.a9, eq_lit]
theorem x_beside (N : Nat) (t w : Int32) : OkXf N (fun σ => F_X0_beside σ N t w) (oBeside t w) := by
  intro σ f S g h
  have s : SX N σ := h.1
  simp only [F_X0_beside, oBeside, gd_hv s.t0, x0_isThing, x0_inR _ w 0 1 0 1 (by decide) (by decide), b2_some]
  rcases in_split t 0 23 (by omega) (by omega) with ⟨i, -, hi, rfl⟩ | hk
  case inr => simp (decide := true) (disch := omega) only [b1_some, b2_some, litI, neg1, nI_add, nI_mul, e1_p1, nI_e0, ib, ib1, ite_not, if_true, if_false, not_true_eq_false, not_false_eq_true, setI_hv, hk]; exact ⟨_, rfl, h, fun _ _ _ => rfl⟩
  have qi := eq_true (inR_of (Nat.zero_le i) hi (by omega))
  rcases in_split w 0 1 (by omega) (by omega) with ⟨j, -, hj, rfl⟩ | hp
  case inr => simp (decide := true) (disch := omega) only [b1_some, b2_some, litI, neg1, nI_add, nI_mul, e1_p1, nI_e0, ib, ib1, ite_not, if_true, if_false, not_true_eq_false, not_false_eq_true, setI_hv, qi, hp]; exact ⟨_, rfl, h, fun _ _ _ => rfl⟩
  have qp := eq_true (inR_of (Nat.zero_le j) hj (by omega))
  have hw := whr_le S i
  by_cases q : whr S i = 0
  · simp (decide := true) (disch := omega) only [b1_some, b2_some, litI, neg1, nI_add, nI_mul, e1_p1, nI_e0, ib, ib1, ite_not, if_true, if_false, not_true_eq_false, not_false_eq_true, setI_hv, qi, qp, x_where' g h, cl_I, q]
    exact ⟨_, rfl, h, fun _ _ _ => rfl⟩
  refine ⟨f, ?_, ?_, fun _ _ _ => rfl⟩
  · have hj' : j = 0 ∨ j = 1 := by omega
    rcases hj' with rfl | rfl
    · have lp := x_bd g h (c := whr S i - 1) (by omega) ((whr S i - 1) % 6) FU (by omega) (FU_gt (by omega))
      have lp' : L_X0_beside_57 N (nI (whr S i - 1)) (e1 0) FU (hv σ f, e1 ((whr S i - 1) % 6)) = _ := lp
      simp (decide := true) (disch := omega) only [b1_some, b2_some, litI, neg1, nI_add, nI_mul, e1_p1, nI_e0, ib, ib1, ite_not, if_true, if_false, not_true_eq_false, not_false_eq_true, setI_hv, qi, qp, x_where' g h, cl_I, q, e1_of, c6, r6', nI_e, eq_lit]
      rw [lp']
    · have lp := x_bu g h (c := whr S i - 1) (by omega) (5 - (whr S i - 1) % 6) FU (by omega) (FU_gt (by omega))
      have e : 6 - (5 - (whr S i - 1) % 6) = (whr S i - 1) % 6 + 1 := by omega
      rw [e] at lp
      have lp' : L_X0_beside_57 N (nI (whr S i - 1)) (nI 1) FU (hv σ f, nI ((whr S i - 1) % 6 + 1)) = _ := lp
      simp (decide := true) (disch := omega) only [b1_some, b2_some, litI, neg1, nI_add, nI_mul, e1_p1, nI_e0, ib, ib1, ite_not, if_true, if_false, not_true_eq_false, not_false_eq_true, setI_hv, qi, qp, x_where' g h, cl_I, q, e1_of, c6, r6', eq_lit]
      rw [lp']
  · repeat' split
    all_goals exact h
end
section
set_option maxRecDepth 100000
/-! pure law 19: what the rules say -/
def lv (S : St) (i s r : Nat) : Nat := if S.2 30 (3 * i) = s ∧ S.2 30 (3 * i + 1) = r then S.2 30 (3 * i + 2) + 1 else 0
def lo (S : St) (s r : Nat) : Nat → Nat
  | 0 => 0
  | i + 1 => if lv S i s r = 0 then lo S s r i else lv S i s r
def los (S : St) (s r : Nat) : Nat := lo S s r (S.1 29)
theorem Good.lm {S : St} (g : Good S) : S.1 29 ≤ 10 := g.2.2.2.2.2.1
theorem Good.ln {S : St} (g : Good S) {i : Nat} (hi : i < S.1 29) : (S.2 30 (3 * i) = 0 ∧ S.2 30 (3 * i + 1) < 8 ∧ S.2 30 (3 * i + 2) ≤ 8) ∨ (S.2 30 (3 * i) = 1 ∧ S.2 30 (3 * i + 1) = 0 ∧ 1 ≤ S.2 30 (3 * i + 2) ∧ S.2 30 (3 * i + 2) ≤ 99) ∨ (S.2 30 (3 * i) = 2 ∧ S.2 30 (3 * i + 1) = 0 ∧ S.2 30 (3 * i + 2) ≤ 8) ∨ (S.2 30 (3 * i) = 3 ∧ S.2 30 (3 * i + 1) < 8 ∧ 1 ≤ S.2 30 (3 * i + 2) ∧ S.2 30 (3 * i + 2) ≤ 99) := g.2.2.2.2.2.2.2.2.2.2.2.2.2.1 i hi
theorem lv_le {S : St} (g : Good S) {i : Nat} (hi : i < S.1 29) (s r : Nat) : lv S i s r ≤ 100 ∧ (s = 0 → lv S i s r ≤ 9) ∧ (s = 2 → lv S i s r ≤ 9) ∧ (s = 3 → lv S i s r ≠ 1) ∧ (s = 1 → lv S i s r ≠ 1) := by
  have := g.ln hi
  unfold lv
  split
  · omega
  · omega
theorem lo_le {S : St} (g : Good S) (s r : Nat) : ∀ i, i ≤ S.1 29 → lo S s r i ≤ 100 ∧ (s = 0 → lo S s r i ≤ 9) ∧ (s = 2 → lo S s r i ≤ 9) ∧ (s = 3 → lo S s r i ≠ 1) ∧ (s = 1 → lo S s r i ≠ 1)
  | 0, _ => by
    show 0 ≤ 100 ∧ _
    refine ⟨by omega, fun _ => Nat.zero_le _, fun _ => Nat.zero_le _, fun _ => (Nat.zero_ne_one), fun _ => (Nat.zero_ne_one)⟩
  | i + 1, hi => by
    have h1 := lv_le g (i := i) (by omega) s r
    have h2 := lo_le g s r i (by omega)
    unfold lo
    split
    · exact h2
    · exact h1
theorem m_last {M : Nat} {σ : Hp} {f : Nat → Nat → Int32} {S : St} (g : Good S) (h : RepM M (hv σ f) S) {s r w : Nat} (hs : s < 4) (hr : r < 8) (hw : w ≤ 100) : F_X10_lastOf (hv σ f) M (nI s) (nI r) (nI w) = some (nI (if los S s r = 0 then w else los S s r - 1), hv σ f) := by
  have sm : SM M σ := h.1
  have lm := g.lm
  unfold F_X10_lastOf L_X10_lastOf_6
  rw [gd_hv sm.1]
  obtain ⟨m, hm⟩ := it_FU (body := fun rec st => B_X10_lastOf_6 (hv σ f) M (nI s) (nI r) rec st.1 st.2) (fun i => (nI (if lo S s r i = 0 then w else lo S s r i - 1), nI i)) 0 (S.1 29) (by omega) (by omega) (fun i _ hi rec => by
    have hb := g.ln hi
    show B_X10_lastOf_6 (hv σ f) M (nI s) (nI r) rec (nI (if lo S s r i = 0 then w else lo S s r i - 1)) (nI i) = rec (nI (if lo S s r (i + 1) = 0 then w else lo S s r (i + 1) - 1), nI (i + 1))
    have el : lo S s r (i + 1) = if lv S i s r = 0 then lo S s r i else lv S i s r := rfl
    have s' : SM M σ := sm
    by_cases q1 : S.2 30 (3 * i) = s
    · by_cases q2 : S.2 30 (3 * i + 1) = r
      · have e : lv S i s r = S.2 30 (3 * i + 2) + 1 := if_pos ⟨q1, q2⟩
        have el2 : lo S s r (i + 1) = S.2 30 (3 * i + 2) + 1 := by rw [el, e, if_neg (by omega)]
        rw [el2, show (if S.2 30 (3 * i + 2) + 1 = 0 then w else S.2 30 (3 * i + 2) + 1 - 1) = S.2 30 (3 * i + 2) from by rw [if_neg (by omega)]; rfl]
        generalize (if lo S s r i = 0 then w else lo S s r i - 1) = z
        simp (decide := true) (disch := omega) only [B_X10_lastOf_6, gI_hv sm.1, sm.R30, sm.A30, b1_some, b2_some, litI, neg1, nI_add, nI_mul, e1_p1, nI_e0, ib, ib1, ite_not, if_true, if_false, not_true_eq_false, not_false_eq_true, setI_hv, h.s29, h.a30, le_lit, eq_lit, show ¬ S.1 29 ≤ i by omega, q1, q2]
      · have e : lv S i s r = 0 := if_neg (fun z => q2 z.2)
        rw [el, e, if_pos rfl]
        generalize (if lo S s r i = 0 then w else lo S s r i - 1) = z
        simp (decide := true) (disch := omega) only [B_X10_lastOf_6, gI_hv sm.1, sm.R30, sm.A30, b1_some, b2_some, litI, neg1, nI_add, nI_mul, e1_p1, nI_e0, ib, ib1, ite_not, if_true, if_false, not_true_eq_false, not_false_eq_true, setI_hv, h.s29, h.a30, le_lit, eq_lit, show ¬ S.1 29 ≤ i by omega, q1, q2]
    · have e : lv S i s r = 0 := if_neg (fun z => q1 z.1)
      rw [el, e, if_pos rfl]
      generalize (if lo S s r i = 0 then w else lo S s r i - 1) = z
      simp (decide := true) (disch := omega) only [B_X10_lastOf_6, gI_hv sm.1, sm.R30, sm.A30, b1_some, b2_some, litI, neg1, nI_add, nI_mul, e1_p1, nI_e0, ib, ib1, ite_not, if_true, if_false, not_true_eq_false, not_false_eq_true, setI_hv, h.s29, h.a30, le_lit, eq_lit, show ¬ S.1 29 ≤ i by omega, q1])
  refine hm.trans ?_
  show B_X10_lastOf_6 (hv σ f) M (nI s) (nI r) m (nI (if lo S s r (S.1 29) = 0 then w else lo S s r (S.1 29) - 1)) (nI (S.1 29)) = _
  simp (decide := true) (disch := omega) only [B_X10_lastOf_6, gI_hv sm.1, b1_some, h.s29, le_lit, Nat.le_refl, if_true]
  rfl
theorem gd_c {ρ : Type} {σ : Hp} {f : Nat → Nat → Int32} {ci a : Nat} {z : Option ρ} (h : hT (hv σ f) a = some (.inl ci)) : gd ci a (hv σ f) z = z := if_pos h
theorem gI_c {σ : Hp} {f : Nat → Nat → Int32} {ci a k : Nat} (h : hT (hv σ f) a = some (.inl ci)) : gI ci k a (hv σ f) = some (f a k) := if_pos h
theorem x_line {N : Nat} {σ : Hp} {f : Nat → Nat → Int32} {S : St} (g : Good S) (h : RepX N (hv σ f) S) {i : Nat} (hi : i < S.1 29) : ∃ L a, gR 0 10 N (hv σ f) = some L ∧ aR 4 L (nI i) (hv σ f) = some a ∧ (∀ r, r < 8 → D_room (hv σ f) a (nI r) = some (e1 (lv S i 0 r), hv σ f)) ∧ D_again (hv σ f) a = some (e1 (lv S i 1 0), hv σ f) ∧ D_apart (hv σ f) a = some (e1 (lv S i 2 0), hv σ f) ∧ ∀ r, r < 8 → D_every (hv σ f) a (nI r) = some (e1 (lv S i 3 r), hv σ f) := by
  have s : SX N σ := h.1
  have lm := g.lm
  obtain ⟨L, h1, h2, h3, h4⟩ := h.2.2.2.2.2.2.2.2.2
  obtain ⟨a, a1, a2, a3, a4⟩ := h4 i hi
  have hb := g.ln hi
  refine ⟨L, a, gR_at (σ := hv σ f) h.1.t0 h1, aR_at (aN_of h3) (by omega) (by decide) a3, ?_⟩
  rcases a4 with ⟨s0, t, v0, v1⟩ | ⟨s0, t, v0⟩ | ⟨s0, t, v0⟩ | ⟨s0, t, v0, v1⟩
  · have v0 : f a 0 = _ := v0
    have v1 : f a 1 = _ := v1
    refine ⟨fun r hr => ?_, ?_, ?_, fun r hr => ?_⟩
    · by_cases q : r = S.2 30 (3 * i + 1)
      · have e : lv S i 0 r = S.2 30 (3 * i + 2) + 1 := if_pos ⟨s0, q.symm⟩
        rw [← q] at v0
        simp (decide := true) (disch := omega) only [D_room, t, F_X13_room, gd_c t, gI_c t, b1_some, b2_some, litI, neg1, nI_add, nI_mul, e1_p1, nI_e0, ib, ib1, ite_not, if_true, if_false, not_true_eq_false, not_false_eq_true, setI_hv, v0, v1, e, e1_s]
      · have e : lv S i 0 r = 0 := if_neg (fun z => q z.2.symm)
        simp (decide := true) (disch := omega) only [D_room, t, F_X13_room, F_X12_room_13, gd_c t, gI_c t, b1_some, b2_some, litI, neg1, nI_add, nI_mul, e1_p1, nI_e0, ib, ib1, ite_not, if_true, if_false, not_true_eq_false, not_false_eq_true, setI_hv, v0, v1, eq_lit, q, e]
    · have e : lv S i 1 0 = 0 := if_neg (by omega)
      simp (decide := true) (disch := omega) only [D_again, t, F_X12_again_13, gd_c t, b1_some, b2_some, litI, neg1, nI_add, nI_mul, e1_p1, nI_e0, ib, ib1, ite_not, if_true, if_false, not_true_eq_false, not_false_eq_true, setI_hv, e]
    · have e : lv S i 2 0 = 0 := if_neg (by omega)
      simp (decide := true) (disch := omega) only [D_apart, t, F_X12_apart_13, gd_c t, b1_some, b2_some, litI, neg1, nI_add, nI_mul, e1_p1, nI_e0, ib, ib1, ite_not, if_true, if_false, not_true_eq_false, not_false_eq_true, setI_hv, e]
    · have e : lv S i 3 r = 0 := if_neg (by omega)
      simp (decide := true) (disch := omega) only [D_every, t, F_X12_every_13, gd_c t, b1_some, b2_some, litI, neg1, nI_add, nI_mul, e1_p1, nI_e0, ib, ib1, ite_not, if_true, if_false, not_true_eq_false, not_false_eq_true, setI_hv, e]
  · have v0 : f a 0 = _ := v0
    refine ⟨fun r hr => ?_, ?_, ?_, fun r hr => ?_⟩
    · have e : lv S i 0 r = 0 := if_neg (by omega)
      simp (decide := true) (disch := omega) only [D_room, t, F_X12_room_14, gd_c t, b1_some, b2_some, litI, neg1, nI_add, nI_mul, e1_p1, nI_e0, ib, ib1, ite_not, if_true, if_false, not_true_eq_false, not_false_eq_true, setI_hv, e, Option.some.injEq, Sum.inl.injEq]
    · have e : lv S i 1 0 = S.2 30 (3 * i + 2) + 1 := if_pos (by omega)
      simp (decide := true) (disch := omega) only [D_again, t, F_X14_again, gd_c t, gI_c t, b1_some, b2_some, litI, neg1, nI_add, nI_mul, e1_p1, nI_e0, ib, ib1, ite_not, if_true, if_false, not_true_eq_false, not_false_eq_true, setI_hv, v0, e, e1_s, Option.some.injEq, Sum.inl.injEq]
    · have e : lv S i 2 0 = 0 := if_neg (by omega)
      simp (decide := true) (disch := omega) only [D_apart, t, F_X12_apart_14, gd_c t, b1_some, b2_some, litI, neg1, nI_add, nI_mul, e1_p1, nI_e0, ib, ib1, ite_not, if_true, if_false, not_true_eq_false, not_false_eq_true, setI_hv, e, Option.some.injEq, Sum.inl.injEq]
    · have e : lv S i 3 r = 0 := if_neg (by omega)
      simp (decide := true) (disch := omega) only [D_every, t, F_X12_every_14, gd_c t, b1_some, b2_some, litI, neg1, nI_add, nI_mul, e1_p1, nI_e0, ib, ib1, ite_not, if_true, if_false, not_true_eq_false, not_false_eq_true, setI_hv, e, Option.some.injEq, Sum.inl.injEq]
  · have v0 : f a 0 = _ := v0
    refine ⟨fun r hr => ?_, ?_, ?_, fun r hr => ?_⟩
    · have e : lv S i 0 r = 0 := if_neg (by omega)
      simp (decide := true) (disch := omega) only [D_room, t, F_X12_room_15, gd_c t, b1_some, b2_some, litI, neg1, nI_add, nI_mul, e1_p1, nI_e0, ib, ib1, ite_not, if_true, if_false, not_true_eq_false, not_false_eq_true, setI_hv, e, Option.some.injEq, Sum.inl.injEq]
    · have e : lv S i 1 0 = 0 := if_neg (by omega)
      simp (decide := true) (disch := omega) only [D_again, t, F_X12_again_15, gd_c t, b1_some, b2_some, litI, neg1, nI_add, nI_mul, e1_p1, nI_e0, ib, ib1, ite_not, if_true, if_false, not_true_eq_false, not_false_eq_true, setI_hv, e, Option.some.injEq, Sum.inl.injEq]
    · have e : lv S i 2 0 = S.2 30 (3 * i + 2) + 1 := if_pos (by omega)
      simp (decide := true) (disch := omega) only [D_apart, t, F_X15_apart, gd_c t, gI_c t, b1_some, b2_some, litI, neg1, nI_add, nI_mul, e1_p1, nI_e0, ib, ib1, ite_not, if_true, if_false, not_true_eq_false, not_false_eq_true, setI_hv, v0, e, e1_s, Option.some.injEq, Sum.inl.injEq]
    · have e : lv S i 3 r = 0 := if_neg (by omega)
      simp (decide := true) (disch := omega) only [D_every, t, F_X12_every_15, gd_c t, b1_some, b2_some, litI, neg1, nI_add, nI_mul, e1_p1, nI_e0, ib, ib1, ite_not, if_true, if_false, not_true_eq_false, not_false_eq_true, setI_hv, e, Option.some.injEq, Sum.inl.injEq]
  · have v0 : f a 0 = _ := v0
    have v1 : f a 1 = _ := v1
    refine ⟨fun r hr => ?_, ?_, ?_, fun r hr => ?_⟩
    · have e : lv S i 0 r = 0 := if_neg (by omega)
      simp (decide := true) (disch := omega) only [D_room, t, F_X12_room_16, gd_c t, b1_some, b2_some, litI, neg1, nI_add, nI_mul, e1_p1, nI_e0, ib, ib1, ite_not, if_true, if_false, not_true_eq_false, not_false_eq_true, setI_hv, e, Option.some.injEq, Sum.inl.injEq]
    · have e : lv S i 1 0 = 0 := if_neg (by omega)
      simp (decide := true) (disch := omega) only [D_again, t, F_X12_again_16, gd_c t, b1_some, b2_some, litI, neg1, nI_add, nI_mul, e1_p1, nI_e0, ib, ib1, ite_not, if_true, if_false, not_true_eq_false, not_false_eq_true, setI_hv, e, Option.some.injEq, Sum.inl.injEq]
    · have e : lv S i 2 0 = 0 := if_neg (by omega)
      simp (decide := true) (disch := omega) only [D_apart, t, F_X12_apart_16, gd_c t, b1_some, b2_some, litI, neg1, nI_add, nI_mul, e1_p1, nI_e0, ib, ib1, ite_not, if_true, if_false, not_true_eq_false, not_false_eq_true, setI_hv, e, Option.some.injEq, Sum.inl.injEq]
    · by_cases q : r = S.2 30 (3 * i + 1)
      · have e : lv S i 3 r = S.2 30 (3 * i + 2) + 1 := if_pos ⟨s0, q.symm⟩
        rw [← q] at v0
        simp (decide := true) (disch := omega) only [D_every, t, F_X16_every, gd_c t, gI_c t, b1_some, b2_some, litI, neg1, nI_add, nI_mul, e1_p1, nI_e0, ib, ib1, ite_not, if_true, if_false, not_true_eq_false, not_false_eq_true, setI_hv, v0, v1, e, e1_s, Option.some.injEq, Sum.inl.injEq]
      · have e : lv S i 3 r = 0 := if_neg (fun z => q z.2.symm)
        simp (decide := true) (disch := omega) only [D_every, t, F_X16_every, F_X12_every_16, gd_c t, gI_c t, b1_some, b2_some, litI, neg1, nI_add, nI_mul, e1_p1, nI_e0, ib, ib1, ite_not, if_true, if_false, not_true_eq_false, not_false_eq_true, setI_hv, v0, v1, eq_lit, q, e, Option.some.injEq, Sum.inl.injEq]
theorem x_roomFor {N : Nat} {σ : Hp} {f : Nat → Nat → Int32} {S : St} (g : Good S) (h : RepX N (hv σ f) S) {r : Nat} (hr : r < 8) : F_X0_roomFor (hv σ f) N (nI r) = some (e1 (los S 0 r), hv σ f) := by
  have s : SX N σ := h.1
  have lm := g.lm
  unfold F_X0_roomFor L_X0_roomFor_4
  rw [gd_hv s.t0]
  obtain ⟨m, hm⟩ := it_FU (body := fun rec st => B_X0_roomFor_4 N (nI r) rec st.1 st.2.1 st.2.2) (fun i => (hv σ f, e1 (lo S 0 r i), nI i)) 0 (S.1 29) (by omega) (by omega) (fun i _ hi rec => by
    obtain ⟨L, a, l1, l2, l3, -⟩ := x_line g h hi
    have vb := lv_le g hi 0 r
    show B_X0_roomFor_4 N (nI r) rec (hv σ f) (e1 (lo S 0 r i)) (nI i) = rec (hv σ f, e1 (if lv S i 0 r = 0 then lo S 0 r i else lv S i 0 r), nI (i + 1))
    by_cases q : lv S i 0 r = 0
    · simp (decide := true) (disch := omega) only [B_X0_roomFor_4, gd_hv s.t0, gI_hv s.t0, pI_hv s.t0, b1_some, b2_some, litI, neg1, nI_add, nI_mul, e1_p1, nI_e0, ib, ib1, ite_not, if_true, if_false, not_true_eq_false, not_false_eq_true, setI_hv, h.s29, le_lit, show ¬ S.1 29 ≤ i by omega, l1, l2, l3, q]
    · simp (decide := true) (disch := omega) only [B_X0_roomFor_4, gd_hv s.t0, gI_hv s.t0, pI_hv s.t0, b1_some, b2_some, litI, neg1, nI_add, nI_mul, e1_p1, nI_e0, ib, ib1, ite_not, if_true, if_false, not_true_eq_false, not_false_eq_true, setI_hv, h.s29, le_lit, show ¬ S.1 29 ≤ i by omega, l1, l2, l3, q, e1_inj])
  refine Eq.trans (b := it (fun rec st => B_X0_roomFor_4 N (nI r) rec st.1 st.2.1 st.2.2) FU (hv σ f, e1 (lo S 0 r 0), nI 0)) rfl (hm.trans ?_)
  simp (decide := true) (disch := omega) only [B_X0_roomFor_4, gd_hv s.t0, gI_hv s.t0, pI_hv s.t0, b1_some, b2_some, litI, neg1, nI_add, nI_mul, e1_p1, nI_e0, ib, ib1, ite_not, if_true, if_false, not_true_eq_false, not_false_eq_true, setI_hv, h.s29, le_lit, Nat.le_refl]
  rfl
end
section
set_option maxRecDepth 100000
/-! pure law 20: bars, due -/
abbrev crw (S : St) (t c a : Nat) : Prop := ¬ S.2 9 c = 0 ∧ a < lkn S t (S.2 9 c - 1)
theorem m_too {M : Nat} {σ : Hp} {f : Nat → Nat → Int32} {S : St} (g : Good S) (h : RepM M (hv σ f) S) {t c a : Nat} (ht : t < 24) (hc : c < 48) (ha : a ≤ 100) : F_X10_isTooLike (hv σ f) M (nI t) (nI c) (nI a) = some (if crw S t c a then nI 1 else nI 0, hv σ f) := by
  have s : SM M σ := h.1
  have b := g.cn hc
  by_cases q : S.2 9 c = 0
  · simp (decide := true) (disch := omega) only [F_X10_isTooLike, gd_hv s.1, gI_hv s.1, pI_hv s.1, s.R9, s.A9, s.W9, b1_some, b2_some, litI, neg1, nI_add, nI_mul, e1_p1, nI_e0, ib, ib1, ite_not, if_true, if_false, not_true_eq_false, not_false_eq_true, setI_hv, h.a9, q, crw, false_and]
  · have lk := m_lk g h (a := S.2 9 c - 1) (b := t) (by omega) ht
    rw [lkn_comm] at lk
    have hl := lkn_le S t (S.2 9 c - 1)
    by_cases q2 : a < lkn S t (S.2 9 c - 1)
    · simp (decide := true) (disch := omega) only [F_X10_isTooLike, gd_hv s.1, gI_hv s.1, pI_hv s.1, s.R9, s.A9, s.W9, b1_some, b2_some, litI, neg1, nI_add, nI_mul, e1_p1, nI_e0, ib, ib1, ite_not, if_true, if_false, not_true_eq_false, not_false_eq_true, setI_hv, h.a9, q, e1_of, lk, le_lit, show ¬ lkn S t (S.2 9 c - 1) ≤ a by omega, crw, q2, and_self]
    · simp (decide := true) (disch := omega) only [F_X10_isTooLike, gd_hv s.1, gI_hv s.1, pI_hv s.1, s.R9, s.A9, s.W9, b1_some, b2_some, litI, neg1, nI_add, nI_mul, e1_p1, nI_e0, ib, ib1, ite_not, if_true, if_false, not_true_eq_false, not_false_eq_true, setI_hv, h.a9, q, e1_of, lk, le_lit, show lkn S t (S.2 9 c - 1) ≤ a by omega, crw, q2, and_false]
theorem m_bars92 {M : Nat} {σ : Hp} {f : Nat → Nat → Int32} {S : St} (g : Good S) (h : RepM M (hv σ f) S) {t c a : Nat} (ht : t < 24) (hc : c < 48) (ha : a ≤ 100) (y0 y1 : Nat) : F_X10_bars_92 (hv σ f) M (nI t) (nI c) (nI a) (nI y0) (nI y1) = some (nI (y1 + y0 + if (0 < c % 6 ∧ crw S t (c - 1) a) ∨ (c % 6 < 5 ∧ crw S t (c + 1) a) then 4 else 0), hv σ f) := by
  have e114 : ∀ y, ¬ (0 < c % 6 ∧ crw S t (c - 1) a) → F_X10_bars_114 (hv σ f) M (nI t) (nI c) (nI y) (nI a) = some (nI (y + if (0 < c % 6 ∧ crw S t (c - 1) a) ∨ (c % 6 < 5 ∧ crw S t (c + 1) a) then 4 else 0), hv σ f) := fun y q0 => by
    by_cases q : c % 6 < 5
    · have mt := m_too g h (t := t) (c := c + 1) (a := a) ht (by omega) ha
      by_cases q2 : crw S t (c + 1) a
      · rw [if_pos q2] at mt
        rw [if_pos (Or.inr ⟨q, q2⟩)]
        simp (decide := true) (disch := omega) only [F_X10_bars_114, F_X10_bars_135, b1_some, b2_some, litI, neg1, nI_add, nI_mul, e1_p1, nI_e0, ib, ib1, ite_not, if_true, if_false, not_true_eq_false, not_false_eq_true, setI_hv, c6, r6', le_lit, show ¬ 5 ≤ c % 6 by omega, mt]
      · rw [if_neg q2] at mt
        rw [if_neg (fun z => z.elim q0 (fun w => q2 w.2))]
        simp (decide := true) (disch := omega) only [F_X10_bars_114, F_X10_bars_135, b1_some, b2_some, litI, neg1, nI_add, nI_mul, e1_p1, nI_e0, ib, ib1, ite_not, if_true, if_false, not_true_eq_false, not_false_eq_true, setI_hv, c6, r6', le_lit, show ¬ 5 ≤ c % 6 by omega, mt]
    · rw [if_neg (fun z => z.elim q0 (fun w => q w.1))]
      simp (decide := true) (disch := omega) only [F_X10_bars_114, b1_some, b2_some, litI, neg1, nI_add, nI_mul, e1_p1, nI_e0, ib, ib1, ite_not, if_true, if_false, not_true_eq_false, not_false_eq_true, setI_hv, c6, r6', le_lit, show 5 ≤ c % 6 by omega]
  by_cases q : 0 < c % 6
  · have mt := m_too g h (t := t) (c := c - 1) (a := a) ht (by omega) ha
    by_cases q2 : crw S t (c - 1) a
    · rw [if_pos q2] at mt
      rw [if_pos (Or.inl ⟨q, q2⟩)]
      simp (decide := true) (disch := omega) only [F_X10_bars_92, F_X10_bars_135, b1_some, b2_some, litI, neg1, nI_add, nI_mul, e1_p1, nI_e0, ib, ib1, ite_not, if_true, if_false, not_true_eq_false, not_false_eq_true, setI_hv, c6, r6', le_lit, show ¬ c % 6 ≤ 0 by omega, show ¬ c - c / 6 * 6 ≤ 0 by omega, nI_sub, mt]
    · rw [if_neg q2] at mt
      have e := e114 (y1 + y0) (fun z => q2 z.2)
      revert e
      generalize (if (0 < c % 6 ∧ crw S t (c - 1) a) ∨ (c % 6 < 5 ∧ crw S t (c + 1) a) then 4 else 0) = z
      intro e
      simp (decide := true) (disch := omega) only [F_X10_bars_92, b1_some, b2_some, litI, neg1, nI_add, nI_mul, e1_p1, nI_e0, ib, ib1, ite_not, if_true, if_false, not_true_eq_false, not_false_eq_true, setI_hv, c6, r6', le_lit, show ¬ c % 6 ≤ 0 by omega, show ¬ c - c / 6 * 6 ≤ 0 by omega, nI_sub, mt, e]
  · have e := e114 (y1 + y0) (fun z => q z.1)
    revert e
    generalize (if (0 < c % 6 ∧ crw S t (c - 1) a) ∨ (c % 6 < 5 ∧ crw S t (c + 1) a) then 4 else 0) = z
    intro e
    simp (decide := true) (disch := omega) only [F_X10_bars_92, b1_some, b2_some, litI, neg1, nI_add, nI_mul, e1_p1, nI_e0, ib, ib1, ite_not, if_true, if_false, not_true_eq_false, not_false_eq_true, setI_hv, c6, r6', le_lit, show c % 6 ≤ 0 by omega, e]
def ba1 (S : St) (c : Nat) : Nat := if ¬ los S 0 (c / 6) = 0 ∧ los S 0 (c / 6) - 1 ≤ stn (S.2 9) (c / 6) then 1 else 0
def ba2 (S : St) (c : Nat) : Nat := if ¬ los S 1 0 = 0 ∧ ¬ S.2 13 c = 0 ∧ S.1 0 - (S.2 13 c - 1) < los S 1 0 - 1 then 2 else 0
def ba3 (S : St) (t c : Nat) : Nat := if ¬ los S 2 0 = 0 ∧ ((0 < c % 6 ∧ crw S t (c - 1) (los S 2 0 - 1)) ∨ (c % 6 < 5 ∧ crw S t (c + 1) (los S 2 0 - 1))) then 4 else 0
def oBars (t c : Int32) (S : St) : Int32 × St := if inR t 0 23 ∧ inR c 0 47 then (nI (ba1 S c.toNatClampNeg + ba2 S c.toNatClampNeg + ba3 S t.toNatClampNeg c.toNatClampNeg), S) else (-2, S)
theorem ba3_m (S : St) (t c : Nat) : (if (0 < c % 6 ∧ crw S t (c - 1) (if los S 2 0 = 0 then 100 else los S 2 0 - 1)) ∨ (c % 6 < 5 ∧ crw S t (c + 1) (if los S 2 0 = 0 then 100 else los S 2 0 - 1)) then 4 else 0) = ba3 S t c := by
  unfold ba3
  by_cases q : los S 2 0 = 0
  · rw [if_pos q]
    have n1 : ∀ x, ¬ crw S t x 100 := fun x z => by have := lkn_le S t (S.2 9 x - 1); have := z.2; omega
    rw [if_neg (fun z => z.elim (fun w => n1 _ w.2) (fun w => n1 _ w.2)), if_neg (fun z => z.1 q)]
  · rw [if_neg q]
    by_cases w : (0 < c % 6 ∧ crw S t (c - 1) (los S 2 0 - 1)) ∨ (c % 6 < 5 ∧ crw S t (c + 1) (los S 2 0 - 1))
    · rw [if_pos w, if_pos ⟨q, w⟩]
    · rw [if_neg w, if_neg (fun z => w z.2)]
theorem m_bars (M : Nat) (t c : Int32) : OkMf M (fun σ => F_X10_bars σ M t c) (oBars t c) := by
  intro σ f S g h
  have s : SM M σ := h.1
  simp only [F_X10_bars, oBars, gd_hv s.1, x10_isThing, x10_isCorner, b2_some]
  rcases in_split t 0 23 (by omega) (by omega) with ⟨i, -, hi, rfl⟩ | hk
  case inr => simp (decide := true) (disch := omega) only [b1_some, b2_some, litI, neg1, nI_add, nI_mul, e1_p1, nI_e0, ib, ib1, ite_not, if_true, if_false, not_true_eq_false, not_false_eq_true, setI_hv, hk, false_and]; exact ⟨_, rfl, h, fun _ _ _ => rfl⟩
  have qi := eq_true (inR_of (Nat.zero_le i) hi (by omega))
  rcases in_split c 0 47 (by omega) (by omega) with ⟨j, -, hj, rfl⟩ | hk
  case inr => simp (decide := true) (disch := omega) only [b1_some, b2_some, litI, neg1, nI_add, nI_mul, e1_p1, nI_e0, ib, ib1, ite_not, if_true, if_false, not_true_eq_false, not_false_eq_true, setI_hv, qi, hk, and_false]; exact ⟨_, rfl, h, fun _ _ _ => rfl⟩
  have qj := eq_true (inR_of (Nat.zero_le j) hj (by omega))
  have b := g.cn (c := j) (by omega)
  have dy := g.dy
  have l0 := lo_le g 0 (j / 6) (S.1 29) (Nat.le_refl _)
  have l1 := lo_le g 1 0 (S.1 29) (Nat.le_refl _)
  have l2 := lo_le g 2 0 (S.1 29) (Nat.le_refl _)
  have sl := stn_le (S.2 9) (j / 6)
  have la1 := m_last g h (s := 1) (r := 0) (w := 0) (by omega) (by omega) (by omega)
  have la2 := m_last g h (s := 2) (r := 0) (w := 100) (by omega) (by omega) (by omega)
  have la0 := m_last g h (s := 0) (r := j / 6) (w := 100) (by omega) (by omega) (by omega)
  have e92 : ∀ y0 y1, F_X10_bars_92 (hv σ f) M (nI i) (nI j) (nI (if los S 2 0 = 0 then 100 else los S 2 0 - 1)) (nI y0) (nI y1) = some (nI (y1 + y0 + ba3 S i j), hv σ f) := fun y0 y1 => by
    have := m_bars92 g h (t := i) (c := j) (a := if los S 2 0 = 0 then 100 else los S 2 0 - 1) (by omega) (by omega) (by unfold los; split <;> omega) y0 y1
    rw [ba3_m] at this
    exact this
  have e44 : ∀ y, F_X10_bars_44 (hv σ f) M (nI i) (nI j) (nI y) = some (nI (y + ba2 S j + ba3 S i j), hv σ f) := fun y => by
    revert e92 la2
    generalize (if los S 2 0 = 0 then 100 else los S 2 0 - 1) = z2
    intro la2 e92
    by_cases q1 : S.2 13 j = 0
    · have e : ba2 S j = 0 := if_neg (fun z => z.2.1 q1)
      simp (decide := true) (disch := omega) only [F_X10_bars_44, F_X10_bars_91, gd_hv s.1, gI_hv s.1, pI_hv s.1, s.R13, s.A13, s.W13, b1_some, b2_some, litI, neg1, nI_add, nI_mul, e1_p1, nI_e0, ib, ib1, ite_not, if_true, if_false, not_true_eq_false, not_false_eq_true, setI_hv, la2, h.a13, q1, e92, e]
    · by_cases q2 : los S 1 0 = 0
      · have e : ba2 S j = 0 := if_neg (fun z => z.1 q2)
        rw [if_pos q2] at la1
        simp (decide := true) (disch := omega) only [F_X10_bars_44, F_X10_bars_91, gd_hv s.1, gI_hv s.1, pI_hv s.1, s.R13, s.A13, s.W13, b1_some, b2_some, litI, neg1, nI_add, nI_mul, e1_p1, nI_e0, ib, ib1, ite_not, if_true, if_false, not_true_eq_false, not_false_eq_true, setI_hv, la2, h.a13, q1, e1_of, h.s0, la1, nI_sub, le_lit, Nat.zero_le, e92, e]
      · rw [if_neg q2] at la1
        have l1' : los S 1 0 ≤ 100 := l1.1
        by_cases q3 : S.1 0 - (S.2 13 j - 1) < los S 1 0 - 1
        · have e : ba2 S j = 2 := if_pos ⟨q2, q1, q3⟩
          simp (decide := true) (disch := omega) only [F_X10_bars_44, F_X10_bars_91, gd_hv s.1, gI_hv s.1, pI_hv s.1, s.R13, s.A13, s.W13, b1_some, b2_some, litI, neg1, nI_add, nI_mul, e1_p1, nI_e0, ib, ib1, ite_not, if_true, if_false, not_true_eq_false, not_false_eq_true, setI_hv, la2, h.a13, q1, e1_of, h.s0, la1, nI_sub, le_lit, show ¬ los S 1 0 - 1 ≤ S.1 0 - (S.2 13 j - 1) by omega, e92, e]
        · have e : ba2 S j = 0 := if_neg (fun z => q3 z.2.2)
          simp (decide := true) (disch := omega) only [F_X10_bars_44, F_X10_bars_91, gd_hv s.1, gI_hv s.1, pI_hv s.1, s.R13, s.A13, s.W13, b1_some, b2_some, litI, neg1, nI_add, nI_mul, e1_p1, nI_e0, ib, ib1, ite_not, if_true, if_false, not_true_eq_false, not_false_eq_true, setI_hv, la2, h.a13, q1, e1_of, h.s0, la1, nI_sub, le_lit, show los S 1 0 - 1 ≤ S.1 0 - (S.2 13 j - 1) by omega, e92, e]
  refine ⟨f, ?_, ?_, fun _ _ _ => rfl⟩
  · have l0' : los S 0 (j / 6) ≤ 100 := l0.1
    by_cases q : los S 0 (j / 6) = 0
    · have e : ba1 S j = 0 := if_neg (fun z => z.1 q)
      rw [if_pos q] at la0
      simp (decide := true) (disch := omega) only [b1_some, b2_some, litI, neg1, nI_add, nI_mul, e1_p1, nI_e0, ib, ib1, ite_not, if_true, if_false, not_true_eq_false, not_false_eq_true, setI_hv, qi, qj, and_self, cl_I, c6, m_stand g h, la0, lt_lit, show stn (S.2 9) (j / 6) < 100 by omega, e44, e]
    · rw [if_neg q] at la0
      by_cases q2 : los S 0 (j / 6) - 1 ≤ stn (S.2 9) (j / 6)
      · have e : ba1 S j = 1 := if_pos ⟨q, q2⟩
        simp (decide := true) (disch := omega) only [b1_some, b2_some, litI, neg1, nI_add, nI_mul, e1_p1, nI_e0, ib, ib1, ite_not, if_true, if_false, not_true_eq_false, not_false_eq_true, setI_hv, qi, qj, and_self, cl_I, c6, m_stand g h, la0, lt_lit, show ¬ stn (S.2 9) (j / 6) < los S 0 (j / 6) - 1 by omega, e44, e]
      · have e : ba1 S j = 0 := if_neg (fun z => q2 z.2)
        simp (decide := true) (disch := omega) only [b1_some, b2_some, litI, neg1, nI_add, nI_mul, e1_p1, nI_e0, ib, ib1, ite_not, if_true, if_false, not_true_eq_false, not_false_eq_true, setI_hv, qi, qj, and_self, cl_I, c6, m_stand g h, la0, lt_lit, show stn (S.2 9) (j / 6) < los S 0 (j / 6) - 1 by omega, e44, e]
  · simp (decide := true) (disch := omega) only [qi, qj, and_self, if_true]
    exact h
theorem x_crow {N : Nat} {σ : Hp} {f : Nat → Nat → Int32} {S : St} (g : Good S) (h : RepX N (hv σ f) S) {t r k a : Nat} (ht : t < 24) (hr : r < 8) (hk : k ≤ 5) (ha : a ≤ 100) : F_X0_crowds (hv σ f) N (nI t) (nI r) (nI k) (nI a) = some (if crw S t (6 * r + k) a then nI 1 else nI 0, hv σ f) := by
  have s : SX N σ := h.1
  have b := g.cn (c := 6 * r + k) (by omega)
  have th := s.h12.there (f := f) (c := 6 * r + k) (by omega) (by omega : S.2 9 (6 * r + k) < 1000) (h.a9 (by omega))
  simp only [F_X0_crowds, gd_hv s.t0, x0_inR _ (nI k) 0 5 0 5 (by decide) (by decide), inE hk, if_true, b2_some, if10]
  by_cases q : S.2 9 (6 * r + k) = 0
  · simp (decide := true) (disch := omega) only [gd_hv s.t0, gI_hv s.t0, pI_hv s.t0, s.R7, s.R12_0, s.C12, s.h12.CD, s.h12.CI, s.h12.CW, s.h12.G, s.h12.GD, s.h12.GI, s.h12.GW, th, b1_some, b2_some, litI, neg1, nI_add, nI_mul, e1_p1, nI_e0, ib, ib1, ite_not, if_true, if_false, not_true_eq_false, not_false_eq_true, setI_hv, q, ne_eq, crw, false_and]
  · have lk := xl_lk g s h.lk (a := t) (b := S.2 9 (6 * r + k) - 1) ht (by omega)
    have hl := lkn_le S t (S.2 9 (6 * r + k) - 1)
    by_cases q2 : a < lkn S t (S.2 9 (6 * r + k) - 1)
    · simp (decide := true) (disch := omega) only [gd_hv s.t0, gI_hv s.t0, pI_hv s.t0, s.R7, s.R12_0, s.C12, s.h12.CD, s.h12.CI, s.h12.CW, s.h12.G, s.h12.GD, s.h12.GI, s.h12.GW, th, b1_some, b2_some, litI, neg1, nI_add, nI_mul, e1_p1, nI_e0, ib, ib1, ite_not, if_true, if_false, not_true_eq_false, not_false_eq_true, setI_hv, q, ne_eq, h.a9, e1_of, lk, le_lit, eq_lit, show ¬ lkn S t (S.2 9 (6 * r + k) - 1) ≤ a by omega, crw, q2, and_self]
    · simp (decide := true) (disch := omega) only [gd_hv s.t0, gI_hv s.t0, pI_hv s.t0, s.R7, s.R12_0, s.C12, s.h12.CD, s.h12.CI, s.h12.CW, s.h12.G, s.h12.GD, s.h12.GI, s.h12.GW, th, b1_some, b2_some, litI, neg1, nI_add, nI_mul, e1_p1, nI_e0, ib, ib1, ite_not, if_true, if_false, not_true_eq_false, not_false_eq_true, setI_hv, q, ne_eq, h.a9, e1_of, lk, le_lit, eq_lit, show lkn S t (S.2 9 (6 * r + k) - 1) ≤ a by omega, crw, q2, and_false]
theorem x_crow0 {N : Nat} {σ : Hp} {f : Nat → Nat → Int32} (s : SX N σ) (x y z : Int32) : F_X0_crowds (hv σ f) N x y (e1 0) z = some (nI 0, hv σ f) := by
  simp only [F_X0_crowds, gd_hv s.t0, x0_inR _ (e1 0) 0 5 0 5 (by decide) (by decide), inE0, if_false, b2_some]
  rfl
theorem x_crow6 {N : Nat} {σ : Hp} {f : Nat → Nat → Int32} (s : SX N σ) (x y z : Int32) : F_X0_crowds (hv σ f) N x y (nI 6) z = some (nI 0, hv σ f) := by
  simp only [F_X0_crowds, gd_hv s.t0, x0_inR _ (nI 6) 0 5 0 5 (by decide) (by decide), inE6, if_false, b2_some]
  rfl
theorem e1_m (n : Nat) : nI n - nI 1 = e1 n := rfl
theorem x_bars192 {N : Nat} {σ : Hp} {f : Nat → Nat → Int32} {S : St} (g : Good S) (h : RepX N (hv σ f) S) {t c : Nat} (ht : t < 24) (hc : c < 48) (y0 y1 : Nat) : F_X0_bars_192 (hv σ f) N (nI t) (nI (c / 6)) (nI (c % 6)) (e1 (los S 2 0)) (nI y0) (nI y1) = some (nI (y1 + y0 + ba3 S t c), hv σ f) := by
  have s : SX N σ := h.1
  have l2 : los S 2 0 ≤ 100 := (lo_le g 2 0 (S.1 29) (Nat.le_refl _)).1
  by_cases q : los S 2 0 = 0
  · have e : ba3 S t c = 0 := if_neg (fun z => z.1 q)
    simp (decide := true) (disch := omega) only [F_X0_bars_192, b1_some, b2_some, litI, neg1, nI_add, nI_mul, e1_p1, nI_e0, ib, ib1, ite_not, if_true, if_false, not_true_eq_false, not_false_eq_true, setI_hv, q, e]
  have el : F_X0_crowds (hv σ f) N (nI t) (nI (c / 6)) (e1 (c % 6)) (nI (los S 2 0 - 1)) = some (if 0 < c % 6 ∧ crw S t (c - 1) (los S 2 0 - 1) then nI 1 else nI 0, hv σ f) := by
    by_cases z : c % 6 = 0
    · rw [z, x_crow0 s, if_neg (fun w => by omega)]
    · have := x_crow g h (t := t) (r := c / 6) (k := c % 6 - 1) (a := los S 2 0 - 1) ht (by omega) (by omega) (by omega)
      rw [e1_of (by omega), this, show 6 * (c / 6) + (c % 6 - 1) = c - 1 by omega]
      by_cases w : crw S t (c - 1) (los S 2 0 - 1)
      · rw [if_pos w, if_pos ⟨by omega, w⟩]
      · rw [if_neg w, if_neg (fun v => w v.2)]
  have er : F_X0_crowds (hv σ f) N (nI t) (nI (c / 6)) (nI (c % 6 + 1)) (nI (los S 2 0 - 1)) = some (if c % 6 < 5 ∧ crw S t (c + 1) (los S 2 0 - 1) then nI 1 else nI 0, hv σ f) := by
    by_cases z : c % 6 = 5
    · rw [z, x_crow6 s, if_neg (fun w => by omega)]
    · have := x_crow g h (t := t) (r := c / 6) (k := c % 6 + 1) (a := los S 2 0 - 1) ht (by omega) (by omega) (by omega)
      rw [this, show 6 * (c / 6) + (c % 6 + 1) = c + 1 by omega]
      by_cases w : crw S t (c + 1) (los S 2 0 - 1)
      · rw [if_pos w, if_pos ⟨by omega, w⟩]
      · rw [if_neg w, if_neg (fun v => w v.2)]
  by_cases w1 : 0 < c % 6 ∧ crw S t (c - 1) (los S 2 0 - 1)
  · have e : ba3 S t c = 4 := if_pos ⟨q, Or.inl w1⟩
    rw [if_pos w1] at el
    simp (decide := true) (disch := omega) only [F_X0_bars_192, b1_some, b2_some, litI, neg1, nI_add, nI_mul, e1_p1, nI_e0, ib, ib1, ite_not, if_true, if_false, not_true_eq_false, not_false_eq_true, setI_hv, e1_of, q, e, eq_lit]
    rw [e1_m, el]
    simp (decide := true) (disch := omega) only [b1_some, b2_some, litI, neg1, nI_add, nI_mul, e1_p1, nI_e0, ib, ib1, ite_not, if_true, if_false, not_true_eq_false, not_false_eq_true, setI_hv]
  · rw [if_neg w1] at el
    by_cases w2 : c % 6 < 5 ∧ crw S t (c + 1) (los S 2 0 - 1)
    · have e : ba3 S t c = 4 := if_pos ⟨q, Or.inr w2⟩
      rw [if_pos w2] at er
      simp (decide := true) (disch := omega) only [F_X0_bars_192, b1_some, b2_some, litI, neg1, nI_add, nI_mul, e1_p1, nI_e0, ib, ib1, ite_not, if_true, if_false, not_true_eq_false, not_false_eq_true, setI_hv, e1_of, q, e, eq_lit, er]
      rw [e1_m, el]
      simp (decide := true) (disch := omega) only [b1_some, b2_some, litI, neg1, nI_add, nI_mul, e1_p1, nI_e0, ib, ib1, ite_not, if_true, if_false, not_true_eq_false, not_false_eq_true, setI_hv, er, eq_lit]
    · have e : ba3 S t c = 0 := if_neg (fun z => z.2.elim w1 w2)
      rw [if_neg w2] at er
      simp (decide := true) (disch := omega) only [F_X0_bars_192, b1_some, b2_some, litI, neg1, nI_add, nI_mul, e1_p1, nI_e0, ib, ib1, ite_not, if_true, if_false, not_true_eq_false, not_false_eq_true, setI_hv, e1_of, q, e, eq_lit, er]
      rw [e1_m, el]
      simp (decide := true) (disch := omega) only [b1_some, b2_some, litI, neg1, nI_add, nI_mul, e1_p1, nI_e0, ib, ib1, ite_not, if_true, if_false, not_true_eq_false, not_false_eq_true, setI_hv, er, eq_lit]
theorem x_bars (N : Nat) (t c : Int32) : OkXf N (fun σ => F_X0_bars σ N t c) (oBars t c) := by
  intro σ f S g h
  have s : SX N σ := h.1
  simp only [F_X0_bars, oBars, gd_hv s.t0, x0_isThing, x0_isCorner, b2_some]
  rcases in_split t 0 23 (by omega) (by omega) with ⟨i, -, hi, rfl⟩ | hk
  case inr => simp (decide := true) (disch := omega) only [b1_some, b2_some, litI, neg1, nI_add, nI_mul, e1_p1, nI_e0, ib, ib1, ite_not, if_true, if_false, not_true_eq_false, not_false_eq_true, setI_hv, hk, false_and]; exact ⟨_, rfl, h, fun _ _ _ => rfl⟩
  have qi := eq_true (inR_of (Nat.zero_le i) hi (by omega))
  rcases in_split c 0 47 (by omega) (by omega) with ⟨j, -, hj, rfl⟩ | hk
  case inr => simp (decide := true) (disch := omega) only [b1_some, b2_some, litI, neg1, nI_add, nI_mul, e1_p1, nI_e0, ib, ib1, ite_not, if_true, if_false, not_true_eq_false, not_false_eq_true, setI_hv, qi, hk, and_false]; exact ⟨_, rfl, h, fun _ _ _ => rfl⟩
  have qj := eq_true (inR_of (Nat.zero_le j) hj (by omega))
  have b := g.cn (c := j) (by omega)
  have dy := g.dy
  have lm := g.lm
  have l0' : los S 0 (j / 6) ≤ 100 := (lo_le g 0 (j / 6) (S.1 29) (Nat.le_refl _)).1
  have l1' : los S 1 0 ≤ 100 := (lo_le g 1 0 (S.1 29) (Nat.le_refl _)).1
  have sl := stn_le (S.2 9) (j / 6)
  have e192 := x_bars192 g h (t := i) (c := j) (by omega) (by omega)
  have e159 : ∀ y, F_X0_bars_159 (hv σ f) N (nI i) (nI (j / 6)) (nI (j % 6)) (e1 (los S 1 0)) (e1 (los S 2 0)) (e1 (S.2 13 j)) (nI y) = some (nI (y + ba2 S j + ba3 S i j), hv σ f) := fun y => by
    by_cases q1 : los S 1 0 = 0
    · have e : ba2 S j = 0 := if_neg (fun z => z.1 q1)
      simp (decide := true) (disch := omega) only [F_X0_bars_159, F_X0_bars_191, b1_some, b2_some, litI, neg1, nI_add, nI_mul, e1_p1, nI_e0, ib, ib1, ite_not, if_true, if_false, not_true_eq_false, not_false_eq_true, setI_hv, q1, e192, e]
    · by_cases q2 : S.2 13 j = 0
      · have e : ba2 S j = 0 := if_neg (fun z => z.2.1 q2)
        simp (decide := true) (disch := omega) only [F_X0_bars_159, F_X0_bars_191, b1_some, b2_some, litI, neg1, nI_add, nI_mul, e1_p1, nI_e0, ib, ib1, ite_not, if_true, if_false, not_true_eq_false, not_false_eq_true, setI_hv, q1, q2, e1_inj, e192, e, ite_self]
      · by_cases q3 : S.1 0 - (S.2 13 j - 1) < los S 1 0 - 1
        · have e : ba2 S j = 2 := if_pos ⟨q1, q2, q3⟩
          rw [e1_of (by omega : 0 < los S 1 0), e1_of (by omega : 0 < S.2 13 j)]
          simp (decide := true) (disch := omega) only [F_X0_bars_159, F_X0_bars_191, gd_hv s.t0, gI_hv s.t0, pI_hv s.t0, b1_some, b2_some, litI, neg1, nI_add, nI_mul, e1_p1, nI_e0, ib, ib1, ite_not, if_true, if_false, not_true_eq_false, not_false_eq_true, setI_hv, h.s0, nI_sub, le_lit, show ¬ los S 1 0 - 1 ≤ S.1 0 - (S.2 13 j - 1) by omega, e192, e]
        · have e : ba2 S j = 0 := if_neg (fun z => q3 z.2.2)
          rw [e1_of (by omega : 0 < los S 1 0), e1_of (by omega : 0 < S.2 13 j)]
          simp (decide := true) (disch := omega) only [F_X0_bars_159, F_X0_bars_191, gd_hv s.t0, gI_hv s.t0, pI_hv s.t0, b1_some, b2_some, litI, neg1, nI_add, nI_mul, e1_p1, nI_e0, ib, ib1, ite_not, if_true, if_false, not_true_eq_false, not_false_eq_true, setI_hv, h.s0, nI_sub, le_lit, show los S 1 0 - 1 ≤ S.1 0 - (S.2 13 j - 1) by omega, e192, e]
  have e114 : F_X0_bars_114 (hv σ f) N (nI i) (nI j) (nI (j / 6)) (nI (j % 6)) (e1 (los S 1 0)) (e1 (los S 2 0)) = some (nI (ba1 S j + ba2 S j + ba3 S i j), hv σ f) := by
    by_cases q : los S 0 (j / 6) = 0
    · have e : ba1 S j = 0 := if_neg (fun z => z.1 q)
      simp (decide := true) (disch := omega) only [F_X0_bars_114, F_X0_bars_158, gd_hv s.t0, gI_hv s.t0, pI_hv s.t0, s.R7, s.R12_0, s.C12, s.h12.CD, s.h12.CI, s.h12.CW, s.h12.G, s.h12.GD, s.h12.GI, s.h12.GW, b1_some, b2_some, litI, neg1, nI_add, nI_mul, e1_p1, nI_e0, ib, ib1, ite_not, if_true, if_false, not_true_eq_false, not_false_eq_true, setI_hv, x_roomFor g h, h.a13, q, e159, e]
    · have rf := x_roomFor g h (r := j / 6) (by omega)
      rw [e1_of (by omega : 0 < los S 0 (j / 6))] at rf
      by_cases q2 : los S 0 (j / 6) - 1 ≤ stn (S.2 9) (j / 6)
      · have e : ba1 S j = 1 := if_pos ⟨q, q2⟩
        simp (decide := true) (disch := omega) only [F_X0_bars_114, F_X0_bars_158, gd_hv s.t0, gI_hv s.t0, pI_hv s.t0, s.R7, s.R12_0, s.C12, s.h12.CD, s.h12.CI, s.h12.CW, s.h12.G, s.h12.GD, s.h12.GI, s.h12.GW, b1_some, b2_some, litI, neg1, nI_add, nI_mul, e1_p1, nI_e0, ib, ib1, ite_not, if_true, if_false, not_true_eq_false, not_false_eq_true, setI_hv, rf, h.a13, x_held s.h12 h.hd g.hb, lt_lit, show ¬ stn (S.2 9) (j / 6) < los S 0 (j / 6) - 1 by omega, e159, e]
      · have e : ba1 S j = 0 := if_neg (fun z => q2 z.2)
        simp (decide := true) (disch := omega) only [F_X0_bars_114, F_X0_bars_158, gd_hv s.t0, gI_hv s.t0, pI_hv s.t0, s.R7, s.R12_0, s.C12, s.h12.CD, s.h12.CI, s.h12.CW, s.h12.G, s.h12.GD, s.h12.GI, s.h12.GW, b1_some, b2_some, litI, neg1, nI_add, nI_mul, e1_p1, nI_e0, ib, ib1, ite_not, if_true, if_false, not_true_eq_false, not_false_eq_true, setI_hv, rf, h.a13, x_held s.h12 h.hd g.hb, lt_lit, show stn (S.2 9) (j / 6) < los S 0 (j / 6) - 1 by omega, e159, e]
  obtain ⟨m, hm⟩ := it_FU (body := fun rec st => B_X0_bars_37 N (nI i) (nI j) (nI (j / 6)) (nI (j % 6)) rec st.1 st.2.1 st.2.2.1 st.2.2.2) (fun k => (hv σ f, e1 (lo S 1 0 k), e1 (lo S 2 0 k), nI k)) 0 (S.1 29) (by omega) (by omega) (fun k _ hk rec => by
    obtain ⟨L, a, l1, l2, -, l3, l4, -⟩ := x_line g h hk
    have v1 := lv_le g hk 1 0
    have v2 := lv_le g hk 2 0
    show B_X0_bars_37 N (nI i) (nI j) (nI (j / 6)) (nI (j % 6)) rec (hv σ f) (e1 (lo S 1 0 k)) (e1 (lo S 2 0 k)) (nI k) = rec (hv σ f, e1 (if lv S k 1 0 = 0 then lo S 1 0 k else lv S k 1 0), e1 (if lv S k 2 0 = 0 then lo S 2 0 k else lv S k 2 0), nI (k + 1))
    by_cases q1 : lv S k 1 0 = 0 <;> by_cases q2 : lv S k 2 0 = 0
    all_goals simp (decide := true) (disch := omega) only [B_X0_bars_37, F_X0_bars_75, gd_hv s.t0, gI_hv s.t0, pI_hv s.t0, b1_some, b2_some, litI, neg1, nI_add, nI_mul, e1_p1, nI_e0, ib, ib1, ite_not, if_true, if_false, not_true_eq_false, not_false_eq_true, setI_hv, h.s29, le_lit, show ¬ S.1 29 ≤ k by omega, l1, l2, l3, l4, q1, q2, e1_inj])
  have lp : L_X0_bars_37 N (nI i) (nI j) (nI (j / 6)) (nI (j % 6)) FU (hv σ f, e1 0, e1 0, nI 0) = some (nI (ba1 S j + ba2 S j + ba3 S i j), hv σ f) := by
    refine hm.trans ?_
    show B_X0_bars_37 N (nI i) (nI j) (nI (j / 6)) (nI (j % 6)) m (hv σ f) (e1 (los S 1 0)) (e1 (los S 2 0)) (nI (S.1 29)) = _
    simp (decide := true) (disch := omega) only [B_X0_bars_37, gd_hv s.t0, gI_hv s.t0, pI_hv s.t0, b1_some, b2_some, litI, neg1, nI_add, nI_mul, e1_p1, nI_e0, ib, ib1, ite_not, if_true, if_false, not_true_eq_false, not_false_eq_true, setI_hv, h.s29, le_lit, Nat.le_refl, e114]
  refine ⟨f, ?_, ?_, fun _ _ _ => rfl⟩
  · simp (decide := true) (disch := omega) only [b1_some, b2_some, litI, neg1, nI_add, nI_mul, e1_p1, nI_e0, ib, ib1, ite_not, if_true, if_false, not_true_eq_false, not_false_eq_true, setI_hv, qi, qj, and_self, cl_I, c6, r6', lp]
  · simp (decide := true) (disch := omega) only [qi, qj, and_self, if_true]
    exact h
end
section
set_option maxRecDepth 100000
/-! pure law 21: due -/
abbrev duf (S : St) (r : Nat) : Prop := ¬ los S 3 r = 0 ∧ (S.2 14 r = 0 ∨ los S 3 r - 1 ≤ S.1 0 - (S.2 14 r - 1))
def dm (S : St) : Nat → Nat
  | 0 => 0
  | n + 1 => if duf S n then dm S n ||| 2 ^ n else dm S n
theorem dm_lt (S : St) : ∀ n, n ≤ 8 → dm S n < 256
  | 0, _ => by show 0 < 256; omega
  | n + 1, h => by
    have ih := dm_lt S n (by omega)
    unfold dm
    split
    · exact (or_b n (by omega) _ ih).1
    · exact ih
theorem Good.wd {S : St} (g : Good S) {r : Nat} (hr : r < 8) : S.2 14 r ≤ S.1 0 + 1 := g.2.2.2.2.2.2.2.2.2.2.2.1 r hr
def oDue (S : St) : Int32 × St := (nI (dm S 8), S)
theorem m_due (M : Nat) : OkMf M (fun σ => F_X10_due σ M) oDue := by
  intro σ f S g h
  have s : SM M σ := h.1
  have dy := g.dy
  refine ⟨f, ?_, h, fun _ _ _ => rfl⟩
  show F_X10_due (hv σ f) M = some (nI (dm S 8), hv σ f)
  unfold F_X10_due L_X10_due_4
  rw [gd_hv s.1]
  obtain ⟨m, hm⟩ := it_FU (body := fun rec st => B_X10_due_4 M rec st.1 st.2.1 st.2.2) (fun i => (hv σ f, nI (dm S i), nI i)) 0 8 (by omega) (by omega) (fun i _ hi rec => by
    have wd := g.wd hi
    have d8 := dm_lt S i (by omega)
    have ll := lo_le g 3 i (S.1 29) (Nat.le_refl _)
    have l3 : los S 3 i ≤ 100 := ll.1
    have l4 : los S 3 i ≠ 1 := ll.2.2.2.1 rfl
    have la := m_last g h (s := 3) (r := i) (w := 0) (by omega) hi (by omega)
    show B_X10_due_4 M rec (hv σ f) (nI (dm S i)) (nI i) = rec (hv σ f, nI (if duf S i then dm S i ||| 2 ^ i else dm S i), nI (i + 1))
    by_cases q : los S 3 i = 0
    · rw [if_pos q] at la
      rw [if_neg (fun z => z.1 q)]
      simp (decide := true) (disch := omega) only [B_X10_due_4, F_X10_due_51, F_X10_due_52, b1_some, b2_some, litI, neg1, nI_add, nI_mul, e1_p1, nI_e0, ib, ib1, ite_not, if_true, if_false, not_true_eq_false, not_false_eq_true, setI_hv, le_lit, show ¬ 8 ≤ i by omega, la, Nat.le_refl, or_0 _ d8]
    · rw [if_neg q] at la
      by_cases q2 : S.2 14 i = 0
      · rw [if_pos ⟨q, Or.inl q2⟩]
        simp (decide := true) (disch := omega) only [B_X10_due_4, F_X10_due_47, F_X10_due_52, gd_hv s.1, gI_hv s.1, pI_hv s.1, s.R14, s.A14, s.W14, b1_some, b2_some, litI, neg1, nI_add, nI_mul, e1_p1, nI_e0, ib, ib1, ite_not, if_true, if_false, not_true_eq_false, not_false_eq_true, setI_hv, le_lit, eq_lit, show ¬ 8 ≤ i by omega, la, show ¬ los S 3 i - 1 ≤ 0 by omega, h.a14, q2, orN _ d8 i hi]
      · by_cases q3 : los S 3 i - 1 ≤ S.1 0 - (S.2 14 i - 1)
        · rw [if_pos ⟨q, Or.inr q3⟩]
          simp (decide := true) (disch := omega) only [B_X10_due_4, F_X10_due_47, F_X10_due_52, gd_hv s.1, gI_hv s.1, pI_hv s.1, s.R14, s.A14, s.W14, b1_some, b2_some, litI, neg1, nI_add, nI_mul, e1_p1, nI_e0, ib, ib1, ite_not, if_true, if_false, not_true_eq_false, not_false_eq_true, setI_hv, le_lit, lt_lit, eq_lit, show ¬ 8 ≤ i by omega, la, show ¬ los S 3 i - 1 ≤ 0 by omega, h.a14, e1_of, q2, h.s0, nI_sub, show ¬ S.1 0 - (S.2 14 i - 1) < los S 3 i - 1 by omega, orN _ d8 i hi]
        · rw [if_neg (fun z => z.2.elim q2 q3)]
          simp (decide := true) (disch := omega) only [B_X10_due_4, F_X10_due_51, F_X10_due_52, gd_hv s.1, gI_hv s.1, pI_hv s.1, s.R14, s.A14, s.W14, b1_some, b2_some, litI, neg1, nI_add, nI_mul, e1_p1, nI_e0, ib, ib1, ite_not, if_true, if_false, not_true_eq_false, not_false_eq_true, setI_hv, le_lit, lt_lit, eq_lit, show ¬ 8 ≤ i by omega, la, show ¬ los S 3 i - 1 ≤ 0 by omega, h.a14, e1_of, q2, h.s0, nI_sub, show S.1 0 - (S.2 14 i - 1) < los S 3 i - 1 by omega, or_0 _ d8])
  refine Eq.trans (b := it (fun rec st => B_X10_due_4 M rec st.1 st.2.1 st.2.2) FU (hv σ f, nI (dm S 0), nI 0)) rfl (hm.trans ?_)
  simp (decide := true) (disch := omega) only [B_X10_due_4, b1_some, b2_some, litI, neg1, nI_add, nI_mul, e1_p1, nI_e0, ib, ib1, ite_not, if_true, if_false, not_true_eq_false, not_false_eq_true, setI_hv, le_lit, Nat.le_refl]
theorem x_due (N : Nat) : OkXf N (fun σ => F_X0_due σ N) oDue := by
  intro σ f S g h
  have s : SX N σ := h.1
  have dy := g.dy
  have lm := g.lm
  refine ⟨f, ?_, h, fun _ _ _ => rfl⟩
  show F_X0_due (hv σ f) N = some (nI (dm S 8), hv σ f)
  unfold F_X0_due L_X0_due_4
  rw [gd_hv s.t0]
  obtain ⟨m, hm⟩ := it_FU (body := fun rec st => B_X0_due_4 N rec st.1 st.2.1 st.2.2) (fun i => (hv σ f, nI (dm S i), nI i)) 0 8 (by omega) (by omega) (fun i _ hi rec => by
    have wd := g.wd hi
    have d8 := dm_lt S i (by omega)
    have l3 : los S 3 i ≤ 100 := (lo_le g 3 i (S.1 29) (Nat.le_refl _)).1
    show B_X0_due_4 N rec (hv σ f) (nI (dm S i)) (nI i) = rec (hv σ f, nI (if duf S i then dm S i ||| 2 ^ i else dm S i), nI (i + 1))
    have e61 : F_X0_due_61 rec (hv σ f) N (nI (dm S i)) (nI i) (e1 (los S 3 i)) = rec (hv σ f, nI (if duf S i then dm S i ||| 2 ^ i else dm S i), nI (i + 1)) := by
      by_cases q : los S 3 i = 0
      · rw [if_neg (fun z => z.1 q)]
        simp (decide := true) (disch := omega) only [F_X0_due_61, b1_some, b2_some, litI, neg1, nI_add, nI_mul, e1_p1, nI_e0, ib, ib1, ite_not, if_true, if_false, not_true_eq_false, not_false_eq_true, setI_hv, q, or_0 _ d8]
      · rw [e1_of (by omega)]
        by_cases q2 : S.2 14 i = 0
        · rw [if_pos ⟨q, Or.inl q2⟩]
          simp (decide := true) (disch := omega) only [F_X0_due_61, gd_hv s.t0, gI_hv s.t0, pI_hv s.t0, s.R9, s.A208, s.W208, b1_some, b2_some, litI, neg1, nI_add, nI_mul, e1_p1, nI_e0, ib, ib1, ite_not, if_true, if_false, not_true_eq_false, not_false_eq_true, setI_hv, h.a14, q2, orN _ d8 i hi]
        · by_cases q3 : los S 3 i - 1 ≤ S.1 0 - (S.2 14 i - 1)
          · rw [if_pos ⟨q, Or.inr q3⟩]
            simp (decide := true) (disch := omega) only [F_X0_due_61, gd_hv s.t0, gI_hv s.t0, pI_hv s.t0, s.R9, s.A208, s.W208, b1_some, b2_some, litI, neg1, nI_add, nI_mul, e1_p1, nI_e0, ib, ib1, ite_not, if_true, if_false, not_true_eq_false, not_false_eq_true, setI_hv, h.a14, e1_of, q2, h.s0, nI_sub, lt_lit, show ¬ S.1 0 - (S.2 14 i - 1) < los S 3 i - 1 by omega, orN _ d8 i hi]
          · rw [if_neg (fun z => z.2.elim q2 q3)]
            simp (decide := true) (disch := omega) only [F_X0_due_61, gd_hv s.t0, gI_hv s.t0, pI_hv s.t0, s.R9, s.A208, s.W208, b1_some, b2_some, litI, neg1, nI_add, nI_mul, e1_p1, nI_e0, ib, ib1, ite_not, if_true, if_false, not_true_eq_false, not_false_eq_true, setI_hv, h.a14, e1_of, q2, h.s0, nI_sub, lt_lit, show S.1 0 - (S.2 14 i - 1) < los S 3 i - 1 by omega, or_0 _ d8]
    obtain ⟨m', hm'⟩ := it_FU (body := fun rec' st => B_X0_due_15 rec N (nI (dm S i)) (nI i) rec' st.1 st.2.1 st.2.2) (fun k => (hv σ f, e1 (lo S 3 i k), nI k)) 0 (S.1 29) (by omega) (by omega) (fun k _ hk rec' => by
      obtain ⟨L, a, l1, l2, -, -, -, l4⟩ := x_line g h hk
      have l5 := l4 i hi
      have v2 := lv_le g hk 3 i
      show B_X0_due_15 rec N (nI (dm S i)) (nI i) rec' (hv σ f) (e1 (lo S 3 i k)) (nI k) = rec' (hv σ f, e1 (if lv S k 3 i = 0 then lo S 3 i k else lv S k 3 i), nI (k + 1))
      by_cases q1 : lv S k 3 i = 0
      all_goals simp (decide := true) (disch := omega) only [B_X0_due_15, gd_hv s.t0, gI_hv s.t0, pI_hv s.t0, b1_some, b2_some, litI, neg1, nI_add, nI_mul, e1_p1, nI_e0, ib, ib1, ite_not, if_true, if_false, not_true_eq_false, not_false_eq_true, setI_hv, h.s29, le_lit, show ¬ S.1 29 ≤ k by omega, l1, l2, l5, q1, e1_inj])
    have lp : L_X0_due_15 rec N (nI (dm S i)) (nI i) FU (hv σ f, e1 0, nI 0) = rec (hv σ f, nI (if duf S i then dm S i ||| 2 ^ i else dm S i), nI (i + 1)) := by
      refine hm'.trans ?_
      show B_X0_due_15 rec N (nI (dm S i)) (nI i) m' (hv σ f) (e1 (los S 3 i)) (nI (S.1 29)) = _
      rw [← e61]
      simp (decide := true) (disch := omega) only [B_X0_due_15, gd_hv s.t0, gI_hv s.t0, pI_hv s.t0, b1_some, h.s29, le_lit, Nat.le_refl, if_true]
    rw [← lp]
    simp (decide := true) (disch := omega) only [B_X0_due_4, b1_some, b2_some, litI, neg1, nI_add, nI_mul, e1_p1, nI_e0, ib, ib1, ite_not, if_true, if_false, not_true_eq_false, not_false_eq_true, setI_hv, le_lit, show ¬ 8 ≤ i by omega])
  refine Eq.trans (b := it (fun rec st => B_X0_due_4 N rec st.1 st.2.1 st.2.2) FU (hv σ f, nI (dm S 0), nI 0)) rfl (hm.trans ?_)
  simp (decide := true) (disch := omega) only [B_X0_due_4, b1_some, b2_some, litI, neg1, nI_add, nI_mul, e1_p1, nI_e0, ib, ib1, ite_not, if_true, if_false, not_true_eq_false, not_false_eq_true, setI_hv, le_lit, Nat.le_refl]
end
section
set_option maxRecDepth 100000
/-! pure law 22: write -/
def bty (v : Int64) (i : Nat) : Nat := (v >>> ((nI (8 * i)).toInt64 &&& 63)).toBitVec.toNat % 256
theorem bty_lt (v : Int64) (i : Nat) : bty v i < 256 := Nat.mod_lt _ (by omega)
theorem by_m (x : Int64) : (x &&& 255 : Int64).toInt32 = nI (x.toBitVec.toNat % 256) := by
  apply Int32.toBitVec_inj.1
  apply BitVec.eq_of_toNat_eq
  have e : (255 : Nat) = 2 ^ 8 - 1 := by decide
  have e2 : (x &&& 255 : Int64).toBitVec.toNat = x.toBitVec.toNat % 256 := by
    show (x.toBitVec &&& 255#64).toNat = _
    rw [BitVec.toNat_and]
    show x.toBitVec.toNat &&& 255 = _
    rw [e, Nat.and_two_pow_sub_one_eq_mod]
  show _ = (BitVec.ofNat 32 (x.toBitVec.toNat % 256)).toNat
  rw [Int64.toBitVec_toInt32, BitVec.signExtend_eq_setWidth_of_le _ (by decide), BitVec.toNat_setWidth, BitVec.toNat_ofNat, e2]
theorem by_x (x : Int64) : (x.toInt32 : Int32).toInt8.toInt32 = (nI (x.toBitVec.toNat % 256)).toInt8.toInt32 := by
  have : (x.toInt32 : Int32).toInt8 = (nI (x.toBitVec.toNat % 256)).toInt8 := by
    apply Int8.toBitVec_inj.1
    apply BitVec.eq_of_toNat_eq
    rw [Int32.toBitVec_toInt8, BitVec.signExtend_eq_setWidth_of_le _ (by decide), Int64.toBitVec_toInt32, BitVec.signExtend_eq_setWidth_of_le _ (by decide), Int32.toBitVec_toInt8, BitVec.signExtend_eq_setWidth_of_le _ (by decide)]
    show _ = (BitVec.setWidth 8 (BitVec.ofNat 32 (x.toBitVec.toNat % 256))).toNat
    simp only [BitVec.toNat_setWidth, BitVec.toNat_ofNat]
    omega
  rw [this]
theorem RepX.tx {N : Nat} {σ : Hp} {f : Nat → Nat → Int32} {S : St} (h : RepX N (hv σ f) S) (D : Nat → Nat) : RepX N (hv σ (fy f (N + 210) 160 (fun k => (nI (D k)).toInt8.toInt32))) (wA S 20 D) := by
  obtain ⟨g1, g2, hA, hB, hC, hD, hE, hF, hG, L, l1, l2, l3, l4⟩ := h
  have hx3 : ∀ x ∈ xAr, x.1 ≠ 210 ∧ x.2.1 ≠ 20 := by decide
  have ho : ∀ o k, o ≠ 210 → fy f (N + 210) 160 (fun k => (nI (D k)).toInt8.toInt32) (N + o) k = f (N + o) k := fun o k q => fy_off (fun z => q (by omega))
  have h2 : ∀ k, k ≠ 20 → (wA S 20 D).2 k = S.2 k := fun k q => wA_n q
  refine ⟨g1, g2, fun x hx => ?_, fun x hx i hi => ?_, fun a b ha hb => ?_, fun c hc => ?_, fun i hi => ?_, fun p hp => ?_, fun a b ha hb => ?_, L, l1, l2, l3, fun i hi => ?_⟩
  · exact (ho 0 _ (by omega)).trans (hA x hx)
  · rw [h2 _ (hx3 x hx).2]
    exact (ho _ _ (hx3 x hx).1).trans (hB x hx i hi)
  · have e : jn (wA S 20 D) a b = jn S a b := by
      unfold jn
      rw [h2 2 (by omega), h2 3 (by omega)]
      rfl
    rw [e]
    have e2 : hI (hv σ (fy f (N + 210) 160 (fun k => (nI (D k)).toInt8.toInt32))) (N + (2 + a)) b = hI (hv σ f) (N + (2 + a)) b := ho _ _ (by omega)
    rw [e2]
    exact hC a b ha hb
  · rw [h2 9 (by omega), h2 10 (by omega), h2 11 (by omega), h2 12 (by omega), h2 13 (by omega)]
    have d := hD c hc
    exact ⟨(ho _ _ (by omega)).trans d.1, (ho _ _ (by omega)).trans d.2.1, (ho _ _ (by omega)).trans d.2.2.1, (ho _ _ (by omega)).trans d.2.2.2.1, (ho _ _ (by omega)).trans d.2.2.2.2⟩
  · rw [wA_e]
    show fy f (N + 210) 160 (fun k => (nI (D k)).toInt8.toInt32) (N + 210) i = _
    exact fy_rd hi
  · rw [h2 35 (by omega), h2 36 (by omega), h2 37 (by omega)]
    exact ⟨(ho _ _ (by omega)).trans (hF p hp).1, fun k hk => ⟨(ho _ _ (by omega)).trans ((hF p hp).2 k hk).1, (ho _ _ (by omega)).trans ((hF p hp).2 k hk).2⟩⟩
  · rw [h2 38 (by omega)]
    exact (ho _ _ (by omega)).trans (hG a b ha hb)
  · obtain ⟨a, q1, q2, q3, q4⟩ := l4 i hi
    refine ⟨a, q1, q2, q3, ?_⟩
    rw [h2 30 (by omega)]
    unfold LnAt
    have ea : ∀ k, hI (hv σ (fy f (N + 210) 160 (fun k => (nI (D k)).toInt8.toInt32))) a k = hI (hv σ f) a k := fun k => by
      show fy f (N + 210) 160 (fun k => (nI (D k)).toInt8.toInt32) a k = f a k
      exact fy_off (fun z => by omega)
    rw [ea, ea]
    exact q4
def txw (S : St) (v : Int64) (i k : Nat) : Nat := if S.1 19 ≤ k ∧ k < S.1 19 + i then bty v (k - S.1 19) else S.2 20 k
theorem txw_s (S : St) (v : Int64) (i k : Nat) : txw S v (i + 1) k = if k = S.1 19 + i then bty v i else txw S v i k := by
  unfold txw
  by_cases q : k = S.1 19 + i
  · rw [if_pos (by omega), if_pos q, q, Nat.add_sub_cancel_left]
  · rw [if_neg q]
    by_cases q2 : S.1 19 ≤ k ∧ k < S.1 19 + i
    · rw [if_pos q2, if_pos (by omega)]
    · rw [if_neg q2, if_neg (by omega)]
theorem fy_up {f : Nat → Nat → Int32} {A n i : Nat} {v : Int32} {D D' : Nat → Int32} (h : i < n) (hD : ∀ k, D' k = if k = i then v else D k) : u2 (fy f A n D) A i v = fy f A n D' := by
  funext x k
  show (if x = A ∧ k = i then v else if x = A ∧ k < n then D k else f x k) = if x = A ∧ k < n then D' k else f x k
  by_cases q : x = A ∧ k = i
  · rw [if_pos q, if_pos ⟨q.1, by omega⟩, hD, if_pos q.2]
  · rw [if_neg q]
    by_cases q2 : x = A ∧ k < n
    · rw [if_pos q2, if_pos q2, hD, if_neg (fun z => q ⟨q2.1, z⟩)]
    · rw [if_neg q2, if_neg q2]
theorem fy_same {f : Nat → Nat → Int32} {A n : Nat} {D : Nat → Int32} (h : ∀ k, k < n → f A k = D k) : fy f A n D = f := by
  funext x k
  unfold fy
  by_cases q : x = A ∧ k < n
  · rw [if_pos q, q.1, h k q.2]
  · rw [if_neg q]
def oWrite (v : Int64) (n : Int32) (S : St) : Int32 × St := if inR n 1 8 then (if S.1 19 + n.toNatClampNeg ≤ 160 then (nI (S.1 19 + n.toNatClampNeg), w1 (wA S 20 (txw S v n.toNatClampNeg)) 19 (S.1 19 + n.toNatClampNeg)) else (-5, S)) else (-3, S)
theorem by_m' (v : Int64) (i : Nat) : ((v >>> ((nI (8 * i)).toInt64 &&& 63)) &&& 255 : Int64).toInt32 = nI (bty v i) := by_m _
theorem Good.bt {S : St} (g : Good S) : S.1 19 ≤ 160 := g.2.2.2.2.1
theorem m_write (M : Nat) (v : Int64) (n : Int32) : OkMf M (fun σ => F_X10_write σ M v n) (oWrite v n) := by
  intro σ f S g h
  have s : SM M σ := h.1
  have bt := g.bt
  simp only [F_X10_write, oWrite, gd_hv s.1, x10_inR _ n 1 8 1 8 rfl rfl, b2_some]
  rcases in_split n 1 8 (by omega) (by omega) with ⟨i, hi0, hi, rfl⟩ | hk
  case inr => simp (decide := true) (disch := omega) only [b1_some, b2_some, litI, neg1, nI_add, nI_mul, e1_p1, nI_e0, ib, ib1, ite_not, if_true, if_false, not_true_eq_false, not_false_eq_true, setI_hv, hk]; exact ⟨_, rfl, h, fun _ _ _ => rfl⟩
  have qi := eq_true (inR_of hi0 hi (by omega))
  by_cases q : S.1 19 + i ≤ 160
  case neg =>
    simp (decide := true) (disch := omega) only [gd_hv s.1, gI_hv s.1, pI_hv s.1, b1_some, b2_some, litI, neg1, nI_add, nI_mul, e1_p1, nI_e0, ib, ib1, ite_not, if_true, if_false, not_true_eq_false, not_false_eq_true, setI_hv, qi, h.s19, le_lit, q, cl_I]
    exact ⟨_, rfl, h, fun _ _ _ => rfl⟩
  obtain ⟨m, hm⟩ := it_FU (body := fun rec st => B_X10_write_31 M v (nI i) rec st.1 st.2) (fun j => (hv σ (fy f (M + 16) 160 (fun k => nI (txw S v j k))), nI j)) 0 i (by omega) (by omega) (fun j _ hj rec => by
    have e19 : fy f (M + 16) 160 (fun k => nI (txw S v j k)) M 19 = nI (S.1 19) := (fy_off (by omega)).trans h.s19
    have e : u2 (fy f (M + 16) 160 (fun k => nI (txw S v j k))) (M + 16) (S.1 19 + j) (nI (bty v j)) = fy f (M + 16) 160 (fun k => nI (txw S v (j + 1) k)) := fy_up (by omega) (fun k => by
      show nI (txw S v (j + 1) k) = _
      rw [txw_s]
      split <;> rfl)
    show B_X10_write_31 M v (nI i) rec (hv σ (fy f (M + 16) 160 (fun k => nI (txw S v j k)))) (nI j) = rec (hv σ (fy f (M + 16) 160 (fun k => nI (txw S v (j + 1) k))), nI (j + 1))
    rw [← e]
    simp (decide := true) (disch := omega) only [B_X10_write_31, gd_hv s.1, gI_hv s.1, pI_hv s.1, s.R20, s.A20, s.W20, b1_some, b2_some, litI, neg1, nI_add, nI_mul, e1_p1, nI_e0, ib, ib1, ite_not, if_true, if_false, not_true_eq_false, not_false_eq_true, setI_hv, e19, le_lit, show ¬ i ≤ j by omega, by_m'])
  have z0 : fy f (M + 16) 160 (fun k => nI (txw S v 0 k)) = f := fy_same (fun k hk => by
    unfold txw
    rw [if_neg (by omega)]
    exact h.a20 hk)
  have fin := h.fy (20, 16, 160) (by decide) (txw S v i) (fy f (M + 16) 160 (fun k => nI (txw S v i k))) rfl
  have lp : L_X10_write_31 M v (nI i) FU (hv σ (fy f (M + 16) 160 (fun k => nI (txw S v 0 k))), nI 0) = some (nI (S.1 19 + i), hv σ (u2 (fy f (M + 16) 160 (fun k => nI (txw S v i k))) M 19 (nI (S.1 19 + i)))) := by
    refine hm.trans ?_
    have e19 : fy f (M + 16) 160 (fun k => nI (txw S v i k)) M 19 = nI (S.1 19) := (fy_off (by omega)).trans h.s19
    simp (decide := true) (disch := omega) only [B_X10_write_31, F_X10_write_67, gd_hv s.1, gI_hv s.1, pI_hv s.1, b1_some, b2_some, litI, neg1, nI_add, nI_mul, e1_p1, nI_e0, ib, ib1, ite_not, if_true, if_false, not_true_eq_false, not_false_eq_true, setI_hv, le_lit, Nat.le_refl, e19, u2_e]
  rw [z0] at lp
  simp (decide := true) (disch := omega) only [gd_hv s.1, gI_hv s.1, pI_hv s.1, b1_some, b2_some, litI, neg1, nI_add, nI_mul, e1_p1, nI_e0, ib, ib1, ite_not, if_true, if_false, not_true_eq_false, not_false_eq_true, setI_hv, qi, h.s19, le_lit, q, cl_I, lp]
  exact ⟨_, rfl, fin.setS 19 (S.1 19 + i), fun a k ha => (u2_n (by omega)).trans (fy_off (by omega))⟩
theorem by_x' (v : Int64) (i : Nat) : vp_nar .byte (((v >>> ((nI (8 * i)).toInt64 &&& 63) : Int64).toInt32 : Int32).toInt8.toInt32) = (nI (bty v i)).toInt8.toInt32 := (pk_vb _).trans (by_x _)
theorem x_write (N : Nat) (v : Int64) (n : Int32) : OkXf N (fun σ => F_X0_write σ N v n) (oWrite v n) := by
  intro σ f S g h
  have s : SX N σ := h.1
  have bt := g.bt
  simp only [F_X0_write, oWrite, gd_hv s.t0, x0_inR _ n 1 8 1 8 (by decide) (by decide), b2_some]
  rcases in_split n 1 8 (by omega) (by omega) with ⟨i, hi0, hi, rfl⟩ | hk
  case inr => simp (decide := true) (disch := omega) only [b1_some, b2_some, litI, neg1, nI_add, nI_mul, e1_p1, nI_e0, ib, ib1, ite_not, if_true, if_false, not_true_eq_false, not_false_eq_true, setI_hv, hk]; exact ⟨_, rfl, h, fun _ _ _ => rfl⟩
  have qi := eq_true (inR_of hi0 hi (by omega))
  by_cases q : S.1 19 + i ≤ 160
  case neg =>
    simp (decide := true) (disch := omega) only [gd_hv s.t0, gI_hv s.t0, pI_hv s.t0, b1_some, b2_some, litI, neg1, nI_add, nI_mul, e1_p1, nI_e0, ib, ib1, ite_not, if_true, if_false, not_true_eq_false, not_false_eq_true, setI_hv, qi, h.s19, le_lit, q, cl_I]
    exact ⟨_, rfl, h, fun _ _ _ => rfl⟩
  obtain ⟨m, hm⟩ := it_FU (body := fun rec st => B_X0_write_33 N v (nI i) rec st.1 st.2) (fun j => (hv σ (u2 (fy f (N + 210) 160 (fun k => (nI (txw S v j k)).toInt8.toInt32)) N 13 (nI (S.1 19 + j))), nI j)) 0 i (by omega) (by omega) (fun j _ hj rec => by
    have e : u2 (fy f (N + 210) 160 (fun k => (nI (txw S v j k)).toInt8.toInt32)) (N + 210) (S.1 19 + j) ((nI (bty v j)).toInt8.toInt32) = fy f (N + 210) 160 (fun k => (nI (txw S v (j + 1) k)).toInt8.toInt32) := fy_up (by omega) (fun k => by
      show (nI (txw S v (j + 1) k)).toInt8.toInt32 = _
      rw [txw_s]
      split <;> rfl)
    show B_X0_write_33 N v (nI i) rec (hv σ (u2 (fy f (N + 210) 160 (fun k => (nI (txw S v j k)).toInt8.toInt32)) N 13 (nI (S.1 19 + j)))) (nI j) = rec (hv σ (u2 (fy f (N + 210) 160 (fun k => (nI (txw S v (j + 1) k)).toInt8.toInt32)) N 13 (nI (S.1 19 + j + 1))), nI (j + 1))
    rw [← e]
    generalize fy f (N + 210) 160 (fun k => (nI (txw S v j k)).toInt8.toInt32) = F
    have e2 : u2 (u2 (u2 F N 13 (nI (S.1 19 + j))) (N + 210) (S.1 19 + j) ((nI (bty v j)).toInt8.toInt32)) N 13 (nI (S.1 19 + j + 1)) = u2 (u2 F (N + 210) (S.1 19 + j) ((nI (bty v j)).toInt8.toInt32)) N 13 (nI (S.1 19 + j + 1)) := by
      rw [u2_com (A := N) (B := N + 210) (by omega), u2_u2]
    rw [← e2]
    simp (decide := true) (disch := omega) only [B_X0_write_33, gd_hv s.t0, gI_hv s.t0, pI_hv s.t0, s.R12, s.A210, s.W210, b1_some, b2_some, litI, neg1, nI_add, nI_mul, e1_p1, nI_e0, ib, ib1, ite_not, if_true, if_false, not_true_eq_false, not_false_eq_true, setI_hv, u2_e, u2_n, le_lit, show ¬ i ≤ j by omega, by_x'])
  have z0 : u2 (fy f (N + 210) 160 (fun k => (nI (txw S v 0 k)).toInt8.toInt32)) N 13 (nI (S.1 19 + 0)) = f := by
    have e1 : fy f (N + 210) 160 (fun k => (nI (txw S v 0 k)).toInt8.toInt32) = f := fy_same (fun k hk => by
      unfold txw
      rw [if_neg (by omega)]
      exact h.2.2.2.2.2.2.1 k hk)
    rw [e1, Nat.add_zero]
    exact u2_id h.s19
  have lp : L_X0_write_33 N v (nI i) FU (hv σ (u2 (fy f (N + 210) 160 (fun k => (nI (txw S v 0 k)).toInt8.toInt32)) N 13 (nI (S.1 19 + 0))), nI 0) = some (nI (S.1 19 + i), hv σ (u2 (fy f (N + 210) 160 (fun k => (nI (txw S v i k)).toInt8.toInt32)) N 13 (nI (S.1 19 + i)))) := by
    refine hm.trans ?_
    simp (decide := true) (disch := omega) only [B_X0_write_33, gd_hv s.t0, gI_hv s.t0, pI_hv s.t0, b1_some, b2_some, litI, neg1, nI_add, nI_mul, e1_p1, nI_e0, ib, ib1, ite_not, if_true, if_false, not_true_eq_false, not_false_eq_true, setI_hv, le_lit, Nat.le_refl, u2_e]
  rw [z0] at lp
  simp (decide := true) (disch := omega) only [gd_hv s.t0, gI_hv s.t0, pI_hv s.t0, b1_some, b2_some, litI, neg1, nI_add, nI_mul, e1_p1, nI_e0, ib, ib1, ite_not, if_true, if_false, not_true_eq_false, not_false_eq_true, setI_hv, qi, h.s19, le_lit, q, cl_I, lp]
  exact ⟨_, rfl, (h.tx (txw S v i)).wSc (13, 19) (by decide) (by decide) (S.1 19 + i), fun a k ha => (u2_n (by omega)).trans (fy_off (by omega))⟩
end
section
set_option maxRecDepth 100000
/-! pure law 23: enough -/
def cpr (S : St) (r : Nat) : Nat := if los S 0 r = 0 then 6 else min 6 (los S 0 r - 1)
noncomputable def est (S : St) (C far : Nat) (p : Nat × Nat) (r : Nat) : Nat × Nat := if p.1 < C ∧ dst S 0 r = far + 1 then (p.1 + cpr S r, p.2 + 1) else p
noncomputable def ei (S : St) (C far : Nat) (p : Nat × Nat) : Nat → Nat × Nat
  | 0 => p
  | j + 1 => est S C far (ei S C far p j) j
noncomputable def eo (S : St) (C : Nat) : Nat → Nat × Nat
  | 0 => (0, 0)
  | j + 1 => ei S C j (eo S C j) 8
theorem cpr_le (S : St) (r : Nat) : cpr S r ≤ 6 := by
  unfold cpr
  split <;> omega
theorem est_c {S : St} {C far r : Nat} {p : Nat × Nat} (h : C ≤ p.1) : est S C far p r = p := if_neg (fun z => by omega)
theorem ei_c {S : St} {C far : Nat} {p : Nat × Nat} {i : Nat} (h : C ≤ (ei S C far p i).1) : ∀ k, ei S C far p (i + k) = ei S C far p i
  | 0 => rfl
  | k + 1 => by
    have ih := ei_c h k
    show est S C far (ei S C far p (i + k)) (i + k) = _
    rw [ih]
    exact est_c h
theorem eo_c {S : St} {C i : Nat} (h : C ≤ (eo S C i).1) : ∀ k, eo S C (i + k) = eo S C i
  | 0 => rfl
  | k + 1 => by
    have ih := eo_c h k
    show ei S C (i + k) (eo S C (i + k)) 8 = _
    rw [ih]
    have h0 : C ≤ (ei S C (i + k) (eo S C i) 0).1 := h
    have := ei_c h0 8
    exact this
theorem first {P : Nat → Prop} (n : Nat) : ∃ i, i ≤ n ∧ (∀ k, k < i → ¬ P k) ∧ (i = n ∨ P i) := by
  induction n with
  | zero => exact ⟨0, Nat.le_refl _, fun k hk => absurd hk (Nat.not_lt_zero k), Or.inl rfl⟩
  | succ n ih =>
    obtain ⟨i, h1, h2, h3⟩ := ih
    rcases h3 with h3 | h3
    · rcases Classical.em (P i) with q | q
      · exact ⟨i, by omega, h2, Or.inr q⟩
      · refine ⟨n + 1, Nat.le_refl _, fun k hk => ?_, Or.inl rfl⟩
        by_cases e : k = i
        · subst e
          exact q
        · exact h2 k (by omega)
    · exact ⟨i, by omega, h2, Or.inr h3⟩
theorem ei_b {S : St} {C far : Nat} {p : Nat × Nat} (hp : p.1 ≤ C + 6 ∧ p.2 ≤ 8 * far) : ∀ j, (ei S C far p j).1 ≤ C + 6 ∧ (ei S C far p j).2 ≤ 8 * far + j
  | 0 => ⟨hp.1, hp.2⟩
  | j + 1 => by
    have ih := ei_b (S := S) hp j
    show (est S C far (ei S C far p j) j).1 ≤ _ ∧ (est S C far (ei S C far p j) j).2 ≤ _
    have c := cpr_le S j
    unfold est
    split
    · show (ei S C far p j).1 + cpr S j ≤ _ ∧ (ei S C far p j).2 + 1 ≤ _
      omega
    · omega
theorem eo_b (S : St) (C : Nat) : ∀ j, (eo S C j).1 ≤ C + 6 ∧ (eo S C j).2 ≤ 8 * j
  | 0 => ⟨Nat.zero_le _, Nat.zero_le _⟩
  | j + 1 => by
    have := ei_b (S := S) (C := C) (far := j) (eo_b S C j) 8
    show (ei S C j (eo S C j) 8).1 ≤ _ ∧ (ei S C j (eo S C j) 8).2 ≤ _
    omega
theorem fz_fz (f : Nat → Nat → Int32) (A n : Nat) (D : Nat → Nat) : fz (fz f A n D) A n D = fz f A n D := by
  funext x k
  show (if x = A ∧ k < n then nI (D k) else if x = A ∧ k < n then nI (D k) else f x k) = if x = A ∧ k < n then nI (D k) else f x k
  by_cases q : x = A ∧ k < n
  · rw [if_pos q, if_pos q]
  · rw [if_neg q, if_neg q]
noncomputable def oEnough (C : Int32) (S : St) : Int32 × St := if inR C 0 48 then (if (eo S C.toNatClampNeg 8).1 < C.toNatClampNeg then -1 else nI (eo S C.toNatClampNeg 8).2, S) else (-3, S)
theorem m_en {M : Nat} {σ : Hp} {f : Nat → Nat → Int32} {S : St} (g : Good S) (h : RepM M (hv σ f) S) {C far : Nat} {p : Nat × Nat} (hC : C ≤ 48) (hf : far < 8) (hp : p.1 ≤ C + 6 ∧ p.2 ≤ 8 * far) (hlt : p.1 < C) (rec20 : Hp × Int32 × Int32 × Int32 → Option (Int32 × Hp)) : L_X10_enough_35 rec20 M (nI C) (nI far) FU (hv σ f, nI p.1, nI p.2, nI 0) = rec20 (hv σ (fz f (M + 3) 8 (tn S 0 8)), nI (ei S C far p 8).1, nI (ei S C far p 8).2, nI (far + 1)) := by
  have s : SM M σ := h.1
  obtain ⟨i, hi, no, ye⟩ := first (P := fun i => C ≤ (ei S C far p i).1) 8
  have i0 : i ≠ 0 := fun z => by
    subst z
    rcases ye with ye | ye
    · omega
    · have : C ≤ p.1 := ye
      omega
  have F0 := fz_fz f (M + 3) 8 (tn S 0 8)
  have h' := h.zz 3 8 (tn S 0 8) (by omega)
  unfold L_X10_enough_35
  obtain ⟨m, hm⟩ := it_FU (body := fun rec st => B_X10_enough_35 rec20 M (nI C) (nI far) rec st.1 st.2.1 st.2.2.1 st.2.2.2) (fun j => (hv σ (if j = 0 then f else fz f (M + 3) 8 (tn S 0 8)), nI (ei S C far p j).1, nI (ei S C far p j).2, nI j)) 0 i (by omega) (by omega) (fun j _ hj rec => by
    have nj : ¬ C ≤ (ei S C far p j).1 := no j hj
    have eb := ei_b (S := S) hp j
    have dl := dst_le S 0 j
    have l0 : los S 0 j ≤ 9 := (lo_le g 0 j (S.1 29) (Nat.le_refl _)).2.1 rfl
    have md : F_X10_doorsTo (hv σ (if j = 0 then f else fz f (M + 3) 8 (tn S 0 8))) M (nI 0) (nI j) = some (e1 (dst S 0 j), hv σ (fz f (M + 3) 8 (tn S 0 8))) := by
      by_cases z : j = 0
      · rw [if_pos z]
        exact m_dst g h (by omega) (by omega)
      · rw [if_neg z]
        have := m_dst g h' (a := 0) (b := j) (by omega) (by omega)
        rw [F0] at this
        exact this
    have la := m_last g h' (s := 0) (r := j) (w := 6) (by omega) (by omega) (by omega)
    show B_X10_enough_35 rec20 M (nI C) (nI far) rec (hv σ (if j = 0 then f else fz f (M + 3) 8 (tn S 0 8))) (nI (ei S C far p j).1) (nI (ei S C far p j).2) (nI j) = rec (hv σ (if j + 1 = 0 then f else fz f (M + 3) 8 (tn S 0 8)), nI (est S C far (ei S C far p j) j).1, nI (est S C far (ei S C far p j) j).2, nI (j + 1))
    rw [if_neg (show ¬ j + 1 = 0 by omega)]
    by_cases q : dst S 0 j = far + 1
    · have ee : est S C far (ei S C far p j) j = ((ei S C far p j).1 + cpr S j, (ei S C far p j).2 + 1) := if_pos ⟨by omega, q⟩
      rw [ee]
      by_cases q2 : (if los S 0 j = 0 then 6 else los S 0 j - 1) ≤ 6
      · have ec : cpr S j = if los S 0 j = 0 then 6 else los S 0 j - 1 := by
          unfold cpr
          by_cases w : los S 0 j = 0
          · rw [if_pos w, if_pos w]
          · rw [if_neg w, if_neg w]
            rw [if_neg w] at q2
            omega
        rw [ec]
        generalize (if los S 0 j = 0 then 6 else los S 0 j - 1) = z at la q2
        simp (decide := true) (disch := omega) only [B_X10_enough_35, b1_some, b2_some, litI, neg1, nI_add, nI_mul, e1_p1, nI_e0, ib, ib1, ite_not, if_true, if_false, not_true_eq_false, not_false_eq_true, setI_hv, le_lit, show ¬ 8 ≤ j by omega, nj, md, q, e1_s, la, q2]
      · have ec : cpr S j = 6 := by
          unfold cpr
          by_cases w : los S 0 j = 0
          · rw [if_pos w]
          · rw [if_neg w]
            rw [if_neg w] at q2
            omega
        have z1 : (if los S 0 j = 0 then 6 else los S 0 j - 1) ≤ 8 := by split <;> omega
        rw [ec]
        generalize (if los S 0 j = 0 then 6 else los S 0 j - 1) = z at la q2 z1
        simp (decide := true) (disch := omega) only [B_X10_enough_35, b1_some, b2_some, litI, neg1, nI_add, nI_mul, e1_p1, nI_e0, ib, ib1, ite_not, if_true, if_false, not_true_eq_false, not_false_eq_true, setI_hv, le_lit, show ¬ 8 ≤ j by omega, nj, md, q, e1_s, la, q2]
    · have ee : est S C far (ei S C far p j) j = ei S C far p j := if_neg (fun z => q z.2)
      rw [ee]
      simp (decide := true) (disch := omega) only [B_X10_enough_35, b1_some, b2_some, litI, neg1, nI_add, nI_mul, e1_p1, nI_e0, ib, ib1, ite_not, if_true, if_false, not_true_eq_false, not_false_eq_true, setI_hv, le_lit, show ¬ 8 ≤ j by omega, nj, md, e1_nI, q])
  refine Eq.trans (b := it (fun rec st => B_X10_enough_35 rec20 M (nI C) (nI far) rec st.1 st.2.1 st.2.2.1 st.2.2.2) FU (hv σ (if 0 = 0 then f else fz f (M + 3) 8 (tn S 0 8)), nI (ei S C far p 0).1, nI (ei S C far p 0).2, nI 0)) (by rw [if_pos rfl]; rfl) (hm.trans ?_)
  show B_X10_enough_35 rec20 M (nI C) (nI far) m (hv σ (if i = 0 then f else fz f (M + 3) 8 (tn S 0 8))) (nI (ei S C far p i).1) (nI (ei S C far p i).2) (nI i) = _
  rw [if_neg i0]
  have eb := ei_b (S := S) hp i
  rcases ye with ye | ye
  · subst ye
    simp (decide := true) (disch := omega) only [B_X10_enough_35, b1_some, b2_some, litI, neg1, nI_add, nI_mul, e1_p1, nI_e0, ib, ib1, ite_not, if_true, if_false, not_true_eq_false, not_false_eq_true, setI_hv, le_lit, Nat.le_refl]
  · have ec : ei S C far p 8 = ei S C far p i := by
      have := ei_c ye (8 - i)
      rwa [Nat.add_sub_cancel' hi] at this
    rw [ec]
    by_cases z : 8 ≤ i
    · simp (decide := true) (disch := omega) only [B_X10_enough_35, b1_some, b2_some, litI, neg1, nI_add, nI_mul, e1_p1, nI_e0, ib, ib1, ite_not, if_true, if_false, not_true_eq_false, not_false_eq_true, setI_hv, le_lit, z]
    · simp (decide := true) (disch := omega) only [B_X10_enough_35, b1_some, b2_some, litI, neg1, nI_add, nI_mul, e1_p1, nI_e0, ib, ib1, ite_not, if_true, if_false, not_true_eq_false, not_false_eq_true, setI_hv, le_lit, z, ye]
theorem m_enough (M : Nat) (C : Int32) : OkMf M (fun σ => F_X10_enough σ M C) (oEnough C) := by
  intro σ f S g h
  have s : SM M σ := h.1
  simp only [F_X10_enough, oEnough, gd_hv s.1, x10_inR _ C 0 48 0 48 rfl rfl, b2_some]
  rcases in_split C 0 48 (by omega) (by omega) with ⟨c, -, hc, rfl⟩ | hk
  case inr => simp (decide := true) (disch := omega) only [b1_some, b2_some, litI, neg1, nI_add, nI_mul, e1_p1, nI_e0, ib, ib1, ite_not, if_true, if_false, not_true_eq_false, not_false_eq_true, setI_hv, hk]; exact ⟨_, rfl, h, fun _ _ _ => rfl⟩
  have qi := eq_true (inR_of (Nat.zero_le c) hc (by omega))
  have F0 := fz_fz f (M + 3) 8 (tn S 0 8)
  have h' := h.zz 3 8 (tn S 0 8) (by omega)
  obtain ⟨i, hi, no, ye⟩ := first (P := fun i => c ≤ (eo S c i).1) 8
  obtain ⟨m, hm⟩ := it_FU (body := fun rec st => B_X10_enough_20 M (nI c) rec st.1 st.2.1 st.2.2.1 st.2.2.2) (fun j => (hv σ (if j = 0 then f else fz f (M + 3) 8 (tn S 0 8)), nI (eo S c j).1, nI (eo S c j).2, nI j)) 0 i (by omega) (by omega) (fun j _ hj rec => by
    have nj : ¬ c ≤ (eo S c j).1 := no j hj
    have eb := eo_b S c j
    have lp : L_X10_enough_35 rec M (nI c) (nI j) FU (hv σ (if j = 0 then f else fz f (M + 3) 8 (tn S 0 8)), nI (eo S c j).1, nI (eo S c j).2, nI 0) = rec (hv σ (fz f (M + 3) 8 (tn S 0 8)), nI (eo S c (j + 1)).1, nI (eo S c (j + 1)).2, nI (j + 1)) := by
      by_cases z : j = 0
      · rw [if_pos z]
        exact m_en g h hc (by omega) eb (by omega) rec
      · rw [if_neg z]
        have := m_en g h' hc (far := j) (by omega) eb (by omega) rec
        rw [F0] at this
        exact this
    show B_X10_enough_20 M (nI c) rec (hv σ (if j = 0 then f else fz f (M + 3) 8 (tn S 0 8))) (nI (eo S c j).1) (nI (eo S c j).2) (nI j) = rec (hv σ (if j + 1 = 0 then f else fz f (M + 3) 8 (tn S 0 8)), nI (eo S c (j + 1)).1, nI (eo S c (j + 1)).2, nI (j + 1))
    rw [if_neg (show ¬ j + 1 = 0 by omega)]
    generalize (if j = 0 then f else fz f (M + 3) 8 (tn S 0 8)) = f' at lp
    simp (decide := true) (disch := omega) only [B_X10_enough_20, b1_some, b2_some, litI, neg1, nI_add, nI_mul, e1_p1, nI_e0, ib, ib1, ite_not, if_true, if_false, not_true_eq_false, not_false_eq_true, setI_hv, le_lit, show ¬ 8 ≤ j by omega, nj, lp])
  have ec : eo S c 8 = eo S c i := by
    rcases ye with ye | ye
    · rw [ye]
    · have := eo_c ye (8 - i)
      rwa [Nat.add_sub_cancel' hi] at this
  have eb := eo_b S c i
  have lp : L_X10_enough_20 M (nI c) FU (hv σ f, nI 0, nI 0, nI 0) = some (if (eo S c 8).1 < c then e1 0 else nI (eo S c 8).2, hv σ (if i = 0 then f else fz f (M + 3) 8 (tn S 0 8))) := by
    refine Eq.trans (b := it (fun rec st => B_X10_enough_20 M (nI c) rec st.1 st.2.1 st.2.2.1 st.2.2.2) FU (hv σ (if 0 = 0 then f else fz f (M + 3) 8 (tn S 0 8)), nI (eo S c 0).1, nI (eo S c 0).2, nI 0)) (by rw [if_pos rfl]; rfl) (hm.trans ?_)
    show B_X10_enough_20 M (nI c) m (hv σ (if i = 0 then f else fz f (M + 3) 8 (tn S 0 8))) (nI (eo S c i).1) (nI (eo S c i).2) (nI i) = _
    rw [ec]
    generalize (if i = 0 then f else fz f (M + 3) 8 (tn S 0 8)) = f'
    by_cases w : (eo S c i).1 < c
    · have z : i = 8 := ye.elim id (fun y => by omega)
      simp (decide := true) (disch := omega) only [B_X10_enough_20, F_X10_enough_102, b1_some, b2_some, litI, neg1, nI_add, nI_mul, e1_p1, nI_e0, ib, ib1, ite_not, if_true, if_false, not_true_eq_false, not_false_eq_true, setI_hv, le_lit, show 8 ≤ i by omega, show ¬ c ≤ (eo S c i).1 by omega, w]
    · by_cases z : 8 ≤ i
      · simp (decide := true) (disch := omega) only [B_X10_enough_20, F_X10_enough_102, b1_some, b2_some, litI, neg1, nI_add, nI_mul, e1_p1, nI_e0, ib, ib1, ite_not, if_true, if_false, not_true_eq_false, not_false_eq_true, setI_hv, le_lit, z, show c ≤ (eo S c i).1 by omega, w]
      · simp (decide := true) (disch := omega) only [B_X10_enough_20, F_X10_enough_102, b1_some, b2_some, litI, neg1, nI_add, nI_mul, e1_p1, nI_e0, ib, ib1, ite_not, if_true, if_false, not_true_eq_false, not_false_eq_true, setI_hv, le_lit, z, show c ≤ (eo S c i).1 by omega, w]
  have fin : RepM M (hv σ (if i = 0 then f else fz f (M + 3) 8 (tn S 0 8))) S := by
    split
    · exact h
    · exact h'
  have off : ∀ a k, a < M ∨ M + 26 ≤ a → (if i = 0 then f else fz f (M + 3) 8 (tn S 0 8)) a k = f a k := fun a k ha => by
    split
    · rfl
    · exact fz_off (by omega)
  generalize (if i = 0 then f else fz f (M + 3) 8 (tn S 0 8)) = f' at lp fin off
  simp (decide := true) (disch := omega) only [b1_some, b2_some, litI, neg1, nI_add, nI_mul, e1_p1, nI_e0, ib, ib1, ite_not, if_true, if_false, not_true_eq_false, not_false_eq_true, setI_hv, qi, cl_I, lp]
  exact ⟨_, rfl, fin, off⟩
theorem leL {a b : Nat} (ha : a < 2147483648) (hb : b < 2147483648) : (nI a - nI b ≤ nI 0) = (a ≤ b) := by
  apply propext
  rw [Int32.le_iff_toInt_le, i_lt ha hb _ rfl, tI (by omega)]
  omega
theorem x_en {N : Nat} {σ : Hp} {f : Nat → Nat → Int32} {S : St} (g : Good S) (h : RepX N (hv σ f) S) {C far : Nat} {p : Nat × Nat} (hC : C ≤ 48) (hf : far < 8) (hp : p.1 ≤ C + 6 ∧ p.2 ≤ 8 * far) (rec22 : Hp × Int32 × Int32 × Int32 → Option (Int32 × Hp)) : L_X0_enough_32 rec22 N (nI far) FU (hv σ f, nI C - nI p.1, nI p.2, nI 0) = rec22 (hv σ f, nI C - nI (ei S C far p 8).1, nI (ei S C far p 8).2, nI (far + 1)) := by
  have s : SX N σ := h.1
  obtain ⟨i, hi, no, ye⟩ := first (P := fun i => C ≤ (ei S C far p i).1) 8
  unfold L_X0_enough_32
  obtain ⟨m, hm⟩ := it_FU (body := fun rec st => B_X0_enough_32 rec22 N (nI far) rec st.1 st.2.1 st.2.2.1 st.2.2.2) (fun j => (hv σ f, nI C - nI (ei S C far p j).1, nI (ei S C far p j).2, nI j)) 0 i (by omega) (by omega) (fun j _ hj rec => by
    have nj : ¬ C ≤ (ei S C far p j).1 := no j hj
    have eb := ei_b (S := S) hp j
    have dl := dst_le S 0 j
    have l0 : los S 0 j ≤ 9 := (lo_le g 0 j (S.1 29) (Nat.le_refl _)).2.1 rfl
    have md := x_dst h (a := 0) (b := j) (by omega) (by omega)
    have rf := x_roomFor g h (r := j) (by omega)
    show B_X0_enough_32 rec22 N (nI far) rec (hv σ f) (nI C - nI (ei S C far p j).1) (nI (ei S C far p j).2) (nI j) = rec (hv σ f, nI C - nI (est S C far (ei S C far p j) j).1, nI (est S C far (ei S C far p j) j).2, nI (j + 1))
    by_cases q : dst S 0 j = far + 1
    · have ee : est S C far (ei S C far p j) j = ((ei S C far p j).1 + cpr S j, (ei S C far p j).2 + 1) := if_pos ⟨by omega, q⟩
      rw [ee]
      by_cases w : los S 0 j = 0
      · have ec : cpr S j = 6 := if_pos w
        rw [ec]
        simp (decide := true) (disch := omega) only [B_X0_enough_32, b1_some, b2_some, litI, neg1, nI_add, nI_mul, e1_p1, nI_e0, ib, ib1, ite_not, if_true, if_false, not_true_eq_false, not_false_eq_true, setI_hv, le_lit, leL, show ¬ 8 ≤ j by omega, nj, md, q, e1_s, rf, w, sub_sub_I]
      · rw [e1_of (by omega)] at rf
        by_cases w2 : los S 0 j - 1 < 6
        · have ec : cpr S j = los S 0 j - 1 := by
            unfold cpr
            rw [if_neg w]
            omega
          rw [ec]
          simp (decide := true) (disch := omega) only [B_X0_enough_32, b1_some, b2_some, litI, neg1, nI_add, nI_mul, e1_p1, nI_e0, ib, ib1, ite_not, if_true, if_false, not_true_eq_false, not_false_eq_true, setI_hv, le_lit, leL, show ¬ 8 ≤ j by omega, nj, md, q, e1_s, rf, lt_lit, w2, sub_sub_I]
        · have ec : cpr S j = 6 := by
            unfold cpr
            rw [if_neg w]
            omega
          rw [ec]
          simp (decide := true) (disch := omega) only [B_X0_enough_32, b1_some, b2_some, litI, neg1, nI_add, nI_mul, e1_p1, nI_e0, ib, ib1, ite_not, if_true, if_false, not_true_eq_false, not_false_eq_true, setI_hv, le_lit, leL, show ¬ 8 ≤ j by omega, nj, md, q, e1_s, rf, lt_lit, w2, sub_sub_I]
    · have ee : est S C far (ei S C far p j) j = ei S C far p j := if_neg (fun z => q z.2)
      rw [ee]
      simp (decide := true) (disch := omega) only [B_X0_enough_32, b1_some, b2_some, litI, neg1, nI_add, nI_mul, e1_p1, nI_e0, ib, ib1, ite_not, if_true, if_false, not_true_eq_false, not_false_eq_true, setI_hv, le_lit, leL, show ¬ 8 ≤ j by omega, nj, md, e1_nI, q])
  refine Eq.trans (b := it (fun rec st => B_X0_enough_32 rec22 N (nI far) rec st.1 st.2.1 st.2.2.1 st.2.2.2) FU (hv σ f, nI C - nI (ei S C far p 0).1, nI (ei S C far p 0).2, nI 0)) rfl (hm.trans ?_)
  show B_X0_enough_32 rec22 N (nI far) m (hv σ f) (nI C - nI (ei S C far p i).1) (nI (ei S C far p i).2) (nI i) = _
  have eb := ei_b (S := S) hp i
  rcases ye with ye | ye
  · subst ye
    simp (decide := true) (disch := omega) only [B_X0_enough_32, b1_some, b2_some, litI, neg1, nI_add, nI_mul, e1_p1, nI_e0, ib, ib1, ite_not, if_true, if_false, not_true_eq_false, not_false_eq_true, setI_hv, le_lit, Nat.le_refl]
  · have ec : ei S C far p 8 = ei S C far p i := by
      have := ei_c ye (8 - i)
      rwa [Nat.add_sub_cancel' hi] at this
    rw [ec]
    by_cases z : 8 ≤ i
    · simp (decide := true) (disch := omega) only [B_X0_enough_32, b1_some, b2_some, litI, neg1, nI_add, nI_mul, e1_p1, nI_e0, ib, ib1, ite_not, if_true, if_false, not_true_eq_false, not_false_eq_true, setI_hv, le_lit, z]
    · simp (decide := true) (disch := omega) only [B_X0_enough_32, b1_some, b2_some, litI, neg1, nI_add, nI_mul, e1_p1, nI_e0, ib, ib1, ite_not, if_true, if_false, not_true_eq_false, not_false_eq_true, setI_hv, le_lit, leL, z, ye]
theorem x_enough (N : Nat) (C : Int32) : OkXf N (fun σ => F_X0_enough σ N C) (oEnough C) := by
  intro σ f S g h
  have s : SX N σ := h.1
  simp only [F_X0_enough, oEnough, gd_hv s.t0, x0_inR _ C 0 48 0 48 (by decide) (by decide), b2_some]
  rcases in_split C 0 48 (by omega) (by omega) with ⟨c, -, hc, rfl⟩ | hk
  case inr => simp (decide := true) (disch := omega) only [b1_some, b2_some, litI, neg1, nI_add, nI_mul, e1_p1, nI_e0, ib, ib1, ite_not, if_true, if_false, not_true_eq_false, not_false_eq_true, setI_hv, hk]; exact ⟨_, rfl, h, fun _ _ _ => rfl⟩
  have qi := eq_true (inR_of (Nat.zero_le c) hc (by omega))
  obtain ⟨m, hm⟩ := it_FU (body := fun rec st => B_X0_enough_22 N rec st.1 st.2.1 st.2.2.1 st.2.2.2) (fun j => (hv σ f, nI c - nI (eo S c j).1, nI (eo S c j).2, nI j)) 0 8 (by omega) (by omega) (fun j _ hj rec => by
    have eb := eo_b S c j
    have lp := x_en g h hc (far := j) hj eb rec
    show B_X0_enough_22 N rec (hv σ f) (nI c - nI (eo S c j).1) (nI (eo S c j).2) (nI j) = rec (hv σ f, nI c - nI (eo S c (j + 1)).1, nI (eo S c (j + 1)).2, nI (j + 1))
    simp (decide := true) (disch := omega) only [B_X0_enough_22, b1_some, b2_some, litI, neg1, nI_add, nI_mul, e1_p1, nI_e0, ib, ib1, ite_not, if_true, if_false, not_true_eq_false, not_false_eq_true, setI_hv, le_lit, show ¬ 8 ≤ j by omega, lp]
    rfl)
  have eb := eo_b S c 8
  have lp : L_X0_enough_22 N FU (hv σ f, nI c, nI 0, nI 0) = some (if (eo S c 8).1 < c then e1 0 else nI (eo S c 8).2, hv σ f) := by
    refine Eq.trans (b := it (fun rec st => B_X0_enough_22 N rec st.1 st.2.1 st.2.2.1 st.2.2.2) FU (hv σ f, nI c - nI (eo S c 0).1, nI (eo S c 0).2, nI 0)) (by
      show L_X0_enough_22 N FU (hv σ f, nI c, nI 0, nI 0) = L_X0_enough_22 N FU (hv σ f, nI c - nI 0, nI 0, nI 0)
      rw [nI_sub (Nat.zero_le c), Nat.sub_zero]) (hm.trans ?_)
    show B_X0_enough_22 N m (hv σ f) (nI c - nI (eo S c 8).1) (nI (eo S c 8).2) (nI 8) = _
    by_cases w : (eo S c 8).1 < c
    · simp (decide := true) (disch := omega) only [B_X0_enough_22, F_X0_enough_99, b1_some, b2_some, litI, neg1, nI_add, nI_mul, e1_p1, nI_e0, ib, ib1, ite_not, if_true, if_false, not_true_eq_false, not_false_eq_true, setI_hv, le_lit, leL, Nat.le_refl, w, show ¬ c ≤ (eo S c 8).1 by omega]
    · simp (decide := true) (disch := omega) only [B_X0_enough_22, F_X0_enough_99, b1_some, b2_some, litI, neg1, nI_add, nI_mul, e1_p1, nI_e0, ib, ib1, ite_not, if_true, if_false, not_true_eq_false, not_false_eq_true, setI_hv, le_lit, leL, Nat.le_refl, w, show c ≤ (eo S c 8).1 by omega]
  simp (decide := true) (disch := omega) only [b1_some, b2_some, litI, neg1, nI_add, nI_mul, e1_p1, nI_e0, ib, ib1, ite_not, if_true, if_false, not_true_eq_false, not_false_eq_true, setI_hv, qi, cl_I, lp]
  exact ⟨_, rfl, h, fun _ _ _ => rfl⟩
end
section
set_option maxRecDepth 100000
/-! pure law 24: pupils -/
abbrev rgt (a l d : Nat) : Prop := l + a * d ≤ 100
def agr (S : St) (p a l : Nat) : Nat → Nat
  | 0 => 0
  | k + 1 => agr S p a l k + if (if rgt a l (S.2 36 (12 * p + k)) then 1 else 0) = S.2 37 (12 * p + k) then 1 else 0
theorem agr_le (S : St) (p a l : Nat) : ∀ n, agr S p a l n ≤ n
  | 0 => Nat.le_refl _
  | k + 1 => by
    have := agr_le S p a l k
    show agr S p a l k + (if _ then 1 else 0) ≤ k + 1
    repeat' split
    all_goals omega
theorem Good.pm {S : St} (g : Good S) {p : Nat} (hp : p < 4) : S.2 35 p ≤ 12 := g.2.2.2.2.2.2.2.2.2.2.2.2.2.2.1 p hp
theorem Good.pd {S : St} (g : Good S) {k : Nat} (hk : k < 48) : S.2 36 k ≤ 60 ∧ S.2 37 k ≤ 1 := g.2.2.2.2.2.2.2.2.2.2.2.2.2.2.2.1 k hk
theorem sub_lt {x l : Nat} (hx : x < 1000000) (hl : l < 1000000) : (nI 100 - nI x < nI l) = (100 < l + x) := by
  apply propext
  rw [Int32.lt_iff_toInt_lt, i_lt (by omega) (by omega) _ rfl, tI (by omega)]
  omega
theorem ad_b {a d : Nat} (ha : a ≤ 9) (hd : d ≤ 60) : a * d ≤ 540 := Nat.mul_le_mul ha hd
theorem x9_right {σ : Hp} {a l d : Nat} (ha : a ≤ 9) (hl : l ≤ 90) (hd : d ≤ 60) : F_X9_isRight σ (nI a) (nI l) (nI d) = some (if rgt a l d then nI 1 else nI 0, σ) := by
  have b := ad_b ha hd
  by_cases q : rgt a l d
  · have q' : l + a * d ≤ 100 := q
    rw [if_pos q]
    simp (decide := true) (disch := omega) only [F_X9_isRight, b1_some, b2_some, litI, neg1, nI_add, nI_mul, e1_p1, nI_e0, ib, ib1, ite_not, if_true, if_false, not_true_eq_false, not_false_eq_true, setI_hv, sub_lt, show ¬ 100 < l + a * d by omega]
  · have q' : ¬ l + a * d ≤ 100 := q
    rw [if_neg q]
    simp (decide := true) (disch := omega) only [F_X9_isRight, b1_some, b2_some, litI, neg1, nI_add, nI_mul, e1_p1, nI_e0, ib, ib1, ite_not, if_true, if_false, not_true_eq_false, not_false_eq_true, setI_hv, sub_lt, show 100 < l + a * d by omega]
theorem x10_right {σ : Hp} {t d : Nat} (ht : t < 81) (hd : d ≤ 60) : F_X10_isRight σ (nI t) (nI d) = some (if rgt (t / 9 + 1) (10 * (t % 9 + 1)) d then nI 1 else nI 0, σ) := by
  have b := ad_b (a := t / 9 + 1) (by omega) hd
  have d9 : nI t / nI 9 = nI (t / 9) := pk_div (by omega) (by omega) (by omega)
  have r9 : nI t - nI (t / 9 * 9) = nI (t % 9) := by
    rw [← nI_mul, ← d9]
    exact pk_rem (by omega) (by omega) (by omega)
  by_cases q : rgt (t / 9 + 1) (10 * (t % 9 + 1)) d
  · have q' : 10 * (t % 9 + 1) + (t / 9 + 1) * d ≤ 100 := q
    rw [if_pos q]
    simp (decide := true) (disch := omega) only [F_X10_isRight, b1_some, b2_some, litI, neg1, nI_add, nI_mul, e1_p1, nI_e0, ib, ib1, ite_not, if_true, if_false, not_true_eq_false, not_false_eq_true, setI_hv, d9, r9, sub_lt, show ¬ 100 < 10 * (t % 9 + 1) + (t / 9 + 1) * d by omega]
  · have q' : ¬ 10 * (t % 9 + 1) + (t / 9 + 1) * d ≤ 100 := q
    rw [if_neg q]
    simp (decide := true) (disch := omega) only [F_X10_isRight, b1_some, b2_some, litI, neg1, nI_add, nI_mul, e1_p1, nI_e0, ib, ib1, ite_not, if_true, if_false, not_true_eq_false, not_false_eq_true, setI_hv, d9, r9, sub_lt, show 100 < 10 * (t % 9 + 1) + (t / 9 + 1) * d by omega]
theorem x_agr {N : Nat} {σ : Hp} {f : Nat → Nat → Int32} {S : St} (g : Good S) (h : RepX N (hv σ f) S) {p a l : Nat} (hp : p < 4) (ha : a ≤ 9) (hl : l ≤ 90) : F_X9_agrees (hv σ f) (N + (233 + 3 * p)) (nI a) (nI l) = some (nI (agr S p a l (S.2 35 p)), hv σ f) := by
  have s : SX N σ := h.1
  have pm := g.pm hp
  unfold F_X9_agrees L_X9_agrees_5
  rw [s.PG hp]
  obtain ⟨m, hm⟩ := it_FU (body := fun rec st => B_X9_agrees_5 (N + (233 + 3 * p)) (nI a) (nI l) rec st.1 st.2.1 st.2.2) (fun k => (hv σ f, nI (agr S p a l k), nI k)) 0 (S.2 35 p) (by omega) (by omega) (fun k _ hk rec => by
    have b := g.pd (k := 12 * p + k) (by omega)
    have r := x9_right (σ := hv σ f) ha hl b.1
    show B_X9_agrees_5 (N + (233 + 3 * p)) (nI a) (nI l) rec (hv σ f) (nI (agr S p a l k)) (nI k) = rec (hv σ f, nI (agr S p a l k + if (if rgt a l (S.2 36 (12 * p + k)) then 1 else 0) = S.2 37 (12 * p + k) then 1 else 0), nI (k + 1))
    by_cases q : rgt a l (S.2 36 (12 * p + k))
    · rw [if_pos q] at r
      rw [if_pos q]
      by_cases q2 : 1 = S.2 37 (12 * p + k)
      · simp (decide := true) (disch := omega) only [B_X9_agrees_5, s.PI, s.PD, s.PR, s.APD, s.APR, b1_some, b2_some, litI, neg1, nI_add, nI_mul, e1_p1, nI_e0, ib, ib1, ite_not, if_true, if_false, not_true_eq_false, not_false_eq_true, setI_hv, h.a35, h.a36, h.a37, le_lit, eq_lit, show ¬ S.2 35 p ≤ k by omega, r, ← q2]
      · simp (decide := true) (disch := omega) only [B_X9_agrees_5, s.PI, s.PD, s.PR, s.APD, s.APR, b1_some, b2_some, litI, neg1, nI_add, nI_mul, e1_p1, nI_e0, ib, ib1, ite_not, if_true, if_false, not_true_eq_false, not_false_eq_true, setI_hv, h.a35, h.a36, h.a37, le_lit, eq_lit, show ¬ S.2 35 p ≤ k by omega, r, q2]
    · rw [if_neg q] at r
      rw [if_neg q]
      by_cases q2 : 0 = S.2 37 (12 * p + k)
      · simp (decide := true) (disch := omega) only [B_X9_agrees_5, s.PI, s.PD, s.PR, s.APD, s.APR, b1_some, b2_some, litI, neg1, nI_add, nI_mul, e1_p1, nI_e0, ib, ib1, ite_not, if_true, if_false, not_true_eq_false, not_false_eq_true, setI_hv, h.a35, h.a36, h.a37, le_lit, eq_lit, show ¬ S.2 35 p ≤ k by omega, r, ← q2]
      · simp (decide := true) (disch := omega) only [B_X9_agrees_5, s.PI, s.PD, s.PR, s.APD, s.APR, b1_some, b2_some, litI, neg1, nI_add, nI_mul, e1_p1, nI_e0, ib, ib1, ite_not, if_true, if_false, not_true_eq_false, not_false_eq_true, setI_hv, h.a35, h.a36, h.a37, le_lit, eq_lit, show ¬ S.2 35 p ≤ k by omega, r, q2])
  refine Eq.trans (b := it (fun rec st => B_X9_agrees_5 (N + (233 + 3 * p)) (nI a) (nI l) rec st.1 st.2.1 st.2.2) FU (hv σ f, nI (agr S p a l 0), nI 0)) rfl (hm.trans ?_)
  simp (decide := true) (disch := omega) only [B_X9_agrees_5, s.PI, b1_some, b2_some, litI, neg1, nI_add, nI_mul, e1_p1, nI_e0, ib, ib1, ite_not, if_true, if_false, not_true_eq_false, not_false_eq_true, setI_hv, h.a35, le_lit, Nat.le_refl]
theorem m_agr {M : Nat} {σ : Hp} {f : Nat → Nat → Int32} {S : St} (g : Good S) (h : RepM M (hv σ f) S) {p t : Nat} (hp : p < 4) (ht : t < 81) : F_X10_agrees (hv σ f) M (nI p) (nI t) = some (nI (agr S p (t / 9 + 1) (10 * (t % 9 + 1)) (S.2 35 p)), hv σ f) := by
  have s : SM M σ := h.1
  have pm := g.pm hp
  unfold F_X10_agrees L_X10_agrees_5
  rw [gd_hv s.1]
  obtain ⟨m, hm⟩ := it_FU (body := fun rec st => B_X10_agrees_5 M (nI p) (nI t) rec st.1 st.2.1 st.2.2) (fun k => (hv σ f, nI (agr S p (t / 9 + 1) (10 * (t % 9 + 1)) k), nI k)) 0 (S.2 35 p) (by omega) (by omega) (fun k _ hk rec => by
    have b := g.pd (k := 12 * p + k) (by omega)
    have r := x10_right (σ := hv σ f) ht b.1
    show B_X10_agrees_5 M (nI p) (nI t) rec (hv σ f) (nI (agr S p (t / 9 + 1) (10 * (t % 9 + 1)) k)) (nI k) = rec (hv σ f, nI (agr S p (t / 9 + 1) (10 * (t % 9 + 1)) k + if (if rgt (t / 9 + 1) (10 * (t % 9 + 1)) (S.2 36 (12 * p + k)) then 1 else 0) = S.2 37 (12 * p + k) then 1 else 0), nI (k + 1))
    by_cases q : rgt (t / 9 + 1) (10 * (t % 9 + 1)) (S.2 36 (12 * p + k))
    · rw [if_pos q] at r
      rw [if_pos q]
      by_cases q2 : 1 = S.2 37 (12 * p + k)
      · simp (decide := true) (disch := omega) only [B_X10_agrees_5, gd_hv s.1, gI_hv s.1, pI_hv s.1, s.R35, s.A35, s.W35, s.R36, s.A36, s.W36, s.R37, s.A37, s.W37, b1_some, b2_some, litI, neg1, nI_add, nI_mul, e1_p1, nI_e0, ib, ib1, ite_not, if_true, if_false, not_true_eq_false, not_false_eq_true, setI_hv, h.a35, h.a36, h.a37, le_lit, eq_lit, show ¬ S.2 35 p ≤ k by omega, r, ← q2]
      · simp (decide := true) (disch := omega) only [B_X10_agrees_5, gd_hv s.1, gI_hv s.1, pI_hv s.1, s.R35, s.A35, s.W35, s.R36, s.A36, s.W36, s.R37, s.A37, s.W37, b1_some, b2_some, litI, neg1, nI_add, nI_mul, e1_p1, nI_e0, ib, ib1, ite_not, if_true, if_false, not_true_eq_false, not_false_eq_true, setI_hv, h.a35, h.a36, h.a37, le_lit, eq_lit, show ¬ S.2 35 p ≤ k by omega, r, q2]
    · rw [if_neg q] at r
      rw [if_neg q]
      by_cases q2 : 0 = S.2 37 (12 * p + k)
      · simp (decide := true) (disch := omega) only [B_X10_agrees_5, gd_hv s.1, gI_hv s.1, pI_hv s.1, s.R35, s.A35, s.W35, s.R36, s.A36, s.W36, s.R37, s.A37, s.W37, b1_some, b2_some, litI, neg1, nI_add, nI_mul, e1_p1, nI_e0, ib, ib1, ite_not, if_true, if_false, not_true_eq_false, not_false_eq_true, setI_hv, h.a35, h.a36, h.a37, le_lit, eq_lit, show ¬ S.2 35 p ≤ k by omega, r, ← q2]
      · simp (decide := true) (disch := omega) only [B_X10_agrees_5, gd_hv s.1, gI_hv s.1, pI_hv s.1, s.R35, s.A35, s.W35, s.R36, s.A36, s.W36, s.R37, s.A37, s.W37, b1_some, b2_some, litI, neg1, nI_add, nI_mul, e1_p1, nI_e0, ib, ib1, ite_not, if_true, if_false, not_true_eq_false, not_false_eq_true, setI_hv, h.a35, h.a36, h.a37, le_lit, eq_lit, show ¬ S.2 35 p ≤ k by omega, r, q2])
  refine Eq.trans (b := it (fun rec st => B_X10_agrees_5 M (nI p) (nI t) rec st.1 st.2.1 st.2.2) FU (hv σ f, nI (agr S p (t / 9 + 1) (10 * (t % 9 + 1)) 0), nI 0)) rfl (hm.trans ?_)
  simp (decide := true) (disch := omega) only [B_X10_agrees_5, gd_hv s.1, gI_hv s.1, pI_hv s.1, s.R35, s.A35, s.W35, b1_some, b2_some, litI, neg1, nI_add, nI_mul, e1_p1, nI_e0, ib, ib1, ite_not, if_true, if_false, not_true_eq_false, not_false_eq_true, setI_hv, h.a35, le_lit, Nat.le_refl]
/-! how many tables may be; the likeliest -/
def agt (S : St) (p t : Nat) : Nat := agr S p (t / 9 + 1) (10 * (t % 9 + 1)) (S.2 35 p)
theorem agt_le {S : St} (g : Good S) {p : Nat} (hp : p < 4) (t : Nat) : agt S p t ≤ 12 := Nat.le_trans (agr_le S p _ _ _) (g.pm hp)
def mbn (S : St) (p : Nat) : Nat → Nat
  | 0 => 0
  | t + 1 => mbn S p t + if agt S p t = S.2 35 p then 1 else 0
theorem mbn_le (S : St) (p : Nat) : ∀ n, mbn S p n ≤ n
  | 0 => Nat.le_refl _
  | t + 1 => by
    have := mbn_le S p t
    show mbn S p t + (if _ then 1 else 0) ≤ t + 1
    split <;> omega
theorem agt_at (S : St) (p i j : Nat) (hj : j < 9) : agt S p (9 * i + j) = agr S p (i + 1) (10 * (j + 1)) (S.2 35 p) := by
  unfold agt
  rw [show (9 * i + j) / 9 = i by omega, show (9 * i + j) % 9 = j by omega]
theorem x_may {N : Nat} {σ : Hp} {f : Nat → Nat → Int32} {S : St} (g : Good S) (h : RepX N (hv σ f) S) {p : Nat} (hp : p < 4) : F_X9_mayBe (hv σ f) (N + (233 + 3 * p)) = some (nI (mbn S p 81), hv σ f) := by
  have s : SX N σ := h.1
  have pm := g.pm hp
  unfold F_X9_mayBe L_X9_mayBe_4
  rw [s.PG hp]
  obtain ⟨m, hm⟩ := it_FU (body := fun rec st => B_X9_mayBe_4 (N + (233 + 3 * p)) rec st.1 st.2.1 st.2.2) (fun i => (hv σ f, nI (mbn S p (9 * i)), nI (i + 1))) 0 9 (by omega) (by omega) (fun i _ hi rec => by
    obtain ⟨m', hm'⟩ := it_FU (body := fun rec' st => B_X9_mayBe_13 rec (N + (233 + 3 * p)) (nI (i + 1)) rec' st.1 st.2.1 st.2.2) (fun j => (hv σ f, nI (mbn S p (9 * i + j)), nI (10 * (j + 1)))) 0 9 (by omega) (by omega) (fun j _ hj rec' => by
      have ag := x_agr g h (a := i + 1) (l := 10 * (j + 1)) hp (by omega) (by omega)
      rw [← agt_at S p i j hj] at ag
      have al := agt_le g hp (9 * i + j)
      show B_X9_mayBe_13 rec (N + (233 + 3 * p)) (nI (i + 1)) rec' (hv σ f) (nI (mbn S p (9 * i + j))) (nI (10 * (j + 1))) = rec' (hv σ f, nI (mbn S p (9 * i + j) + if agt S p (9 * i + j) = S.2 35 p then 1 else 0), nI (10 * (j + 1 + 1)))
      rw [show 10 * (j + 1 + 1) = 10 * (j + 1) + 10 by omega]
      by_cases q : agt S p (9 * i + j) = S.2 35 p
      · simp (decide := true) (disch := omega) only [B_X9_mayBe_13, s.PI, b1_some, b2_some, litI, neg1, nI_add, nI_mul, e1_p1, nI_e0, ib, ib1, ite_not, if_true, if_false, not_true_eq_false, not_false_eq_true, setI_hv, h.a35, lt_lit, show ¬ 90 < 10 * (j + 1) by omega, ag, q]
      · simp (decide := true) (disch := omega) only [B_X9_mayBe_13, s.PI, b1_some, b2_some, litI, neg1, nI_add, nI_mul, e1_p1, nI_e0, ib, ib1, ite_not, if_true, if_false, not_true_eq_false, not_false_eq_true, setI_hv, h.a35, lt_lit, eq_lit, show ¬ 90 < 10 * (j + 1) by omega, ag, q])
    have lp : L_X9_mayBe_13 rec (N + (233 + 3 * p)) (nI (i + 1)) FU (hv σ f, nI (mbn S p (9 * i)), nI 10) = rec (hv σ f, nI (mbn S p (9 * (i + 1))), nI (i + 1 + 1)) := by
      refine hm'.trans ?_
      show B_X9_mayBe_13 rec (N + (233 + 3 * p)) (nI (i + 1)) m' (hv σ f) (nI (mbn S p (9 * i + 9))) (nI (10 * (9 + 1))) = _
      rw [show 9 * (i + 1) = 9 * i + 9 by omega]
      simp (decide := true) (disch := omega) only [B_X9_mayBe_13, b1_some, b2_some, litI, neg1, nI_add, nI_mul, e1_p1, nI_e0, ib, ib1, ite_not, if_true, if_false, not_true_eq_false, not_false_eq_true, setI_hv, lt_lit]
    show B_X9_mayBe_4 (N + (233 + 3 * p)) rec (hv σ f) (nI (mbn S p (9 * i))) (nI (i + 1)) = rec (hv σ f, nI (mbn S p (9 * (i + 1))), nI (i + 1 + 1))
    rw [← lp]
    simp (decide := true) (disch := omega) only [B_X9_mayBe_4, b1_some, b2_some, litI, neg1, nI_add, nI_mul, e1_p1, nI_e0, ib, ib1, ite_not, if_true, if_false, not_true_eq_false, not_false_eq_true, setI_hv, lt_lit, show ¬ 9 < i + 1 by omega])
  refine Eq.trans (b := it (fun rec st => B_X9_mayBe_4 (N + (233 + 3 * p)) rec st.1 st.2.1 st.2.2) FU (hv σ f, nI (mbn S p (9 * 0)), nI (0 + 1))) rfl (hm.trans ?_)
  simp (decide := true) (disch := omega) only [B_X9_mayBe_4, b1_some, b2_some, litI, neg1, nI_add, nI_mul, e1_p1, nI_e0, ib, ib1, ite_not, if_true, if_false, not_true_eq_false, not_false_eq_true, setI_hv, lt_lit]
/-- the likeliest of the first n tables, and how many agree with it (none is 0) -/
def lkt (S : St) (p : Nat) : Nat → Nat × Nat
  | 0 => (0, 0)
  | t + 1 => if (lkt S p t).2 ≤ agt S p t then (t, agt S p t + 1) else lkt S p t
theorem lkt_b {S : St} (g : Good S) {p : Nat} (hp : p < 4) : ∀ n, (lkt S p n).1 ≤ n ∧ (lkt S p n).2 ≤ 13 ∧ (0 < n → (lkt S p n).1 < n ∧ (lkt S p n).2 = agt S p (lkt S p n).1 + 1)
  | 0 => ⟨Nat.le_refl _, Nat.zero_le _, fun h => absurd h (Nat.lt_irrefl 0)⟩
  | t + 1 => by
    have ih := lkt_b g hp t
    have al := agt_le g hp t
    unfold lkt
    by_cases q : (lkt S p t).2 ≤ agt S p t
    · rw [if_pos q]
      exact ⟨by show t ≤ t + 1; omega, by show agt S p t + 1 ≤ 13; omega, fun _ => ⟨by show t < t + 1; omega, rfl⟩⟩
    · rw [if_neg q]
      have t0 : 0 < t := by
        by_cases z : t = 0
        · subst z
          exact absurd (Nat.zero_le _) q
        · omega
      exact ⟨by omega, ih.2.1, fun _ => ⟨by have := (ih.2.2 t0).1; omega, (ih.2.2 t0).2⟩⟩
def bxn (S : St) (p n : Nat) : Nat := if n = 0 then 0 else 100 * ((lkt S p n).1 / 9 + 1) + 10 * ((lkt S p n).1 % 9 + 1)
theorem x_likl {N : Nat} {σ : Hp} {f : Nat → Nat → Int32} {S : St} (g : Good S) (h : RepX N (hv σ f) S) {p : Nat} (hp : p < 4) : F_X9_likeliest (hv σ f) (N + (233 + 3 * p)) = some (nI (bxn S p 81), hv σ f) := by
  have s : SX N σ := h.1
  unfold F_X9_likeliest L_X9_likeliest_6
  rw [s.PG hp]
  obtain ⟨m, hm⟩ := it_FU (body := fun rec st => B_X9_likeliest_6 (N + (233 + 3 * p)) rec st.1 st.2.1 st.2.2.1 st.2.2.2) (fun i => (hv σ f, nI (bxn S p (9 * i)), e1 (lkt S p (9 * i)).2, nI (i + 1))) 0 9 (by omega) (by omega) (fun i _ hi rec => by
    obtain ⟨m', hm'⟩ := it_FU (body := fun rec' st => B_X9_likeliest_16 rec (N + (233 + 3 * p)) (nI (i + 1)) rec' st.1 st.2.1 st.2.2.1 st.2.2.2) (fun j => (hv σ f, nI (bxn S p (9 * i + j)), e1 (lkt S p (9 * i + j)).2, nI (10 * (j + 1)))) 0 9 (by omega) (by omega) (fun j _ hj rec' => by
      have ag := x_agr g h (a := i + 1) (l := 10 * (j + 1)) hp (by omega) (by omega)
      rw [← agt_at S p i j hj] at ag
      have al := agt_le g hp (9 * i + j)
      have lb := lkt_b g hp (9 * i + j)
      show B_X9_likeliest_16 rec (N + (233 + 3 * p)) (nI (i + 1)) rec' (hv σ f) (nI (bxn S p (9 * i + j))) (e1 (lkt S p (9 * i + j)).2) (nI (10 * (j + 1))) = rec' (hv σ f, nI (bxn S p (9 * i + j + 1)), e1 (lkt S p (9 * i + j + 1)).2, nI (10 * (j + 1 + 1)))
      rw [show 10 * (j + 1 + 1) = 10 * (j + 1) + 10 by omega]
      by_cases q : (lkt S p (9 * i + j)).2 ≤ agt S p (9 * i + j)
      · have e : lkt S p (9 * i + j + 1) = (9 * i + j, agt S p (9 * i + j) + 1) := if_pos q
        have eb : bxn S p (9 * i + j + 1) = 100 * (i + 1) + 10 * (j + 1) := by
          unfold bxn
          rw [if_neg (by omega), e]
          show 100 * ((9 * i + j) / 9 + 1) + 10 * ((9 * i + j) % 9 + 1) = _
          omega
        rw [eb, e]
        simp (decide := true) (disch := omega) only [B_X9_likeliest_16, b1_some, b2_some, litI, neg1, nI_add, nI_mul, e1_p1, nI_e0, ib, ib1, ite_not, if_true, if_false, not_true_eq_false, not_false_eq_true, setI_hv, lt_lit, show ¬ 90 < 10 * (j + 1) by omega, ag, nI_le_e1, show ¬ agt S p (9 * i + j) < (lkt S p (9 * i + j)).2 by omega, e1_s]
      · have e : lkt S p (9 * i + j + 1) = lkt S p (9 * i + j) := if_neg q
        have n0 : ¬ 9 * i + j = 0 := fun z => q (by rw [z]; exact Nat.zero_le _)
        have eb : bxn S p (9 * i + j + 1) = bxn S p (9 * i + j) := by
          unfold bxn
          rw [if_neg (by omega), if_neg n0, e]
        rw [eb, e]
        simp (decide := true) (disch := omega) only [B_X9_likeliest_16, b1_some, b2_some, litI, neg1, nI_add, nI_mul, e1_p1, nI_e0, ib, ib1, ite_not, if_true, if_false, not_true_eq_false, not_false_eq_true, setI_hv, lt_lit, show ¬ 90 < 10 * (j + 1) by omega, ag, nI_le_e1, show agt S p (9 * i + j) < (lkt S p (9 * i + j)).2 by omega])
    have lp : L_X9_likeliest_16 rec (N + (233 + 3 * p)) (nI (i + 1)) FU (hv σ f, nI (bxn S p (9 * i)), e1 (lkt S p (9 * i)).2, nI 10) = rec (hv σ f, nI (bxn S p (9 * (i + 1))), e1 (lkt S p (9 * (i + 1))).2, nI (i + 1 + 1)) := by
      refine hm'.trans ?_
      show B_X9_likeliest_16 rec (N + (233 + 3 * p)) (nI (i + 1)) m' (hv σ f) (nI (bxn S p (9 * i + 9))) (e1 (lkt S p (9 * i + 9)).2) (nI (10 * (9 + 1))) = _
      rw [show 9 * (i + 1) = 9 * i + 9 by omega]
      simp (decide := true) (disch := omega) only [B_X9_likeliest_16, b1_some, b2_some, litI, neg1, nI_add, nI_mul, e1_p1, nI_e0, ib, ib1, ite_not, if_true, if_false, not_true_eq_false, not_false_eq_true, setI_hv, lt_lit]
    show B_X9_likeliest_6 (N + (233 + 3 * p)) rec (hv σ f) (nI (bxn S p (9 * i))) (e1 (lkt S p (9 * i)).2) (nI (i + 1)) = rec (hv σ f, nI (bxn S p (9 * (i + 1))), e1 (lkt S p (9 * (i + 1))).2, nI (i + 1 + 1))
    rw [← lp]
    simp (decide := true) (disch := omega) only [B_X9_likeliest_6, b1_some, b2_some, litI, neg1, nI_add, nI_mul, e1_p1, nI_e0, ib, ib1, ite_not, if_true, if_false, not_true_eq_false, not_false_eq_true, setI_hv, lt_lit, show ¬ 9 < i + 1 by omega])
  refine Eq.trans (b := it (fun rec st => B_X9_likeliest_6 (N + (233 + 3 * p)) rec st.1 st.2.1 st.2.2.1 st.2.2.2) FU (hv σ f, nI (bxn S p (9 * 0)), e1 (lkt S p (9 * 0)).2, nI (0 + 1))) rfl (hm.trans ?_)
  simp (decide := true) (disch := omega) only [B_X9_likeliest_6, b1_some, b2_some, litI, neg1, nI_add, nI_mul, e1_p1, nI_e0, ib, ib1, ite_not, if_true, if_false, not_true_eq_false, not_false_eq_true, setI_hv, lt_lit]
end
section
set_option maxRecDepth 100000
/-! pure law 25: what parts a pupil's tables best -/
theorem sub_p1 (a b : Nat) : nI a - nI b + nI 1 = nI (a + 1) - nI b := by
  rw [← nI_add, Int32.sub_eq_add_neg, Int32.sub_eq_add_neg, Int32.add_assoc, Int32.add_comm (-nI b), ← Int32.add_assoc]
theorem sub_m1 (a b : Nat) : nI a - nI b + e1 0 = nI a - nI (b + 1) := by
  rw [← neg1, ← nI_add, Int32.sub_eq_add_neg, Int32.sub_eq_add_neg, Int32.neg_add, Int32.add_assoc, Int32.sub_eq_add_neg]
theorem sub_z (a b : Nat) : nI a - nI b + nI 0 = nI a - nI b := Int32.add_zero _
def cps (S : St) (p d : Nat) : Nat → Nat
  | 0 => 0
  | t + 1 => cps S p d t + if agt S p t = S.2 35 p ∧ rgt (t / 9 + 1) (10 * (t % 9 + 1)) d then 1 else 0
def cns (S : St) (p d : Nat) : Nat → Nat
  | 0 => 0
  | t + 1 => cns S p d t + if agt S p t = S.2 35 p ∧ ¬ rgt (t / 9 + 1) (10 * (t % 9 + 1)) d then 1 else 0
theorem cps_le (S : St) (p d : Nat) : ∀ n, cps S p d n + cns S p d n ≤ n
  | 0 => Nat.le_refl _
  | t + 1 => by
    have := cps_le S p d t
    show cps S p d t + (if agt S p t = S.2 35 p ∧ rgt (t / 9 + 1) (10 * (t % 9 + 1)) d then 1 else 0) + (cns S p d t + if agt S p t = S.2 35 p ∧ ¬ rgt (t / 9 + 1) (10 * (t % 9 + 1)) d then 1 else 0) ≤ t + 1
    by_cases q : agt S p t = S.2 35 p
    · by_cases q2 : rgt (t / 9 + 1) (10 * (t % 9 + 1)) d
      · rw [if_pos ⟨q, q2⟩, if_neg (fun z => z.2 q2)]
        omega
      · rw [if_neg (fun z => q2 z.2), if_pos ⟨q, q2⟩]
        omega
    · rw [if_neg (fun z => q z.1), if_neg (fun z => q z.1)]
      omega
def od (S : St) (p d : Nat) : Nat := if cns S p d 81 ≤ cps S p d 81 then cps S p d 81 - cns S p d 81 else cns S p d 81 - cps S p d 81
theorem od_le (S : St) (p d : Nat) : od S p d ≤ 81 := by
  have := cps_le S p d 81
  unfold od
  split <;> omega
theorem neg_sub' (a b : Nat) : -(nI a - nI b) = nI b - nI a := Int32.neg_sub
theorem zero_sub' (a b : Nat) : nI 0 - (nI a - nI b) = nI b - nI a := by
  rw [show nI 0 - (nI a - nI b) = -(nI a - nI b) from Int32.zero_sub _]
  exact neg_sub' a b
theorem agt_many {S : St} (p t : Nat) : agt S p t ≤ S.2 35 p := agr_le S p _ _ _
theorem x_unlike {N : Nat} {σ : Hp} {f : Nat → Nat → Int32} {S : St} (g : Good S) (h : RepX N (hv σ f) S) {p d : Nat} (hp : p < 4) (hd : d ≤ 60) : F_X9_unlike (hv σ f) (N + (233 + 3 * p)) (nI d) = some (nI (od S p d), hv σ f) := by
  have s : SX N σ := h.1
  have pm := g.pm hp
  unfold F_X9_unlike L_X9_unlike_4
  rw [s.PG hp]
  obtain ⟨m, hm⟩ := it_FU (body := fun rec st => B_X9_unlike_4 (N + (233 + 3 * p)) (nI d) rec st.1 st.2.1 st.2.2) (fun i => (hv σ f, nI (cps S p d (9 * i)) - nI (cns S p d (9 * i)), nI (i + 1))) 0 9 (by omega) (by omega) (fun i _ hi rec => by
    obtain ⟨m', hm'⟩ := it_FU (body := fun rec' st => B_X9_unlike_14 rec (N + (233 + 3 * p)) (nI d) (nI (i + 1)) rec' st.1 st.2.1 st.2.2) (fun j => (hv σ f, nI (cps S p d (9 * i + j)) - nI (cns S p d (9 * i + j)), nI (10 * (j + 1)))) 0 9 (by omega) (by omega) (fun j _ hj rec' => by
      have ag := x_agr g h (a := i + 1) (l := 10 * (j + 1)) hp (by omega) (by omega)
      rw [← agt_at S p i j hj] at ag
      have am := agt_many (S := S) p (9 * i + j)
      have r := x9_right (σ := hv σ f) (a := i + 1) (l := 10 * (j + 1)) (d := d) (by omega) (by omega) hd
      show B_X9_unlike_14 rec (N + (233 + 3 * p)) (nI d) (nI (i + 1)) rec' (hv σ f) (nI (cps S p d (9 * i + j)) - nI (cns S p d (9 * i + j))) (nI (10 * (j + 1))) = rec' (hv σ f, nI (cps S p d (9 * i + j) + if agt S p (9 * i + j) = S.2 35 p ∧ rgt ((9 * i + j) / 9 + 1) (10 * ((9 * i + j) % 9 + 1)) d then 1 else 0) - nI (cns S p d (9 * i + j) + if agt S p (9 * i + j) = S.2 35 p ∧ ¬ rgt ((9 * i + j) / 9 + 1) (10 * ((9 * i + j) % 9 + 1)) d then 1 else 0), nI (10 * (j + 1 + 1)))
      rw [show 10 * (j + 1 + 1) = 10 * (j + 1) + 10 by omega, show (9 * i + j) / 9 = i by omega, show (9 * i + j) % 9 = j by omega]
      by_cases q : agt S p (9 * i + j) = S.2 35 p
      · by_cases q2 : rgt (i + 1) (10 * (j + 1)) d
        · rw [if_pos q2] at r
          rw [if_pos ⟨q, q2⟩, if_neg (fun z => z.2 q2)]
          simp (decide := true) (disch := omega) only [B_X9_unlike_14, s.PI, b1_some, b2_some, litI, neg1, nI_add, nI_mul, e1_p1, nI_e0, ib, ib1, ite_not, if_true, if_false, not_true_eq_false, not_false_eq_true, setI_hv, h.a35, lt_lit, le_lit, eq_lit, show ¬ 90 < 10 * (j + 1) by omega, ag, q, Nat.le_refl, r, sub_p1, Nat.add_zero]
        · rw [if_neg q2] at r
          rw [if_neg (fun z => q2 z.2), if_pos ⟨q, q2⟩]
          simp (decide := true) (disch := omega) only [B_X9_unlike_14, s.PI, b1_some, b2_some, litI, neg1, nI_add, nI_mul, e1_p1, nI_e0, ib, ib1, ite_not, if_true, if_false, not_true_eq_false, not_false_eq_true, setI_hv, h.a35, lt_lit, le_lit, eq_lit, show ¬ 90 < 10 * (j + 1) by omega, ag, q, Nat.le_refl, r, sub_m1, Nat.add_zero]
      · rw [if_neg (fun z => q z.1), if_neg (fun z => q z.1)]
        simp (decide := true) (disch := omega) only [B_X9_unlike_14, s.PI, b1_some, b2_some, litI, neg1, nI_add, nI_mul, e1_p1, nI_e0, ib, ib1, ite_not, if_true, if_false, not_true_eq_false, not_false_eq_true, setI_hv, h.a35, lt_lit, le_lit, show ¬ 90 < 10 * (j + 1) by omega, ag, show ¬ S.2 35 p ≤ agt S p (9 * i + j) by omega, sub_z, Nat.add_zero])
    have lp : L_X9_unlike_14 rec (N + (233 + 3 * p)) (nI d) (nI (i + 1)) FU (hv σ f, nI (cps S p d (9 * i)) - nI (cns S p d (9 * i)), nI 10) = rec (hv σ f, nI (cps S p d (9 * (i + 1))) - nI (cns S p d (9 * (i + 1))), nI (i + 1 + 1)) := by
      refine hm'.trans ?_
      show B_X9_unlike_14 rec (N + (233 + 3 * p)) (nI d) (nI (i + 1)) m' (hv σ f) (nI (cps S p d (9 * i + 9)) - nI (cns S p d (9 * i + 9))) (nI (10 * (9 + 1))) = _
      rw [show 9 * (i + 1) = 9 * i + 9 by omega]
      simp (decide := true) (disch := omega) only [B_X9_unlike_14, b1_some, b2_some, litI, neg1, nI_add, nI_mul, e1_p1, nI_e0, ib, ib1, ite_not, if_true, if_false, not_true_eq_false, not_false_eq_true, setI_hv, lt_lit]
    show B_X9_unlike_4 (N + (233 + 3 * p)) (nI d) rec (hv σ f) (nI (cps S p d (9 * i)) - nI (cns S p d (9 * i))) (nI (i + 1)) = rec (hv σ f, nI (cps S p d (9 * (i + 1))) - nI (cns S p d (9 * (i + 1))), nI (i + 1 + 1))
    rw [← lp]
    simp (decide := true) (disch := omega) only [B_X9_unlike_4, b1_some, b2_some, litI, neg1, nI_add, nI_mul, e1_p1, nI_e0, ib, ib1, ite_not, if_true, if_false, not_true_eq_false, not_false_eq_true, setI_hv, lt_lit, show ¬ 9 < i + 1 by omega])
  refine Eq.trans (b := it (fun rec st => B_X9_unlike_4 (N + (233 + 3 * p)) (nI d) rec st.1 st.2.1 st.2.2) FU (hv σ f, nI (cps S p d (9 * 0)) - nI (cns S p d (9 * 0)), nI (0 + 1))) (by
    have e : (0 : Int32) = nI (cps S p d (9 * 0)) - nI (cns S p d (9 * 0)) := by
      show (0 : Int32) = nI 0 - nI 0
      decide
    rw [← e]
    rfl) (hm.trans ?_)
  show B_X9_unlike_4 (N + (233 + 3 * p)) (nI d) m (hv σ f) (nI (cps S p d 81) - nI (cns S p d 81)) (nI 10) = _
  have cl := cps_le S p d 81
  unfold od
  by_cases q : cns S p d 81 ≤ cps S p d 81
  · rw [if_pos q]
    simp (decide := true) (disch := omega) only [B_X9_unlike_4, b1_some, b2_some, litI, neg1, nI_add, nI_mul, e1_p1, nI_e0, ib, ib1, ite_not, if_true, if_false, not_true_eq_false, not_false_eq_true, setI_hv, lt_lit, fade0, q, nI_sub, le_lit, Nat.zero_le]
  · rw [if_neg q]
    simp (decide := true) (disch := omega) only [B_X9_unlike_4, b1_some, b2_some, litI, neg1, nI_add, nI_mul, e1_p1, nI_e0, ib, ib1, ite_not, if_true, if_false, not_true_eq_false, not_false_eq_true, setI_hv, lt_lit, fade0, q, zero_sub', nI_sub]
end
section
set_option maxRecDepth 100000
/-! pure law 26: pupils, joined -/
/-- the day that parts best of the first n days (none is 0, d + 1 is d) -/
def pbn (S : St) (p : Nat) : Nat → Nat
  | 0 => 0
  | n + 1 => if pbn S p n = 0 ∨ od S p (n + 1) < od S p (pbn S p n - 1) then n + 2 else pbn S p n
theorem pbn_b (S : St) (p : Nat) : ∀ n, pbn S p n ≤ n + 1 ∧ (0 < n → 2 ≤ pbn S p n)
  | 0 => ⟨Nat.zero_le _, fun h => absurd h (Nat.lt_irrefl 0)⟩
  | n + 1 => by
    have ih := pbn_b S p n
    unfold pbn
    by_cases q : pbn S p n = 0 ∨ od S p (n + 1) < od S p (pbn S p n - 1)
    · rw [if_pos q]
      omega
    · rw [if_neg q]
      have : ¬ n = 0 := fun z => q (Or.inl (by rw [z]; rfl))
      have := ih.2 (by omega)
      omega
theorem x_parts {N : Nat} {σ : Hp} {f : Nat → Nat → Int32} {S : St} (g : Good S) (h : RepX N (hv σ f) S) {p : Nat} (hp : p < 4) : F_X9_parts (hv σ f) (N + (233 + 3 * p)) = some (if mbn S p 81 = 0 then e1 0 else e1 (pbn S p 60), hv σ f) := by
  have s : SX N σ := h.1
  have mb := mbn_le S p 81
  have my := x_may g h hp
  unfold F_X9_parts L_X9_parts_4
  rw [s.PG hp]
  by_cases q0 : mbn S p 81 = 0
  · rw [if_pos q0]
    rw [q0] at my
    obtain ⟨m, hm⟩ := it_FU (body := fun rec st => B_X9_parts_4 (N + (233 + 3 * p)) rec st.1 st.2.1 st.2.2) (fun i => (hv σ f, e1 0, nI 1)) 0 0 (by omega) (by omega) (fun i _ hi rec => by omega)
    refine Eq.trans hm ?_
    simp (decide := true) (disch := omega) only [B_X9_parts_4, b1_some, b2_some, litI, neg1, nI_add, nI_mul, e1_p1, nI_e0, ib, ib1, ite_not, if_true, if_false, not_true_eq_false, not_false_eq_true, setI_hv, my, lt_lit, le_lit, Nat.le_refl]
  rw [if_neg q0]
  obtain ⟨m, hm⟩ := it_FU (body := fun rec st => B_X9_parts_4 (N + (233 + 3 * p)) rec st.1 st.2.1 st.2.2) (fun i => (hv σ f, e1 (pbn S p i), nI (i + 1))) 0 60 (by omega) (by omega) (fun i _ hi rec => by
    have pb := pbn_b S p i
    have o1 := od_le S p (i + 1)
    show B_X9_parts_4 (N + (233 + 3 * p)) rec (hv σ f) (e1 (pbn S p i)) (nI (i + 1)) = rec (hv σ f, e1 (pbn S p (i + 1)), nI (i + 1 + 1))
    by_cases q1 : pbn S p i = 0
    · have e : pbn S p (i + 1) = i + 2 := if_pos (Or.inl q1)
      rw [e, q1]
      simp (decide := true) (disch := omega) only [B_X9_parts_4, b1_some, b2_some, litI, neg1, nI_add, nI_mul, e1_p1, nI_e0, ib, ib1, ite_not, if_true, if_false, not_true_eq_false, not_false_eq_true, setI_hv, my, lt_lit, le_lit, show ¬ 60 < i + 1 by omega, show ¬ mbn S p 81 ≤ 0 by omega, e1_inj, e1_s]
    · have p2 : 0 < i := Nat.pos_of_ne_zero (fun z => q1 (by rw [z]; rfl))
      have p3 := pb.2 p2
      have u1 := x_unlike g h (d := i + 1) hp (by omega)
      have u2' := x_unlike g h (d := pbn S p i - 1) hp (by omega)
      have o2 := od_le S p (pbn S p i - 1)
      have e0 : e1 (pbn S p i) = nI (pbn S p i - 1) := e1_of (by omega)
      by_cases q2 : od S p (i + 1) < od S p (pbn S p i - 1)
      · have e : pbn S p (i + 1) = i + 2 := if_pos (Or.inr q2)
        rw [e, e0]
        simp (decide := true) (disch := omega) only [B_X9_parts_4, b1_some, b2_some, litI, neg1, nI_add, nI_mul, e1_p1, nI_e0, ib, ib1, ite_not, if_true, if_false, not_true_eq_false, not_false_eq_true, setI_hv, my, lt_lit, le_lit, show ¬ 60 < i + 1 by omega, show ¬ mbn S p 81 ≤ 0 by omega, u1, u2', show ¬ od S p (pbn S p i - 1) ≤ od S p (i + 1) by omega, e1_s]
      · have e : pbn S p (i + 1) = pbn S p i := if_neg (by omega)
        rw [e, e0]
        simp (decide := true) (disch := omega) only [B_X9_parts_4, b1_some, b2_some, litI, neg1, nI_add, nI_mul, e1_p1, nI_e0, ib, ib1, ite_not, if_true, if_false, not_true_eq_false, not_false_eq_true, setI_hv, my, lt_lit, le_lit, show ¬ 60 < i + 1 by omega, show ¬ mbn S p 81 ≤ 0 by omega, u1, u2', show od S p (pbn S p i - 1) ≤ od S p (i + 1) by omega])
  refine Eq.trans (b := it (fun rec st => B_X9_parts_4 (N + (233 + 3 * p)) rec st.1 st.2.1 st.2.2) FU (hv σ f, e1 (pbn S p 0), nI (0 + 1))) rfl (hm.trans ?_)
  simp (decide := true) (disch := omega) only [B_X9_parts_4, b1_some, b2_some, litI, neg1, nI_add, nI_mul, e1_p1, nI_e0, ib, ib1, ite_not, if_true, if_false, not_true_eq_false, not_false_eq_true, setI_hv, lt_lit]
/-- the least of the first n days -/
def lst (S : St) (p n : Nat) : Nat := if n = 0 then 1000 else od S p (pbn S p n - 1)
theorem lst_le (S : St) (p n : Nat) : lst S p n ≤ 1000 := by
  have := od_le S p (pbn S p n - 1)
  unfold lst
  split <;> omega
theorem m_parts {M : Nat} {σ : Hp} {f : Nat → Nat → Int32} {S : St} (g : Good S) (h : RepM M (hv σ f) S) {p : Nat} (hp : p < 4) : F_X10_partsMost (hv σ f) M (nI p) = some (if mbn S p 81 = 0 then e1 0 else e1 (pbn S p 60), hv σ f) := by
  have s : SM M σ := h.1
  have pm := g.pm hp
  have mb := mbn_le S p 81
  unfold F_X10_partsMost L_X10_partsMost_12
  rw [gd_hv s.1]
  obtain ⟨m, hm⟩ := it_FU (body := fun rec st => B_X10_partsMost_12 M (nI p) rec st.1 st.2.1 st.2.2.1 st.2.2.2.1 st.2.2.2.2) (fun i => (hv σ f, e1 (pbn S p i), nI (lst S p i), nI (mbn S p 81 * i), nI (i + 1))) 0 60 (by omega) (by omega) (fun i _ hi rec => by
    have pb := pbn_b S p i
    have mi : mbn S p 81 * i ≤ 81 * 60 := Nat.mul_le_mul mb (by omega)
    obtain ⟨m', hm'⟩ := it_FU (body := fun rec' st => B_X10_partsMost_25 rec M (nI p) (e1 (pbn S p i)) (nI (lst S p i)) (nI (i + 1)) rec' st.1 st.2.1 st.2.2.1 st.2.2.2) (fun t => (hv σ f, nI (mbn S p 81 * i + mbn S p t), nI (cps S p (i + 1) t) - nI (cns S p (i + 1) t), nI t)) 0 81 (by omega) (by omega) (fun t _ ht rec' => by
      have ag := m_agr g h (t := t) hp ht
      have al : agr S p (t / 9 + 1) (10 * (t % 9 + 1)) (S.2 35 p) ≤ S.2 35 p := agr_le S p _ _ _
      have r := x10_right (σ := hv σ f) (t := t) (d := i + 1) ht (by omega)
      show B_X10_partsMost_25 rec M (nI p) (e1 (pbn S p i)) (nI (lst S p i)) (nI (i + 1)) rec' (hv σ f) (nI (mbn S p 81 * i + mbn S p t)) (nI (cps S p (i + 1) t) - nI (cns S p (i + 1) t)) (nI t) = rec' (hv σ f, nI (mbn S p 81 * i + (mbn S p t + if agr S p (t / 9 + 1) (10 * (t % 9 + 1)) (S.2 35 p) = S.2 35 p then 1 else 0)), nI (cps S p (i + 1) t + if agr S p (t / 9 + 1) (10 * (t % 9 + 1)) (S.2 35 p) = S.2 35 p ∧ rgt (t / 9 + 1) (10 * (t % 9 + 1)) (i + 1) then 1 else 0) - nI (cns S p (i + 1) t + if agr S p (t / 9 + 1) (10 * (t % 9 + 1)) (S.2 35 p) = S.2 35 p ∧ ¬ rgt (t / 9 + 1) (10 * (t % 9 + 1)) (i + 1) then 1 else 0), nI (t + 1))
      generalize agr S p (t / 9 + 1) (10 * (t % 9 + 1)) (S.2 35 p) = A at ag al
      by_cases q : A = S.2 35 p
      · rw [if_pos q]
        by_cases q2 : rgt (t / 9 + 1) (10 * (t % 9 + 1)) (i + 1)
        · rw [if_pos q2] at r
          rw [if_pos ⟨q, q2⟩, if_neg (fun z => z.2 q2)]
          simp (decide := true) (disch := omega) only [B_X10_partsMost_25, F_X10_partsMost_53, F_X10_partsMost_67, gd_hv s.1, gI_hv s.1, pI_hv s.1, s.R35, s.A35, s.W35, b1_some, b2_some, litI, neg1, nI_add, nI_mul, e1_p1, nI_e0, ib, ib1, ite_not, if_true, if_false, not_true_eq_false, not_false_eq_true, setI_hv, h.a35, le_lit, eq_lit, show ¬ 81 ≤ t by omega, ag, q, r, sub_p1, Nat.add_zero, Nat.add_assoc]
        · rw [if_neg q2] at r
          rw [if_neg (fun z => q2 z.2), if_pos ⟨q, q2⟩]
          simp (decide := true) (disch := omega) only [B_X10_partsMost_25, F_X10_partsMost_53, F_X10_partsMost_67, gd_hv s.1, gI_hv s.1, pI_hv s.1, s.R35, s.A35, s.W35, b1_some, b2_some, litI, neg1, nI_add, nI_mul, e1_p1, nI_e0, ib, ib1, ite_not, if_true, if_false, not_true_eq_false, not_false_eq_true, setI_hv, h.a35, le_lit, eq_lit, show ¬ 81 ≤ t by omega, ag, q, r, sub_m1, Nat.add_zero, Nat.add_assoc]
      · rw [if_neg q, if_neg (fun z => q z.1), if_neg (fun z => q z.1)]
        simp (decide := true) (disch := omega) only [B_X10_partsMost_25, F_X10_partsMost_53, F_X10_partsMost_67, gd_hv s.1, gI_hv s.1, pI_hv s.1, s.R35, s.A35, s.W35, b1_some, b2_some, litI, neg1, nI_add, nI_mul, e1_p1, nI_e0, ib, ib1, ite_not, if_true, if_false, not_true_eq_false, not_false_eq_true, setI_hv, h.a35, le_lit, eq_lit, show ¬ 81 ≤ t by omega, ag, q, sub_z, Nat.add_zero, Nat.add_assoc])
    have lp : L_X10_partsMost_25 rec M (nI p) (e1 (pbn S p i)) (nI (lst S p i)) (nI (i + 1)) FU (hv σ f, nI (mbn S p 81 * i), nI 0, nI 0) = rec (hv σ f, e1 (pbn S p (i + 1)), nI (lst S p (i + 1)), nI (mbn S p 81 * (i + 1)), nI (i + 1 + 1)) := by
      refine Eq.trans (b := it (fun rec' st => B_X10_partsMost_25 rec M (nI p) (e1 (pbn S p i)) (nI (lst S p i)) (nI (i + 1)) rec' st.1 st.2.1 st.2.2.1 st.2.2.2) FU (hv σ f, nI (mbn S p 81 * i + mbn S p 0), nI (cps S p (i + 1) 0) - nI (cns S p (i + 1) 0), nI 0)) (by
        have e : nI 0 = nI (cps S p (i + 1) 0) - nI (cns S p (i + 1) 0) := by
          show nI 0 = nI 0 - nI 0
          decide
        rw [← e]
        rfl) (hm'.trans ?_)
      show B_X10_partsMost_25 rec M (nI p) (e1 (pbn S p i)) (nI (lst S p i)) (nI (i + 1)) m' (hv σ f) (nI (mbn S p 81 * i + mbn S p 81)) (nI (cps S p (i + 1) 81) - nI (cns S p (i + 1) 81)) (nI 81) = _
      have cl := cps_le S p (i + 1) 81
      have ol := od_le S p (i + 1)
      have ll := lst_le S p i
      have f105 : F_X10_partsMost_105 rec (hv σ f) M (nI p) (e1 (pbn S p i)) (nI (lst S p i)) (nI (mbn S p 81 * i + mbn S p 81)) (nI (i + 1)) (nI (cps S p (i + 1) 81) - nI (cns S p (i + 1) 81)) = F_X10_partsMost_118 rec (hv σ f) M (nI p) (e1 (pbn S p i)) (nI (lst S p i)) (nI (mbn S p 81 * i + mbn S p 81)) (nI (i + 1)) (nI (od S p (i + 1))) := by
        unfold F_X10_partsMost_105 od
        by_cases q : cns S p (i + 1) 81 ≤ cps S p (i + 1) 81
        · rw [if_pos q]
          simp (decide := true) (disch := omega) only [b1_some, b2_some, litI, neg1, nI_add, nI_mul, e1_p1, nI_e0, ib, ib1, ite_not, if_true, if_false, not_true_eq_false, not_false_eq_true, setI_hv, fade0, q, nI_sub, le_lit, Nat.zero_le]
        · rw [if_neg q]
          simp (decide := true) (disch := omega) only [b1_some, b2_some, litI, neg1, nI_add, nI_mul, e1_p1, nI_e0, ib, ib1, ite_not, if_true, if_false, not_true_eq_false, not_false_eq_true, setI_hv, fade0, q, neg_sub', nI_sub]
      have hcond : (od S p (i + 1) < lst S p i) = (pbn S p i = 0 ∨ od S p (i + 1) < od S p (pbn S p i - 1)) := by
        apply propext
        unfold lst
        by_cases z : i = 0
        · rw [if_pos z]
          constructor
          · intro _
            left
            rw [z]
            rfl
          · intro _
            omega
        · rw [if_neg z]
          have := pb.2 (by omega)
          omega
      have l1 : lst S p (i + 1) = od S p (pbn S p (i + 1) - 1) := if_neg (by omega)
      rw [Nat.mul_succ, l1]
      by_cases q : od S p (i + 1) < lst S p i
      · have e : pbn S p (i + 1) = i + 2 := if_pos (hcond ▸ q)
        rw [e]
        simp (decide := true) (disch := omega) only [B_X10_partsMost_25, f105, F_X10_partsMost_118, b1_some, b2_some, litI, neg1, nI_add, nI_mul, e1_p1, nI_e0, ib, ib1, ite_not, if_true, if_false, not_true_eq_false, not_false_eq_true, setI_hv, le_lit, Nat.le_refl, show ¬ lst S p i ≤ od S p (i + 1) by omega, e1_s, show i + 2 - 1 = i + 1 by omega]
      · have e : pbn S p (i + 1) = pbn S p i := if_neg (hcond ▸ q)
        have l2 : lst S p i = od S p (pbn S p i - 1) := by
          refine if_neg (fun z => q ?_)
          unfold lst
          rw [if_pos z]
          omega
        rw [e, ← l2]
        simp (decide := true) (disch := omega) only [B_X10_partsMost_25, f105, F_X10_partsMost_118, b1_some, b2_some, litI, neg1, nI_add, nI_mul, e1_p1, nI_e0, ib, ib1, ite_not, if_true, if_false, not_true_eq_false, not_false_eq_true, setI_hv, le_lit, Nat.le_refl, show lst S p i ≤ od S p (i + 1) by omega]
    show B_X10_partsMost_12 M (nI p) rec (hv σ f) (e1 (pbn S p i)) (nI (lst S p i)) (nI (mbn S p 81 * i)) (nI (i + 1)) = rec (hv σ f, e1 (pbn S p (i + 1)), nI (lst S p (i + 1)), nI (mbn S p 81 * (i + 1)), nI (i + 1 + 1))
    rw [← lp]
    simp (decide := true) (disch := omega) only [B_X10_partsMost_12, b1_some, b2_some, litI, neg1, nI_add, nI_mul, e1_p1, nI_e0, ib, ib1, ite_not, if_true, if_false, not_true_eq_false, not_false_eq_true, setI_hv, le_lit, show ¬ 61 ≤ i + 1 by omega])
  refine Eq.trans (b := it (fun rec st => B_X10_partsMost_12 M (nI p) rec st.1 st.2.1 st.2.2.1 st.2.2.2.1 st.2.2.2.2) FU (hv σ f, e1 (pbn S p 0), nI (lst S p 0), nI (mbn S p 81 * 0), nI (0 + 1))) rfl (hm.trans ?_)
  have m60 : mbn S p 81 * 60 ≤ 81 * 60 := Nat.mul_le_mul mb (by omega)
  by_cases q : mbn S p 81 = 0
  · simp (decide := true) (disch := omega) only [B_X10_partsMost_12, F_X10_partsMost_152, b1_some, b2_some, litI, neg1, nI_add, nI_mul, e1_p1, nI_e0, ib, ib1, ite_not, if_true, if_false, not_true_eq_false, not_false_eq_true, setI_hv, le_lit, Nat.le_refl, q, Nat.zero_mul]
  · simp (decide := true) (disch := omega) only [B_X10_partsMost_12, F_X10_partsMost_152, b1_some, b2_some, litI, neg1, nI_add, nI_mul, e1_p1, nI_e0, ib, ib1, ite_not, if_true, if_false, not_true_eq_false, not_false_eq_true, setI_hv, le_lit, Nat.le_refl, q, eq_lit, show ¬ mbn S p 81 * 60 = 0 by omega]
def oPupil (p w : Int32) (S : St) : Int32 × St := if inR p 0 3 then (if w = nI 0 then nI (mbn S p.toNatClampNeg 81) else if w = nI 1 then nI (bxn S p.toNatClampNeg 81) else if w = nI 2 then e1 (lkt S p.toNatClampNeg 81).2 else if w = nI 3 then (if mbn S p.toNatClampNeg 81 = 0 then e1 0 else e1 (pbn S p.toNatClampNeg 60)) else -3, S) else (-2, S)
theorem x_pupil (N : Nat) (p w : Int32) : OkXf N (fun σ => F_X0_pupil σ N p w) (oPupil p w) := by
  intro σ f S g h
  have s : SX N σ := h.1
  simp only [F_X0_pupil, oPupil, gd_hv s.t0, x0_isPupil, b2_some]
  rcases in_split p 0 3 (by omega) (by omega) with ⟨i, -, hi, rfl⟩ | hk
  case inr => simp (decide := true) (disch := omega) only [b1_some, b2_some, litI, neg1, nI_add, nI_mul, e1_p1, nI_e0, ib, ib1, ite_not, if_true, if_false, not_true_eq_false, not_false_eq_true, setI_hv, hk]; exact ⟨_, rfl, h, fun _ _ _ => rfl⟩
  have qi := eq_true (inR_of (Nat.zero_le i) hi (by omega))
  have hp : i < 4 := by omega
  have lb := lkt_b g hp 81
  have lb2 := lb.2.2 (by decide)
  have bx : bxn S i 81 = 100 * ((lkt S i 81).1 / 9 + 1) + 10 * ((lkt S i 81).1 % 9 + 1) := if_neg (by decide)
  have d1 : nI (bxn S i 81) / nI 100 = nI ((lkt S i 81).1 / 9 + 1) := by
    rw [pk_div (by omega) (by omega) (by omega)]
    exact congrArg nI (by omega)
  have d2 : nI (bxn S i 81) - nI (((lkt S i 81).1 / 9 + 1) * 100) = nI (10 * ((lkt S i 81).1 % 9 + 1)) := by
    rw [nI_sub (by omega)]
    exact congrArg nI (by omega)
  have ag := x_agr g h (a := (lkt S i 81).1 / 9 + 1) (l := 10 * ((lkt S i 81).1 % 9 + 1)) hp (by omega) (by omega)
  have e2 : nI (agr S i ((lkt S i 81).1 / 9 + 1) (10 * ((lkt S i 81).1 % 9 + 1)) (S.2 35 i)) = e1 (lkt S i 81).2 := by
    rw [lb2.2, e1_s]
    rfl
  rw [e2] at ag
  simp (decide := true) (disch := omega) only [gd_hv s.t0, gI_hv s.t0, pI_hv s.t0, s.R21, s.P, b1_some, b2_some, litI, neg1, nI_add, nI_mul, e1_p1, nI_e0, ib, ib1, ite_not, if_true, if_false, not_true_eq_false, not_false_eq_true, setI_hv, qi, cl_I, x_may g h hp, x_likl g h hp, x_parts g h hp, d1, d2, ag]
  refine ⟨f, ?_, h, fun _ _ _ => rfl⟩
  repeat' split
  all_goals rfl
theorem m_pupil (M : Nat) (p w : Int32) : OkMf M (fun σ => F_X10_pupil σ M p w) (oPupil p w) := by
  intro σ f S g h
  have s : SM M σ := h.1
  simp only [F_X10_pupil, oPupil, gd_hv s.1, x10_isPupil, b2_some]
  rcases in_split p 0 3 (by omega) (by omega) with ⟨i, -, hi, rfl⟩ | hk
  case inr => simp (decide := true) (disch := omega) only [b1_some, b2_some, litI, neg1, nI_add, nI_mul, e1_p1, nI_e0, ib, ib1, ite_not, if_true, if_false, not_true_eq_false, not_false_eq_true, setI_hv, hk]; exact ⟨_, rfl, h, fun _ _ _ => rfl⟩
  have qi := eq_true (inR_of (Nat.zero_le i) hi (by omega))
  have hp : i < 4 := by omega
  have pm := g.pm hp
  have lb := lkt_b g hp 81
  have lb2 := lb.2.2 (by decide)
  have bx : bxn S i 81 = 100 * ((lkt S i 81).1 / 9 + 1) + 10 * ((lkt S i 81).1 % 9 + 1) := if_neg (by decide)
  have d1 : nI (lkt S i 81).1 / nI 9 = nI ((lkt S i 81).1 / 9) := pk_div (by omega) (by omega) (by omega)
  have d2 : nI (lkt S i 81).1 - nI ((lkt S i 81).1 / 9 * 9) = nI ((lkt S i 81).1 % 9) := by
    rw [nI_sub (by omega)]
    exact congrArg nI (by omega)
  simp (decide := true) (disch := omega) only [b1_some, b2_some, litI, neg1, nI_add, nI_mul, e1_p1, nI_e0, ib, ib1, ite_not, if_true, if_false, not_true_eq_false, not_false_eq_true, setI_hv, qi, cl_I]
  refine ⟨f, ?_, h, fun _ _ _ => rfl⟩
  rcases in_split w 0 3 (by omega) (by omega) with ⟨j, -, hj, rfl⟩ | hk
  case inr =>
    have n0 : ¬ w = nI 0 := fun z => hk (z ▸ inR_of (by omega) (by omega) (by omega))
    have n1 : ¬ w = nI 1 := fun z => hk (z ▸ inR_of (by omega) (by omega) (by omega))
    have n2 : ¬ w = nI 2 := fun z => hk (z ▸ inR_of (by omega) (by omega) (by omega))
    have n3 : ¬ w = nI 3 := fun z => hk (z ▸ inR_of (by omega) (by omega) (by omega))
    have ink : F_X10_in (hv σ f) w (nI 0) (nI 3) = some (nI 0, hv σ f) := by
      rw [x10_inR (hv σ f) w (nI 0) (nI 3) 0 3 rfl rfl, if_neg hk]
      rfl
    simp (decide := true) (disch := omega) only [b1_some, b2_some, litI, neg1, nI_add, nI_mul, e1_p1, nI_e0, ib, ib1, ite_not, if_true, if_false, not_true_eq_false, not_false_eq_true, setI_hv, ink, n0, n1, n2, n3]
  have qj := eq_true (inR_of (Nat.zero_le j) hj (by omega))
  have inj : F_X10_in (hv σ f) (nI j) (nI 0) (nI 3) = some (nI 1, hv σ f) := by
    rw [x10_inR (hv σ f) (nI j) (nI 0) (nI 3) 0 3 rfl rfl, if_pos (inR_of (Nat.zero_le j) hj (by omega))]
    rfl
  have lp : L_X10_pupil_33 M (nI i) (nI j) FU (hv σ f, nI 0, nI 0, e1 0, nI 0) = F_X10_pupil_106 (hv σ f) M (nI i) (nI j) (nI (mbn S i 81)) (nI (lkt S i 81).1) (e1 (lkt S i 81).2) := by
    unfold L_X10_pupil_33
    obtain ⟨m, hm⟩ := it_FU (body := fun rec st => B_X10_pupil_33 M (nI i) (nI j) rec st.1 st.2.1 st.2.2.1 st.2.2.2.1 st.2.2.2.2) (fun t => (hv σ f, nI (mbn S i t), nI (lkt S i t).1, e1 (lkt S i t).2, nI t)) 0 81 (by omega) (by omega) (fun t _ ht rec => by
      have ag := m_agr g h (t := t) hp ht
      have al : agr S i (t / 9 + 1) (10 * (t % 9 + 1)) (S.2 35 i) ≤ S.2 35 i := agr_le S i _ _ _
      have lt := lkt_b g hp t
      have em : mbn S i (t + 1) = mbn S i t + if agr S i (t / 9 + 1) (10 * (t % 9 + 1)) (S.2 35 i) = S.2 35 i then 1 else 0 := rfl
      have el : lkt S i (t + 1) = if (lkt S i t).2 ≤ agr S i (t / 9 + 1) (10 * (t % 9 + 1)) (S.2 35 i) then (t, agr S i (t / 9 + 1) (10 * (t % 9 + 1)) (S.2 35 i) + 1) else lkt S i t := rfl
      show B_X10_pupil_33 M (nI i) (nI j) rec (hv σ f) (nI (mbn S i t)) (nI (lkt S i t).1) (e1 (lkt S i t).2) (nI t) = rec (hv σ f, nI (mbn S i (t + 1)), nI (lkt S i (t + 1)).1, e1 (lkt S i (t + 1)).2, nI (t + 1))
      rw [em, el]
      generalize agr S i (t / 9 + 1) (10 * (t % 9 + 1)) (S.2 35 i) = A at ag al
      by_cases q : A = S.2 35 i <;> by_cases q2 : (lkt S i t).2 ≤ A
      · rw [if_pos q, if_pos q2]
        rw [q] at q2
        simp (decide := true) (disch := omega) only [B_X10_pupil_33, F_X10_pupil_66, gd_hv s.1, gI_hv s.1, pI_hv s.1, s.R35, s.A35, s.W35, b1_some, b2_some, litI, neg1, nI_add, nI_mul, e1_p1, nI_e0, ib, ib1, ite_not, if_true, if_false, not_true_eq_false, not_false_eq_true, setI_hv, h.a35, le_lit, eq_lit, show ¬ 81 ≤ t by omega, ag, q, nI_le_e1, show ¬ S.2 35 i < (lkt S i t).2 by omega, e1_s]
      · rw [if_pos q, if_neg q2]
        rw [q] at q2
        simp (decide := true) (disch := omega) only [B_X10_pupil_33, F_X10_pupil_66, gd_hv s.1, gI_hv s.1, pI_hv s.1, s.R35, s.A35, s.W35, b1_some, b2_some, litI, neg1, nI_add, nI_mul, e1_p1, nI_e0, ib, ib1, ite_not, if_true, if_false, not_true_eq_false, not_false_eq_true, setI_hv, h.a35, le_lit, eq_lit, show ¬ 81 ≤ t by omega, ag, q, nI_le_e1, show S.2 35 i < (lkt S i t).2 by omega]
      · rw [if_neg q, if_pos q2]
        simp (decide := true) (disch := omega) only [B_X10_pupil_33, F_X10_pupil_66, gd_hv s.1, gI_hv s.1, pI_hv s.1, s.R35, s.A35, s.W35, b1_some, b2_some, litI, neg1, nI_add, nI_mul, e1_p1, nI_e0, ib, ib1, ite_not, if_true, if_false, not_true_eq_false, not_false_eq_true, setI_hv, h.a35, le_lit, eq_lit, show ¬ 81 ≤ t by omega, ag, q, nI_le_e1, show ¬ A < (lkt S i t).2 by omega, e1_s, Nat.add_zero]
      · rw [if_neg q, if_neg q2]
        simp (decide := true) (disch := omega) only [B_X10_pupil_33, F_X10_pupil_66, gd_hv s.1, gI_hv s.1, pI_hv s.1, s.R35, s.A35, s.W35, b1_some, b2_some, litI, neg1, nI_add, nI_mul, e1_p1, nI_e0, ib, ib1, ite_not, if_true, if_false, not_true_eq_false, not_false_eq_true, setI_hv, h.a35, le_lit, eq_lit, show ¬ 81 ≤ t by omega, ag, q, nI_le_e1, show A < (lkt S i t).2 by omega, Nat.add_zero])
    refine Eq.trans (b := it (fun rec st => B_X10_pupil_33 M (nI i) (nI j) rec st.1 st.2.1 st.2.2.1 st.2.2.2.1 st.2.2.2.2) FU (hv σ f, nI (mbn S i 0), nI (lkt S i 0).1, e1 (lkt S i 0).2, nI 0)) rfl (hm.trans ?_)
    simp (decide := true) (disch := omega) only [B_X10_pupil_33, b1_some, b2_some, litI, neg1, nI_add, nI_mul, e1_p1, nI_e0, ib, ib1, ite_not, if_true, if_false, not_true_eq_false, not_false_eq_true, setI_hv, le_lit, Nat.le_refl]
  simp (decide := true) (disch := omega) only [b1_some, b2_some, litI, neg1, nI_add, nI_mul, e1_p1, nI_e0, ib, ib1, ite_not, if_true, if_false, not_true_eq_false, not_false_eq_true, setI_hv, inj, lp, F_X10_pupil_106, m_parts g h hp, d1, d2, bx]
  have j4 : j = 0 ∨ j = 1 ∨ j = 2 ∨ j = 3 := by omega
  rcases j4 with rfl | rfl | rfl | rfl
  all_goals simp (decide := true) (disch := omega) only [b1_some, b2_some, litI, neg1, nI_add, nI_mul, e1_p1, nI_e0, ib, ib1, ite_not, if_true, if_false, not_true_eq_false, not_false_eq_true, setI_hv]
end
section
set_option maxRecDepth 100000
/-! pure law 27: minutes, a house lived on with -/
theorem zr_0' {ρ : Type} (k : Option ρ) : zr (nI 0) k = k := zr_0 k
theorem zr_1' {ρ : Type} (k : Option ρ) : zr (nI 1) k = k := zr_1 k
theorem and127 (y : Int32) : y &&& nI 127 = nI (y.toBitVec.toNat % 128) := by
  apply Int32.toBitVec_inj.1
  apply BitVec.eq_of_toNat_eq
  show (y.toBitVec &&& 127#32).toNat = (BitVec.ofNat 32 (y.toBitVec.toNat % 128)).toNat
  rw [BitVec.toNat_and]
  show y.toBitVec.toNat &&& 127 = (y.toBitVec.toNat % 128) % 2 ^ 32
  rw [show (127 : Nat) = 2 ^ 7 - 1 by decide, Nat.and_two_pow_sub_one_eq_mod]
  omega
theorem and15 (y : Int32) : y &&& nI 15 = nI (y.toBitVec.toNat % 16) := by
  apply Int32.toBitVec_inj.1
  apply BitVec.eq_of_toNat_eq
  show (y.toBitVec &&& 15#32).toNat = (BitVec.ofNat 32 (y.toBitVec.toNat % 16)).toNat
  rw [BitVec.toNat_and]
  show y.toBitVec.toNat &&& 15 = (y.toBitVec.toNat % 16) % 2 ^ 32
  rw [show (15 : Nat) = 2 ^ 4 - 1 by decide, Nat.and_two_pow_sub_one_eq_mod]
  omega
def mn (x : Int32) (k : Nat) : Nat := (x >>> (nI (7 * k) &&& nI 31)).toBitVec.toNat % 128
def rwv (x : Int32) (k : Nat) : Nat := (x >>> (nI (4 * k) &&& nI 31)).toBitVec.toNat % 16
theorem mn_lt (x : Int32) (k : Nat) : mn x k < 128 := Nat.mod_lt _ (by omega)
theorem rwv_lt (x : Int32) (k : Nat) : rwv x k < 16 := Nat.mod_lt _ (by omega)
theorem mn_eq (x : Int32) (k : Nat) : x >>> (nI (7 * k) &&& nI 31) &&& nI 127 = nI (mn x k) := and127 _
theorem rwv_eq (x : Int32) (k : Nat) : x >>> (nI (4 * k) &&& nI 31) &&& nI 15 = nI (rwv x k) := and15 _
abbrev amn (n : Nat) (x : Int32) : Prop := ∀ k, k < n → mn x k < 100
theorem m_mins {σ : Hp} {n : Nat} {x : Int32} (h1 : 1 ≤ n) (h4 : n ≤ 4) : F_X10_areMinutes σ (nI n) x = some (if amn n x then nI 1 else nI 0, σ) := by
  have i1 : F_X10_in σ (nI n) 1 4 = some (nI 1, σ) := by
    rw [x10_inR σ (nI n) 1 4 1 4 rfl rfl, if_pos (inR_of h1 h4 (by omega))]
    rfl
  unfold F_X10_areMinutes L_X10_areMinutes_9
  rw [i1, b2_some]
  obtain ⟨i, hi, h2, h3⟩ := first (P := fun k => ¬ mn x k < 100) n
  obtain ⟨m, hm⟩ := it_FU (body := fun rec st => B_X10_areMinutes_9 σ (nI n) x rec st.1 st.2) (fun k => (nI 1, nI k)) 0 i (by omega) (by omega) (fun k _ hk rec => by
    have q : mn x k < 100 := Classical.not_not.mp (h2 k hk)
    simp (decide := true) (disch := omega) only [B_X10_areMinutes_9, b1_some, b2_some, litI, neg1, nI_add, nI_mul, e1_p1, nI_e0, ib, ib1, ite_not, if_true, if_false, not_true_eq_false, not_false_eq_true, setI_hv, mn_eq, le_lit, show ¬ n ≤ k by omega, show ¬ 100 ≤ mn x k by omega])
  by_cases e : i = n
  · subst e
    rw [if_pos (fun k hk => Classical.not_not.mp (h2 k hk))]
    refine Eq.trans hm ?_
    simp (decide := true) (disch := omega) only [B_X10_areMinutes_9, b1_some, b2_some, litI, neg1, nI_add, nI_mul, e1_p1, nI_e0, ib, ib1, ite_not, if_true, if_false, not_true_eq_false, not_false_eq_true, setI_hv, le_lit, Nat.le_refl, zr_1', zr_0']
  · have q : ¬ mn x i < 100 := h3.resolve_left e
    rw [if_neg (fun z => q (z i (by omega)))]
    obtain ⟨m', hm'⟩ := it_FU (body := fun rec st => B_X10_areMinutes_9 σ (nI n) x rec st.1 st.2) (fun k => if k ≤ i then (nI 1, nI k) else (nI 0, nI k)) 0 (i + 1) (by omega) (by omega) (fun k _ hk rec => by
      show B_X10_areMinutes_9 σ (nI n) x rec (if k ≤ i then (nI 1, nI k) else (nI 0, nI k)).1 (if k ≤ i then (nI 1, nI k) else (nI 0, nI k)).2 = rec (if k + 1 ≤ i then (nI 1, nI (k + 1)) else (nI 0, nI (k + 1)))
      rw [if_pos (by omega)]
      by_cases z : k = i
      · subst z
        have ml := mn_lt x k
        rw [if_neg (by omega)]
        simp (decide := true) (disch := omega) only [B_X10_areMinutes_9, b1_some, b2_some, litI, neg1, nI_add, nI_mul, e1_p1, nI_e0, ib, ib1, ite_not, if_true, if_false, not_true_eq_false, not_false_eq_true, setI_hv, mn_eq, le_lit, show ¬ n ≤ k by omega, show 100 ≤ mn x k by omega]
      · have q : mn x k < 100 := Classical.not_not.mp (h2 k (by omega))
        rw [if_pos (by omega)]
        simp (decide := true) (disch := omega) only [B_X10_areMinutes_9, b1_some, b2_some, litI, neg1, nI_add, nI_mul, e1_p1, nI_e0, ib, ib1, ite_not, if_true, if_false, not_true_eq_false, not_false_eq_true, setI_hv, mn_eq, le_lit, show ¬ n ≤ k by omega, show ¬ 100 ≤ mn x k by omega])
    have z1 : (if 0 ≤ i then (nI 1, nI 0) else (nI 0, nI 0) : Int32 × Int32) = (nI 1, nI 0) := if_pos (by omega)
    have z2 : (if i + 1 ≤ i then (nI 1, nI (i + 1)) else (nI 0, nI (i + 1)) : Int32 × Int32) = (nI 0, nI (i + 1)) := if_neg (by omega)
    simp only [z1, z2] at hm'
    refine Eq.trans hm' ?_
    simp (decide := true) (disch := omega) only [B_X10_areMinutes_9, b1_some, b2_some, litI, neg1, nI_add, nI_mul, e1_p1, nI_e0, ib, ib1, ite_not, if_true, if_false, not_true_eq_false, not_false_eq_true, setI_hv, zr_0', ite_self]
theorem x_mins {σ : Hp} {n : Nat} {x : Int32} (h1 : 1 ≤ n) (h4 : n ≤ 4) : F_X0_areMinutes σ (nI n) x = some (if amn n x then nI 1 else nI 0, σ) := by
  have i1 : F_X0_isIn σ (nI n).toInt64 1 4 = some (nI 1, σ) := by
    rw [x0_inR σ (nI n) 1 4 1 4 (by decide) (by decide), if_pos (inR_of h1 h4 (by omega))]
    rfl
  unfold F_X0_areMinutes L_X0_areMinutes_12
  rw [i1, b2_some]
  obtain ⟨i, hi, h2, h3⟩ := first (P := fun k => ¬ mn x k < 100) n
  by_cases e : i = n
  · subst e
    obtain ⟨m, hm⟩ := it_FU (body := fun rec st => B_X0_areMinutes_12 (nI i) x rec st.1 st.2.1 st.2.2) (fun k => (σ, nI 1, nI k)) 0 i (by omega) (by omega) (fun k _ hk rec => by
      have q : mn x k < 100 := Classical.not_not.mp (h2 k hk)
      simp (decide := true) (disch := omega) only [B_X0_areMinutes_12, F_X0_minutesOf, b1_some, b2_some, litI, neg1, nI_add, nI_mul, e1_p1, nI_e0, ib, ib1, ite_not, if_true, if_false, not_true_eq_false, not_false_eq_true, setI_hv, mn_eq, le_lit, show ¬ i ≤ k by omega, show ¬ 100 ≤ mn x k by omega])
    rw [if_pos (fun k hk => Classical.not_not.mp (h2 k hk))]
    refine Eq.trans hm ?_
    simp (decide := true) (disch := omega) only [B_X0_areMinutes_12, b1_some, b2_some, litI, neg1, nI_add, nI_mul, e1_p1, nI_e0, ib, ib1, ite_not, if_true, if_false, not_true_eq_false, not_false_eq_true, setI_hv, le_lit, Nat.le_refl, zr_1', zr_0']
  · have q : ¬ mn x i < 100 := h3.resolve_left e
    rw [if_neg (fun z => q (z i (by omega)))]
    obtain ⟨m', hm'⟩ := it_FU (body := fun rec st => B_X0_areMinutes_12 (nI n) x rec st.1 st.2.1 st.2.2) (fun k => if k ≤ i then (σ, nI 1, nI k) else (σ, nI 0, nI k)) 0 (i + 1) (by omega) (by omega) (fun k _ hk rec => by
      show B_X0_areMinutes_12 (nI n) x rec (if k ≤ i then (σ, nI 1, nI k) else (σ, nI 0, nI k)).1 (if k ≤ i then (σ, nI 1, nI k) else (σ, nI 0, nI k)).2.1 (if k ≤ i then (σ, nI 1, nI k) else (σ, nI 0, nI k)).2.2 = rec (if k + 1 ≤ i then (σ, nI 1, nI (k + 1)) else (σ, nI 0, nI (k + 1)))
      rw [if_pos (by omega)]
      by_cases z : k = i
      · subst z
        have ml := mn_lt x k
        rw [if_neg (by omega)]
        simp (decide := true) (disch := omega) only [B_X0_areMinutes_12, F_X0_minutesOf, b1_some, b2_some, litI, neg1, nI_add, nI_mul, e1_p1, nI_e0, ib, ib1, ite_not, if_true, if_false, not_true_eq_false, not_false_eq_true, setI_hv, mn_eq, le_lit, show ¬ n ≤ k by omega, show 100 ≤ mn x k by omega]
      · have q : mn x k < 100 := Classical.not_not.mp (h2 k (by omega))
        rw [if_pos (by omega)]
        simp (decide := true) (disch := omega) only [B_X0_areMinutes_12, F_X0_minutesOf, b1_some, b2_some, litI, neg1, nI_add, nI_mul, e1_p1, nI_e0, ib, ib1, ite_not, if_true, if_false, not_true_eq_false, not_false_eq_true, setI_hv, mn_eq, le_lit, show ¬ n ≤ k by omega, show ¬ 100 ≤ mn x k by omega])
    have z1 : (if 0 ≤ i then (σ, nI 1, nI 0) else (σ, nI 0, nI 0) : Hp × Int32 × Int32) = (σ, nI 1, nI 0) := if_pos (by omega)
    have z2 : (if i + 1 ≤ i then (σ, nI 1, nI (i + 1)) else (σ, nI 0, nI (i + 1)) : Hp × Int32 × Int32) = (σ, nI 0, nI (i + 1)) := if_neg (by omega)
    simp only [z1, z2] at hm'
    refine Eq.trans hm' ?_
    simp (decide := true) (disch := omega) only [B_X0_areMinutes_12, b1_some, b2_some, litI, neg1, nI_add, nI_mul, e1_p1, nI_e0, ib, ib1, ite_not, if_true, if_false, not_true_eq_false, not_false_eq_true, setI_hv, zr_0', ite_self]
/-- n isn't within 1 .. 4 -/
theorem m_mins0 {σ : Hp} {n x : Int32} (h : ¬ inR n 1 4) : F_X10_areMinutes σ n x = some (nI 0, σ) := by
  unfold F_X10_areMinutes L_X10_areMinutes_9
  rw [x10_inR σ n 1 4 1 4 rfl rfl, if_neg h, b2_some]
  obtain ⟨m, hm⟩ := it_FU (body := fun rec st => B_X10_areMinutes_9 σ n x rec st.1 st.2) (fun k => (nI 0, nI 0)) 0 0 (by omega) (by omega) (fun k _ hk rec => by omega)
  refine Eq.trans hm ?_
  simp (decide := true) (disch := omega) only [B_X10_areMinutes_9, b1_some, b2_some, litI, neg1, nI_add, nI_mul, e1_p1, nI_e0, ib, ib1, ite_not, if_true, if_false, not_true_eq_false, not_false_eq_true, setI_hv, zr_0', ite_self]
theorem x_mins0 {σ : Hp} {n x : Int32} (h : ¬ inR n 1 4) : F_X0_areMinutes σ n x = some (nI 0, σ) := by
  unfold F_X0_areMinutes L_X0_areMinutes_12
  rw [x0_inR σ n 1 4 1 4 (by decide) (by decide), if_neg h, b2_some]
  obtain ⟨m, hm⟩ := it_FU (body := fun rec st => B_X0_areMinutes_12 n x rec st.1 st.2.1 st.2.2) (fun k => (σ, nI 0, nI 0)) 0 0 (by omega) (by omega) (fun k _ hk rec => by omega)
  refine Eq.trans hm ?_
  simp (decide := true) (disch := omega) only [B_X0_areMinutes_12, b1_some, b2_some, litI, neg1, nI_add, nI_mul, e1_p1, nI_e0, ib, ib1, ite_not, if_true, if_false, not_true_eq_false, not_false_eq_true, setI_hv, zr_0', ite_self]
/-! strengths lived on with: (of what is on top, of ghosts) -/
abbrev Lv : Type := (Nat → Nat) × (Nat → Nat)
def lvd (S : St) (L : Lv) : Lv := (fun c => dKv S (L.1 c) c, fun c => dWv S (L.2 c))
def lv1 (S : St) (r : Nat) (L : Lv) : Lv := lvd S (if r = 8 then L else (wK S r L.1 6, L.2))
def lvs (S : St) (p : Nat → Nat) : Nat → Lv
  | 0 => (S.2 10, S.2 12)
  | k + 1 => lv1 S (p k) (lvs S p k)
abbrev gne (S : St) (x : Int32) (k r : Nat) : Prop := r = 8 ∨ (cst S r ≠ 0 ∧ cst S r ≤ mn x k + 1)
noncomputable def sbv (S : St) (x : Int32) (p : Nat → Nat) (n : Nat) : Nat := if ∀ k, k < n → gne S x k (p k) then sts (S.2 9) (lvs S p n).1 + 1 else 0
theorem cst_le (S : St) (r : Nat) : cst S r ≤ 21 := by
  have h1 := dst_le S 0 r
  have h2 := stn_le (S.2 9) r
  unfold cst
  split <;> omega
theorem lvs_cg {S : St} {p q : Nat → Nat} : ∀ n, (∀ k, k < n → p k = q k) → lvs S p n = lvs S q n
  | 0, _ => rfl
  | n + 1, h => by
    show lv1 S (p n) (lvs S p n) = lv1 S (q n) (lvs S q n)
    rw [lvs_cg n (fun k hk => h k (by omega)), h n (by omega)]
theorem sbv_cg {S : St} {x : Int32} {p q : Nat → Nat} {n : Nat} (h : ∀ k, k < n → p k = q k) : sbv S x p n = sbv S x q n := by
  unfold sbv
  rw [lvs_cg n h]
  have e : (∀ k, k < n → gne S x k (p k)) = (∀ k, k < n → gne S x k (q k)) := by
    apply propext
    constructor
    · intro z k hk
      rw [← h k hk]
      exact z k hk
    · intro z k hk
      rw [h k hk]
      exact z k hk
  simp only [e]
theorem sts_le {T K : Nat → Nat} (h : ∀ c, c < 48 → K c ≤ 100) : sts T K ≤ 4800 := by
  have e : sts T K = sumR (fun c => if c < 48 then (if T c = 0 then 0 else K c) else 0) 0 48 := sumR_cg 0 48 (fun k hk => by
    exact (if_pos (by omega : 0 + k < 48)).symm)
  rw [e]
  refine Nat.le_trans (sumR_le (m := 100) (fun k => ?_) 0 48) (by omega)
  show (if k < 48 then (if T k = 0 then 0 else K k) else 0) ≤ 100
  by_cases q : k < 48
  · have := h k q
    rw [if_pos q]
    split <;> omega
  · rw [if_neg q]
    omega
def LB (S : St) (L : Lv) : Prop := ∀ c, c < 48 → L.1 c ≤ 100 ∧ L.2 c ≤ 100 ∧ (S.2 9 c = 0 → L.1 c = 0)
theorem LB.s1 {S : St} {L : Lv} (g : Good S) (h : LB S L) (r : Nat) : LB S (lv1 S r L) := fun c hc => by
  have b := h c hc
  have k1 : (if r = 8 then L else (wK S r L.1 6, L.2)).1 c ≤ 100 := by
    split
    · exact b.1
    · show wK S r L.1 6 c ≤ 100
      unfold wK
      split
      · exact wkv_le g c b.1
      · exact b.1
  have k2 : (if r = 8 then L else (wK S r L.1 6, L.2)).2 c ≤ 100 := by
    split
    · exact b.2.1
    · exact b.2.1
  refine ⟨dKv_le S k1, dWv_le S k2, fun q => ?_⟩
  show dKv S _ c = 0
  unfold dKv
  rw [if_pos q]
theorem lvs_b {S : St} (g : Good S) (p : Nat → Nat) : ∀ n, LB S (lvs S p n)
  | 0 => fun c hc => by
    have b := g.cn hc
    exact ⟨b.2.1, b.2.2.2.1, fun q => (b.2.2.2.2.2.1 q).1⟩
  | n + 1 => (lvs_b g p n).s1 g (p n)
theorem sbv_le {S : St} (g : Good S) (x : Int32) (p : Nat → Nat) (n : Nat) : sbv S x p n ≤ 4801 := by
  have := sts_le (T := S.2 9) (fun c hc => (lvs_b g p n c hc).1)
  unfold sbv
  split <;> omega
/-! the component: scratch, a copy of the house, the plan lived -/
theorem RepX.sx {N : Nat} {σ : Hp} {f f' : Nat → Nat → Int32} {S : St} (h : RepX N (hv σ f) S) (hf : ∀ a k, (∀ o, (110 ≤ o ∧ o < 208) ∨ o = 212 ∨ (224 ≤ o ∧ o < 233) → a ≠ N + o) → f' a k = f a k) : RepX N (hv σ f') S := by
  obtain ⟨g1, g2, hA, hB, hC, hD, hE, hF, hG, L, l1, l2, l3, l4⟩ := h
  have hx3 : ∀ x ∈ xAr, x.1 = 10 ∨ x.1 = 11 ∨ x.1 = 208 := by decide
  have ho : ∀ o k, o < 110 ∨ o = 208 ∨ o = 210 ∨ (214 ≤ o ∧ o < 224) ∨ 233 ≤ o → f' (N + o) k = f (N + o) k := fun o k q => hf _ k (fun o' h' => by omega)
  refine ⟨g1, g2, fun x hx => ?_, fun x hx i hi => ?_, fun a b ha hb => ?_, fun c hc => ?_, fun i hi => ?_, fun p hp => ?_, fun a b ha hb => ?_, L, l1, l2, l3, fun i hi => ?_⟩
  · exact (ho 0 _ (by omega)).trans (hA x hx)
  · exact (ho _ _ (by have := hx3 x hx; omega)).trans (hB x hx i hi)
  · have e2 : hI (hv σ f') (N + (2 + a)) b = hI (hv σ f) (N + (2 + a)) b := ho _ _ (by omega)
    rw [e2]
    exact hC a b ha hb
  · have d := hD c hc
    exact ⟨(ho _ _ (by omega)).trans d.1, (ho _ _ (by omega)).trans d.2.1, (ho _ _ (by omega)).trans d.2.2.1, (ho _ _ (by omega)).trans d.2.2.2.1, (ho _ _ (by omega)).trans d.2.2.2.2⟩
  · exact (ho _ _ (by omega)).trans (hE i hi)
  · exact ⟨(ho _ _ (by omega)).trans (hF p hp).1, fun k hk => ⟨(ho _ _ (by omega)).trans ((hF p hp).2 k hk).1, (ho _ _ (by omega)).trans ((hF p hp).2 k hk).2⟩⟩
  · exact (ho _ _ (by omega)).trans (hG a b ha hb)
  · obtain ⟨a, q1, q2, q3, q4⟩ := l4 i hi
    refine ⟨a, q1, q2, q3, ?_⟩
    unfold LnAt
    have ea : ∀ k, hI (hv σ f') a k = hI (hv σ f) a k := fun k => hf a k (fun o h' => by omega)
    rw [ea, ea]
    exact q4
theorem x_copy {N : Nat} {σ : Hp} {f : Nat → Nat → Int32} {S : St} (h : RepX N (hv σ f) S) : ∃ f', F_X1_copy (hv σ f) (N + 110) (N + 12) = some (hv σ f') ∧ HD (N + 110) f' (S.2 9) (S.2 10) (S.2 11) (S.2 12) ∧ ∀ a k, (∀ o, 110 ≤ o → o < 208 → a ≠ N + o) → f' a k = f a k := by
  have s : SX N σ := h.1
  have hs := s.h12
  have ht := s.h110
  unfold F_X1_copy L_X1_copy_2
  rw [ht.D]
  obtain ⟨st, r, ⟨f', e1', p1, p2⟩, e⟩ := it_invF (body := fun rec st => B_X1_copy_2 (N + 110) (N + 12) rec st.1 st.2) (fun i st => ∃ f', st = (hv σ f', nI i) ∧ (∀ c, c < i → f' (N + 110 + (2 + 2 * c)) 0 = e1 (S.2 9 c) ∧ f' (N + 110 + (2 + 2 * c)) 1 = nI (S.2 10 c) ∧ f' (N + 110 + (3 + 2 * c)) 0 = e1 (S.2 11 c) ∧ f' (N + 110 + (3 + 2 * c)) 1 = nI (S.2 12 c)) ∧ ∀ a k, (∀ o, 110 ≤ o → o < 208 → a ≠ N + o) → f' a k = f a k) 0 48 (by omega) (by omega) (fun i st _ hi hp => by
    obtain ⟨f1, rfl, p1, p2⟩ := hp
    have a9 : f1 (N + 12 + (2 + 2 * i)) 0 = e1 (S.2 9 i) := (p2 _ _ (fun o _ _ => by omega)).trans (h.a9 hi)
    have a10 : f1 (N + 12 + (2 + 2 * i)) 1 = nI (S.2 10 i) := (p2 _ _ (fun o _ _ => by omega)).trans (h.a10 hi)
    have a11 : f1 (N + 12 + (3 + 2 * i)) 0 = e1 (S.2 11 i) := (p2 _ _ (fun o _ _ => by omega)).trans (h.a11 hi)
    have a12 : f1 (N + 12 + (3 + 2 * i)) 1 = nI (S.2 12 i) := (p2 _ _ (fun o _ _ => by omega)).trans (h.a12 hi)
    refine ⟨_, ⟨u2 (u2 (u2 (u2 f1 (N + 110 + (2 + 2 * i)) 0 (e1 (S.2 9 i))) (N + 110 + (2 + 2 * i)) 1 (nI (S.2 10 i))) (N + 110 + (3 + 2 * i)) 0 (e1 (S.2 11 i))) (N + 110 + (3 + 2 * i)) 1 (nI (S.2 12 i)), rfl, fun c hc => ?_, fun a k ha => ?_⟩, fun rec => ?_⟩
    · by_cases q : c = i
      · subst q
        simp (disch := omega) only [u2_e, u2_n, and_self]
      · have := p1 c (by omega)
        simp (disch := omega) only [u2_n]
        exact this
    · have n1 := ha (112 + 2 * i) (by omega) (by omega)
      have n2 := ha (113 + 2 * i) (by omega) (by omega)
      rw [u2_n (by omega), u2_n (by omega), u2_n (by omega), u2_n (by omega)]
      exact p2 a k ha
    · simp (decide := true) (disch := omega) only [B_X1_copy_2, F_X3_copy, F_X2_copy_3, F_X2_copy_4, F_X2_lay_3, F_X2_lay_4, hs.D, hs.R0, hs.C, hs.CD, hs.CI, hs.CW, hs.G, hs.GD, hs.GI, hs.GW, ht.D, ht.R0, ht.C, ht.CD, ht.CI, ht.CW, ht.G, ht.GD, ht.GI, ht.GW, b1_some, b2_some, litI, neg1, nI_add, nI_mul, e1_p1, nI_e0, ib, ib1, ite_not, if_true, if_false, not_true_eq_false, not_false_eq_true, setI_hv, le_lit, show ¬ 48 ≤ i by omega, a9, a10, a11, a12, u2_n]) (hv σ f, nI 0) ⟨f, rfl, fun c hc => absurd hc (Nat.not_lt_zero c), fun _ _ _ => rfl⟩
  subst e1'
  refine ⟨f', e.trans ?_, p1, p2⟩
  simp (decide := true) (disch := omega) only [B_X1_copy_2, b1_some, b2_some, litI, neg1, nI_add, nI_mul, e1_p1, nI_e0, ib, ib1, ite_not, if_true, if_false, not_true_eq_false, not_false_eq_true, setI_hv, le_lit, Nat.le_refl]
theorem x_sb {N : Nat} {σ : Hp} {f : Nat → Nat → Int32} {S : St} (g : Good S) (h : RepX N (hv σ f) S) {n : Nat} {x : Int32} {p : Nat → Nat} (hn : n ≤ 4) (hp : ∀ i, i < n → p i ≤ 8 ∧ f (N + 230) i = nI (p i)) (hc : ∀ r, r < 8 → f (N + 231) r = e1 (cst S r)) : ∃ f', F_X0_strengthBehind (hv σ f) N (nI n) x = some (e1 (sbv S x p n), hv σ f') ∧ ∀ a k, (∀ o, 110 ≤ o → o < 208 → a ≠ N + o) → f' a k = f a k := by
  have s : SX N σ := h.1
  have ht := s.h110
  obtain ⟨f0, c1, c2, c3⟩ := x_copy h
  obtain ⟨i0, hi0, h2, h3⟩ := first (P := fun k => ¬ gne S x k (p k)) n
  obtain ⟨st, r, ⟨f', G, es, p1, p2, p3⟩, e⟩ := it_invF (body := fun rec st => B_X0_strengthBehind_13 N (nI n) x rec st.1 st.2) (fun i st => ∃ f' G, st = (hv σ f', nI i) ∧ HD (N + 110) f' (S.2 9) (lvs S p i).1 G (lvs S p i).2 ∧ HB (S.2 9) (lvs S p i).1 G (lvs S p i).2 ∧ ∀ a k, (∀ o, 110 ≤ o → o < 208 → a ≠ N + o) → f' a k = f a k) 0 i0 (by omega) (by omega) (fun i st _ hi hq => by
    obtain ⟨f1, G, rfl, p1, p2, p3⟩ := hq
    have pi := hp i (by omega)
    have a230 : f1 (N + 230) i = nI (p i) := (p3 _ _ (fun o _ _ => by omega)).trans pi.2
    have lk : LkX N f1 S := h.lk.cg (fun a k ha => p3 a k (fun o _ _ => by omega))
    have gi : gne S x i (p i) := Classical.not_not.mp (h2 i hi)
    generalize hL : lvs S p i = Li at p1 p2
    by_cases q : p i = 8
    · have gy := x_goBy g s ht (by omega) lk p1 p2
      have e1' : lv1 S (p i) Li = lvd S Li := by
        unfold lv1
        rw [if_pos q]
      have e2 : lvs S p (i + 1) = lvd S Li := (congrArg (lv1 S (p i)) hL).trans e1'
      rw [e2]
      refine ⟨_, ⟨gb (N + 110) S Li.1 G Li.2 f1 48, fun c => dGv S (Li.2 c) (G c), rfl, gb_hd p1, p2.day, fun a k ha => (gb_off 48 (fun c hc => ?_)).trans (p3 a k ha)⟩, fun rec => ?_⟩
      · have n1 := ha (112 + 2 * c) (by omega) (by omega)
        have n2 := ha (113 + 2 * c) (by omega) (by omega)
        omega
      · simp (decide := true) (disch := omega) only [B_X0_strengthBehind_13, gd_hv s.t0, gI_hv s.t0, pI_hv s.t0, s.R8, s.R19, s.A230, s.W230, b1_some, b2_some, litI, neg1, nI_add, nI_mul, e1_p1, nI_e0, ib, ib1, ite_not, if_true, if_false, not_true_eq_false, not_false_eq_true, setI_hv, le_lit, eq_lit, show ¬ n ≤ i by omega, a230, q, gy]
    · have wl := x_walk' g s ht (by omega) lk p1 p2 (r := p i) (by omega)
      have d2 := wx_hd p1 (p i)
      have b2 := p2.walk g (p i) 6
      have lk2 : LkX N (wx (N + 110) S Li.1 (p i) f1 6) S := lk.cg (fun a k ha => wx_off 6 (fun j hj => by omega))
      have gy := x_goBy g s ht (by omega) lk2 d2 b2
      have c1 := cst_le S (p i)
      have ml := mn_lt x i
      have gi' : cst S (p i) ≠ 0 ∧ cst S (p i) ≤ mn x i + 1 := gi.resolve_left q
      have a231 : f1 (N + 231) (p i) = nI (cst S (p i) - 1) := ((p3 _ _ (fun o _ _ => by omega)).trans (hc (p i) (by omega))).trans (e1_of (by omega))
      have e1' : lv1 S (p i) Li = lvd S (wK S (p i) Li.1 6, Li.2) := by
        unfold lv1
        rw [if_neg q]
      have e2 : lvs S p (i + 1) = lvd S (wK S (p i) Li.1 6, Li.2) := (congrArg (lv1 S (p i)) hL).trans e1'
      have w230 : wx (N + 110) S Li.1 (p i) f1 6 (N + 230) i = nI (p i) := (wx_off 6 (fun j hj => by omega)).trans a230
      rw [e2]
      refine ⟨_, ⟨gb (N + 110) S (wK S (p i) Li.1 6) G Li.2 (wx (N + 110) S Li.1 (p i) f1 6) 48, fun c => dGv S (Li.2 c) (G c), rfl, gb_hd d2, b2.day, fun a k ha => ((gb_off 48 (fun c hc => ?_)).trans (wx_off 6 (fun j hj => ?_))).trans (p3 a k ha)⟩, fun rec => ?_⟩
      · have n1 := ha (112 + 2 * c) (by omega) (by omega)
        have n2 := ha (113 + 2 * c) (by omega) (by omega)
        omega
      · have n1 := ha (112 + 2 * (6 * p i + j)) (by omega) (by omega)
        omega
      · simp (decide := true) (disch := omega) only [B_X0_strengthBehind_13, F_X0_minutesOf, gd_hv s.t0, gI_hv s.t0, pI_hv s.t0, s.R8, s.R19, s.A230, s.W230, s.R20, s.A231, s.W231, b1_some, b2_some, litI, neg1, nI_add, nI_mul, e1_p1, nI_e0, ib, ib1, ite_not, if_true, if_false, not_true_eq_false, not_false_eq_true, setI_hv, le_lit, eq_lit, show ¬ n ≤ i by omega, a230, a231, q, show cst S (p i) - 1 ≤ mn x i by omega, mn_eq, wl, gy]) (hv σ f0, nI 0) ⟨f0, S.2 11, rfl, c2, g.hb, c3⟩
  subst es
  have L0 : F_X0_strengthBehind (hv σ f) N (nI n) x = B_X0_strengthBehind_13 N (nI n) x r (hv σ f') (nI i0) := by
    refine Eq.trans ?_ e
    unfold F_X0_strengthBehind L_X0_strengthBehind_13
    simp (decide := true) (disch := omega) only [gd_hv s.t0, gI_hv s.t0, pI_hv s.t0, s.R7, s.R8, b1_some, b2_some, litI, neg1, nI_add, nI_mul, e1_p1, nI_e0, ib, ib1, ite_not, if_true, if_false, not_true_eq_false, not_false_eq_true, setI_hv, c1]
  refine ⟨f', L0.trans ?_, p3⟩
  unfold sbv
  by_cases ei : i0 = n
  · subst ei
    rw [if_pos (fun k hk => Classical.not_not.mp (h2 k hk))]
    simp (decide := true) (disch := omega) only [B_X0_strengthBehind_13, gd_hv s.t0, gI_hv s.t0, pI_hv s.t0, s.R8, b1_some, b2_some, litI, neg1, nI_add, nI_mul, e1_p1, nI_e0, ib, ib1, ite_not, if_true, if_false, not_true_eq_false, not_false_eq_true, setI_hv, le_lit, Nat.le_refl, x_sts ht p1 p2, e1_s]
  · have gn : ¬ gne S x i0 (p i0) := h3.resolve_left ei
    rw [if_neg (fun z => gn (z i0 (by omega)))]
    have pi := hp i0 (by omega)
    have a230 : f' (N + 230) i0 = nI (p i0) := (p3 _ _ (fun o _ _ => by omega)).trans pi.2
    have q : ¬ p i0 = 8 := fun z => gn (Or.inl z)
    have c1 := cst_le S (p i0)
    have ml := mn_lt x i0
    have a231 : f' (N + 231) (p i0) = e1 (cst S (p i0)) := (p3 _ _ (fun o _ _ => by omega)).trans (hc (p i0) (by omega))
    by_cases q2 : cst S (p i0) = 0
    · simp (decide := true) (disch := omega) only [B_X0_strengthBehind_13, gd_hv s.t0, gI_hv s.t0, pI_hv s.t0, s.R8, s.R19, s.A230, s.W230, s.R20, s.A231, s.W231, b1_some, b2_some, litI, neg1, nI_add, nI_mul, e1_p1, nI_e0, ib, ib1, ite_not, if_true, if_false, not_true_eq_false, not_false_eq_true, setI_hv, le_lit, eq_lit, show ¬ n ≤ i0 by omega, a230, a231, q, q2]
    · have q3 : ¬ cst S (p i0) ≤ mn x i0 + 1 := fun z => gn (Or.inr ⟨q2, z⟩)
      rw [e1_of (by omega)] at a231
      simp (decide := true) (disch := omega) only [B_X0_strengthBehind_13, F_X0_minutesOf, gd_hv s.t0, gI_hv s.t0, pI_hv s.t0, s.R8, s.R19, s.A230, s.W230, s.R20, s.A231, s.W231, b1_some, b2_some, litI, neg1, nI_add, nI_mul, e1_p1, nI_e0, ib, ib1, ite_not, if_true, if_false, not_true_eq_false, not_false_eq_true, setI_hv, le_lit, eq_lit, show ¬ n ≤ i0 by omega, a230, a231, q, show ¬ cst S (p i0) - 1 ≤ mn x i0 by omega, mn_eq]
end
section
set_option maxRecDepth 100000
/-! pure law 28: the twin's days of a plan; judge -/
theorem fz_com {f : Nat → Nat → Int32} {A B n m : Nat} {D E : Nat → Nat} (h : A ≠ B) : fz (fz f A n D) B m E = fz (fz f B m E) A n D := by
  funext x k
  show (if x = B ∧ k < m then nI (E k) else if x = A ∧ k < n then nI (D k) else f x k) = (if x = A ∧ k < n then nI (D k) else if x = B ∧ k < m then nI (E k) else f x k)
  by_cases q : x = B ∧ k < m
  · rw [if_pos q, if_neg (fun z => h (by omega)), if_pos q]
  · rw [if_neg q, if_neg q]
theorem m_gone {M : Nat} {σ : Hp} {F : Nat → Nat → Int32} {S : St} (g : Good S) (h : RepM M (hv σ F) S) {k r : Nat} {x : Int32} {A B : Nat → Nat} (hk : k ≤ 3) (hr : r ≤ 8) (hA : ∀ j, j < 48 * k + 48 → F (M + 12) j = nI (A j) ∧ A j ≤ 100) (hB : ∀ j, j < 48 * k + 48 → F (M + 13) j = nI (B j) ∧ B j ≤ 100) :
    ∃ F', F_X10_isGone (hv σ F) M (nI k) (nI r) x = some (if gne S x k r then nI 1 else nI 0, hv σ F') ∧ (∀ a j, a ≠ M + 3 → a ≠ M + 12 → a ≠ M + 13 → F' a j = F a j) ∧ (∀ j, j < 48 * k + 48 → F' (M + 12) j = nI (A j) ∧ F' (M + 13) j = nI (B j)) ∧ (gne S x k r → ∀ c, c < 48 → F' (M + 12) (48 * k + 48 + c) = nI ((lv1 S r (fun c => A (48 * k + c), fun c => B (48 * k + c))).1 c) ∧ F' (M + 13) (48 * k + 48 + c) = nI ((lv1 S r (fun c => A (48 * k + c), fun c => B (48 * k + c))).2 c)) := by
  have s : SM M σ := h.1
  have c1 := cst_le S r
  have ml := mn_lt x k
  obtain ⟨A1, hA1⟩ : ∃ A1 : Nat → Nat, A1 = fun j => if j < 48 * k + 48 then A j else A (j - 48) := ⟨_, rfl⟩
  obtain ⟨B1, hB1⟩ : ∃ B1 : Nat → Nat, B1 = fun j => if j < 48 * k + 48 then B j else B (j - 48) := ⟨_, rfl⟩
  have A1l : ∀ j, j < 48 * k + 48 → A1 j = A j := fun j hj => by rw [hA1]; exact if_pos hj
  have B1l : ∀ j, j < 48 * k + 48 → B1 j = B j := fun j hj => by rw [hB1]; exact if_pos hj
  have A1h : ∀ i, A1 (48 * k + 48 + i) = A (48 * k + i) := fun i => by
    rw [hA1]
    show (if 48 * k + 48 + i < 48 * k + 48 then _ else A (48 * k + 48 + i - 48)) = _
    rw [if_neg (by omega), show 48 * k + 48 + i - 48 = 48 * k + i by omega]
  have B1h : ∀ i, B1 (48 * k + 48 + i) = B (48 * k + i) := fun i => by
    rw [hB1]
    show (if 48 * k + 48 + i < 48 * k + 48 then _ else B (48 * k + 48 + i - 48)) = _
    rw [if_neg (by omega), show 48 * k + 48 + i - 48 = 48 * k + i by omega]
  clear hA1 hB1
  have bA1 : ∀ j, j < 48 * k + 96 → A1 j ≤ 100 := fun j hj => by
    by_cases q : j < 48 * k + 48
    · rw [A1l j q]
      exact (hA j q).2
    · have := A1h (j - (48 * k + 48))
      rw [show 48 * k + 48 + (j - (48 * k + 48)) = j by omega] at this
      rw [this]
      exact (hA _ (by omega)).2
  have bB1 : ∀ j, j < 48 * k + 96 → B1 j ≤ 100 := fun j hj => by
    by_cases q : j < 48 * k + 48
    · rw [B1l j q]
      exact (hB j q).2
    · have := B1h (j - (48 * k + 48))
      rw [show 48 * k + 48 + (j - (48 * k + 48)) = j by omega] at this
      rw [this]
      exact (hB _ (by omega)).2
  have z0 : fz (fz F (M + 12) (48 * k + 48 + 0) A1) (M + 13) (48 * k + 48 + 0) B1 = F := by
    have e : fz F (M + 12) (48 * k + 48 + 0) A1 = F := fz_same (fun j hj => by rw [A1l j (by omega)]; exact (hA j (by omega)).1)
    rw [e]
    exact fz_same (fun j hj => by rw [B1l j (by omega)]; exact (hB j (by omega)).1)
  obtain ⟨m, hm⟩ := it_FU (body := fun rec st => B_X10_isGone_3 M (nI k) (nI r) x rec st.1 st.2) (fun i => (hv σ (fz (fz F (M + 12) (48 * k + 48 + i) A1) (M + 13) (48 * k + 48 + i) B1), nI i)) 0 48 (by omega) (by omega) (fun i _ hi rec => by
    have e : u2 (u2 (fz (fz F (M + 12) (48 * k + 48 + i) A1) (M + 13) (48 * k + 48 + i) B1) (M + 12) (48 * k + 48 + i) (nI (A1 (48 * k + 48 + i)))) (M + 13) (48 * k + 48 + i) (nI (B1 (48 * k + 48 + i))) = fz (fz F (M + 12) (48 * k + 48 + (i + 1)) A1) (M + 13) (48 * k + 48 + (i + 1)) B1 := by
      have e1 : u2 (fz (fz F (M + 12) (48 * k + 48 + i) A1) (M + 13) (48 * k + 48 + i) B1) (M + 12) (48 * k + 48 + i) (nI (A1 (48 * k + 48 + i))) = fz (u2 (fz F (M + 12) (48 * k + 48 + i) A1) (M + 12) (48 * k + 48 + i) (nI (A1 (48 * k + 48 + i)))) (M + 13) (48 * k + 48 + i) B1 := fy_u2 (D := fun k => nI (B1 k)) (by omega)
      rw [e1, fz_grow, fz_grow]
      rfl
    have rA : fz (fz F (M + 12) (48 * k + 48 + i) A1) (M + 13) (48 * k + 48 + i) B1 (M + 12) (48 * k + i) = nI (A1 (48 * k + 48 + i)) := by
      rw [fz_off (by omega), fz_rd (by omega), A1h, A1l _ (by omega)]
    have rB : fz (fz F (M + 12) (48 * k + 48 + i) A1) (M + 13) (48 * k + 48 + i) B1 (M + 13) (48 * k + i) = nI (B1 (48 * k + 48 + i)) := by
      rw [fz_rd (by omega), B1h, B1l _ (by omega)]
    show B_X10_isGone_3 M (nI k) (nI r) x rec (hv σ (fz (fz F (M + 12) (48 * k + 48 + i) A1) (M + 13) (48 * k + 48 + i) B1)) (nI i) = rec (hv σ (fz (fz F (M + 12) (48 * k + 48 + (i + 1)) A1) (M + 13) (48 * k + 48 + (i + 1)) B1), nI (i + 1))
    rw [← e]
    generalize fz (fz F (M + 12) (48 * k + 48 + i) A1) (M + 13) (48 * k + 48 + i) B1 = F1 at rA rB
    simp (decide := true) (disch := omega) only [B_X10_isGone_3, gd_hv s.1, gI_hv s.1, pI_hv s.1, s.R15, s.A15, s.W15, s.R16, s.A16, s.W16, b1_some, b2_some, litI, neg1, nI_add, nI_mul, e1_p1, nI_e0, ib, ib1, ite_not, if_true, if_false, not_true_eq_false, not_false_eq_true, setI_hv, le_lit, show ¬ 48 ≤ i by omega, rA, rB, u2_n])
  rw [z0] at hm
  have L0 : F_X10_isGone (hv σ F) M (nI k) (nI r) x = F_X10_isGone_70 (hv σ (fz (fz F (M + 12) (48 * k + 96) A1) (M + 13) (48 * k + 96) B1)) M (nI k) (nI r) x := by
    unfold F_X10_isGone L_X10_isGone_3
    rw [gd_hv s.1]
    refine Eq.trans hm ?_
    show B_X10_isGone_3 M (nI k) (nI r) x m (hv σ (fz (fz F (M + 12) (48 * k + 48 + 48) A1) (M + 13) (48 * k + 48 + 48) B1)) (nI 48) = _
    rw [show 48 * k + 48 + 48 = 48 * k + 96 by omega]
    simp (decide := true) (disch := omega) only [B_X10_isGone_3, b1_some, b2_some, litI, neg1, nI_add, nI_mul, e1_p1, nI_e0, ib, ib1, ite_not, if_true, if_false, not_true_eq_false, not_false_eq_true, setI_hv, le_lit, Nat.le_refl]
  rw [L0]
  have kk : nI 48 * nI k + nI 48 = nI (48 * k + 48) := by rw [nI_mul, nI_add]
  -- what is left of the rows after the day
  have fin : ∀ (F2 : Nat → Nat → Int32) (A2 : Nat → Nat), RepM M (hv σ F2) S → (∀ j, j < 48 * k + 96 → A2 j ≤ 100) → F_X10_isGone_134 (hv σ (fz (fz F2 (M + 12) (48 * k + 96) A2) (M + 13) (48 * k + 96) B1)) M (nI k) = some (nI 1, hv σ (fz (fz F2 (M + 12) (48 * k + 96) (gA S (48 * k + 48) 48 A2)) (M + 13) (48 * k + 96) (gW S (48 * k + 48) 48 B1))) := fun F2 A2 h2 b2 => by
    have gd := m_goDay g h2 (n := 48 * k + 96) (at' := 48 * k + 48) (A := A2) (B := B1) (by omega) (by omega) b2 bB1
    simp (decide := true) (disch := omega) only [F_X10_isGone_134, b1_some, b2_some, litI, neg1, nI_add, nI_mul, e1_p1, nI_e0, ib, ib1, ite_not, if_true, if_false, not_true_eq_false, not_false_eq_true, setI_hv, gd]
  have rdA : ∀ (F2 : Nat → Nat → Int32) (A2 : Nat → Nat), ∀ j, j < 48 * k + 96 → fz (fz F2 (M + 12) (48 * k + 96) (gA S (48 * k + 48) 48 A2)) (M + 13) (48 * k + 96) (gW S (48 * k + 48) 48 B1) (M + 12) j = nI (gA S (48 * k + 48) 48 A2 j) := fun F2 A2 j hj => by
    rw [fz_off (by omega), fz_rd hj]
  have rdB : ∀ (F2 : Nat → Nat → Int32) (A2 : Nat → Nat), ∀ j, j < 48 * k + 96 → fz (fz F2 (M + 12) (48 * k + 96) (gA S (48 * k + 48) 48 A2)) (M + 13) (48 * k + 96) (gW S (48 * k + 48) 48 B1) (M + 13) j = nI (gW S (48 * k + 48) 48 B1 j) := fun F2 A2 j hj => by
    rw [fz_rd hj]
  have gAl : ∀ A2 j, j < 48 * k + 48 → gA S (48 * k + 48) 48 A2 j = A2 j := fun A2 j hj => if_neg (by omega)
  have gWl : ∀ j, j < 48 * k + 48 → gW S (48 * k + 48) 48 B1 j = B j := fun j hj => (if_neg (by omega)).trans (B1l j hj)
  have gAh : ∀ A2 c, c < 48 → gA S (48 * k + 48) 48 A2 (48 * k + 48 + c) = dKv S (A2 (48 * k + 48 + c)) c := fun A2 c hc => by
    unfold gA
    rw [if_pos (by omega), Nat.add_sub_cancel_left]
  have gWh : ∀ c, c < 48 → gW S (48 * k + 48) 48 B1 (48 * k + 48 + c) = dWv S (B (48 * k + c)) := fun c hc => by
    unfold gW
    rw [if_pos (by omega), B1h]
  by_cases q8 : r = 8
  · subst q8
    have gn : gne S x k 8 := Or.inl rfl
    rw [if_pos gn]
    refine ⟨_, ?_, ?_, fun j hj => ⟨(rdA F A1 j (by omega)).trans ?_, (rdB F A1 j (by omega)).trans ?_⟩, fun _ c hc => ⟨(rdA F A1 _ (by omega)).trans ?_, (rdB F A1 _ (by omega)).trans ?_⟩⟩
    · refine Eq.trans ?_ (fin F A1 h bA1)
      simp (decide := true) (disch := omega) only [F_X10_isGone_70, F_X10_isGone_85, F_X10_isGone_115, b1_some, b2_some, litI, neg1, nI_add, nI_mul, e1_p1, nI_e0, ib, ib1, ite_not, if_true, if_false, not_true_eq_false, not_false_eq_true, setI_hv, mn_eq, le_lit, Nat.zero_le, Nat.le_refl]
    · intro a j h1 h2 h3
      rw [fz_off h3, fz_off h2]
    · rw [gAl _ _ hj, A1l _ hj]
    · rw [gWl _ hj]
    · rw [gAh _ _ hc, A1h]
      rfl
    · rw [gWh _ hc]
      rfl
  · have hr8 : r < 8 := by omega
    have h' : RepM M (hv σ (fz (fz F (M + 12) (48 * k + 96) A1) (M + 13) (48 * k + 96) B1)) S := (h.zz 12 _ _ (by omega)).zz 13 _ _ (by omega)
    have h2 : RepM M (hv σ (fz F (M + 3) 8 (tn S 0 8))) S := h.zz 3 _ _ (by omega)
    have mc : F_X10_costOf (hv σ (fz (fz F (M + 12) (48 * k + 96) A1) (M + 13) (48 * k + 96) B1)) M (nI r) = some (e1 (cst S r), hv σ (fz (fz (fz F (M + 3) 8 (tn S 0 8)) (M + 12) (48 * k + 96) A1) (M + 13) (48 * k + 96) B1)) := by
      have := m_cost' g h' hr8
      rw [fz_com (A := M + 13) (B := M + 3) (by omega), fz_com (A := M + 12) (B := M + 3) (by omega)] at this
      exact this
    by_cases gn : gne S x k r
    · have gn' := gn.resolve_left q8
      have wk := m_goWalk g h2 (n := 48 * k + 96) (at' := 48 * k + 48) (r := r) (A := A1) (B := B1) hr8 (by omega) (by omega) bA1
      have bA2 : ∀ j, j < 48 * k + 96 → wAt S r (48 * k + 48) 6 A1 j ≤ 100 := fun j hj => by
        unfold wAt
        split
        · exact wkv_le g _ (bA1 j hj)
        · exact bA1 j hj
      rw [if_pos gn]
      refine ⟨_, ?_, ?_, fun j hj => ⟨(rdA (fz F (M + 3) 8 (tn S 0 8)) (wAt S r (48 * k + 48) 6 A1) j (by omega)).trans ?_, (rdB (fz F (M + 3) 8 (tn S 0 8)) (wAt S r (48 * k + 48) 6 A1) j (by omega)).trans ?_⟩, fun _ c hc => ⟨(rdA (fz F (M + 3) 8 (tn S 0 8)) (wAt S r (48 * k + 48) 6 A1) _ (by omega)).trans ?_, (rdB (fz F (M + 3) 8 (tn S 0 8)) (wAt S r (48 * k + 48) 6 A1) _ (by omega)).trans ?_⟩⟩
      · refine Eq.trans ?_ (fin _ _ h2 bA2)
        simp (decide := true) (disch := omega) only [F_X10_isGone_70, F_X10_isGone_85, F_X10_isGone_115, b1_some, b2_some, litI, neg1, nI_add, nI_mul, e1_p1, nI_e0, ib, ib1, ite_not, if_true, if_false, not_true_eq_false, not_false_eq_true, setI_hv, mc, wk, mn_eq, le_lit, eq_lit, q8, e1_of, show cst S r - 1 ≤ mn x k by omega, show ¬ 8 ≤ r by omega]
      · intro a j h1 h2 h3
        rw [fz_off h3, fz_off h2, fz_off h1]
      · rw [gAl _ _ hj]
        unfold wAt
        rw [if_neg (by omega), A1l _ hj]
      · rw [gWl _ hj]
      · rw [gAh _ _ hc]
        unfold lv1
        rw [if_neg q8]
        show nI (dKv S (wAt S r (48 * k + 48) 6 A1 (48 * k + 48 + c)) c) = nI (dKv S (wK S r (fun c => A (48 * k + c)) 6 c) c)
        unfold wAt wK
        rw [A1h, Nat.add_sub_cancel_left]
        by_cases z : 6 * r ≤ c ∧ c < 6 * r + 6
        · rw [if_pos (by omega), if_pos z]
        · rw [if_neg (by omega), if_neg z]
      · rw [gWh _ hc]
        unfold lv1
        rw [if_neg q8]
        rfl
    · rw [if_neg gn]
      refine ⟨fz (fz (fz F (M + 3) 8 (tn S 0 8)) (M + 12) (48 * k + 96) A1) (M + 13) (48 * k + 96) B1, ?_, ?_, fun j hj => ⟨?_, ?_⟩, fun z => absurd z gn⟩
      · by_cases q2 : cst S r = 0
        · simp (decide := true) (disch := omega) only [F_X10_isGone_70, F_X10_isGone_85, b1_some, b2_some, litI, neg1, nI_add, nI_mul, e1_p1, nI_e0, ib, ib1, ite_not, if_true, if_false, not_true_eq_false, not_false_eq_true, setI_hv, mc, eq_lit, q8, q2]
        · have q3 : ¬ cst S r ≤ mn x k + 1 := fun z => gn (Or.inr ⟨q2, z⟩)
          simp (decide := true) (disch := omega) only [F_X10_isGone_70, F_X10_isGone_85, b1_some, b2_some, litI, neg1, nI_add, nI_mul, e1_p1, nI_e0, ib, ib1, ite_not, if_true, if_false, not_true_eq_false, not_false_eq_true, setI_hv, mc, mn_eq, le_lit, eq_lit, q8, e1_of, show ¬ cst S r - 1 ≤ mn x k by omega, show ¬ 8 ≤ r by omega]
      · intro a j h1 h2 h3
        rw [fz_off h3, fz_off h2, fz_off h1]
      · rw [fz_off (by omega), fz_rd (by omega), A1l _ hj]
      · rw [fz_rd (by omega), B1l _ hj]
theorem m_all {M : Nat} {σ : Hp} {F : Nat → Nat → Int32} {S : St} (g : Good S) (h : RepM M (hv σ F) S) {n : Nat} {K : Nat → Nat} (hn : n ≤ 4) (hK : ∀ c, c < 48 → F (M + 12) (48 * n + c) = nI (K c)) : F_X10_allAt (hv σ F) M (nI (48 * n)) = some (nI (sts (S.2 9) K), hv σ F) := by
  have s : SM M σ := h.1
  unfold F_X10_allAt L_X10_allAt_4
  rw [gd_hv s.1]
  obtain ⟨m, hm⟩ := it_FU (body := fun rec st => B_X10_allAt_4 (hv σ F) M (nI (48 * n)) rec st.1 st.2) (fun i => (nI (sumR (fun c => if S.2 9 c = 0 then 0 else K c) 0 i), nI i)) 0 48 (by omega) (by omega) (fun i _ hi rec => by
    have b := g.cn hi
    have e := hK i hi
    show B_X10_allAt_4 (hv σ F) M (nI (48 * n)) rec (nI (sumR (fun c => if S.2 9 c = 0 then 0 else K c) 0 i)) (nI i) = rec (nI (sumR (fun c => if S.2 9 c = 0 then 0 else K c) 0 i + if S.2 9 (0 + i) = 0 then 0 else K (0 + i)), nI (i + 1))
    rw [Nat.zero_add]
    by_cases q : S.2 9 i = 0
    · simp (decide := true) (disch := omega) only [B_X10_allAt_4, gd_hv s.1, gI_hv s.1, pI_hv s.1, s.R9, s.A9, s.W9, s.R15, s.A15, s.W15, b1_some, b2_some, litI, neg1, nI_add, nI_mul, e1_p1, nI_e0, ib, ib1, ite_not, if_true, if_false, not_true_eq_false, not_false_eq_true, setI_hv, le_lit, show ¬ 48 ≤ i by omega, h.a9, e1_inj, q]
    · simp (decide := true) (disch := omega) only [B_X10_allAt_4, gd_hv s.1, gI_hv s.1, pI_hv s.1, s.R9, s.A9, s.W9, s.R15, s.A15, s.W15, b1_some, b2_some, litI, neg1, nI_add, nI_mul, e1_p1, nI_e0, ib, ib1, ite_not, if_true, if_false, not_true_eq_false, not_false_eq_true, setI_hv, le_lit, show ¬ 48 ≤ i by omega, h.a9, e1_inj, q, e])
  refine hm.trans ?_
  simp (decide := true) (disch := omega) only [B_X10_allAt_4, b1_some, b2_some, litI, neg1, nI_add, nI_mul, e1_p1, nI_e0, ib, ib1, ite_not, if_true, if_false, not_true_eq_false, not_false_eq_true, setI_hv, le_lit, Nat.le_refl]
  rfl
/-! the component's costs -/
theorem x_costs {N : Nat} {σ : Hp} {f : Nat → Nat → Int32} {S : St} (g : Good S) (h : RepX N (hv σ f) S) : ∃ f', F_X0_layCosts (hv σ f) N = some (hv σ f') ∧ (∀ r, r < 8 → f' (N + 231) r = e1 (cst S r)) ∧ ∀ a k, a ≠ N + 231 → f' a k = f a k := by
  have s : SX N σ := h.1
  unfold F_X0_layCosts L_X0_layCosts_2
  rw [gd_hv s.t0]
  obtain ⟨st, r, ⟨f', es, p1, p2⟩, e⟩ := it_invF (body := fun rec st => B_X0_layCosts_2 N rec st.1 st.2) (fun i st => ∃ f', st = (hv σ f', nI i) ∧ (∀ r, r < i → f' (N + 231) r = e1 (cst S r)) ∧ ∀ a k, a ≠ N + 231 → f' a k = f a k) 0 8 (by omega) (by omega) (fun i st _ hi hp => by
    obtain ⟨f1, rfl, p1, p2⟩ := hp
    have h1 : RepX N (hv σ f1) S := h.sx (fun a k ha => p2 a k (ha 231 (by omega)))
    have c : F_X0_costOf (hv σ f1) N (nI i) = some (e1 (cst S i), hv σ f1) := x_cost' g h1 hi
    refine ⟨_, ⟨u2 f1 (N + 231) i (e1 (cst S i)), rfl, fun r hr => ?_, fun a k ha => ?_⟩, fun rec => ?_⟩
    · by_cases q : r = i
      · subst q
        exact u2_e
      · rw [u2_n (by omega)]
        exact p1 r (by omega)
    · rw [u2_n (by omega)]
      exact p2 a k ha
    · simp (decide := true) (disch := omega) only [B_X0_layCosts_2, gd_hv s.t0, gI_hv s.t0, pI_hv s.t0, s.R20, s.A231, s.W231, b1_some, b2_some, litI, neg1, nI_add, nI_mul, e1_p1, nI_e0, ib, ib1, ite_not, if_true, if_false, not_true_eq_false, not_false_eq_true, setI_hv, le_lit, show ¬ 8 ≤ i by omega, c]) (hv σ f, nI 0) ⟨f, rfl, fun c hc => absurd hc (Nat.not_lt_zero c), fun _ _ _ => rfl⟩
  subst es
  refine ⟨f', e.trans ?_, p1, p2⟩
  simp (decide := true) (disch := omega) only [B_X0_layCosts_2, b1_some, b2_some, litI, neg1, nI_add, nI_mul, e1_p1, nI_e0, ib, ib1, ite_not, if_true, if_false, not_true_eq_false, not_false_eq_true, setI_hv, le_lit, Nat.le_refl]
noncomputable def oJudge (w n x : Int32) (S : St) : Int32 × St := if inR n 1 4 ∧ amn n.toNatClampNeg x ∧ ∀ k, k < n.toNatClampNeg → rwv w k ≤ 8 then (e1 (sbv S x (rwv w) n.toNatClampNeg), S) else (-3, S)
theorem x_judge (N : Nat) (w n x : Int32) : OkXf N (fun σ => F_X0_judge σ N w n x) (oJudge w n x) := by
  intro σ f S g h
  have s : SX N σ := h.1
  rcases in_split n 1 4 (by omega) (by omega) with ⟨i, h1, hi, rfl⟩ | hk
  case inr =>
    have e : oJudge w n x S = (-3, S) := if_neg (fun z => hk z.1)
    rw [e]
    refine ⟨f, ?_, h, fun _ _ _ => rfl⟩
    show F_X0_judge (hv σ f) N w n x = some (-3, hv σ f)
    obtain ⟨m, hm⟩ := it_FU (body := fun rec st => B_X0_judge_10 N w n x rec st.1 st.2.1 st.2.2) (fun k => (hv σ f, nI 0, nI 0)) 0 0 (by omega) (by omega) (fun k _ hk rec => by omega)
    have L0 : F_X0_judge (hv σ f) N w n x = it (fun rec st => B_X0_judge_10 N w n x rec st.1 st.2.1 st.2.2) FU (hv σ f, nI 0, nI 0) := by
      unfold F_X0_judge L_X0_judge_10
      rw [gd_hv s.t0, x_mins0 hk, b2_some]
      rfl
    rw [L0, hm]
    simp (decide := true) (disch := omega) only [B_X0_judge_10, F_X0_judge_62, b1_some, b2_some, litI, neg1, nI_add, nI_mul, e1_p1, nI_e0, ib, ib1, ite_not, if_true, if_false, not_true_eq_false, not_false_eq_true, setI_hv]
  by_cases qa : amn i x
  case neg =>
    have e : oJudge w (nI i) x S = (-3, S) := if_neg (fun z => qa (by have := z.2.1; rw [cl_I (by omega)] at this; exact this))
    rw [e]
    refine ⟨f, ?_, h, fun _ _ _ => rfl⟩
    show F_X0_judge (hv σ f) N w (nI i) x = some (-3, hv σ f)
    obtain ⟨m, hm⟩ := it_FU (body := fun rec st => B_X0_judge_10 N w (nI i) x rec st.1 st.2.1 st.2.2) (fun k => (hv σ f, nI 0, nI 0)) 0 0 (by omega) (by omega) (fun k _ hk rec => by omega)
    have L0 : F_X0_judge (hv σ f) N w (nI i) x = it (fun rec st => B_X0_judge_10 N w (nI i) x rec st.1 st.2.1 st.2.2) FU (hv σ f, nI 0, nI 0) := by
      unfold F_X0_judge L_X0_judge_10
      rw [gd_hv s.t0, x_mins h1 hi, if_neg qa, b2_some]
      rfl
    rw [L0, hm]
    simp (decide := true) (disch := omega) only [B_X0_judge_10, F_X0_judge_62, b1_some, b2_some, litI, neg1, nI_add, nI_mul, e1_p1, nI_e0, ib, ib1, ite_not, if_true, if_false, not_true_eq_false, not_false_eq_true, setI_hv]
  have L0 : F_X0_judge (hv σ f) N w (nI i) x = it (fun rec st => B_X0_judge_10 N w (nI i) x rec st.1 st.2.1 st.2.2) FU (hv σ f, nI 1, nI 0) := by
    unfold F_X0_judge L_X0_judge_10
    rw [gd_hv s.t0, x_mins h1 hi, if_pos qa, b2_some]
    rfl
  have z0 : fz f (N + 230) 0 (rwv w) = f := fz_0 _ _ _
  obtain ⟨j, hj, g2, g3⟩ := first (P := fun k => ¬ rwv w k ≤ 8) i
  obtain ⟨m, hm⟩ := it_FU (body := fun rec st => B_X0_judge_10 N w (nI i) x rec st.1 st.2.1 st.2.2) (fun k => (hv σ (fz f (N + 230) k (rwv w)), if k ≤ j then nI 1 else nI 0, nI k)) 0 (if j = i then i else j + 1) (by omega) (by split <;> omega) (fun k _ hk rec => by
    have kj : k ≤ j ∧ k < i := by
      by_cases e : j = i
      · rw [if_pos e] at hk
        omega
      · rw [if_neg e] at hk
        omega
    have rl := rwv_lt w k
    show B_X0_judge_10 N w (nI i) x rec (hv σ (fz f (N + 230) k (rwv w))) (if k ≤ j then nI 1 else nI 0) (nI k) = rec (hv σ (fz f (N + 230) (k + 1) (rwv w)), if k + 1 ≤ j then nI 1 else nI 0, nI (k + 1))
    rw [if_pos kj.1, ← fz_grow]
    by_cases z : k = j
    · have q : ¬ rwv w j ≤ 8 := g3.resolve_left (by omega)
      rw [if_neg (by omega)]
      rw [← z] at q
      simp (decide := true) (disch := omega) only [B_X0_judge_10, gd_hv s.t0, gI_hv s.t0, pI_hv s.t0, s.R19, s.A230, s.W230, b1_some, b2_some, litI, neg1, nI_add, nI_mul, e1_p1, nI_e0, ib, ib1, ite_not, if_true, if_false, not_true_eq_false, not_false_eq_true, setI_hv, le_lit, lt_lit, show ¬ i ≤ k by omega, rwv_eq, u2_e, show 8 < rwv w k by omega]
    · have q : rwv w k ≤ 8 := Classical.not_not.mp (g2 k (by omega))
      rw [if_pos (by omega)]
      simp (decide := true) (disch := omega) only [B_X0_judge_10, gd_hv s.t0, gI_hv s.t0, pI_hv s.t0, s.R19, s.A230, s.W230, b1_some, b2_some, litI, neg1, nI_add, nI_mul, e1_p1, nI_e0, ib, ib1, ite_not, if_true, if_false, not_true_eq_false, not_false_eq_true, setI_hv, le_lit, lt_lit, show ¬ i ≤ k by omega, rwv_eq, u2_e, show ¬ 8 < rwv w k by omega])
  simp only [z0, Nat.zero_le, if_true] at hm
  have hb : ∀ a k, a < N ∨ N + 245 ≤ a → fz f (N + 230) i (rwv w) a k = f a k := fun a k ha => fz_off (by omega)
  by_cases ej : j = i
  · have all : ∀ k, k < i → rwv w k ≤ 8 := fun k hk => Classical.not_not.mp (g2 k (by omega))
    have e : oJudge w (nI i) x S = (e1 (sbv S x (rwv w) i), S) := by
      unfold oJudge
      rw [cl_I (by omega)]
      exact if_pos ⟨inR_of h1 hi (by omega), qa, all⟩
    rw [e]
    have h1' : RepX N (hv σ (fz f (N + 230) i (rwv w))) S := h.sx (fun a k ha => fz_off (ha 230 (by omega)))
    obtain ⟨f2, c1, c2, c3⟩ := x_costs g h1'
    have h2' : RepX N (hv σ f2) S := h1'.sx (fun a k ha => c3 a k (ha 231 (by omega)))
    obtain ⟨f3, s1, s2⟩ := x_sb g h2' (n := i) (x := x) (p := rwv w) hi (fun k hk => ⟨all k hk, (c3 _ _ (by omega)).trans (fz_rd hk)⟩) c2
    refine ⟨f3, ?_, h2'.sx (fun a k ha => s2 a k (fun o h1 h2 => ha o (by omega))), fun a k ha => ?_⟩
    · show F_X0_judge (hv σ f) N w (nI i) x = _
      rw [L0]
      refine hm.trans ?_
      rw [if_pos ej]
      show B_X0_judge_10 N w (nI i) x m (hv σ (fz f (N + 230) i (rwv w))) (if i ≤ j then nI 1 else nI 0) (nI i) = _
      rw [if_pos (by omega)]
      simp (decide := true) (disch := omega) only [B_X0_judge_10, F_X0_judge_62, b1_some, b2_some, litI, neg1, nI_add, nI_mul, e1_p1, nI_e0, ib, ib1, ite_not, if_true, if_false, not_true_eq_false, not_false_eq_true, setI_hv, le_lit, Nat.le_refl, c1, s1]
    · rw [s2 a k (fun o _ _ => by omega), c3 a k (by omega), hb a k ha]
  · have q : ¬ rwv w j ≤ 8 := g3.resolve_left ej
    have e : oJudge w (nI i) x S = (-3, S) := by
      unfold oJudge
      rw [cl_I (by omega)]
      exact if_neg (fun z => q (z.2.2 j (by omega)))
    rw [e]
    refine ⟨fz f (N + 230) (j + 1) (rwv w), ?_, h.sx (fun a k ha => fz_off (ha 230 (by omega))), fun a k ha => fz_off (by omega)⟩
    show F_X0_judge (hv σ f) N w (nI i) x = _
    rw [L0]
    refine hm.trans ?_
    rw [if_neg ej]
    show B_X0_judge_10 N w (nI i) x m (hv σ (fz f (N + 230) (j + 1) (rwv w))) (if j + 1 ≤ j then nI 1 else nI 0) (nI (j + 1)) = _
    rw [if_neg (by omega)]
    simp (decide := true) (disch := omega) only [B_X0_judge_10, F_X0_judge_62, b1_some, b2_some, litI, neg1, nI_add, nI_mul, e1_p1, nI_e0, ib, ib1, ite_not, if_true, if_false, not_true_eq_false, not_false_eq_true, setI_hv]
/-- the rows beside up to day k -/
def RowsAt (M : Nat) (F : Nat → Nat → Int32) (S : St) (p : Nat → Nat) (k : Nat) : Prop := ∀ i, i ≤ k → ∀ c, c < 48 → F (M + 12) (48 * i + c) = nI ((lvs S p i).1 c) ∧ F (M + 13) (48 * i + c) = nI ((lvs S p i).2 c)
theorem m_step {M : Nat} {σ : Hp} {F : Nat → Nat → Int32} {S : St} (g : Good S) (h : RepM M (hv σ F) S) {k : Nat} {x : Int32} {p : Nat → Nat} (hk : k ≤ 3) (hr : p k ≤ 8) (hA : RowsAt M F S p k) :
    ∃ F', F_X10_isGone (hv σ F) M (nI k) (nI (p k)) x = some (if gne S x k (p k) then nI 1 else nI 0, hv σ F') ∧ (∀ a j, a ≠ M + 3 → a ≠ M + 12 → a ≠ M + 13 → F' a j = F a j) ∧ RowsAt M F' S p k ∧ (gne S x k (p k) → RowsAt M F' S p (k + 1)) ∧ RepM M (hv σ F') S := by
  have sp : ∀ j, j < 48 * k + 48 → j / 48 ≤ k ∧ j % 48 < 48 ∧ 48 * (j / 48) + j % 48 = j := fun j hj => by omega
  obtain ⟨F', r1, r2, r3, r4⟩ := m_gone g h (k := k) (r := p k) (x := x) (A := fun j => (lvs S p (j / 48)).1 (j % 48)) (B := fun j => (lvs S p (j / 48)).2 (j % 48)) hk hr (fun j hj => by
    have e := sp j hj
    have := (hA (j / 48) e.1 (j % 48) e.2.1).1
    rw [e.2.2] at this
    exact ⟨this, (lvs_b g p (j / 48) _ e.2.1).1⟩) (fun j hj => by
    have e := sp j hj
    have := (hA (j / 48) e.1 (j % 48) e.2.1).2
    rw [e.2.2] at this
    exact ⟨this, (lvs_b g p (j / 48) _ e.2.1).2.1⟩)
  have old : RowsAt M F' S p k := fun i hi c hc => by
    have := r3 (48 * i + c) (by omega)
    simp only [show (48 * i + c) / 48 = i by omega, show (48 * i + c) % 48 = c by omega] at this
    exact this
  refine ⟨F', r1, r2, old, fun gn i hi c hc => ?_, ?_⟩
  · by_cases e : i = k + 1
    · subst e
      have := r4 gn c hc
      rw [show 48 * (k + 1) + c = 48 * k + 48 + c by omega]
      have e2 : ∀ L1 L2 : Lv, (∀ c, c < 48 → L1.1 c = L2.1 c ∧ L1.2 c = L2.2 c) → (lv1 S (p k) L1).1 c = (lv1 S (p k) L2).1 c ∧ (lv1 S (p k) L1).2 c = (lv1 S (p k) L2).2 c := fun L1 L2 hl => by
        have l := hl c hc
        unfold lv1
        by_cases q : p k = 8
        · rw [if_pos q, if_pos q]
          show dKv S (L1.1 c) c = dKv S (L2.1 c) c ∧ dWv S (L1.2 c) = dWv S (L2.2 c)
          rw [l.1, l.2]
          exact ⟨rfl, rfl⟩
        · rw [if_neg q, if_neg q]
          show dKv S (wK S (p k) L1.1 6 c) c = dKv S (wK S (p k) L2.1 6 c) c ∧ dWv S (L1.2 c) = dWv S (L2.2 c)
          unfold wK
          rw [l.1, l.2]
          exact ⟨rfl, rfl⟩
      have e3 := e2 (fun c => (lvs S p ((48 * k + c) / 48)).1 ((48 * k + c) % 48), fun c => (lvs S p ((48 * k + c) / 48)).2 ((48 * k + c) % 48)) (lvs S p k) (fun c hc => by
        show (lvs S p ((48 * k + c) / 48)).1 ((48 * k + c) % 48) = (lvs S p k).1 c ∧ (lvs S p ((48 * k + c) / 48)).2 ((48 * k + c) % 48) = (lvs S p k).2 c
        rw [show (48 * k + c) / 48 = k by omega, show (48 * k + c) % 48 = c by omega]
        exact ⟨rfl, rfl⟩)
      rw [this.1, this.2]
      exact ⟨congrArg nI e3.1, congrArg nI e3.2⟩
    · exact old i (by omega) c hc
  · have e1' : RepM M (hv σ (fun a j => if a = M + 3 then F' a j else F a j)) S := h.sa 3 (by omega) (fun a j ha => if_neg ha)
    have e2' : RepM M (hv σ (fun a j => if a = M + 12 then F' a j else if a = M + 3 then F' a j else F a j)) S := e1'.sa 12 (by omega) (fun a j ha => if_neg ha)
    refine e2'.sa 13 (by omega) (fun a j ha => ?_)
    by_cases q1 : a = M + 12
    · exact (if_pos q1).symm
    · by_cases q2 : a = M + 3
      · exact ((if_neg q1).trans (if_pos q2)).symm
      · exact (r2 a j q2 q1 ha).trans ((if_neg q1).trans (if_neg q2)).symm
theorem m_rows0 {M : Nat} {σ : Hp} {f : Nat → Nat → Int32} {S : St} (g : Good S) (h : RepM M (hv σ f) S) (p : Nat → Nat) : RowsAt M (fz (fz f (M + 12) 48 (S.2 10)) (M + 13) 48 (S.2 12)) S p 0 ∧ RepM M (hv σ (fz (fz f (M + 12) 48 (S.2 10)) (M + 13) 48 (S.2 12))) S := by
  refine ⟨fun i hi c hc => ?_, (h.zz 12 _ _ (by omega)).zz 13 _ _ (by omega)⟩
  have : i = 0 := by omega
  subst this
  rw [show 48 * 0 + c = c by omega, fz_off (by omega), fz_rd hc, fz_rd hc]
  exact ⟨rfl, rfl⟩
theorem m_judge (M : Nat) (w n x : Int32) : OkMf M (fun σ => F_X10_judge σ M w n x) (oJudge w n x) := by
  intro σ f S g h
  have s : SM M σ := h.1
  rcases in_split n 1 4 (by omega) (by omega) with ⟨i, h1, hi, rfl⟩ | hk
  case inr =>
    have e : oJudge w n x S = (-3, S) := if_neg (fun z => hk z.1)
    rw [e]
    refine ⟨f, ?_, h, fun _ _ _ => rfl⟩
    show F_X10_judge (hv σ f) M w n x = some (-3, hv σ f)
    unfold F_X10_judge
    rw [gd_hv s.1, m_mins0 hk, b2_some]
    rfl
  by_cases qa : amn i x
  case neg =>
    have e : oJudge w (nI i) x S = (-3, S) := if_neg (fun z => qa (by have := z.2.1; rw [cl_I (by omega)] at this; exact this))
    rw [e]
    refine ⟨f, ?_, h, fun _ _ _ => rfl⟩
    show F_X10_judge (hv σ f) M w (nI i) x = some (-3, hv σ f)
    unfold F_X10_judge
    rw [gd_hv s.1, m_mins h1 hi, if_neg qa, b2_some]
    rfl
  have L0 : F_X10_judge (hv σ f) M w (nI i) x = it (fun rec st => B_X10_judge_14 (hv σ f) M w (nI i) x rec st) FU (nI 0) := by
    unfold F_X10_judge L_X10_judge_14
    rw [gd_hv s.1, m_mins h1 hi, if_pos qa, b2_some]
    rfl
  obtain ⟨j, hj, g2, g3⟩ := first (P := fun k => ¬ rwv w k ≤ 8) i
  obtain ⟨m, hm⟩ := it_FU (body := fun rec st => B_X10_judge_14 (hv σ f) M w (nI i) x rec st) (fun k => nI k) 0 j (by omega) (by omega) (fun k _ hk rec => by
    have rl := rwv_lt w k
    have q : rwv w k ≤ 8 := Classical.not_not.mp (g2 k (by omega))
    simp (decide := true) (disch := omega) only [B_X10_judge_14, b1_some, b2_some, litI, neg1, nI_add, nI_mul, e1_p1, nI_e0, ib, ib1, ite_not, if_true, if_false, not_true_eq_false, not_false_eq_true, setI_hv, le_lit, show ¬ i ≤ k by omega, rwv_eq, q])
  by_cases ej : j = i
  · have all : ∀ k, k < i → rwv w k ≤ 8 := fun k hk => Classical.not_not.mp (g2 k (by omega))
    have e : oJudge w (nI i) x S = (e1 (sbv S x (rwv w) i), S) := by
      unfold oJudge
      rw [cl_I (by omega)]
      exact if_pos ⟨inR_of h1 hi (by omega), qa, all⟩
    rw [e]
    have r0 := m_rows0 g h (rwv w)
    obtain ⟨i0, hi0, t2, t3⟩ := first (P := fun k => ¬ gne S x k (rwv w k)) i
    obtain ⟨st, rr, ⟨F, es, p1, p2, p3⟩, er⟩ := it_invF (body := fun rec st => B_X10_judge_50 M w (nI i) x rec st.1 st.2) (fun k st => ∃ F, st = (hv σ F, nI k) ∧ RowsAt M F S (rwv w) k ∧ RepM M (hv σ F) S ∧ ∀ a j, a < M ∨ M + 26 ≤ a → F a j = f a j) 0 i0 (by omega) (by omega) (fun k st _ hk hq => by
      obtain ⟨F, rfl, p1, p2, p3⟩ := hq
      obtain ⟨F', u1, u2', u3, u4, u5⟩ := m_step g p2 (k := k) (x := x) (p := rwv w) (by omega) (all k (by omega)) p1
      have gn : gne S x k (rwv w k) := Classical.not_not.mp (t2 k hk)
      rw [if_pos gn] at u1
      refine ⟨_, ⟨F', rfl, u4 gn, u5, fun a j ha => (u2' a j (by omega) (by omega) (by omega)).trans (p3 a j ha)⟩, fun rec => ?_⟩
      simp (decide := true) (disch := omega) only [B_X10_judge_50, b1_some, b2_some, litI, neg1, nI_add, nI_mul, e1_p1, nI_e0, ib, ib1, ite_not, if_true, if_false, not_true_eq_false, not_false_eq_true, setI_hv, le_lit, show ¬ i ≤ k by omega, rwv_eq, u1]) (hv σ (fz (fz f (M + 12) 48 (S.2 10)) (M + 13) 48 (S.2 12)), nI 0) ⟨_, rfl, r0.1, r0.2, fun a j ha => by rw [fz_off (by omega), fz_off (by omega)]⟩
    subst es
    have L1 : F_X10_judge (hv σ f) M w (nI i) x = B_X10_judge_50 M w (nI i) x rr (hv σ F) (nI i0) := by
      rw [L0]
      refine hm.trans (Eq.trans ?_ er)
      rw [ej]
      simp (decide := true) (disch := omega) only [B_X10_judge_14, b1_some, b2_some, litI, neg1, nI_add, nI_mul, e1_p1, nI_e0, ib, ib1, ite_not, if_true, if_false, not_true_eq_false, not_false_eq_true, setI_hv, le_lit, Nat.le_refl, m_look g h]
      rfl
    by_cases e0 : i0 = i
    · refine ⟨F, ?_, p2, p3⟩
      show F_X10_judge (hv σ f) M w (nI i) x = _
      rw [L1, e0]
      rw [e0] at p1 t2
      have v : sbv S x (rwv w) i = sts (S.2 9) (lvs S (rwv w) i).1 + 1 := if_pos (fun k hk => Classical.not_not.mp (t2 k hk))
      rw [v]
      have al := m_all g p2 (n := i) (K := (lvs S (rwv w) i).1) hi (fun c hc => (p1 i (Nat.le_refl _) c hc).1)
      simp (decide := true) (disch := omega) only [B_X10_judge_50, F_X10_judge_83, b1_some, b2_some, litI, neg1, nI_add, nI_mul, e1_p1, nI_e0, ib, ib1, ite_not, if_true, if_false, not_true_eq_false, not_false_eq_true, setI_hv, le_lit, Nat.le_refl, al, e1_s]
    · have gn : ¬ gne S x i0 (rwv w i0) := t3.resolve_left e0
      obtain ⟨F', u1, u2', u3, u4, u5⟩ := m_step g p2 (k := i0) (x := x) (p := rwv w) (by omega) (all i0 (by omega)) p1
      rw [if_neg gn] at u1
      refine ⟨F', ?_, u5, fun a j ha => (u2' a j (by omega) (by omega) (by omega)).trans (p3 a j ha)⟩
      show F_X10_judge (hv σ f) M w (nI i) x = _
      rw [L1]
      have v : sbv S x (rwv w) i = 0 := if_neg (fun z => gn (z i0 (by omega)))
      rw [v]
      simp (decide := true) (disch := omega) only [B_X10_judge_50, b1_some, b2_some, litI, neg1, nI_add, nI_mul, e1_p1, nI_e0, ib, ib1, ite_not, if_true, if_false, not_true_eq_false, not_false_eq_true, setI_hv, le_lit, show ¬ i ≤ i0 by omega, rwv_eq, u1]
  · have q : ¬ rwv w j ≤ 8 := g3.resolve_left ej
    have rl := rwv_lt w j
    have e : oJudge w (nI i) x S = (-3, S) := by
      unfold oJudge
      rw [cl_I (by omega)]
      exact if_neg (fun z => q (z.2.2 j (by omega)))
    rw [e]
    refine ⟨f, ?_, h, fun _ _ _ => rfl⟩
    show F_X10_judge (hv σ f) M w (nI i) x = _
    rw [L0]
    refine hm.trans ?_
    simp (decide := true) (disch := omega) only [B_X10_judge_14, b1_some, b2_some, litI, neg1, nI_add, nI_mul, e1_p1, nI_e0, ib, ib1, ite_not, if_true, if_false, not_true_eq_false, not_false_eq_true, setI_hv, le_lit, show ¬ i ≤ j by omega, rwv_eq, q]
end
section
set_option maxRecDepth 100000
/-! pure law 29: words of a tree by their numbers; the best of the first of them; a loop with a measure -/
theorem it_mu {α β : Type} {body : (α → Option β) → α → Option β} (P : Nat → α → Prop) (D : α → Prop) (h : ∀ m st, P m st → D st ∨ ∃ m' st', m' < m ∧ P m' st' ∧ ∀ rec, body rec st = rec st') : ∀ n m st, P m st → m < n → ∃ st' k, D st' ∧ it body n st = body (it body k) st' := by
  intro n
  induction n with
  | zero => intro m st _ hm; omega
  | succ n ih =>
    intro m st hp hm
    rcases h m st hp with q | ⟨m', st', h1, h2, h3⟩
    · exact ⟨st, n, q, rfl⟩
    · obtain ⟨s2, k, q1, q2⟩ := ih m' st' h2 (by omega)
      exact ⟨s2, k, q1, by rw [it_s, h3, q2]⟩
theorem it_muF {α β : Type} {body : (α → Option β) → α → Option β} (P : Nat → α → Prop) (D : α → Prop) (h : ∀ m st, P m st → D st ∨ ∃ m' st', m' < m ∧ P m' st' ∧ ∀ rec, body rec st = rec st') (m : Nat) (st : α) (hp : P m st) (hm : m < 1000000000000) : ∃ st', ∃ r : α → Option β, D st' ∧ it body FU st = body r st' := by
  have := FU_ge
  have e : (2 : Nat) ^ 60 = 1152921504606846976 := by decide
  obtain ⟨s, k, h1, h2⟩ := it_mu P D h FU m st hp (by omega)
  exact ⟨s, _, h1, h2⟩
def num (b : Nat) (c : Nat → Nat) : Nat → Nat
  | 0 => 0
  | d + 1 => b * num b c d + c d
def dgb (b n k i : Nat) : Nat := k / b ^ (n - 1 - i) % b
theorem num_cg {b : Nat} {c c' : Nat → Nat} : ∀ d, (∀ i, i < d → c i = c' i) → num b c d = num b c' d
  | 0, _ => rfl
  | d + 1, h => by
    show b * num b c d + c d = b * num b c' d + c' d
    rw [num_cg d (fun i hi => h i (by omega)), h d (by omega)]
theorem num_div {b : Nat} {c : Nat → Nat} {s : Nat} : ∀ t, (∀ i, i < s + t → c i < b) → num b c (s + t) / b ^ t = num b c s
  | 0, _ => by rw [Nat.pow_zero, Nat.div_one]; rfl
  | t + 1, h => by
    have hb : 0 < b := Nat.lt_of_le_of_lt (Nat.zero_le _) (h s (by omega))
    have e : num b c (s + (t + 1)) = b * num b c (s + t) + c (s + t) := rfl
    rw [Nat.pow_succ, Nat.mul_comm (b ^ t) b, ← Nat.div_div_eq_div_mul, e, Nat.mul_add_div hb, Nat.div_eq_of_lt (h (s + t) (by omega)), Nat.add_zero]
    exact num_div t (fun i hi => h i (by omega))
theorem dgb_num {b n d r : Nat} {c : Nat → Nat} (hc : ∀ i, i ≤ d → c i < b) (hd : d < n) (hr : r < b ^ (n - 1 - d)) {i : Nat} (hi : i ≤ d) : dgb b n (num b c (d + 1) * b ^ (n - 1 - d) + r) i = c i := by
  have hb : 0 < b := Nat.lt_of_le_of_lt (Nat.zero_le _) (hc 0 (by omega))
  unfold dgb
  have e1 : b ^ (n - 1 - i) = b ^ (n - 1 - d) * b ^ (d - i) := by
    rw [← Nat.pow_add]
    congr 1
    omega
  have e2 : (num b c (d + 1) * b ^ (n - 1 - d) + r) / b ^ (n - 1 - d) = num b c (d + 1) := by
    rw [Nat.mul_comm, Nat.mul_add_div (Nat.pow_pos hb), Nat.div_eq_of_lt hr, Nat.add_zero]
  have e3 : num b c (d + 1) / b ^ (d - i) = num b c (i + 1) := by
    have := num_div (b := b) (c := c) (s := i + 1) (d - i) (fun k hk => hc k (by omega))
    rw [show i + 1 + (d - i) = d + 1 by omega] at this
    exact this
  rw [e1, ← Nat.div_div_eq_div_mul, e2, e3]
  show (b * num b c i + c i) % b = c i
  rw [Nat.mul_add_mod, Nat.mod_eq_of_lt (hc i hi)]
theorem dgb_lt {b n k i : Nat} (hb : 0 < b) : dgb b n k i < b := Nat.mod_lt _ hb
/-- of the first values the best, and its number (none is 0) -/
def fo (bt : Nat → Nat → Bool) (sv : Nat → Nat) : Nat → Nat × Nat
  | 0 => (0, 0)
  | P + 1 => if bt (fo bt sv P).1 (sv P) = true then (sv P, P + 1) else fo bt sv P
theorem fo_skip {bt : Nat → Nat → Bool} {sv : Nat → Nat} {P : Nat} : ∀ t, (∀ k, P ≤ k → k < P + t → ¬ bt (fo bt sv P).1 (sv k) = true) → fo bt sv (P + t) = fo bt sv P
  | 0, _ => rfl
  | t + 1, h => by
    have ih := fo_skip (bt := bt) (sv := sv) (P := P) t (fun k h1 h2 => h k h1 (by omega))
    show (if bt (fo bt sv (P + t)).1 (sv (P + t)) = true then _ else fo bt sv (P + t)) = _
    rw [ih, if_neg (h (P + t) (by omega) (by omega))]
theorem fo_le (bt : Nat → Nat → Bool) (sv : Nat → Nat) : ∀ P, (fo bt sv P).2 ≤ P
  | 0 => Nat.le_refl _
  | P + 1 => by
    have := fo_le bt sv P
    unfold fo
    split
    · exact Nat.le_refl _
    · omega
theorem fo_b {bt : Nat → Nat → Bool} {sv : Nat → Nat} {m : Nat} (h : ∀ k, sv k ≤ m) : ∀ P, (fo bt sv P).1 ≤ m
  | 0 => Nat.zero_le _
  | P + 1 => by
    have := fo_b (bt := bt) h P
    unfold fo
    split
    · exact h P
    · exact this
/-! the measure of a tree's walk: levels below d, and at d -/
def mu (n : Nat) (c : Nat → Nat) : Nat → Nat
  | 0 => 0
  | d + 1 => mu n c d + (9 - c d) * 11 ^ (n - d)
def mt (n : Nat) (c : Nat → Nat) (d : Nat) : Nat := mu n c d + (10 - c d) * 11 ^ (n - d)
theorem mu_cg {n : Nat} {c c' : Nat → Nat} : ∀ d, (∀ i, i < d → c i = c' i) → mu n c d = mu n c' d
  | 0, _ => rfl
  | d + 1, h => by
    show mu n c d + (9 - c d) * 11 ^ (n - d) = mu n c' d + (9 - c' d) * 11 ^ (n - d)
    rw [mu_cg d (fun i hi => h i (by omega)), h d (by omega)]
theorem up_e {c : Nat → Nat} {d v : Nat} : up c d v d = v := if_pos rfl
theorem up_n {c : Nat → Nat} {d v i : Nat} (h : i ≠ d) : up c d v i = c i := if_neg h
theorem p11 (n : Nat) : 0 < 11 ^ n := Nat.pow_pos (by omega)
theorem mt_stay {n : Nat} {c : Nat → Nat} {d : Nat} (h : c d ≤ 9) : mt n (up c d (c d + 1)) d < mt n c d := by
  unfold mt
  rw [mu_cg (c := up c d (c d + 1)) (c' := c) d (fun i hi => up_n (by omega)), up_e]
  have e : (10 - c d) * 11 ^ (n - d) = (9 - c d) * 11 ^ (n - d) + 11 ^ (n - d) := by
    rw [show 10 - c d = (9 - c d) + 1 by omega, Nat.succ_mul]
  have := p11 (n - d)
  rw [e, show 10 - (c d + 1) = 9 - c d by omega]
  omega
theorem mt_down {n : Nat} {c : Nat → Nat} {d : Nat} (h : c d ≤ 9) (hd : d < n) : mt n (up c (d + 1) 0) (d + 1) < mt n c d := by
  unfold mt
  rw [mu_cg (c := up c (d + 1) 0) (c' := c) (d + 1) (fun i hi => up_n (by omega)), up_e]
  have e : (10 - c d) * 11 ^ (n - d) = (9 - c d) * 11 ^ (n - d) + 11 ^ (n - d) := by
    rw [show 10 - c d = (9 - c d) + 1 by omega, Nat.succ_mul]
  have e2 : 11 ^ (n - d) = 11 ^ (n - (d + 1)) * 11 := by
    rw [← Nat.pow_succ]
    congr 1
    omega
  have := p11 (n - (d + 1))
  have e3 : mu n c (d + 1) = mu n c d + (9 - c d) * 11 ^ (n - d) := rfl
  rw [e, e3]
  omega
theorem mt_back {n : Nat} {c : Nat → Nat} {d : Nat} (h : c d ≤ 9) (h' : c (d + 1) ≤ 9) : mt n (up c d (c d + 1)) d < mt n c (d + 1) := by
  unfold mt
  rw [mu_cg (c := up c d (c d + 1)) (c' := c) d (fun i hi => up_n (by omega)), up_e]
  have e3 : mu n c (d + 1) = mu n c d + (9 - c d) * 11 ^ (n - d) := rfl
  have : 0 < (10 - c (d + 1)) * 11 ^ (n - (d + 1)) := Nat.mul_pos (by omega) (p11 _)
  rw [e3, show 10 - (c d + 1) = 9 - c d by omega]
  omega
theorem mt_pos {n : Nat} {c : Nat → Nat} {d : Nat} (h : c d ≤ 9) : 0 < mt n c d := by
  have : 0 < (10 - c d) * 11 ^ (n - d) := Nat.mul_pos (by omega) (p11 _)
  unfold mt
  omega
theorem mt_0 (n : Nat) (c : Nat → Nat) (h : n ≤ 8) : mt n c 0 < 1000000000000 := by
  have e : mt n c 0 = (10 - c 0) * 11 ^ n := by
    show 0 + (10 - c 0) * 11 ^ n = _
    omega
  have h1 : 11 ^ n ≤ 11 ^ 8 := Nat.pow_le_pow_right (by omega) h
  have h2 : (10 - c 0) * 11 ^ n ≤ 10 * 11 ^ 8 := Nat.mul_le_mul (by omega) h1
  have h3 : 10 * 11 ^ 8 < 1000000000000 := by decide
  omega
theorem num_stay {b : Nat} {c : Nat → Nat} {d : Nat} : num b (up c d (c d + 1)) (d + 1) = num b c (d + 1) + 1 := by
  show b * num b (up c d (c d + 1)) d + up c d (c d + 1) d = b * num b c d + c d + 1
  rw [num_cg (c := up c d (c d + 1)) (c' := c) d (fun i hi => up_n (by omega)), up_e]
  omega
theorem num_down {b n : Nat} {c : Nat → Nat} {d : Nat} (hd : d + 1 < n) : num b (up c (d + 1) 0) (d + 1 + 1) * b ^ (n - 1 - (d + 1)) = num b c (d + 1) * b ^ (n - 1 - d) := by
  have e : num b (up c (d + 1) 0) (d + 1 + 1) = b * num b c (d + 1) := by
    show b * num b (up c (d + 1) 0) (d + 1) + up c (d + 1) 0 (d + 1) = _
    rw [num_cg (c := up c (d + 1) 0) (c' := c) (d + 1) (fun i hi => up_n (by omega)), up_e]
    rfl
  rw [e, show n - 1 - d = n - 1 - (d + 1) + 1 by omega, Nat.pow_succ, Nat.mul_comm b, Nat.mul_assoc, Nat.mul_comm b]
theorem num_back {b n : Nat} {c : Nat → Nat} {d : Nat} (hd : d + 1 < n) (h : c (d + 1) = b) : num b (up c d (c d + 1)) (d + 1) * b ^ (n - 1 - d) = num b c (d + 1 + 1) * b ^ (n - 1 - (d + 1)) := by
  have e : num b c (d + 1 + 1) = b * num b c (d + 1) + c (d + 1) := rfl
  rw [num_stay, e, h, show n - 1 - d = n - 1 - (d + 1) + 1 by omega, Nat.pow_succ]
  generalize b ^ (n - 1 - (d + 1)) = Y
  generalize num b c (d + 1) = X
  rw [← Nat.mul_succ, Nat.mul_comm Y b, ← Nat.mul_assoc, Nat.mul_comm (X + 1) b]
end
section
set_option maxRecDepth 100000
/-! pure law 30: the best plan -/
theorem e1_le {a b : Nat} (ha : a < 2147483648) (hb : b < 2147483648) : (e1 a ≤ e1 b) = (a ≤ b) := by
  apply propext
  rw [Int32.le_iff_toInt_le, e1_toInt ha, e1_toInt hb]
  omega
noncomputable def svp (S : St) (x : Int32) (n k : Nat) : Nat := sbv S x (dgb 9 n k) n
def btp (o v : Nat) : Bool := decide (o < v)
theorem btp_t {o v : Nat} : (btp o v = true) = (o < v) := by
  unfold btp
  exact propext decide_eq_true_iff
noncomputable def pk (S : St) (x : Int32) (n : Nat) : Nat → Nat × Nat := fo btp (svp S x n)
theorem pk_s (S : St) (x : Int32) (n P : Nat) : pk S x n (P + 1) = if (pk S x n P).1 < svp S x n P then (svp S x n P, P + 1) else pk S x n P := by
  show (if btp (pk S x n P).1 (svp S x n P) = true then _ else _) = _
  by_cases q : (pk S x n P).1 < svp S x n P
  · rw [if_pos (btp_t ▸ q), if_pos q]
  · rw [if_neg (fun z => q (btp_t ▸ z)), if_neg q]
    rfl
theorem pk_b {S : St} (g : Good S) (x : Int32) (n P : Nat) : (pk S x n P).1 ≤ 4801 := fo_b (fun k => sbv_le g x _ n) P
theorem pkn_le (S : St) (x : Int32) (n P : Nat) : (pk S x n P).2 ≤ P := fo_le _ _ P
theorem pk_z (S : St) (x : Int32) (n : Nat) : ∀ P, (pk S x n P).2 = 0 → (pk S x n P).1 = 0
  | 0, _ => rfl
  | P + 1, h => by
    rw [pk_s] at h ⊢
    by_cases q : (pk S x n P).1 < svp S x n P
    · rw [if_pos q] at h
      cases h
    · rw [if_neg q] at h ⊢
      exact pk_z S x n P h
theorem dg8 : ∀ n, n < 5 → ∀ j, j < n → dgb 9 n (9 ^ n - 1) j = 8 := by decide
theorem p9 : ∀ n, n < 5 → 1 ≤ 9 ^ n ∧ 9 ^ n ≤ 6561 := by decide
theorem pk_full (S : St) (x : Int32) {n : Nat} (hn : n ≤ 4) : (pk S x n (9 ^ n)).2 ≠ 0 := by
  intro h
  have z := pk_z S x n _ h
  have p := p9 n (by omega)
  have e : 9 ^ n = 9 ^ n - 1 + 1 := by omega
  have v : 1 ≤ svp S x n (9 ^ n - 1) := by
    unfold svp sbv
    rw [if_pos (fun k hk => Or.inl (dg8 n (by omega) k hk))]
    omega
  rw [e, pk_s] at h z
  by_cases q : (pk S x n (9 ^ n - 1)).1 < svp S x n (9 ^ n - 1)
  · rw [if_pos q] at h
    cases h
  · rw [if_neg q] at z
    omega
noncomputable def oPlan (n x w : Int32) (S : St) : Int32 × St := if inR n 1 4 ∧ amn n.toNatClampNeg x ∧ (-1 ≤ w ∧ w ≤ n - 1) then (if w = -1 then e1 (pk S x n.toNatClampNeg (9 ^ n.toNatClampNeg)).1 else nI (dgb 9 n.toNatClampNeg ((pk S x n.toNatClampNeg (9 ^ n.toNatClampNeg)).2 - 1) w.toNatClampNeg), S) else (-3, S)
theorem w_in {w : Int32} {i : Nat} (hi : i ≤ 8) (h : -1 ≤ w ∧ w ≤ nI i - 1) : ∃ j, j ≤ i ∧ w = e1 j := by
  have h1 := Int32.le_iff_toInt_le.mp h.1
  have h2 := Int32.le_iff_toInt_le.mp h.2
  have e : nI i - 1 = e1 i := rfl
  rw [e, e1_toInt (by omega)] at h2
  rw [m1_toInt] at h1
  refine ⟨(w.toInt + 1).toNat, by omega, ?_⟩
  rw [← Int32.toInt_inj, e1_toInt (by omega)]
  omega
/-! the component -/
theorem x_layPlan {N : Nat} {σ : Hp} {f : Nat → Nat → Int32} (s : SX N σ) {n k : Nat} (hn : n ≤ 4) (hk : k < 10000) : ∃ f', F_X0_layPlan (hv σ f) N (nI k) (nI n) = some (hv σ f') ∧ (∀ j, j < n → f' (N + 230) j = nI (dgb 9 n k j)) ∧ ∀ a j, a ≠ N + 230 → f' a j = f a j := by
  unfold F_X0_layPlan L_X0_layPlan_7
  rw [gd_hv s.t0]
  obtain ⟨st, r, ⟨f', es, p1, p2⟩, e⟩ := it_invF (body := fun rec st => B_X0_layPlan_7 N rec st.1 st.2.1 st.2.2) (fun t st => ∃ f', st = (hv σ f', nI (k / 9 ^ t), e1 (n - t)) ∧ (∀ j, n - t ≤ j → j < n → f' (N + 230) j = nI (dgb 9 n k j)) ∧ ∀ a j, a ≠ N + 230 → f' a j = f a j) 0 n (by omega) (by omega) (fun t st _ ht hp => by
    obtain ⟨f1, rfl, p1, p2⟩ := hp
    have kl : k / 9 ^ t ≤ k := Nat.div_le_self _ _
    have e9 : k / 9 ^ (t + 1) = k / 9 ^ t / 9 := by rw [Nat.pow_succ, Nat.div_div_eq_div_mul]
    have dg : dgb 9 n k (n - t - 1) = k / 9 ^ t % 9 := by
      unfold dgb
      rw [show n - 1 - (n - t - 1) = t by omega]
    have d1 : nI (k / 9 ^ t) / nI 9 = nI (k / 9 ^ t / 9) := pk_div (by omega) (by omega) (by omega)
    have d2 : nI (k / 9 ^ t) - nI (k / 9 ^ t / 9 * 9) = nI (k / 9 ^ t % 9) := by
      rw [nI_sub (by omega)]
      exact congrArg nI (by omega)
    refine ⟨_, ⟨u2 f1 (N + 230) (n - t - 1) (nI (k / 9 ^ t % 9)), rfl, fun j h1 h2 => ?_, fun a j ha => (u2_n (by omega)).trans (p2 a j ha)⟩, fun rec => ?_⟩
    · by_cases q : j = n - t - 1
      · subst q
        rw [u2_e, dg]
      · rw [u2_n (by omega)]
        exact p1 j (by omega) h2
    · rw [e9, e1_of (by omega : 0 < n - t), show n - (t + 1) = n - t - 1 by omega]
      generalize k / 9 ^ t = K at d1 d2 kl
      simp (decide := true) (disch := omega) only [B_X0_layPlan_7, gd_hv s.t0, gI_hv s.t0, pI_hv s.t0, s.R19, s.A230, s.W230, b1_some, b2_some, litI, neg1, nI_add, nI_mul, e1_p1, nI_e0, ib, ib1, ite_not, if_true, if_false, not_true_eq_false, not_false_eq_true, setI_hv, lt_lit, show ¬ n - t - 1 < 0 by omega, d1, d2, nI_e]) (hv σ f, nI k, e1 n) ⟨f, by rw [Nat.pow_zero, Nat.div_one]; rfl, fun j h1 h2 => by omega, fun _ _ _ => rfl⟩
  subst es
  refine ⟨f', e.trans ?_, fun j hj => p1 j (by omega) hj, p2⟩
  rw [Nat.sub_self]
  simp (decide := true) (disch := omega) only [B_X0_layPlan_7, b1_some, b2_some, litI, neg1, nI_add, nI_mul, e1_p1, nI_e0, ib, ib1, ite_not, if_true, if_false, not_true_eq_false, not_false_eq_true, setI_hv, e1_lt, Nat.le_refl]
theorem x_plan (N : Nat) (n x w : Int32) : OkXf N (fun σ => F_X0_plan σ N n x w) (oPlan n x w) := by
  intro σ f S g h
  have s : SX N σ := h.1
  rcases in_split n 1 4 (by omega) (by omega) with ⟨i, h1, hi, rfl⟩ | hk
  case inr =>
    have e : oPlan n x w S = (-3, S) := if_neg (fun z => hk z.1)
    rw [e]
    refine ⟨f, ?_, h, fun _ _ _ => rfl⟩
    show F_X0_plan (hv σ f) N n x w = some (-3, hv σ f)
    unfold F_X0_plan
    rw [gd_hv s.t0, x_mins0 hk, b2_some]
    rfl
  by_cases qa : amn i x
  case neg =>
    have e : oPlan (nI i) x w S = (-3, S) := if_neg (fun z => qa (by have := z.2.1; rw [cl_I (by omega)] at this; exact this))
    rw [e]
    refine ⟨f, ?_, h, fun _ _ _ => rfl⟩
    show F_X0_plan (hv σ f) N (nI i) x w = some (-3, hv σ f)
    unfold F_X0_plan
    rw [gd_hv s.t0, x_mins h1 hi, if_neg qa, b2_some]
    rfl
  have wi : ∀ σ', F_X0_isIn σ' w.toInt64 (-1) (nI i - 1).toInt64 = some (if -1 ≤ w ∧ w ≤ nI i - 1 then 1 else 0, σ') := fun σ' => by
    have := x0_isIn σ' w (-1) (nI i - 1)
    exact this
  by_cases qw : -1 ≤ w ∧ w ≤ nI i - 1
  case neg =>
    have e : oPlan (nI i) x w S = (-3, S) := if_neg (fun z => qw z.2.2)
    rw [e]
    refine ⟨f, ?_, h, fun _ _ _ => rfl⟩
    show F_X0_plan (hv σ f) N (nI i) x w = some (-3, hv σ f)
    unfold F_X0_plan
    rw [gd_hv s.t0, x_mins h1 hi, if_pos qa, b2_some]
    rw [if_neg (by decide : ¬ nI 1 = 0), wi, if_neg qw, b2_some]
    rfl
  obtain ⟨f2, c1, c2, c3⟩ := x_costs g h
  have h2 : RepX N (hv σ f2) S := h.sx (fun a k ha => c3 a k (ha 231 (by omega)))
  have p := p9 i (by omega)
  obtain ⟨m, hm⟩ := it_FU (body := fun rec st => B_X0_plan_36 (hv σ f2) N (nI i) x w rec st.1 st.2) (fun k => (nI (9 ^ k), nI k)) 0 i (by omega) (by omega) (fun k _ hk rec => by
    show B_X0_plan_36 (hv σ f2) N (nI i) x w rec (nI (9 ^ k)) (nI k) = rec (nI (9 ^ k * 9), nI (k + 1))
    simp (decide := true) (disch := omega) only [B_X0_plan_36, b1_some, b2_some, litI, neg1, nI_add, nI_mul, e1_p1, nI_e0, ib, ib1, ite_not, if_true, if_false, not_true_eq_false, not_false_eq_true, setI_hv, le_lit, show ¬ i ≤ k by omega])
  have L0 : F_X0_plan (hv σ f) N (nI i) x w = F_X0_plan_55 (hv σ f2) N (nI i) x w (nI (9 ^ i)) := by
    unfold F_X0_plan
    rw [gd_hv s.t0, x_mins h1 hi, if_pos qa, b2_some]
    rw [if_neg (by decide : ¬ nI 1 = 0), wi, if_pos qw, b2_some]
    show b1 (F_X0_layCosts (hv σ f) N) _ = _
    rw [c1, b1_some]
    refine Eq.trans hm ?_
    simp (decide := true) (disch := omega) only [B_X0_plan_36, b1_some, b2_some, litI, neg1, nI_add, nI_mul, e1_p1, nI_e0, ib, ib1, ite_not, if_true, if_false, not_true_eq_false, not_false_eq_true, setI_hv, le_lit, Nat.le_refl]
  obtain ⟨st, r, ⟨f', es, p1, p2⟩, e⟩ := it_invF (body := fun rec st => B_X0_plan_64 N (nI i) x w (nI (9 ^ i)) rec st.1 st.2.1 st.2.2.1 st.2.2.2) (fun k st => ∃ f', st = (hv σ f', e1 (pk S x i k).2, e1 (pk S x i k).1, nI k) ∧ (∀ r, r < 8 → f' (N + 231) r = e1 (cst S r)) ∧ ∀ a j, (∀ o, (110 ≤ o ∧ o < 208) ∨ o = 230 → a ≠ N + o) → f' a j = f2 a j) 0 (9 ^ i) (by omega) (by omega) (fun k st _ hk hq => by
    obtain ⟨f1, rfl, p1, p2⟩ := hq
    have r1 : RepX N (hv σ f1) S := h2.sx (fun a k ha => p2 a k (fun o ho => ha o (by omega)))
    obtain ⟨f3, l1, l2, l3⟩ := x_layPlan (f := f1) s (n := i) (k := k) hi (by omega)
    have r3 : RepX N (hv σ f3) S := r1.sx (fun a k ha => l3 a k (ha 230 (by omega)))
    obtain ⟨f4, s1, s2⟩ := x_sb g r3 (n := i) (x := x) (p := dgb 9 i k) hi (fun j hj => ⟨by have := dgb_lt (n := i) (k := k) (i := j) (by omega : 0 < 9); omega, l2 j hj⟩) (fun r hr => (l3 _ _ (by omega)).trans (p1 r hr))
    have b1' := pk_b g x i k
    have b2' := sbv_le g x (dgb 9 i k) i
    refine ⟨_, ⟨f4, rfl, fun r hr => ?_, fun a j ha => ?_⟩, fun rec => ?_⟩
    · exact ((s2 _ _ (fun o _ _ => by omega)).trans (l3 _ _ (by omega))).trans (p1 r hr)
    · exact ((s2 a j (fun o h1 h2 => ha o (by omega))).trans (l3 a j (ha 230 (by omega)))).trans (p2 a j ha)
    · rw [pk_s]
      have ev : svp S x i k = sbv S x (dgb 9 i k) i := rfl
      rw [ev]
      by_cases q : (pk S x i k).1 < sbv S x (dgb 9 i k) i
      · rw [if_pos q]
        simp (decide := true) (disch := omega) only [B_X0_plan_64, b1_some, b2_some, litI, neg1, nI_add, nI_mul, e1_p1, nI_e0, ib, ib1, ite_not, if_true, if_false, not_true_eq_false, not_false_eq_true, setI_hv, le_lit, e1_le, show ¬ 9 ^ i ≤ k by omega, l1, s1, show ¬ sbv S x (dgb 9 i k) i ≤ (pk S x i k).1 by omega, e1_s]
      · rw [if_neg q]
        simp (decide := true) (disch := omega) only [B_X0_plan_64, b1_some, b2_some, litI, neg1, nI_add, nI_mul, e1_p1, nI_e0, ib, ib1, ite_not, if_true, if_false, not_true_eq_false, not_false_eq_true, setI_hv, le_lit, e1_le, show ¬ 9 ^ i ≤ k by omega, l1, s1, show sbv S x (dgb 9 i k) i ≤ (pk S x i k).1 by omega]) (hv σ f2, e1 0, e1 0, nI 0) ⟨f2, rfl, c2, fun _ _ _ => rfl⟩
  subst es
  have pf := pk_full S x hi
  have pl := pkn_le S x i (9 ^ i)
  obtain ⟨f3, l1, l2, l3⟩ := x_layPlan (f := f') s (n := i) (k := (pk S x i (9 ^ i)).2 - 1) hi (by omega)
  have r1 : RepX N (hv σ f') S := h2.sx (fun a k ha => p2 a k (fun o ho => ha o (by omega)))
  have r3 : RepX N (hv σ f3) S := r1.sx (fun a k ha => l3 a k (ha 230 (by omega)))
  obtain ⟨j, hj, ew⟩ := w_in (by omega) qw
  have L1 : F_X0_plan (hv σ f) N (nI i) x w = F_X0_plan_107 (hv σ f') N (nI i) w (e1 (pk S x i (9 ^ i)).2) (e1 (pk S x i (9 ^ i)).1) := by
    rw [L0]
    unfold F_X0_plan_55
    refine Eq.trans e ?_
    simp (decide := true) (disch := omega) only [B_X0_plan_64, b1_some, b2_some, litI, neg1, nI_add, nI_mul, e1_p1, nI_e0, ib, ib1, ite_not, if_true, if_false, not_true_eq_false, not_false_eq_true, setI_hv, le_lit, Nat.le_refl]
  have eo : oPlan (nI i) x w S = (if w = -1 then e1 (pk S x i (9 ^ i)).1 else nI (dgb 9 i ((pk S x i (9 ^ i)).2 - 1) w.toNatClampNeg), S) := by
    unfold oPlan
    rw [cl_I (by omega)]
    exact if_pos ⟨inR_of h1 hi (by omega), qa, qw⟩
  rw [eo]
  refine ⟨f3, ?_, r3, fun a k ha => ((l3 a k (by omega)).trans (p2 a k (fun o ho => by omega))).trans (c3 a k (by omega))⟩
  show F_X0_plan (hv σ f) N (nI i) x w = _
  rw [L1, e1_of (by omega)]
  by_cases z : j = 0
  · rw [ew, z]
    simp (decide := true) (disch := omega) only [F_X0_plan_107, b1_some, b2_some, litI, neg1, nI_add, nI_mul, e1_p1, nI_e0, ib, ib1, ite_not, if_true, if_false, not_true_eq_false, not_false_eq_true, setI_hv, l1]
  · rw [ew, e1_of (by omega)]
    have e5 := l2 (j - 1) (by omega)
    simp (decide := true) (disch := omega) only [F_X0_plan_107, gd_hv s.t0, gI_hv s.t0, pI_hv s.t0, s.R19, s.A230, s.W230, b1_some, b2_some, litI, neg1, nI_add, nI_mul, e1_p1, nI_e0, ib, ib1, ite_not, if_true, if_false, not_true_eq_false, not_false_eq_true, setI_hv, l1, e5, cl_I]
end
section
set_option maxRecDepth 100000
/-! pure law 31: the best plan, by the twin -/
theorem RowsAt.cg {M : Nat} {F : Nat → Nat → Int32} {S : St} {p q : Nat → Nat} {k : Nat} (h : RowsAt M F S p k) (e : ∀ j, j < k → p j = q j) : RowsAt M F S q k := fun i hi c hc => by
  rw [← lvs_cg (S := S) i (fun j hj => e j (by omega))]
  exact h i hi c hc
theorem RowsAt.fr {M : Nat} {F F' : Nat → Nat → Int32} {S : St} {p : Nat → Nat} {k : Nat} (h : RowsAt M F S p k) (e : ∀ a j, a = M + 12 ∨ a = M + 13 → F' a j = F a j) : RowsAt M F' S p k := fun i hi c hc => by
  rw [e _ _ (Or.inl rfl), e _ _ (Or.inr rfl)]
  exact h i hi c hc
def BestAt (M : Nat) (F : Nat → Nat → Int32) (n k : Nat) : Prop := k ≠ 0 → ∀ i, i < n → F (M + 15) i = nI (dgb 9 n (k - 1) i)
/-- what the copying of a leaf's word leaves -/
def lfF (M n o v : Nat) (F : Nat → Nat → Int32) : Nat → Nat → Int32 := if o < v + 1 then fy F (M + 15) n (fun j => F (M + 14) j) else F
theorem lf_off {M n o v : Nat} {F : Nat → Nat → Int32} {a j : Nat} (h : a ≠ M + 15) : lfF M n o v F a j = F a j := by
  unfold lfF
  split
  · exact fy_off (fun z => h z.1)
  · rfl
theorem m_leaf {M : Nat} {σ : Hp} {F : Nat → Nat → Int32} (s : SM M σ) {n o v : Nat} {x w x5 : Int32} (hn : n ≤ 4) (ho : o < 100000) (hv' : v < 100000) (rec : Hp × Int32 × Int32 → Option (Int32 × Hp)) : L_X10_plan_120 rec M (nI n) x w (e1 o) x5 (nI v) FU (hv σ F, nI 0) = rec (hv σ (lfF M n o v F), e1 (if o < v + 1 then v + 1 else o), x5 + e1 0) := by
  unfold L_X10_plan_120 lfF
  by_cases q : o < v + 1
  · obtain ⟨m, hm⟩ := it_FU (body := fun rec' st => B_X10_plan_120 rec M (nI n) x w (e1 o) x5 (nI v) rec' st.1 st.2) (fun i => (hv σ (fy F (M + 15) i (fun j => F (M + 14) j)), nI i)) 0 n (by omega) (by omega) (fun i _ hi rec' => by
      have e14 : fy F (M + 15) i (fun j => F (M + 14) j) (M + 14) i = F (M + 14) i := fy_off (by omega)
      show B_X10_plan_120 rec M (nI n) x w (e1 o) x5 (nI v) rec' (hv σ (fy F (M + 15) i (fun j => F (M + 14) j))) (nI i) = rec' (hv σ (fy F (M + 15) (i + 1) (fun j => F (M + 14) j)), nI (i + 1))
      rw [← fy_grow]
      generalize fy F (M + 15) i (fun j => F (M + 14) j) = F1 at e14
      simp (decide := true) (disch := omega) only [B_X10_plan_120, gd_hv s.1, gI_hv s.1, pI_hv s.1, s.R17, s.A17, s.W17, s.R18, s.A18, s.W18, b1_some, b2_some, litI, neg1, nI_add, nI_mul, e1_p1, nI_e0, ib, ib1, ite_not, if_true, if_false, not_true_eq_false, not_false_eq_true, setI_hv, le_lit, nI_le_e1, show ¬ n ≤ i by omega, show ¬ v < o by omega, e14])
    rw [fy_0] at hm
    refine hm.trans ?_
    rw [if_pos q, if_pos q]
    simp (decide := true) (disch := omega) only [B_X10_plan_120, F_X10_plan_153, b1_some, b2_some, litI, neg1, nI_add, nI_mul, e1_p1, nI_e0, ib, ib1, ite_not, if_true, if_false, not_true_eq_false, not_false_eq_true, setI_hv, le_lit, nI_le_e1, Nat.le_refl, show ¬ v < o by omega, e1_s]
  · obtain ⟨m, hm⟩ := it_FU (body := fun rec' st => B_X10_plan_120 rec M (nI n) x w (e1 o) x5 (nI v) rec' st.1 st.2) (fun k => (hv σ F, nI 0)) 0 0 (by omega) (by omega) (fun k _ hk rec => by omega)
    refine hm.trans ?_
    rw [if_neg q, if_neg q]
    by_cases z : n = 0
    · simp (decide := true) (disch := omega) only [B_X10_plan_120, F_X10_plan_153, b1_some, b2_some, litI, neg1, nI_add, nI_mul, e1_p1, nI_e0, ib, ib1, ite_not, if_true, if_false, not_true_eq_false, not_false_eq_true, setI_hv, le_lit, nI_le_e1, z, show v < o by omega, Nat.le_refl]
    · simp (decide := true) (disch := omega) only [B_X10_plan_120, F_X10_plan_153, b1_some, b2_some, litI, neg1, nI_add, nI_mul, e1_p1, nI_e0, ib, ib1, ite_not, if_true, if_false, not_true_eq_false, not_false_eq_true, setI_hv, le_lit, nI_le_e1, show ¬ n ≤ 0 by omega, show v < o by omega]
/-- the walk of the tree: where it is, what is behind -/
def PI (M : Nat) (σ : Hp) (f : Nat → Nat → Int32) (S : St) (x : Int32) (n m : Nat) (st : Hp × Int32 × Int32) : Prop := ∃ F, RepM M (hv σ F) S ∧ (∀ a j, a < M ∨ M + 26 ≤ a → F a j = f a j) ∧
  ((∃ c d, d < n ∧ (∀ i, i < d → c i ≤ 8) ∧ c d ≤ 9 ∧ m = mt n c d ∧ st = (hv σ F, e1 (pk S x n (num 9 c (d + 1) * 9 ^ (n - 1 - d))).1, nI d) ∧ (∀ i, i < d → F (M + 14) i = nI (c i)) ∧ F (M + 14) d = e1 (c d) ∧ (∀ i, i < d → gne S x i (c i)) ∧ RowsAt M F S c d ∧ BestAt M F n (pk S x n (num 9 c (d + 1) * 9 ^ (n - 1 - d))).2) ∨
   (m = 0 ∧ st = (hv σ F, e1 (pk S x n (9 ^ n)).1, e1 0) ∧ BestAt M F n (pk S x n (9 ^ n)).2))
/-- where it ends -/
def PD (M : Nat) (σ : Hp) (f : Nat → Nat → Int32) (S : St) (x : Int32) (n : Nat) (st : Hp × Int32 × Int32) : Prop := ∃ F, RepM M (hv σ F) S ∧ (∀ a j, a < M ∨ M + 26 ≤ a → F a j = f a j) ∧ st = (hv σ F, e1 (pk S x n (9 ^ n)).1, e1 0) ∧ BestAt M F n (pk S x n (9 ^ n)).2
theorem pi_step {M : Nat} {σ : Hp} {f : Nat → Nat → Int32} {S : St} (g : Good S) {x w : Int32} {n : Nat} (h1 : 1 ≤ n) (hn : n ≤ 4) (m : Nat) (st : Hp × Int32 × Int32) (hp : PI M σ f S x n m st) : PD M σ f S x n st ∨ ∃ m' st', m' < m ∧ PI M σ f S x n m' st' ∧ ∀ rec, B_X10_plan_39 M (nI n) x w rec st.1 st.2.1 st.2.2 = rec st' := by
  obtain ⟨F, rp, off, hq⟩ := hp
  rcases hq with ⟨c, d, hd, hc, hcd, em, es, k1, k2, k3, k4, k5⟩ | ⟨em, es, k5⟩
  case inr => exact Or.inl ⟨F, rp, off, es, k5⟩
  right
  have s : SM M σ := rp.1
  subst es
  have pb := pk_b g x n (num 9 c (d + 1) * 9 ^ (n - 1 - d))
  have r1 : RepM M (hv σ (u2 F (M + 14) d (nI (c d)))) S := rp.sa 14 (by omega) (fun a j ha => u2_n (by omega))
  by_cases q9 : c d = 9
  · -- all of this level are behind
    cases d with
    | zero =>
      have eP : num 9 c (0 + 1) * 9 ^ (n - 1 - 0) = 9 ^ n := by
        show (9 * 0 + c 0) * 9 ^ (n - 1 - 0) = 9 ^ n
        rw [q9, show (9 : Nat) * 0 + 9 = 9 by omega, Nat.mul_comm, ← Nat.pow_succ]
        exact congrArg (fun k => 9 ^ k) (by omega)
      refine ⟨0, (hv σ (u2 F (M + 14) 0 (nI (c 0))), e1 (pk S x n (9 ^ n)).1, e1 0), by rw [em]; exact mt_pos (by omega), ⟨_, r1, fun a j ha => (u2_n (by omega)).trans (off a j ha), Or.inr ⟨rfl, rfl, fun z i hi => (u2_n (by omega)).trans (by rw [eP] at k5; exact k5 z i hi)⟩⟩, fun rec => ?_⟩
      rw [eP]
      rw [q9] at k2 ⊢
      simp (decide := true) (disch := omega) only [B_X10_plan_39, gd_hv s.1, gI_hv s.1, pI_hv s.1, s.R17, s.A17, s.W17, b1_some, b2_some, litI, neg1, nI_add, nI_mul, e1_p1, nI_e0, ib, ib1, ite_not, if_true, if_false, not_true_eq_false, not_false_eq_true, setI_hv, lt_lit, le_lit, show ¬ 0 < 0 by omega, k2, u2_e, nI_e]
    | succ d =>
      have hcd' := hc d (by omega)
      have eP := num_back (b := 9) (n := n) (c := c) hd q9
      refine ⟨mt n (up c d (c d + 1)) d, (hv σ (u2 F (M + 14) (d + 1) (nI (c (d + 1)))), e1 (pk S x n (num 9 (up c d (c d + 1)) (d + 1) * 9 ^ (n - 1 - d))).1, nI d), by rw [em]; exact mt_back (by omega) (by omega), ⟨_, r1, fun a j ha => (u2_n (by omega)).trans (off a j ha), Or.inl ⟨up c d (c d + 1), d, by omega, fun i hi => by rw [up_n (by omega)]; exact hc i (by omega), by rw [up_e]; omega, rfl, rfl, fun i hi => ?_, ?_, fun i hi => by rw [up_n (by omega)]; exact k3 i (by omega), ?_, ?_⟩⟩, fun rec => ?_⟩
      · rw [u2_n (by omega), up_n (by omega)]
        exact k1 i (by omega)
      · rw [u2_n (by omega), up_e, e1_s]
        exact k1 d (by omega)
      · refine RowsAt.cg (p := c) (fun i hi => ?_) (fun j hj => (up_n (by omega)).symm)
        exact RowsAt.fr k4 (fun a j ha => u2_n (by omega)) i (by omega)
      · rw [eP]
        exact fun z i hi => (u2_n (by omega)).trans (k5 z i hi)
      · rw [eP]
        rw [q9] at k2 ⊢
        generalize e1 (pk S x n (num 9 c (d + 1 + 1) * 9 ^ (n - 1 - (d + 1)))).1 = y
        simp (decide := true) (disch := omega) only [B_X10_plan_39, gd_hv s.1, gI_hv s.1, pI_hv s.1, s.R17, s.A17, s.W17, b1_some, b2_some, litI, neg1, nI_add, nI_mul, e1_p1, nI_e0, ib, ib1, ite_not, if_true, if_false, not_true_eq_false, not_false_eq_true, setI_hv, lt_lit, le_lit, show ¬ d + 1 < 0 by omega, k2, u2_e, nI_e, e1_s]
  · have hc8 : c d ≤ 8 := by omega
    have ra : RowsAt M (u2 F (M + 14) d (nI (c d))) S c d := RowsAt.fr k4 (fun a j ha => u2_n (by omega))
    obtain ⟨F2, t1, t2, t3, t4, t5⟩ := m_step g r1 (k := d) (x := x) (p := c) (by omega) hc8 ra
    have c14 : ∀ i, i < d → F2 (M + 14) i = nI (c i) := fun i hi => (t2 _ _ (by omega) (by omega) (by omega)).trans ((u2_n (by omega)).trans (k1 i hi))
    have c14d : F2 (M + 14) d = nI (c d) := (t2 _ _ (by omega) (by omega) (by omega)).trans u2_e
    have b15 : ∀ i, F2 (M + 15) i = F (M + 15) i := fun i => (t2 _ _ (by omega) (by omega) (by omega)).trans (u2_n (by omega))
    have o2 : ∀ a j, a < M ∨ M + 26 ≤ a → F2 a j = f a j := fun a j ha => (t2 _ _ (by omega) (by omega) (by omega)).trans ((u2_n (by omega)).trans (off a j ha))
    have pw : 0 < 9 ^ (n - 1 - d) := Nat.pow_pos (by omega)
    have dig : ∀ r, r < 9 ^ (n - 1 - d) → ∀ i, i ≤ d → dgb 9 n (num 9 c (d + 1) * 9 ^ (n - 1 - d) + r) i = c i := fun r hr i hi => dgb_num (fun k hk => by
      by_cases z : k = d
      · rw [z]; omega
      · have := hc k (by omega); omega) hd hr hi
    by_cases gn : gne S x d (c d)
    · rw [if_pos gn] at t1
      have ra' := t4 gn
      by_cases qn : d + 1 = n
      · -- a leaf
        have al := m_all g (F := u2 F2 (M + 14) (d + 1) (e1 0)) (t5.sa 14 (by omega) (fun a j ha => u2_n (by omega))) (n := n) (K := (lvs S c n).1) hn (fun k hk => by
          rw [u2_n (by omega)]
          rw [qn] at ra'
          exact (ra' n (Nat.le_refl _) k hk).1)
        have z0 : n - 1 - d = 0 := by omega
        have eP : num 9 c (d + 1) * 9 ^ (n - 1 - d) = num 9 c (d + 1) := by rw [z0, Nat.pow_zero, Nat.mul_one]
        have eP' : num 9 (up c d (c d + 1)) (d + 1) * 9 ^ (n - 1 - d) = num 9 c (d + 1) + 1 := by rw [num_stay, z0, Nat.pow_zero, Nat.mul_one]
        have sl := sts_le (T := S.2 9) (fun k hk => (lvs_b g c n k hk).1)
        have ev : svp S x n (num 9 c (d + 1)) = sts (S.2 9) (lvs S c n).1 + 1 := by
          unfold svp
          rw [sbv_cg (q := c) (fun k hk => by
            have := dig 0 pw k (by omega)
            rw [eP] at this
            exact this)]
          exact if_pos (fun k hk => by
            by_cases z : k = d
            · rw [z]; exact gn
            · exact k3 k (by omega))
        rw [eP] at pb k5
        obtain ⟨v, hv'⟩ : ∃ v, v = sts (S.2 9) (lvs S c n).1 := ⟨_, rfl⟩
        rw [← hv'] at al sl ev
        obtain ⟨o, ho⟩ : ∃ o, o = (pk S x n (num 9 c (d + 1))).1 := ⟨_, rfl⟩
        have lf := fun rec => m_leaf (M := M) (σ := σ) (F := u2 F2 (M + 14) (d + 1) (e1 0)) s (n := n) (o := o) (v := v) (x := x) (w := w) (x5 := nI (d + 1)) hn (by omega) (by omega) rec
        have rL : RepM M (hv σ (lfF M n o v (u2 F2 (M + 14) (d + 1) (e1 0)))) S := (t5.sa (f' := u2 F2 (M + 14) (d + 1) (e1 0)) 14 (by omega) (fun a j ha => u2_n (by omega))).sa 15 (by omega) (fun a j ha => lf_off ha)
        have ps : pk S x n (num 9 c (d + 1) + 1) = if o < v + 1 then (v + 1, num 9 c (d + 1) + 1) else pk S x n (num 9 c (d + 1)) := by
          rw [pk_s, ev, ho]
        refine ⟨mt n (up c d (c d + 1)) d, (hv σ (lfF M n o v (u2 F2 (M + 14) (d + 1) (e1 0))), e1 (pk S x n (num 9 (up c d (c d + 1)) (d + 1) * 9 ^ (n - 1 - d))).1, nI d), by rw [em]; exact mt_stay (by omega), ⟨_, rL, fun a j ha => ?_, Or.inl ⟨up c d (c d + 1), d, hd, fun i hi => by rw [up_n (by omega)]; exact hc i hi, by rw [up_e]; omega, rfl, rfl, fun i hi => ?_, ?_, fun i hi => by rw [up_n (by omega)]; exact k3 i hi, ?_, ?_⟩⟩, fun rec => ?_⟩
        · rw [lf_off (by omega), u2_n (by omega)]
          exact o2 a j ha
        · rw [lf_off (by omega), u2_n (by omega), up_n (by omega)]
          exact c14 i hi
        · rw [lf_off (by omega), u2_n (by omega), up_e, e1_s]
          exact c14d
        · refine RowsAt.cg (p := c) (RowsAt.fr t3 (fun a j ha => ?_)) (fun j hj => (up_n (by omega)).symm)
          rw [lf_off (by omega), u2_n (by omega)]
        · rw [eP', ps]
          intro z i hi
          unfold lfF
          by_cases q : o < v + 1
          · rw [if_pos q, if_pos q, fy_rd hi]
            have e := dig 0 pw i (by omega)
            rw [eP] at e
            show u2 F2 (M + 14) (d + 1) (e1 0) (M + 14) i = nI (dgb 9 n (num 9 c (d + 1) + 1 - 1) i)
            rw [Nat.add_sub_cancel, u2_n (by omega)]
            have e' : dgb 9 n (num 9 c (d + 1)) i = c i := e
            rw [e']
            by_cases zi : i = d
            · rw [zi]; exact c14d
            · exact c14 i (by omega)
          · rw [if_neg q] at z ⊢
            rw [if_neg q, u2_n (by omega), b15]
            exact k5 z i hi
        · have e5 : e1 (pk S x n (num 9 (up c d (c d + 1)) (d + 1) * 9 ^ (n - 1 - d))).1 = e1 (if o < v + 1 then v + 1 else o) := by
            rw [eP', ps]
            by_cases q : o < v + 1
            · rw [if_pos q, if_pos q]
            · rw [if_neg q, if_neg q, ho]
          rw [e5, eP, ← ho]
          have e6 : nI (d + 1) + e1 0 = nI d := by rw [nI_e, e1_s]
          have lf' := lf rec
          rw [e6] at lf'
          rw [← lf']
          have al' := al
          rw [← qn] at al' ⊢
          simp (decide := true) (disch := omega) only [B_X10_plan_39, gd_hv s.1, gI_hv s.1, pI_hv s.1, s.R17, s.A17, s.W17, b1_some, b2_some, litI, neg1, nI_add, nI_mul, e1_p1, nI_e0, ib, ib1, ite_not, if_true, if_false, not_true_eq_false, not_false_eq_true, setI_hv, lt_lit, le_lit, eq_lit, show ¬ d < 0 by omega, hc8, k2, u2_e, t1, al']
      · -- one level further
        have eP := num_down (b := 9) (n := n) (c := c) (d := d) (by omega)
        refine ⟨mt n (up c (d + 1) 0) (d + 1), (hv σ (u2 F2 (M + 14) (d + 1) (e1 0)), e1 (pk S x n (num 9 (up c (d + 1) 0) (d + 1 + 1) * 9 ^ (n - 1 - (d + 1)))).1, nI (d + 1)), by rw [em]; exact mt_down (by omega) hd, ⟨_, t5.sa 14 (by omega) (fun a j ha => u2_n (by omega)), fun a j ha => (u2_n (by omega)).trans (o2 a j ha), Or.inl ⟨up c (d + 1) 0, d + 1, by omega, fun i hi => ?_, by rw [up_e]; omega, rfl, rfl, fun i hi => ?_, ?_, fun i hi => ?_, ?_, ?_⟩⟩, fun rec => ?_⟩
        · rw [up_n (by omega)]
          by_cases z : i = d
          · rw [z]; exact hc8
          · exact hc i (by omega)
        · rw [u2_n (by omega), up_n (by omega)]
          by_cases z : i = d
          · rw [z]; exact c14d
          · exact c14 i (by omega)
        · rw [u2_e, up_e]
        · rw [up_n (by omega)]
          by_cases z : i = d
          · rw [z]; exact gn
          · exact k3 i (by omega)
        · exact RowsAt.cg (p := c) (RowsAt.fr ra' (fun a j ha => u2_n (by omega))) (fun j hj => (up_n (by omega)).symm)
        · rw [eP]
          intro z i hi
          show u2 F2 (M + 14) (d + 1) (e1 0) (M + 15) i = _
          rw [u2_n (by omega), b15]
          exact k5 z i hi
        · rw [eP]
          generalize e1 (pk S x n (num 9 c (d + 1) * 9 ^ (n - 1 - d))).1 = y
          simp (decide := true) (disch := omega) only [B_X10_plan_39, gd_hv s.1, gI_hv s.1, pI_hv s.1, s.R17, s.A17, s.W17, b1_some, b2_some, litI, neg1, nI_add, nI_mul, e1_p1, nI_e0, ib, ib1, ite_not, if_true, if_false, not_true_eq_false, not_false_eq_true, setI_hv, lt_lit, le_lit, eq_lit, show ¬ d < 0 by omega, hc8, k2, u2_e, t1, qn]
    · -- none of what begins so is gone
      rw [if_neg gn] at t1
      have eP' : num 9 (up c d (c d + 1)) (d + 1) * 9 ^ (n - 1 - d) = num 9 c (d + 1) * 9 ^ (n - 1 - d) + 9 ^ (n - 1 - d) := by
        rw [num_stay, Nat.succ_mul]
      have sk : pk S x n (num 9 c (d + 1) * 9 ^ (n - 1 - d) + 9 ^ (n - 1 - d)) = pk S x n (num 9 c (d + 1) * 9 ^ (n - 1 - d)) := fo_skip _ (fun k h1 h2 z => by
        rw [btp_t] at z
        have e : svp S x n k = 0 := by
          unfold svp
          refine if_neg (fun y => gn ?_)
          have e2 := dig (k - num 9 c (d + 1) * 9 ^ (n - 1 - d)) (by omega) d (Nat.le_refl _)
          rw [show num 9 c (d + 1) * 9 ^ (n - 1 - d) + (k - num 9 c (d + 1) * 9 ^ (n - 1 - d)) = k by omega] at e2
          have := y d hd
          rw [e2] at this
          exact this
        omega)
      refine ⟨mt n (up c d (c d + 1)) d, (hv σ F2, e1 (pk S x n (num 9 (up c d (c d + 1)) (d + 1) * 9 ^ (n - 1 - d))).1, nI d), by rw [em]; exact mt_stay (by omega), ⟨F2, t5, o2, Or.inl ⟨up c d (c d + 1), d, hd, fun i hi => by rw [up_n (by omega)]; exact hc i hi, by rw [up_e]; omega, rfl, rfl, fun i hi => ?_, ?_, fun i hi => by rw [up_n (by omega)]; exact k3 i hi, ?_, ?_⟩⟩, fun rec => ?_⟩
      · rw [up_n (by omega)]
        exact c14 i hi
      · rw [up_e, e1_s]
        exact c14d
      · exact RowsAt.cg (p := c) t3 (fun j hj => (up_n (by omega)).symm)
      · rw [eP', sk]
        intro z i hi
        rw [b15]
        exact k5 z i hi
      · rw [eP', sk]
        generalize e1 (pk S x n (num 9 c (d + 1) * 9 ^ (n - 1 - d))).1 = y
        simp (decide := true) (disch := omega) only [B_X10_plan_39, gd_hv s.1, gI_hv s.1, pI_hv s.1, s.R17, s.A17, s.W17, b1_some, b2_some, litI, neg1, nI_add, nI_mul, e1_p1, nI_e0, ib, ib1, ite_not, if_true, if_false, not_true_eq_false, not_false_eq_true, setI_hv, lt_lit, le_lit, eq_lit, show ¬ d < 0 by omega, hc8, k2, u2_e, t1]
theorem m_plan (M : Nat) (n x w : Int32) : OkMf M (fun σ => F_X10_plan σ M n x w) (oPlan n x w) := by
  intro σ f S g h
  have s : SM M σ := h.1
  rcases in_split n 1 4 (by omega) (by omega) with ⟨i, h1, hi, rfl⟩ | hk
  case inr =>
    have e : oPlan n x w S = (-3, S) := if_neg (fun z => hk z.1)
    rw [e]
    refine ⟨f, ?_, h, fun _ _ _ => rfl⟩
    show F_X10_plan (hv σ f) M n x w = some (-3, hv σ f)
    unfold F_X10_plan
    rw [gd_hv s.1, m_mins0 hk, b2_some]
    rfl
  by_cases qa : amn i x
  case neg =>
    have e : oPlan (nI i) x w S = (-3, S) := if_neg (fun z => qa (by have := z.2.1; rw [cl_I (by omega)] at this; exact this))
    rw [e]
    refine ⟨f, ?_, h, fun _ _ _ => rfl⟩
    show F_X10_plan (hv σ f) M (nI i) x w = some (-3, hv σ f)
    unfold F_X10_plan
    rw [gd_hv s.1, m_mins h1 hi, if_neg qa, b2_some]
    rfl
  by_cases qw : -1 ≤ w ∧ w ≤ nI i - 1
  case neg =>
    have e : oPlan (nI i) x w S = (-3, S) := if_neg (fun z => qw z.2.2)
    rw [e]
    refine ⟨f, ?_, h, fun _ _ _ => rfl⟩
    show F_X10_plan (hv σ f) M (nI i) x w = some (-3, hv σ f)
    unfold F_X10_plan
    rw [gd_hv s.1, m_mins h1 hi, if_pos qa, b2_some, if_neg (by decide : ¬ nI 1 = 0), x10_in, if_neg qw, b2_some]
    rfl
  have r0 := m_rows0 g h (fun _ => 0)
  obtain ⟨F0, hF0⟩ : ∃ F0, F0 = fz (fz f (M + 12) 48 (S.2 10)) (M + 13) 48 (S.2 12) := ⟨_, rfl⟩
  have L0 : F_X10_plan (hv σ f) M (nI i) x w = it (fun rec st => B_X10_plan_39 M (nI i) x w rec st.1 st.2.1 st.2.2) FU (hv σ (u2 F0 (M + 14) 0 (e1 0)), e1 0, nI 0) := by
    unfold F_X10_plan
    rw [gd_hv s.1, m_mins h1 hi, if_pos qa, b2_some, if_neg (by decide : ¬ nI 1 = 0), x10_in, if_pos qw, b2_some, if_neg (by decide : ¬ (1 : Int32) = 0), m_look g h, b1_some, ← hF0]
    simp (decide := true) (disch := omega) only [gd_hv s.1, gI_hv s.1, pI_hv s.1, s.R17, s.A17, s.W17, b1_some, b2_some, litI, neg1, nI_add, nI_mul, e1_p1, nI_e0, ib, ib1, ite_not, if_true, if_false, not_true_eq_false, not_false_eq_true, setI_hv]
    rfl
  rw [← hF0] at r0
  have n0 : num 9 (fun _ => 0) (0 + 1) * 9 ^ (i - 1 - 0) = 0 := by
    show (9 * 0 + 0) * _ = 0
    omega
  obtain ⟨st, r, ⟨F, rp, off, es, ba⟩, e⟩ := it_muF (body := fun rec st => B_X10_plan_39 M (nI i) x w rec st.1 st.2.1 st.2.2) (PI M σ f S x i) (PD M σ f S x i) (pi_step g h1 hi) (mt i (fun _ => 0) 0) (hv σ (u2 F0 (M + 14) 0 (e1 0)), e1 0, nI 0) ⟨_, r0.2.sa 14 (by omega) (fun a j ha => u2_n (by omega)), fun a j ha => by rw [u2_n (by omega), hF0, fz_off (by omega), fz_off (by omega)], Or.inl ⟨fun _ => 0, 0, by omega, fun i hi => by omega, Nat.zero_le 9, rfl, by rw [n0]; rfl, fun i hi => by omega, u2_e, fun i hi => by omega, RowsAt.fr r0.1 (fun a j ha => u2_n (by omega)), fun z => absurd (by rw [n0]; rfl) z⟩⟩ (mt_0 _ _ (by omega))
  subst es
  have pf := pk_full S x hi
  have eo : oPlan (nI i) x w S = (if w = -1 then e1 (pk S x i (9 ^ i)).1 else nI (dgb 9 i ((pk S x i (9 ^ i)).2 - 1) w.toNatClampNeg), S) := by
    unfold oPlan
    rw [cl_I (by omega)]
    exact if_pos ⟨inR_of h1 hi (by omega), qa, qw⟩
  rw [eo]
  refine ⟨F, ?_, rp, off⟩
  show F_X10_plan (hv σ f) M (nI i) x w = _
  rw [L0]
  refine Eq.trans e ?_
  obtain ⟨j, hj, ew⟩ := w_in (by omega) qw
  by_cases z : j = 0
  · rw [ew, z]
    simp (decide := true) (disch := omega) only [B_X10_plan_39, F_X10_plan_175, b1_some, b2_some, litI, neg1, nI_add, nI_mul, e1_p1, nI_e0, ib, ib1, ite_not, if_true, if_false, not_true_eq_false, not_false_eq_true, setI_hv, e1_lt, Nat.le_refl]
  · rw [ew, e1_of (by omega)]
    have e5 := ba pf (j - 1) (by omega)
    simp (decide := true) (disch := omega) only [B_X10_plan_39, F_X10_plan_175, gd_hv s.1, gI_hv s.1, pI_hv s.1, s.R18, s.A18, s.W18, b1_some, b2_some, litI, neg1, nI_add, nI_mul, e1_p1, nI_e0, ib, ib1, ite_not, if_true, if_false, not_true_eq_false, not_false_eq_true, setI_hv, e1_lt, Nat.le_refl, e5, cl_I]
end
section
set_option maxRecDepth 100000
/-! pure law 32: the things at hand -/
def hdv (x : Int64) (k : Nat) : Nat := (x >>> ((nI (5 * k)).toInt64 &&& 63)).toBitVec.toNat % 32
theorem hdv_lt (x : Int64) (k : Nat) : hdv x k < 32 := Nat.mod_lt _ (by omega)
theorem hd_m (x : Int64) : (x &&& 31 : Int64).toInt32 = nI (x.toBitVec.toNat % 32) := by
  apply Int32.toBitVec_inj.1
  apply BitVec.eq_of_toNat_eq
  have e : (31 : Nat) = 2 ^ 5 - 1 := by decide
  have e2 : (x &&& 31 : Int64).toBitVec.toNat = x.toBitVec.toNat % 32 := by
    show (x.toBitVec &&& 31#64).toNat = _
    rw [BitVec.toNat_and]
    show x.toBitVec.toNat &&& 31 = _
    rw [e, Nat.and_two_pow_sub_one_eq_mod]
  show _ = (BitVec.ofNat 32 (x.toBitVec.toNat % 32)).toNat
  rw [Int64.toBitVec_toInt32, BitVec.signExtend_eq_setWidth_of_le _ (by decide), BitVec.toNat_setWidth, BitVec.toNat_ofNat, e2]
theorem hd_eq (x : Int64) (k : Nat) : ((x >>> ((nI (5 * k)).toInt64 &&& 63)) &&& 31 : Int64).toInt32 = nI (hdv x k) := hd_m _
abbrev thr (n : Nat) (x : Int64) : Prop := ∀ k, k < n → hdv x k ≤ 23
abbrev unq (n : Nat) (c : Nat → Nat) : Prop := ∀ k, k < n → ∀ j, j < k → c j ≠ c k
theorem thr_s (n : Nat) (x : Int64) : thr (n + 1) x ↔ thr n x ∧ hdv x n ≤ 23 := by
  constructor
  · intro h
    exact ⟨fun k hk => h k (by omega), h n (by omega)⟩
  · intro h k hk
    by_cases e : k = n
    · rw [e]; exact h.2
    · exact h.1 k (by omega)
theorem unq_s (n : Nat) (c : Nat → Nat) : unq (n + 1) c ↔ unq n c ∧ ∀ j, j < n → c j ≠ c n := by
  constructor
  · intro h
    exact ⟨fun k hk => h k (by omega), h n (by omega)⟩
  · intro h k hk
    by_cases e : k = n
    · rw [e]; exact h.2
    · exact h.1 k (by omega)
/-! sets of bits -/
def tb (y : Int32) (v : Nat) : Prop := (y >>> (nI v &&& nI 31)) &&& nI 1 = nI 1
theorem and1 (y : Int32) : y &&& nI 1 = nI 0 ∨ y &&& nI 1 = nI 1 := by
  have e : y &&& nI 1 = nI (y.toBitVec.toNat % 2) := by
    apply Int32.toBitVec_inj.1
    apply BitVec.eq_of_toNat_eq
    show (y.toBitVec &&& 1#32).toNat = (BitVec.ofNat 32 (y.toBitVec.toNat % 2)).toNat
    rw [BitVec.toNat_and]
    show y.toBitVec.toNat &&& 1 = (y.toBitVec.toNat % 2) % 2 ^ 32
    rw [show (1 : Nat) = 2 ^ 1 - 1 by decide, Nat.and_two_pow_sub_one_eq_mod]
    omega
  rw [e]
  rcases Nat.mod_two_eq_zero_or_one y.toBitVec.toNat with q | q
  · left; rw [q]
  · right; rw [q]
theorem or_and (a b c : Int32) : (a ||| b) &&& c = (a &&& c) ||| (b &&& c) := by
  apply Int32.toBitVec_inj.1
  show (a.toBitVec ||| b.toBitVec) &&& c.toBitVec = (a.toBitVec &&& c.toBitVec) ||| (b.toBitVec &&& c.toBitVec)
  ext i hi
  simp [Bool.and_or_distrib_right]
theorem tb_1 : ∀ v, v < 24 → ∀ w, w < 24 → ((nI 1 <<< (nI v &&& nI 31)) >>> (nI w &&& nI 31)) &&& nI 1 = if w = v then nI 1 else nI 0 := by decide +kernel
theorem tb_or (y : Int32) {v w : Nat} (hv' : v < 24) (hw : w < 24) : tb (y ||| (nI 1 <<< (nI v &&& nI 31))) w ↔ tb y w ∨ w = v := by
  unfold tb
  rw [Int32.shiftRight_or, or_and, tb_1 v hv' w hw]
  by_cases e : w = v
  · rw [if_pos e]
    rcases and1 (y >>> (nI w &&& nI 31)) with q | q
    · rw [q]
      exact ⟨fun _ => Or.inr e, fun _ => by decide⟩
    · rw [q]
      exact ⟨fun _ => Or.inr e, fun _ => by decide⟩
  · rw [if_neg e]
    rcases and1 (y >>> (nI w &&& nI 31)) with q | q
    · rw [q]
      exact ⟨fun z => absurd z (by decide), fun z => z.elim (fun z => absurd z (by decide)) (fun z => absurd z e)⟩
    · rw [q]
      exact ⟨fun _ => Or.inl rfl, fun _ => by decide⟩
theorem tb_0 : ∀ w, w < 24 → ¬ (((nI 0) >>> (nI w &&& nI 31)) &&& nI 1 = nI 1) := by decide +kernel
theorem m_take {M : Nat} {σ : Hp} {f : Nat → Nat → Int32} (s : SM M σ) {n : Nat} {x : Int64} (hn : n ≤ 8) : ∃ f', F_X10_take (hv σ f) M x (nI n) = some (if thr n x then (if unq n (hdv x) then nI 1 else -3) else -2, hv σ f') ∧ (∀ a k, a ≠ M + 19 → f' a k = f a k) ∧ (thr n x → ∀ k, k < n → f' (M + 19) k = nI (hdv x k)) := by
  unfold F_X10_take L_X10_take_9
  rw [gd_hv s.1]
  obtain ⟨i, hi, h2, h3⟩ := first (P := fun k => ¬ hdv x k ≤ 23) n
  obtain ⟨st, r, ⟨y, z, es, p1, p2⟩, e⟩ := it_invF (body := fun rec st => B_X10_take_9 M x (nI n) rec st.1 st.2.1 st.2.2.1 st.2.2.2) (fun k st => ∃ y z, st = (hv σ (fz f (M + 19) k (hdv x)), y, nI z, nI k) ∧ (∀ v, v < 24 → (tb y v ↔ ∃ j, j < k ∧ hdv x j = v)) ∧ ((z = 0 ∧ unq k (hdv x)) ∨ (z = 1 ∧ ¬ unq k (hdv x)))) 0 i (by omega) (by omega) (fun k st _ hk hq => by
    obtain ⟨y, z, rfl, p1, p2⟩ := hq
    have vk : hdv x k ≤ 23 := Classical.not_not.mp (h2 k hk)
    have p3 := p1 (hdv x k) (by omega)
    have y' : ∀ v, v < 24 → (tb (y ||| (nI 1 <<< (nI (hdv x k) &&& nI 31))) v ↔ ∃ j, j < k + 1 ∧ hdv x j = v) := fun v hv' => by
      rw [tb_or y (by omega) hv', p1 v hv']
      constructor
      · intro q
        rcases q with ⟨j, a1, a2⟩ | q
        · exact ⟨j, by omega, a2⟩
        · exact ⟨k, by omega, q.symm⟩
      · intro ⟨j, a1, a2⟩
        by_cases e : j = k
        · right; rw [← a2, e]
        · left; exact ⟨j, by omega, a2⟩
    have z2 : ∀ rec : Hp × Int32 × Int32 × Int32 → Option (Int32 × Hp), B_X10_take_9 M x (nI n) rec (hv σ (fz f (M + 19) k (hdv x))) y (nI z) (nI k) = rec (hv σ (fz f (M + 19) (k + 1) (hdv x)), y ||| (nI 1 <<< (nI (hdv x k) &&& nI 31)), nI (if unq (k + 1) (hdv x) then 0 else 1), nI (k + 1)) := fun rec => by
      rw [← fz_grow]
      generalize fz f (M + 19) k (hdv x) = F
      rcases p2 with ⟨z0, p2⟩ | ⟨z0, p2⟩
      · subst z0
        by_cases q : tb y (hdv x k)
        · obtain ⟨j, a1, a2⟩ := p3.mp q
          have q' : y >>> (nI (hdv x k) &&& nI 31) &&& nI 1 = nI 1 := q
          rw [if_neg (fun u => ((unq_s k (hdv x)).mp u).2 j a1 a2)]
          simp (decide := true) (disch := omega) only [B_X10_take_9, F_X10_take_69, F_X10_take_74, gd_hv s.1, gI_hv s.1, pI_hv s.1, s.R31, s.A31, s.W31, b1_some, b2_some, litI, neg1, nI_add, nI_mul, e1_p1, nI_e0, ib, ib1, ite_not, if_true, if_false, not_true_eq_false, not_false_eq_true, setI_hv, le_lit, show ¬ n ≤ k by omega, hd_eq, u2_e, vk, q']
        · have q' : ¬ (y >>> (nI (hdv x k) &&& nI 31) &&& nI 1 = nI 1) := q
          rw [if_pos ((unq_s k (hdv x)).mpr ⟨p2, fun j hj e => q (p3.mpr ⟨j, hj, e⟩)⟩)]
          simp (decide := true) (disch := omega) only [B_X10_take_9, F_X10_take_69, F_X10_take_74, gd_hv s.1, gI_hv s.1, pI_hv s.1, s.R31, s.A31, s.W31, b1_some, b2_some, litI, neg1, nI_add, nI_mul, e1_p1, nI_e0, ib, ib1, ite_not, if_true, if_false, not_true_eq_false, not_false_eq_true, setI_hv, le_lit, show ¬ n ≤ k by omega, hd_eq, u2_e, vk, q']
      · subst z0
        rw [if_neg (fun u => p2 ((unq_s k (hdv x)).mp u).1)]
        simp (decide := true) (disch := omega) only [B_X10_take_9, F_X10_take_69, F_X10_take_74, gd_hv s.1, gI_hv s.1, pI_hv s.1, s.R31, s.A31, s.W31, b1_some, b2_some, litI, neg1, nI_add, nI_mul, e1_p1, nI_e0, ib, ib1, ite_not, if_true, if_false, not_true_eq_false, not_false_eq_true, setI_hv, le_lit, show ¬ n ≤ k by omega, hd_eq, u2_e, vk]
    refine ⟨_, ⟨_, (if unq (k + 1) (hdv x) then 0 else 1), rfl, y', ?_⟩, z2⟩
    by_cases u : unq (k + 1) (hdv x)
    · rw [if_pos u]; exact Or.inl ⟨rfl, u⟩
    · rw [if_neg u]; exact Or.inr ⟨rfl, u⟩) (hv σ (fz f (M + 19) 0 (hdv x)), nI 0, nI 0, nI 0) ⟨nI 0, 0, rfl, fun v hv' => ⟨fun q => absurd q (tb_0 v hv'), fun ⟨j, a, _⟩ => absurd a (Nat.not_lt_zero j)⟩, Or.inl ⟨rfl, fun k hk => absurd hk (Nat.not_lt_zero k)⟩⟩
  subst es
  rw [fz_0] at e
  by_cases ei : i = n
  · subst ei
    have t : thr i x := fun k hk => Classical.not_not.mp (h2 k hk)
    rw [if_pos t]
    refine ⟨fz f (M + 19) i (hdv x), e.trans ?_, fun a k ha => fz_off ha, fun _ k hk => fz_rd hk⟩
    rcases p2 with ⟨z0, p2⟩ | ⟨z0, p2⟩
    · subst z0
      rw [if_pos p2]
      simp (decide := true) (disch := omega) only [B_X10_take_9, F_X10_take_96, b1_some, b2_some, litI, neg1, nI_add, nI_mul, e1_p1, nI_e0, ib, ib1, ite_not, if_true, if_false, not_true_eq_false, not_false_eq_true, setI_hv, le_lit, Nat.le_refl]
    · subst z0
      rw [if_neg p2]
      simp (decide := true) (disch := omega) only [B_X10_take_9, F_X10_take_96, b1_some, b2_some, litI, neg1, nI_add, nI_mul, e1_p1, nI_e0, ib, ib1, ite_not, if_true, if_false, not_true_eq_false, not_false_eq_true, setI_hv, le_lit, Nat.le_refl]
  · have q : ¬ hdv x i ≤ 23 := h3.resolve_left ei
    have hl := hdv_lt x i
    rw [if_neg (fun t => q (t i (by omega)))]
    refine ⟨fz f (M + 19) (i + 1) (hdv x), e.trans ?_, fun a k ha => fz_off ha, fun t => absurd (t i (by omega)) q⟩
    rw [← fz_grow]
    simp (decide := true) (disch := omega) only [B_X10_take_9, gd_hv s.1, gI_hv s.1, pI_hv s.1, s.R31, s.A31, s.W31, b1_some, b2_some, litI, neg1, nI_add, nI_mul, e1_p1, nI_e0, ib, ib1, ite_not, if_true, if_false, not_true_eq_false, not_false_eq_true, setI_hv, le_lit, show ¬ n ≤ i by omega, hd_eq, u2_e, q]
theorem x_hand {N : Nat} {σ : Hp} {f : Nat → Nat → Int32} (s : SX N σ) {n lo hi : Nat} {x : Int64} {i : Int32} (hl : lo ≤ n) (hh : n ≤ hi) (h8 : hi ≤ 8) : F_X0_layHand (hv σ f) N x (nI n) (nI lo) (nI hi) i = some (if thr n x then (if unq n (hdv x) ∧ -1 ≤ i then nI 0 else -3) else -2, hv σ (fz f (N + 212) n (hdv x))) := by
  have i1 : F_X0_isIn (hv σ f) (nI n).toInt64 (nI lo).toInt64 (nI hi).toInt64 = some (1, hv σ f) := by
    rw [x0_isIn, if_pos (inR_of hl hh (by omega))]
  unfold F_X0_layHand L_X0_layHand_26
  rw [gd_hv s.t0, i1, b2_some, if_neg (by decide)]
  obtain ⟨m, hm⟩ := it_FU (body := fun rec st => B_X0_layHand_26 N x (nI n) i rec st.1 st.2.1 st.2.2.1 st.2.2.2) (fun k => (hv σ (fz f (N + 212) k (hdv x)), nI (if thr k x then 1 else 0), nI (if unq k (hdv x) then 1 else 0), nI k)) 0 n (by omega) (by omega) (fun k _ hk rec => by
    have hl := hdv_lt x k
    have e0 : fz f (N + 212) (k + 1) (hdv x) (N + 212) k = nI (hdv x k) := fz_rd (by omega)
    have ej : ∀ j, j < k → fz f (N + 212) (k + 1) (hdv x) (N + 212) j = nI (hdv x j) := fun j hj => fz_rd (by omega)
    have lp : ∀ (x7 : Int32), L_X0_layHand_78 rec (hv σ (fz f (N + 212) (k + 1) (hdv x))) N x (nI n) i x7 (nI k) FU (nI (if unq k (hdv x) then 1 else 0), nI 0) = rec (hv σ (fz f (N + 212) (k + 1) (hdv x)), x7, nI (if unq (k + 1) (hdv x) then 1 else 0), nI (k + 1)) := fun x7 => by
      generalize fz f (N + 212) (k + 1) (hdv x) = F at e0 ej
      have dd : ∀ j, Decidable (unq k (hdv x) ∧ ∀ j', j' < j → hdv x j' ≠ hdv x k) := fun j => inferInstance
      obtain ⟨m', hm'⟩ := it_FU (body := fun rec' st => B_X0_layHand_78 rec (hv σ F) N x (nI n) i x7 (nI k) rec' st.1 st.2) (fun j => (nI (if unq k (hdv x) ∧ ∀ j', j' < j → hdv x j' ≠ hdv x k then 1 else 0), nI j)) 0 k (by omega) (by omega) (fun j _ hj rec' => by
        have hl2 := hdv_lt x j
        have ejj := ej j hj
        show B_X0_layHand_78 rec (hv σ F) N x (nI n) i x7 (nI k) rec' (nI (if unq k (hdv x) ∧ ∀ j', j' < j → hdv x j' ≠ hdv x k then 1 else 0)) (nI j) = rec' (nI (if unq k (hdv x) ∧ ∀ j', j' < j + 1 → hdv x j' ≠ hdv x k then 1 else 0), nI (j + 1))
        by_cases q1 : unq k (hdv x) ∧ ∀ j', j' < j → hdv x j' ≠ hdv x k
        · rw [if_pos q1]
          by_cases q2 : hdv x j = hdv x k
          · rw [if_neg (fun u => u.2 j (by omega) q2)]
            simp (decide := true) (disch := omega) only [B_X0_layHand_78, gd_hv s.t0, gI_hv s.t0, pI_hv s.t0, s.R15, s.A212, s.W212, b1_some, b2_some, litI, neg1, nI_add, nI_mul, e1_p1, nI_e0, ib, ib1, ite_not, if_true, if_false, not_true_eq_false, not_false_eq_true, setI_hv, le_lit, eq_lit, show ¬ k ≤ j by omega, ejj, e0, q2]
          · rw [if_pos ⟨q1.1, fun j' hj' => by
              by_cases e : j' = j
              · rw [e]; exact q2
              · exact q1.2 j' (by omega)⟩]
            simp (decide := true) (disch := omega) only [B_X0_layHand_78, gd_hv s.t0, gI_hv s.t0, pI_hv s.t0, s.R15, s.A212, s.W212, b1_some, b2_some, litI, neg1, nI_add, nI_mul, e1_p1, nI_e0, ib, ib1, ite_not, if_true, if_false, not_true_eq_false, not_false_eq_true, setI_hv, le_lit, eq_lit, show ¬ k ≤ j by omega, ejj, e0, q2]
        · rw [if_neg q1, if_neg (fun u => q1 ⟨u.1, fun j' hj' => u.2 j' (by omega)⟩)]
          simp (decide := true) (disch := omega) only [B_X0_layHand_78, b1_some, b2_some, litI, neg1, nI_add, nI_mul, e1_p1, nI_e0, ib, ib1, ite_not, if_true, if_false, not_true_eq_false, not_false_eq_true, setI_hv, le_lit, show ¬ k ≤ j by omega])
      have z1 : ∀ d, d = 0 → (if unq k (hdv x) ∧ ∀ j', j' < d → hdv x j' ≠ hdv x k then 1 else 0) = (if unq k (hdv x) then 1 else 0) := fun d hd => by
        by_cases q : unq k (hdv x)
        · rw [if_pos q, if_pos ⟨q, fun j' hj' => by omega⟩]
        · rw [if_neg q, if_neg (fun u => q u.1)]
      have z2 : (if unq k (hdv x) ∧ ∀ j', j' < k → hdv x j' ≠ hdv x k then 1 else 0) = (if unq (k + 1) (hdv x) then 1 else 0) := by
        by_cases q : unq (k + 1) (hdv x)
        · rw [if_pos q, if_pos ((unq_s k (hdv x)).mp q)]
        · rw [if_neg q, if_neg (fun u => q ((unq_s k (hdv x)).mpr u))]
      rw [z1 0 rfl] at hm'
      refine hm'.trans ?_
      show B_X0_layHand_78 rec (hv σ F) N x (nI n) i x7 (nI k) m' (nI (if unq k (hdv x) ∧ ∀ j', j' < k → hdv x j' ≠ hdv x k then 1 else 0)) (nI k) = _
      rw [z2]
      simp (decide := true) (disch := omega) only [B_X0_layHand_78, b1_some, b2_some, litI, neg1, nI_add, nI_mul, e1_p1, nI_e0, ib, ib1, ite_not, if_true, if_false, not_true_eq_false, not_false_eq_true, setI_hv, le_lit, Nat.le_refl]
    show B_X0_layHand_26 N x (nI n) i rec (hv σ (fz f (N + 212) k (hdv x))) (nI (if thr k x then 1 else 0)) (nI (if unq k (hdv x) then 1 else 0)) (nI k) = rec (hv σ (fz f (N + 212) (k + 1) (hdv x)), nI (if thr (k + 1) x then 1 else 0), nI (if unq (k + 1) (hdv x) then 1 else 0), nI (k + 1))
    have gr := fz_grow f (N + 212) k (hdv x)
    generalize fz f (N + 212) (k + 1) (hdv x) = F1 at e0 ej lp gr
    generalize fz f (N + 212) k (hdv x) = F0 at gr
    subst gr
    generalize (if unq k (hdv x) then 1 else 0) = u0 at lp
    generalize (if unq (k + 1) (hdv x) then 1 else 0) = u1 at lp
    by_cases q1 : thr k x
    · rw [if_pos q1]
      by_cases q2 : hdv x k ≤ 23
      · rw [if_pos ((thr_s k x).mpr ⟨q1, q2⟩)]
        have it' : inR (nI (hdv x k)) 0 23 = True := eq_true (inR_of (Nat.zero_le _) q2 (by omega))
        simp (decide := true) (disch := omega) only [B_X0_layHand_26, gd_hv s.t0, gI_hv s.t0, pI_hv s.t0, s.R15, s.A212, s.W212, b1_some, b2_some, litI, neg1, nI_add, nI_mul, e1_p1, nI_e0, ib, ib1, ite_not, if_true, if_false, not_true_eq_false, not_false_eq_true, setI_hv, le_lit, eq_lit, show ¬ n ≤ k by omega, hd_eq, u2_e, x0_isThing, it', lp]
      · rw [if_neg (fun t => q2 ((thr_s k x).mp t).2)]
        have it' : inR (nI (hdv x k)) 0 23 = False := eq_false (fun z => q2 (by have := z.2; rw [le_lit (by omega) (by omega)] at this; exact this))
        simp (decide := true) (disch := omega) only [B_X0_layHand_26, gd_hv s.t0, gI_hv s.t0, pI_hv s.t0, s.R15, s.A212, s.W212, b1_some, b2_some, litI, neg1, nI_add, nI_mul, e1_p1, nI_e0, ib, ib1, ite_not, if_true, if_false, not_true_eq_false, not_false_eq_true, setI_hv, le_lit, eq_lit, show ¬ n ≤ k by omega, hd_eq, u2_e, x0_isThing, it', lp]
    · rw [if_neg q1, if_neg (fun t => q1 ((thr_s k x).mp t).1)]
      simp (decide := true) (disch := omega) only [B_X0_layHand_26, gd_hv s.t0, gI_hv s.t0, pI_hv s.t0, s.R15, s.A212, s.W212, b1_some, b2_some, litI, neg1, nI_add, nI_mul, e1_p1, nI_e0, ib, ib1, ite_not, if_true, if_false, not_true_eq_false, not_false_eq_true, setI_hv, le_lit, eq_lit, show ¬ n ≤ k by omega, hd_eq, lp])
  rw [fz_0, if_pos (fun k hk => absurd hk (Nat.not_lt_zero k)), if_pos (fun k hk => absurd hk (Nat.not_lt_zero k))] at hm
  refine Eq.trans hm ?_
  show B_X0_layHand_26 N x (nI n) i m (hv σ (fz f (N + 212) n (hdv x))) (nI (if thr n x then 1 else 0)) (nI (if unq n (hdv x) then 1 else 0)) (nI n) = _
  by_cases q1 : thr n x <;> by_cases q2 : unq n (hdv x) <;> by_cases q3 : (-1 : Int32) ≤ i
  · rw [if_pos q1, if_pos q2, if_pos q1, if_pos ⟨q2, q3⟩]
    have q3' : e1 0 ≤ i := q3
    simp (decide := true) (disch := omega) only [B_X0_layHand_26, F_X0_layHand_126, b1_some, b2_some, litI, neg1, nI_add, nI_mul, e1_p1, nI_e0, ib, ib1, ite_not, if_true, if_false, not_true_eq_false, not_false_eq_true, setI_hv, le_lit, Nat.le_refl, q3']
  · rw [if_pos q1, if_pos q2, if_pos q1, if_neg (fun z => q3 z.2)]
    have q3' : ¬ e1 0 ≤ i := q3
    simp (decide := true) (disch := omega) only [B_X0_layHand_26, F_X0_layHand_126, b1_some, b2_some, litI, neg1, nI_add, nI_mul, e1_p1, nI_e0, ib, ib1, ite_not, if_true, if_false, not_true_eq_false, not_false_eq_true, setI_hv, le_lit, Nat.le_refl, q3']
  · rw [if_pos q1, if_neg q2, if_pos q1, if_neg (fun z => q2 z.1)]
    simp (decide := true) (disch := omega) only [B_X0_layHand_26, F_X0_layHand_126, b1_some, b2_some, litI, neg1, nI_add, nI_mul, e1_p1, nI_e0, ib, ib1, ite_not, if_true, if_false, not_true_eq_false, not_false_eq_true, setI_hv, le_lit, Nat.le_refl]
  · rw [if_pos q1, if_neg q2, if_pos q1, if_neg (fun z => q2 z.1)]
    simp (decide := true) (disch := omega) only [B_X0_layHand_26, F_X0_layHand_126, b1_some, b2_some, litI, neg1, nI_add, nI_mul, e1_p1, nI_e0, ib, ib1, ite_not, if_true, if_false, not_true_eq_false, not_false_eq_true, setI_hv, le_lit, Nat.le_refl]
  all_goals
    rw [if_neg q1, if_neg q1]
    simp (decide := true) (disch := omega) only [B_X0_layHand_26, F_X0_layHand_126, b1_some, b2_some, litI, neg1, nI_add, nI_mul, e1_p1, nI_e0, ib, ib1, ite_not, if_true, if_false, not_true_eq_false, not_false_eq_true, setI_hv, le_lit, Nat.le_refl]
end
section
set_option maxRecDepth 100000
/-! pure law 33: two sorts, one row -/
def cnt (A : Nat → Nat) (v : Nat) : Nat → Nat
  | 0 => 0
  | n + 1 => cnt A v n + if A n = v then 1 else 0
def Srt (A : Nat → Nat) (n : Nat) : Prop := ∀ i j, i ≤ j → j < n → A i ≤ A j
theorem cnt_pos {A : Nat → Nat} {v : Nat} : ∀ n, 0 < cnt A v n → ∃ j, j < n ∧ A j = v
  | 0, h => absurd h (Nat.lt_irrefl 0)
  | n + 1, h => by
    by_cases q : A n = v
    · exact ⟨n, by omega, q⟩
    · have e : cnt A v (n + 1) = cnt A v n := by
        show cnt A v n + (if A n = v then 1 else 0) = _
        rw [if_neg q]
        rfl
      rw [e] at h
      obtain ⟨j, a, b⟩ := cnt_pos n h
      exact ⟨j, by omega, b⟩
theorem srt_uniq {A B : Nat → Nat} : ∀ n, Srt A n → Srt B n → (∀ v, cnt A v n = cnt B v n) → ∀ i, i < n → A i = B i
  | 0, _, _, _, i, hi => absurd hi (Nat.not_lt_zero i)
  | n + 1, ha, hb, hc, i, hi => by
    have le1 : ∀ (A B : Nat → Nat), Srt B (n + 1) → (∀ v, cnt A v (n + 1) = cnt B v (n + 1)) → A n ≤ B n := fun A B hb hc => by
      have p : 0 < cnt B (A n) (n + 1) := by
        rw [← hc]
        show 0 < cnt A (A n) n + (if A n = A n then 1 else 0)
        rw [if_pos rfl]
        omega
      obtain ⟨j, a, b⟩ := cnt_pos _ p
      rw [← b]
      exact hb j n (by omega) (by omega)
    have e : A n = B n := Nat.le_antisymm (le1 A B hb hc) (le1 B A ha (fun v => (hc v).symm))
    by_cases q : i = n
    · rw [q]; exact e
    · refine srt_uniq n (fun i j h1 h2 => ha i j h1 (by omega)) (fun i j h1 h2 => hb i j h1 (by omega)) (fun v => ?_) i (by omega)
      have := hc v
      have e1 : cnt A v n + (if A n = v then 1 else 0) = cnt B v n + (if B n = v then 1 else 0) := this
      rw [e] at e1
      omega
theorem cnt_cg {A B : Nat → Nat} {v : Nat} : ∀ n, (∀ i, i < n → A i = B i) → cnt A v n = cnt B v n
  | 0, _ => rfl
  | n + 1, h => by
    show cnt A v n + (if A n = v then 1 else 0) = cnt B v n + (if B n = v then 1 else 0)
    rw [cnt_cg n (fun i hi => h i (by omega)), h n (by omega)]
theorem cnt_up {A : Nat → Nat} {i w v : Nat} : ∀ n, i < n → cnt (up A i w) v n + (if A i = v then 1 else 0) = cnt A v n + (if w = v then 1 else 0)
  | 0, h => absurd h (Nat.not_lt_zero i)
  | n + 1, h => by
    show cnt (up A i w) v n + (if up A i w n = v then 1 else 0) + (if A i = v then 1 else 0) = cnt A v n + (if A n = v then 1 else 0) + (if w = v then 1 else 0)
    by_cases q : i = n
    · subst q
      rw [up_e, cnt_cg (A := up A i w) (B := A) i (fun j hj => up_n (by omega))]
      omega
    · have ih := cnt_up (A := A) (i := i) (w := w) (v := v) n (by omega)
      rw [up_n (by omega)]
      omega
/-- two places, the less first -/
def lss (A : Nat → Nat) (a b : Nat) : Nat := if A b ≤ A a then A b else A a
def exA (A : Nat → Nat) (a b : Nat) : Nat → Nat := up (up A b (A a + A b - lss A a b)) a (lss A a b)
theorem exA_cnt {A : Nat → Nat} {a b n v : Nat} (hab : a < b) (hb : b < n) : cnt (exA A a b) v n = cnt A v n := by
  have h1 := cnt_up (A := up A b (A a + A b - lss A a b)) (i := a) (w := lss A a b) (v := v) n (by omega)
  have h2 := cnt_up (A := A) (i := b) (w := A a + A b - lss A a b) (v := v) n hb
  rw [up_n (by omega)] at h1
  unfold exA
  unfold lss at *
  by_cases q : A b ≤ A a
  · rw [if_pos q] at *
    rw [Nat.add_sub_cancel] at *
    omega
  · rw [if_neg q] at *
    rw [Nat.add_sub_cancel_left] at *
    omega
theorem exA_a (A : Nat → Nat) (a b : Nat) : exA A a b a = lss A a b := up_e
theorem exA_b {A : Nat → Nat} {a b : Nat} (h : a < b) : exA A a b b = A a + A b - lss A a b := by
  unfold exA
  rw [up_n (by omega), up_e]
theorem exA_n {A : Nat → Nat} {a b j : Nat} (h1 : j ≠ a) (h2 : j ≠ b) : exA A a b j = A j := by
  unfold exA
  rw [up_n h1, up_n h2]
theorem lss_le (A : Nat → Nat) (a b : Nat) : lss A a b ≤ A a ∧ lss A a b ≤ A b ∧ lss A a b ≤ A a + A b - lss A a b ∧ (lss A a b = A a ∨ lss A a b = A b) := by
  unfold lss
  by_cases q : A b ≤ A a
  · rw [if_pos q]; omega
  · rw [if_neg q]; omega
def exI (A : Nat → Nat) (a : Nat) : Nat → (Nat → Nat)
  | 0 => A
  | t + 1 => exA (exI A a t) a (a + 1 + t)
def exO (n : Nat) (A : Nat → Nat) : Nat → (Nat → Nat)
  | 0 => A
  | a + 1 => exI (exO n A a) a (n - 1 - a)
def srt (n : Nat) (A : Nat → Nat) : Nat → Nat := exO n A n
def Pfx (n : Nat) (A : Nat → Nat) (a : Nat) : Prop := ∀ i j, i < a → i < j → j < n → A i ≤ A j
theorem exI_ok {n a : Nat} {A : Nat → Nat} (m : Nat) (hA : Pfx n A a) (hm : ∀ i, i < n → A i ≤ m) : ∀ t, a + t < n → Pfx n (exI A a t) a ∧ (∀ j, a < j → j ≤ a + t → exI A a t a ≤ exI A a t j) ∧ (∀ v, cnt (exI A a t) v n = cnt A v n) ∧ ∀ i, i < n → exI A a t i ≤ m
  | 0, _ => ⟨hA, fun j h1 h2 => absurd h1 (by omega), fun _ => rfl, hm⟩
  | t + 1, h => by
    obtain ⟨i1, i2, i3, i4⟩ := exI_ok m hA hm t (by omega)
    show Pfx n (exA (exI A a t) a (a + 1 + t)) a ∧ (∀ j, a < j → j ≤ a + (t + 1) → exA (exI A a t) a (a + 1 + t) a ≤ exA (exI A a t) a (a + 1 + t) j) ∧ (∀ v, cnt (exA (exI A a t) a (a + 1 + t)) v n = cnt A v n) ∧ ∀ i, i < n → exA (exI A a t) a (a + 1 + t) i ≤ m
    generalize exI A a t = B at i1 i2 i3 i4
    have l := lss_le B a (a + 1 + t)
    refine ⟨fun i j h1 h2 h3 => ?_, fun j h1 h2 => ?_, fun v => (exA_cnt (by omega) (by omega)).trans (i3 v), fun i hi => ?_⟩
    · rw [exA_n (by omega) (by omega)]
      have b1 := i1 i a h1 h1 (by omega)
      have b2 := i1 i (a + 1 + t) h1 (by omega) (by omega)
      by_cases q : j = a
      · rw [q, exA_a]
        omega
      · by_cases q2 : j = a + 1 + t
        · rw [q2, exA_b (by omega)]
          omega
        · rw [exA_n q q2]
          exact i1 i j h1 h2 h3
    · rw [exA_a]
      by_cases q2 : j = a + 1 + t
      · rw [q2, exA_b (by omega)]
        omega
      · rw [exA_n (by omega) q2]
        have := i2 j h1 (by omega)
        omega
    · have m1 := i4 a (by omega)
      have m2 := i4 (a + 1 + t) (by omega)
      by_cases q : i = a
      · rw [q, exA_a]
        omega
      · by_cases q2 : i = a + 1 + t
        · rw [q2, exA_b (by omega)]
          omega
        · rw [exA_n q q2]
          exact i4 i hi
theorem exO_ok {n : Nat} {A : Nat → Nat} (m : Nat) (hm : ∀ i, i < n → A i ≤ m) : ∀ a, a ≤ n → Pfx n (exO n A a) a ∧ (∀ v, cnt (exO n A a) v n = cnt A v n) ∧ ∀ i, i < n → exO n A a i ≤ m
  | 0, _ => ⟨fun i j h1 => absurd h1 (Nat.not_lt_zero i), fun _ => rfl, hm⟩
  | a + 1, h => by
    obtain ⟨i1, i2, i3⟩ := exO_ok m hm a (by omega)
    obtain ⟨j1, j2, j3, j4⟩ := exI_ok (n := n) m i1 i3 (n - 1 - a) (by omega)
    show Pfx n (exI (exO n A a) a (n - 1 - a)) (a + 1) ∧ (∀ v, cnt (exI (exO n A a) a (n - 1 - a)) v n = cnt A v n) ∧ ∀ i, i < n → exI (exO n A a) a (n - 1 - a) i ≤ m
    refine ⟨fun i j h1 h2 h3 => ?_, fun v => (j3 v).trans (i2 v), j4⟩
    by_cases q : i = a
    · rw [q]
      exact j2 j (by omega) (by omega)
    · exact j1 i j (by omega) h2 h3
theorem srt_ok {n : Nat} {A : Nat → Nat} (m : Nat) (hm : ∀ i, i < n → A i ≤ m) : Srt (srt n A) n ∧ (∀ v, cnt (srt n A) v n = cnt A v n) ∧ ∀ i, i < n → srt n A i ≤ m := by
  obtain ⟨i1, i2, i3⟩ := exO_ok (n := n) m hm n (Nat.le_refl _)
  refine ⟨fun i j h1 h2 => ?_, i2, i3⟩
  by_cases q : i = j
  · rw [q]; exact Nat.le_refl _
  · exact i1 i j (by omega) (by omega) h2
/-! the component's: one is put where it belongs -/
def shA (A : Nat → Nat) (k t : Nat) : Nat → Nat := fun p => if k + 1 - t < p ∧ p ≤ k + 1 then A (p - 1) else A p
theorem shA_s {A : Nat → Nat} {k t : Nat} (h : t ≤ k) : up (shA A k t) (k + 1 - t) (A (k - t)) = shA A k (t + 1) := by
  funext p
  unfold up shA
  by_cases q : p = k + 1 - t
  · rw [if_pos q, if_pos (by omega), q, show k + 1 - t - 1 = k - t by omega]
  · rw [if_neg q]
    by_cases q2 : k + 1 - t < p ∧ p ≤ k + 1
    · rw [if_pos q2, if_pos (by omega)]
    · rw [if_neg q2, if_neg (by omega)]
theorem shA_lo {A : Nat → Nat} {k t p : Nat} (h : p ≤ k + 1 - t) : shA A k t p = A p := if_neg (by omega)
theorem shA_hi {A : Nat → Nat} {k t p : Nat} (h : k + 1 - t < p) (h2 : p ≤ k + 1) : shA A k t p = A (p - 1) := if_pos ⟨h, h2⟩
theorem shA_far {A : Nat → Nat} {k t p : Nat} (h2 : k + 1 < p) : shA A k t p = A p := if_neg (by omega)
def inA (A : Nat → Nat) (k t : Nat) : Nat → Nat := up (shA A k t) (k + 1 - t) (A (k + 1))
theorem inA_cnt {A : Nat → Nat} {k n : Nat} (hk : k + 1 < n) (v : Nat) : ∀ t, t ≤ k + 1 → cnt (inA A k t) v n = cnt A v n
  | 0, _ => cnt_cg n (fun i hi => by
    unfold inA
    by_cases q : i = k + 1
    · rw [q]
      exact up_e
    · rw [up_n (by omega)]
      exact if_neg (by omega))
  | t + 1, h => by
    have ih := inA_cnt (A := A) hk v t (by omega)
    have h1 := cnt_up (A := shA A k (t + 1)) (i := k + 1 - (t + 1)) (w := A (k + 1)) (v := v) n (by omega)
    have h2 := cnt_up (A := shA A k t) (i := k + 1 - t) (w := A (k + 1)) (v := v) n (by omega)
    have h3 := cnt_up (A := shA A k t) (i := k + 1 - t) (w := A (k - t)) (v := v) n (by omega)
    rw [shA_s (by omega)] at h3
    rw [shA_lo (by omega), show k + 1 - (t + 1) = k - t by omega] at h1
    unfold inA at ih ⊢
    rw [show k + 1 - (t + 1) = k - t by omega]
    omega
theorem inA_srt {A : Nat → Nat} {k t : Nat} (ht : t ≤ k + 1) (hs : Srt A (k + 1)) (h1 : ∀ s, s < t → A (k + 1) < A (k - s)) (h2 : t = k + 1 ∨ A (k - t) ≤ A (k + 1)) : Srt (inA A k t) (k + 2) := fun i j hij hj => by
  have lo : ∀ p, p < k + 1 - t → inA A k t p = A p := fun p hp => (up_n (by omega)).trans (shA_lo (by omega))
  have md : inA A k t (k + 1 - t) = A (k + 1) := up_e
  have hi : ∀ p, k + 1 - t < p → p ≤ k + 1 → inA A k t p = A (p - 1) := fun p h3 h4 => (up_n (by omega)).trans (shA_hi h3 h4)
  by_cases a1 : i < k + 1 - t
  · rw [lo i a1]
    by_cases a2 : j < k + 1 - t
    · rw [lo j a2]
      exact hs i j hij (by omega)
    · by_cases a3 : j = k + 1 - t
      · rw [a3, md]
        have := hs i (k - t) (by omega) (by omega)
        rcases h2 with q | q
        · omega
        · omega
      · rw [hi j (by omega) (by omega)]
        exact hs i (j - 1) (by omega) (by omega)
  · by_cases a2 : i = k + 1 - t
    · by_cases a3 : j = k + 1 - t
      · rw [a2, a3]; exact Nat.le_refl _
      · rw [a2, md, hi j (by omega) (by omega)]
        have := h1 (k - (j - 1)) (by omega)
        rw [show k - (k - (j - 1)) = j - 1 by omega] at this
        omega
    · rw [hi i (by omega) (by omega), hi j (by omega) (by omega)]
      exact hs (i - 1) (j - 1) (by omega) (by omega)
theorem inA_b {A : Nat → Nat} {k t n m : Nat} (hk : k + 1 < n) (hm : ∀ i, i < n → A i ≤ m) (i : Nat) (hi : i < n) : inA A k t i ≤ m := by
  unfold inA
  by_cases q : i = k + 1 - t
  · rw [q, up_e]
    exact hm _ hk
  · rw [up_n q]
    unfold shA
    split
    · exact hm _ (by omega)
    · exact hm _ hi
theorem x_sort {N : Nat} {σ : Hp} {f : Nat → Nat → Int32} (s : SX N σ) {n : Nat} {A : Nat → Nat} (h1 : 1 ≤ n) (h8 : n ≤ 8) (hA : ∀ i, i < n → A i ≤ 100) : F_J8_sort (hv σ (fz f (N + 212) n A)) (N + 212) (nI 0) (nI n) = some (hv σ (fz f (N + 212) n (srt n A))) := by
  have al : ∀ F, aL 0 (N + 212) (hv σ F) = some (nI 8) := fun F => by
    have e : aN 0 (N + 212) (hv σ F) = some 8 := s.n212
    unfold aL
    rw [e]
    rfl
  have ins : F_J9_insertionSort (hv σ (fz f (N + 212) n A)) (N + 212) (nI 0) (nI n) = some (hv σ (fz f (N + 212) n (srt n A))) := by
    unfold F_J9_insertionSort L_J9_insertionSort_3
    obtain ⟨st, r, ⟨B, es, p1, p2, p3⟩, e⟩ := it_invF (body := fun rec st => B_J9_insertionSort_3 (N + 212) (nI 0) (nI n) rec st.1 st.2) (fun k st => ∃ B, st = (hv σ (fz f (N + 212) n B), nI k) ∧ Srt B (k + 1) ∧ (∀ v, cnt B v n = cnt A v n) ∧ ∀ i, i < n → B i ≤ 100) 0 (n - 1) (by omega) (by omega) (fun k st _ hk hq => by
      obtain ⟨B, rfl, p1, p2, p3⟩ := hq
      have b1 := p3 (k + 1) (by omega)
      have b2 := p3 k (by omega)
      have r1 : fz f (N + 212) n B (N + 212) (k + 1) = nI (B (k + 1)) := fz_rd (by omega)
      have r2 : fz f (N + 212) n B (N + 212) k = nI (B k) := fz_rd (by omega)
      have km : nI k + nI 1 - nI 1 = nI k := by rw [nI_add, nI_sub (by omega), Nat.add_sub_cancel]
      have km' : nI (k + 1) - nI 1 = nI k := by rw [nI_sub (by omega), Nat.add_sub_cancel]
      by_cases q : B k ≤ B (k + 1)
      · refine ⟨_, ⟨B, rfl, fun i j hij hj => ?_, p2, p3⟩, fun rec => ?_⟩
        · by_cases e : j = k + 1
          · by_cases e2 : i = k + 1
            · rw [e, e2]; exact Nat.le_refl _
            · rw [e]
              have := p1 i k (by omega) (by omega)
              omega
          · exact p1 i j hij (by omega)
        · generalize fz f (N + 212) n B = F at r1 r2
          simp (decide := true) (disch := omega) only [B_J9_insertionSort_3, s.A212, b1_some, b2_some, litI, neg1, nI_add, nI_mul, e1_p1, nI_e0, ib, ib1, ite_not, if_true, if_false, not_true_eq_false, not_false_eq_true, setI_hv, le_lit, show ¬ n ≤ k + 1 by omega, r1, r2, km', q]
      · obtain ⟨t, ht, g1, g2⟩ := first (P := fun s => B (k - s) ≤ B (k + 1)) (k + 1)
        have g1' : ∀ s, s < t → B (k + 1) < B (k - s) := fun s hs => by have := g1 s hs; omega
        refine ⟨_, ⟨inA B k t, rfl, inA_srt ht p1 g1' g2, fun v => (inA_cnt (by omega) v t ht).trans (p2 v), inA_b (by omega) p3⟩, fun rec => ?_⟩
        have lp : L_J9_insertionSort_30 rec (N + 212) (nI 0) (nI n) (nI (k + 1)) (nI (B (k + 1))) FU (hv σ (fz f (N + 212) n B), nI (k + 1)) = rec (hv σ (fz f (N + 212) n (inA B k t)), nI (k + 1)) := by
          unfold L_J9_insertionSort_30
          obtain ⟨m, hm⟩ := it_FU (body := fun rec' st => B_J9_insertionSort_30 rec (N + 212) (nI 0) (nI n) (nI (k + 1)) (nI (B (k + 1))) rec' st.1 st.2) (fun s => (hv σ (fz f (N + 212) n (shA B k s)), nI (k + 1 - s))) 0 t (by omega) (by omega) (fun s' _ hs rec' => by
            have b3 := p3 (k - s') (by omega)
            have := g1' s' hs
            have r3 : fz f (N + 212) n (shA B k s') (N + 212) (k - s') = nI (B (k - s')) := by rw [fz_rd (by omega), shA_lo (by omega)]
            show B_J9_insertionSort_30 rec (N + 212) (nI 0) (nI n) (nI (k + 1)) (nI (B (k + 1))) rec' (hv σ (fz f (N + 212) n (shA B k s'))) (nI (k + 1 - s')) = rec' (hv σ (fz f (N + 212) n (shA B k (s' + 1))), nI (k + 1 - (s' + 1)))
            rw [← shA_s (by omega), ← fz_up (by omega)]
            generalize fz f (N + 212) n (shA B k s') = F at r3
            rw [show k + 1 - (s' + 1) = k - s' by omega, show k + 1 - s' = k - s' + 1 by omega]
            simp (decide := true) (disch := omega) only [B_J9_insertionSort_30, s.A212, s.W212, b1_some, b2_some, litI, neg1, nI_add, nI_mul, e1_p1, nI_e0, ib, ib1, ite_not, if_true, if_false, not_true_eq_false, not_false_eq_true, setI_hv, nI_e, e1_s, lt_lit, le_lit, show ¬ k - s' < 0 by omega, r3, show ¬ B (k - s') ≤ B (k + 1) by omega])
          have z0 : shA B k 0 = B := by
            funext p
            exact if_neg (by omega)
          rw [z0] at hm
          refine hm.trans ?_
          show B_J9_insertionSort_30 rec (N + 212) (nI 0) (nI n) (nI (k + 1)) (nI (B (k + 1))) m (hv σ (fz f (N + 212) n (shA B k t))) (nI (k + 1 - t)) = _
          unfold inA
          rw [← fz_up (by omega)]
          by_cases et : t = k + 1
          · rw [et, Nat.sub_self]
            simp (decide := true) (disch := omega) only [B_J9_insertionSort_30, F_J9_insertionSort_57, s.W212, b1_some, b2_some, litI, neg1, nI_add, nI_mul, e1_p1, nI_e0, ib, ib1, ite_not, if_true, if_false, not_true_eq_false, not_false_eq_true, setI_hv, nI_e, e1_lt, Nat.le_refl]
          · have r3 : fz f (N + 212) n (shA B k t) (N + 212) (k - t) = nI (B (k - t)) := by rw [fz_rd (by omega), shA_lo (by omega)]
            have b3 := p3 (k - t) (by omega)
            have g2' : B (k - t) ≤ B (k + 1) := g2.resolve_left et
            generalize fz f (N + 212) n (shA B k t) = F at r3
            rw [show k + 1 - t = k - t + 1 by omega]
            simp (decide := true) (disch := omega) only [B_J9_insertionSort_30, F_J9_insertionSort_57, s.A212, s.W212, b1_some, b2_some, litI, neg1, nI_add, nI_mul, e1_p1, nI_e0, ib, ib1, ite_not, if_true, if_false, not_true_eq_false, not_false_eq_true, setI_hv, nI_e, e1_s, lt_lit, le_lit, show ¬ k - t < 0 by omega, r3, g2']
        rw [← lp]
        generalize fz f (N + 212) n B = F at r1 r2
        simp (decide := true) (disch := omega) only [B_J9_insertionSort_3, s.A212, b1_some, b2_some, litI, neg1, nI_add, nI_mul, e1_p1, nI_e0, ib, ib1, ite_not, if_true, if_false, not_true_eq_false, not_false_eq_true, setI_hv, le_lit, show ¬ n ≤ k + 1 by omega, r1, r2, km', q]) (hv σ (fz f (N + 212) n A), nI 0) ⟨A, rfl, fun i j hij hj => Nat.le_of_eq (congrArg A (by omega)), fun _ => rfl, hA⟩
    subst es
    obtain ⟨q1, q2, q3⟩ := srt_ok 100 hA
    rw [show n - 1 + 1 = n by omega] at p1
    have ee : fz f (N + 212) n B = fz f (N + 212) n (srt n A) := fz_cg (fun k hk => srt_uniq n p1 q1 (fun v => (p2 v).trans (q2 v).symm) k hk)
    refine Eq.trans e ?_
    rw [ee]
    simp (decide := true) (disch := omega) only [B_J9_insertionSort_3, b1_some, b2_some, litI, neg1, nI_add, nI_mul, e1_p1, nI_e0, ib, ib1, ite_not, if_true, if_false, not_true_eq_false, not_false_eq_true, setI_hv, le_lit, show n ≤ n - 1 + 1 by omega]
  simp (decide := true) (disch := omega) only [F_J8_sort, F_J8_rangeCheck, F_J9_sort, F_J9_sort_2, al, ins, b1_some, b2_some, litI, neg1, nI_add, nI_mul, e1_p1, nI_e0, ib, ib1, ite_not, if_true, if_false, not_true_eq_false, not_false_eq_true, setI_hv, le_lit, Nat.le_refl, Nat.zero_le, nI_sub, h8, show ¬ 65 + 0 ≤ n - 0 by omega, show ¬ 44 ≤ n - 0 by omega, nx_and]
end
section
set_option maxRecDepth 100000
/-! pure law 34: orders of things; the twin's search -/
def inc (S : St) (T : Nat → Nat) (b : Nat) (c : Nat → Nat) (i : Nat) : Nat := if b = 1 then (if i = 0 then 0 else lkn S (T (c (i - 1))) (T (c i))) else sumR (fun k => S.2 38 (10 * k + i) * lkn S (T (c k)) (T (c i))) 0 i
def smo (S : St) (T : Nat → Nat) (b : Nat) (c : Nat → Nat) : Nat → Nat
  | 0 => 0
  | i + 1 => smo S T b c i + inc S T b c i
theorem inc_cg {S : St} {T : Nat → Nat} {b : Nat} {c c' : Nat → Nat} {i : Nat} (h : ∀ k, k ≤ i → c k = c' k) : inc S T b c i = inc S T b c' i := by
  unfold inc
  by_cases q : b = 1
  · rw [if_pos q, if_pos q, h i (Nat.le_refl _), h (i - 1) (by omega)]
  · rw [if_neg q, if_neg q]
    refine sumR_cg 0 i (fun k hk => ?_)
    show S.2 38 (10 * (0 + k) + i) * lkn S (T (c (0 + k))) (T (c i)) = S.2 38 (10 * (0 + k) + i) * lkn S (T (c' (0 + k))) (T (c' i))
    rw [h i (Nat.le_refl _), h (0 + k) (by omega)]
theorem smo_cg {S : St} {T : Nat → Nat} {b : Nat} {c c' : Nat → Nat} : ∀ n, (∀ k, k < n → c k = c' k) → smo S T b c n = smo S T b c' n
  | 0, _ => rfl
  | n + 1, h => by
    show smo S T b c n + inc S T b c n = smo S T b c' n + inc S T b c' n
    rw [smo_cg n (fun k hk => h k (by omega)), inc_cg (fun k hk => h k (by omega))]
theorem sumR_le' {f : Nat → Nat} {m a : Nat} : ∀ n, (∀ k, k < n → f (a + k) ≤ m) → sumR f a n ≤ m * n
  | 0, _ => Nat.zero_le _
  | n + 1, h => by
    have h1 := sumR_le' (f := f) (m := m) (a := a) n (fun k hk => h k (by omega))
    have h2 := h n (by omega)
    show sumR f a n + f (a + n) ≤ m * (n + 1)
    rw [Nat.mul_add]
    omega
theorem Good.al {S : St} (g : Good S) {k : Nat} (hk : k < 100) : S.2 38 k ≤ 9 := g.2.2.2.2.2.2.2.2.2.2.2.2.2.2.2.2.1 k hk
theorem Good.as {S : St} (g : Good S) {a b : Nat} (ha : a < 10) (hb : b < 10) : S.2 38 (10 * a + b) = S.2 38 (10 * b + a) := g.2.2.2.2.2.2.2.2.2.2.2.2.2.2.2.2.2 a b ha hb
theorem inc_le {S : St} (g : Good S) (T : Nat → Nat) (b : Nat) (c : Nat → Nat) {i : Nat} (hi : i ≤ 8) : inc S T b c i ≤ 576 := by
  unfold inc
  by_cases q : b = 1
  · rw [if_pos q]
    have := lkn_le S (T (c (i - 1))) (T (c i))
    split <;> omega
  · rw [if_neg q]
    have h : sumR (fun k => S.2 38 (10 * k + i) * lkn S (T (c k)) (T (c i))) 0 i ≤ 72 * i := sumR_le' i (fun k hk => Nat.mul_le_mul (g.al (by omega)) (lkn_le S _ _))
    have h2 : 72 * i ≤ 72 * 8 := Nat.mul_le_mul_left 72 hi
    omega
theorem smo_le {S : St} (g : Good S) (T : Nat → Nat) (b : Nat) (c : Nat → Nat) : ∀ n, n ≤ 9 → smo S T b c n ≤ 576 * n
  | 0, _ => Nat.zero_le _
  | n + 1, h => by
    have h1 := smo_le g T b c n (by omega)
    have h2 := inc_le g T b c (i := n) (by omega)
    show smo S T b c n + inc S T b c n ≤ 576 * (n + 1)
    omega
theorem smo_mono (S : St) (T : Nat → Nat) (b : Nat) (c : Nat → Nat) (i : Nat) : ∀ t, smo S T b c i ≤ smo S T b c (i + t)
  | 0 => Nat.le_refl _
  | t + 1 => Nat.le_trans (smo_mono S T b c i t) (Nat.le_add_right _ _)
def svo (S : St) (T : Nat → Nat) (b n k : Nat) : Nat := if unq n (dgb n n k) then smo S T b (dgb n n k) n + 1 else 0
def bto (o v : Nat) : Bool := decide (v ≠ 0 ∧ (o = 0 ∨ v < o))
theorem bto_t {o v : Nat} : (bto o v = true) = (v ≠ 0 ∧ (o = 0 ∨ v < o)) := by
  unfold bto
  exact propext decide_eq_true_iff
def ok (S : St) (T : Nat → Nat) (b n : Nat) : Nat → Nat × Nat := fo bto (svo S T b n)
theorem ok_b {S : St} (g : Good S) (T : Nat → Nat) (b : Nat) {n : Nat} (hn : n ≤ 8) (P : Nat) : (ok S T b n P).1 ≤ 6000 := fo_b (fun k => by
  have := smo_le g T b (dgb n n k) n (by omega)
  unfold svo
  split <;> omega) P
theorem num_lt {b : Nat} {c : Nat → Nat} : ∀ d, (∀ i, i < d → c i < b) → num b c d < b ^ d
  | 0, _ => by
    show 0 < b ^ 0
    rw [Nat.pow_zero]
    omega
  | d + 1, h => by
    have h1 := num_lt (b := b) (c := c) d (fun i hi => h i (by omega))
    have h2 := h d (by omega)
    show b * num b c d + c d < b ^ (d + 1)
    rw [Nat.pow_succ, Nat.mul_comm (b ^ d) b]
    have h3 : b * (num b c d + 1) ≤ b * b ^ d := Nat.mul_le_mul_left b h1
    rw [Nat.mul_add] at h3
    omega
theorem ok_nz {S : St} {T : Nat → Nat} {b n P : Nat} : ∀ t, (ok S T b n P).1 ≠ 0 → (ok S T b n (P + t)).1 ≠ 0
  | 0, h => h
  | t + 1, h => by
    have ih := ok_nz (S := S) (T := T) (b := b) (n := n) (P := P) t h
    show (if bto (ok S T b n (P + t)).1 (svo S T b n (P + t)) = true then (svo S T b n (P + t), P + t + 1) else ok S T b n (P + t)).1 ≠ 0
    by_cases q : bto (ok S T b n (P + t)).1 (svo S T b n (P + t)) = true
    · rw [if_pos q]
      rw [bto_t] at q
      exact q.1
    · rw [if_neg q]
      exact ih
theorem ok_z (S : St) (T : Nat → Nat) (b n : Nat) : ∀ P, (ok S T b n P).2 = 0 → (ok S T b n P).1 = 0
  | 0, _ => rfl
  | P + 1, h => by
    have h' : (if bto (ok S T b n P).1 (svo S T b n P) = true then (svo S T b n P, P + 1) else ok S T b n P).2 = 0 := h
    show (if bto (ok S T b n P).1 (svo S T b n P) = true then (svo S T b n P, P + 1) else ok S T b n P).1 = 0
    by_cases q : bto (ok S T b n P).1 (svo S T b n P) = true
    · rw [if_pos q] at h'
      cases h'
    · rw [if_neg q] at h' ⊢
      exact ok_z S T b n P h'
theorem ok_full (S : St) (T : Nat → Nat) (b : Nat) {n : Nat} (h1 : 1 ≤ n) : (ok S T b n (n ^ n)).1 ≠ 0 := by
  have hl := num_lt (b := n) (c := fun i => i) n (fun i hi => hi)
  have dg : ∀ i, i < n → dgb n n (num n (fun i => i) n) i = i := fun i hi => by
    have := dgb_num (b := n) (n := n) (d := n - 1) (r := 0) (c := fun i => i) (fun i hi => by show i < n; omega) (by omega) (Nat.pow_pos (by omega)) (i := i) (by omega)
    rw [show n - 1 + 1 = n by omega, show n - 1 - (n - 1) = 0 by omega, Nat.pow_zero, Nat.mul_one, Nat.add_zero] at this
    exact this
  have sv : svo S T b n (num n (fun i => i) n) ≠ 0 := by
    unfold svo
    rw [if_pos (fun k hk j hj => by rw [dg k hk, dg j (by omega)]; omega)]
    omega
  have step : (ok S T b n (num n (fun i => i) n + 1)).1 ≠ 0 := by
    show (if bto (ok S T b n (num n (fun i => i) n)).1 (svo S T b n (num n (fun i => i) n)) = true then (svo S T b n (num n (fun i => i) n), num n (fun i => i) n + 1) else ok S T b n (num n (fun i => i) n)).1 ≠ 0
    by_cases q : bto (ok S T b n (num n (fun i => i) n)).1 (svo S T b n (num n (fun i => i) n)) = true
    · rw [if_pos q]
      exact sv
    · rw [if_neg q]
      intro z
      exact q (by rw [bto_t]; exact ⟨sv, Or.inl z⟩)
  have := ok_nz (n ^ n - (num n (fun i => i) n + 1)) step
  rw [show num n (fun i => i) n + 1 + (n ^ n - (num n (fun i => i) n + 1)) = n ^ n by omega] at this
  exact this
section OS
variable {S : St} {T : Nat → Nat} {b n d : Nat} {c : Nat → Nat}
theorem o_dig (hd : d < n) (hc : ∀ i, i ≤ d → c i < n) {k : Nat} (h1 : num n c (d + 1) * n ^ (n - 1 - d) ≤ k) (h2 : k < num n c (d + 1) * n ^ (n - 1 - d) + n ^ (n - 1 - d)) {i : Nat} (hi : i ≤ d) : dgb n n k i = c i := by
  have := dgb_num (b := n) (n := n) (d := d) (r := k - num n c (d + 1) * n ^ (n - 1 - d)) (c := c) hc hd (by omega) hi
  rw [show num n c (d + 1) * n ^ (n - 1 - d) + (k - num n c (d + 1) * n ^ (n - 1 - d)) = k by omega] at this
  exact this
/-- what begins with a place met before -/
theorem o_dup (hd : d < n) (hc : ∀ i, i ≤ d → c i < n) (h : ¬ ∀ k, k < d → c k ≠ c d) : ok S T b n (num n c (d + 1) * n ^ (n - 1 - d) + n ^ (n - 1 - d)) = ok S T b n (num n c (d + 1) * n ^ (n - 1 - d)) := fo_skip _ (fun k h1 h2 z => by
  rw [bto_t] at z
  refine z.1 (if_neg (fun u => h (fun j hj e => u d hd j hj ?_)))
  rw [o_dig hd hc h1 h2 (Nat.le_refl _), o_dig hd hc h1 h2 (by omega), e])
/-- what comes to too much already -/
theorem o_prune (hd : d < n) (hc : ∀ i, i ≤ d → c i < n) (h0 : (ok S T b n (num n c (d + 1) * n ^ (n - 1 - d))).1 ≠ 0) (h : (ok S T b n (num n c (d + 1) * n ^ (n - 1 - d))).1 ≤ smo S T b c (d + 1) + 1) : ok S T b n (num n c (d + 1) * n ^ (n - 1 - d) + n ^ (n - 1 - d)) = ok S T b n (num n c (d + 1) * n ^ (n - 1 - d)) := fo_skip _ (fun k h1 h2 z => by
  rw [bto_t] at z
  have z2 := z.2.resolve_left h0
  have e : smo S T b c (d + 1) = smo S T b (dgb n n k) (d + 1) := smo_cg (d + 1) (fun i hi => (o_dig hd hc h1 h2 (by omega)).symm)
  have m := smo_mono S T b (dgb n n k) (d + 1) (n - (d + 1))
  rw [show d + 1 + (n - (d + 1)) = n by omega] at m
  have z1 := z.1
  unfold svo at z1 z2
  by_cases u : unq n (dgb n n k)
  · rw [if_pos u] at z2
    have z3 : smo S T b (dgb n n k) n + 1 < (ok S T b n (num n c (d + 1) * n ^ (n - 1 - d))).1 := z2
    omega
  · rw [if_neg u] at z1
    exact z1 rfl)
theorem o_leaf (hd : d + 1 = n) (hc : ∀ i, i ≤ d → c i < n) (hu : unq n c) : svo S T b n (num n c (d + 1)) = smo S T b c n + 1 := by
  have pz : n - 1 - d = 0 := by omega
  have dg : ∀ i, i < n → dgb n n (num n c (d + 1)) i = c i := fun i hi => o_dig (d := d) (by omega) hc (by rw [pz, Nat.pow_zero, Nat.mul_one]; exact Nat.le_refl _) (by rw [pz, Nat.pow_zero, Nat.mul_one]; omega) (by omega)
  unfold svo
  rw [if_pos (fun k hk j hj => by rw [dg k hk, dg j (by omega)]; exact hu k hk j hj), smo_cg n dg]
end OS
theorem ok_s (S : St) (T : Nat → Nat) (b n P : Nat) : ok S T b n (P + 1) = if svo S T b n P ≠ 0 ∧ ((ok S T b n P).1 = 0 ∨ svo S T b n P < (ok S T b n P).1) then (svo S T b n P, P + 1) else ok S T b n P := by
  show (if bto (ok S T b n P).1 (svo S T b n P) = true then _ else _) = _
  by_cases q : svo S T b n P ≠ 0 ∧ ((ok S T b n P).1 = 0 ∨ svo S T b n P < (ok S T b n P).1)
  · rw [if_pos (bto_t ▸ q), if_pos q]
  · rw [if_neg (fun z => q (bto_t ▸ z)), if_neg q]
    rfl
/-! the twin's sums -/
theorem m_speech {M : Nat} {σ : Hp} {F : Nat → Nat → Int32} {S : St} (g : Good S) (h : RepM M (hv σ F) S) {n : Nat} {T c : Nat → Nat} (h1 : 1 ≤ n) (h8 : n ≤ 8) (hT : ∀ k, k < n → T k < 24 ∧ F (M + 19) k = nI (T k)) (hc : ∀ k, k < n → c k < n ∧ F (M + 20) k = nI (c k)) : F_X10_speechOf (hv σ F) M (nI n) = some (nI (smo S T 1 c n), hv σ F) := by
  have s : SM M σ := h.1
  unfold F_X10_speechOf L_X10_speechOf_4
  rw [gd_hv s.1]
  obtain ⟨m, hm⟩ := it_FU (body := fun rec st => B_X10_speechOf_4 M (nI n) rec st.1 st.2.1 st.2.2) (fun k => (hv σ F, nI (smo S T 1 c k), nI k)) 1 n (by omega) (by omega) (fun k h1 hk rec => by
    have c1 := hc k hk
    have c2 := hc (k - 1) (by omega)
    have t1 := hT (c k) c1.1
    have t2 := hT (c (k - 1)) c2.1
    have lk := m_lk g h (a := T (c (k - 1))) (b := T (c k)) t2.1 t1.1
    have e : inc S T 1 c k = lkn S (T (c (k - 1))) (T (c k)) := by
      unfold inc
      rw [if_pos rfl, if_neg (by omega)]
    show B_X10_speechOf_4 M (nI n) rec (hv σ F) (nI (smo S T 1 c k)) (nI k) = rec (hv σ F, nI (smo S T 1 c k + inc S T 1 c k), nI (k + 1))
    rw [e]
    simp (decide := true) (disch := omega) only [B_X10_speechOf_4, gd_hv s.1, gI_hv s.1, pI_hv s.1, s.R31, s.A31, s.W31, s.R32, s.A32, s.W32, b1_some, b2_some, litI, neg1, nI_add, nI_mul, e1_p1, nI_e0, ib, ib1, ite_not, if_true, if_false, not_true_eq_false, not_false_eq_true, setI_hv, le_lit, nI_sub, show ¬ n ≤ k by omega, c1.2, c2.2, t1.2, t2.2, lk])
  have e0 : smo S T 1 c 1 = 0 := by
    show 0 + inc S T 1 c 0 = 0
    unfold inc
    rw [if_pos rfl, if_pos rfl]
  rw [e0] at hm
  refine Eq.trans hm ?_
  simp (decide := true) (disch := omega) only [B_X10_speechOf_4, b1_some, b2_some, litI, neg1, nI_add, nI_mul, e1_p1, nI_e0, ib, ib1, ite_not, if_true, if_false, not_true_eq_false, not_false_eq_true, setI_hv, le_lit, Nat.le_refl]
theorem m_harm {M : Nat} {σ : Hp} {F : Nat → Nat → Int32} {S : St} (g : Good S) (h : RepM M (hv σ F) S) {n : Nat} {T c : Nat → Nat} (h8 : n ≤ 8) (hT : ∀ k, k < n → T k < 24 ∧ F (M + 19) k = nI (T k)) (hc : ∀ k, k < n → c k < n ∧ F (M + 20) k = nI (c k)) : F_X10_harmOf (hv σ F) M (nI n) = some (nI (smo S T 0 c n), hv σ F) := by
  have s : SM M σ := h.1
  unfold F_X10_harmOf L_X10_harmOf_4
  rw [gd_hv s.1]
  obtain ⟨m, hm⟩ := it_FU (body := fun rec st => B_X10_harmOf_4 M (nI n) rec st.1 st.2.1 st.2.2) (fun k => (hv σ F, nI (smo S T 0 c k), nI k)) 0 n (by omega) (by omega) (fun k _ hk rec => by
    have c1 := hc k hk
    have t1 := hT (c k) c1.1
    have e : inc S T 0 c k = sumR (fun k' => S.2 38 (10 * k' + k) * lkn S (T (c k')) (T (c k))) 0 k := by
      unfold inc
      rw [if_neg (by omega)]
    obtain ⟨m', hm'⟩ := it_FU (body := fun rec' st => B_X10_harmOf_12 rec M (nI n) (nI k) rec' st.1 st.2.1 st.2.2) (fun j => (hv σ F, nI (smo S T 0 c k + sumR (fun k' => S.2 38 (10 * k' + k) * lkn S (T (c k')) (T (c k))) 0 j), nI j)) 0 k (by omega) (by omega) (fun j _ hj rec' => by
      have c2 := hc j (by omega)
      have t2 := hT (c j) c2.1
      have lk := m_lk g h (a := T (c k)) (b := T (c j)) t1.1 t2.1
      have e2 : S.2 38 (10 * j + k) * lkn S (T (c j)) (T (c k)) = lkn S (T (c k)) (T (c j)) * S.2 38 (10 * k + j) := by
        rw [g.as (by omega) (by omega), lkn_comm, Nat.mul_comm]
      show B_X10_harmOf_12 rec M (nI n) (nI k) rec' (hv σ F) (nI (smo S T 0 c k + sumR (fun k' => S.2 38 (10 * k' + k) * lkn S (T (c k')) (T (c k))) 0 j)) (nI j) = rec' (hv σ F, nI (smo S T 0 c k + (sumR (fun k' => S.2 38 (10 * k' + k) * lkn S (T (c k')) (T (c k))) 0 j + S.2 38 (10 * (0 + j) + k) * lkn S (T (c (0 + j))) (T (c k)))), nI (j + 1))
      rw [Nat.zero_add, e2, ← Nat.add_assoc]
      generalize smo S T 0 c k + sumR (fun k' => S.2 38 (10 * k' + k) * lkn S (T (c k')) (T (c k))) 0 j = y
      simp (decide := true) (disch := omega) only [B_X10_harmOf_12, gd_hv s.1, gI_hv s.1, pI_hv s.1, s.R31, s.A31, s.W31, s.R32, s.A32, s.W32, s.R38, s.A38, s.W38, b1_some, b2_some, litI, neg1, nI_add, nI_mul, e1_p1, nI_e0, ib, ib1, ite_not, if_true, if_false, not_true_eq_false, not_false_eq_true, setI_hv, le_lit, show ¬ k ≤ j by omega, c1.2, c2.2, t1.2, t2.2, lk, h.a38])
    have lp : L_X10_harmOf_12 rec M (nI n) (nI k) FU (hv σ F, nI (smo S T 0 c k), nI 0) = rec (hv σ F, nI (smo S T 0 c k + inc S T 0 c k), nI (k + 1)) := by
      refine Eq.trans hm' ?_
      rw [e]
      simp (decide := true) (disch := omega) only [B_X10_harmOf_12, b1_some, b2_some, litI, neg1, nI_add, nI_mul, e1_p1, nI_e0, ib, ib1, ite_not, if_true, if_false, not_true_eq_false, not_false_eq_true, setI_hv, le_lit, Nat.le_refl]
    show B_X10_harmOf_4 M (nI n) rec (hv σ F) (nI (smo S T 0 c k)) (nI k) = rec (hv σ F, nI (smo S T 0 c k + inc S T 0 c k), nI (k + 1))
    rw [← lp]
    simp (decide := true) (disch := omega) only [B_X10_harmOf_4, b1_some, b2_some, litI, neg1, nI_add, nI_mul, e1_p1, nI_e0, ib, ib1, ite_not, if_true, if_false, not_true_eq_false, not_false_eq_true, setI_hv, le_lit, show ¬ n ≤ k by omega])
  refine Eq.trans hm ?_
  simp (decide := true) (disch := omega) only [B_X10_harmOf_4, b1_some, b2_some, litI, neg1, nI_add, nI_mul, e1_p1, nI_e0, ib, ib1, ite_not, if_true, if_false, not_true_eq_false, not_false_eq_true, setI_hv, le_lit, Nat.le_refl]
end
section
set_option maxRecDepth 100000
/-! pure law 35: the twin's search for an order; laid and code by the twin -/
def BestO (M : Nat) (F : Nat → Nat → Int32) (T : Nat → Nat) (n k : Nat) : Prop := k ≠ 0 → ∀ i, i < n → F (M + 21) i = nI (T (dgb n n (k - 1) i))
theorem m_cpy {M : Nat} {σ : Hp} {F : Nat → Nat → Int32} (s : SM M σ) {n : Nat} {T c : Nat → Nat} {x2 x3 : Int32} (h8 : n ≤ 8) (hT : ∀ k, k < n → F (M + 19) k = nI (T k)) (hc : ∀ k, k < n → c k < n ∧ F (M + 20) k = nI (c k)) (rec : Hp × Int32 → Option Hp) : L_X10_findOrder_147 rec M (nI n) x2 x3 FU (hv σ F, nI 0) = rec (hv σ (fz F (M + 21) n (fun k => T (c k))), x3) := by
  unfold L_X10_findOrder_147
  obtain ⟨m, hm⟩ := it_FU (body := fun rec' st => B_X10_findOrder_147 rec M (nI n) x2 x3 rec' st.1 st.2) (fun k => (hv σ (fz F (M + 21) k (fun k => T (c k))), nI k)) 0 n (by omega) (by omega) (fun k _ hk rec' => by
    have c1 := hc k hk
    have t1 := hT (c k) c1.1
    have r1 : fz F (M + 21) k (fun k => T (c k)) (M + 20) k = nI (c k) := (fz_off (by omega)).trans c1.2
    have r2 : fz F (M + 21) k (fun k => T (c k)) (M + 19) (c k) = nI (T (c k)) := (fz_off (by omega)).trans t1
    show B_X10_findOrder_147 rec M (nI n) x2 x3 rec' (hv σ (fz F (M + 21) k (fun k => T (c k)))) (nI k) = rec' (hv σ (fz F (M + 21) (k + 1) (fun k => T (c k))), nI (k + 1))
    rw [← fz_grow]
    generalize fz F (M + 21) k (fun k => T (c k)) = F1 at r1 r2
    simp (decide := true) (disch := omega) only [B_X10_findOrder_147, gd_hv s.1, gI_hv s.1, pI_hv s.1, s.R31, s.A31, s.W31, s.R32, s.A32, s.W32, s.R33, s.A33, s.W33, b1_some, b2_some, litI, neg1, nI_add, nI_mul, e1_p1, nI_e0, ib, ib1, ite_not, if_true, if_false, not_true_eq_false, not_false_eq_true, setI_hv, le_lit, show ¬ n ≤ k by omega, r1, r2])
  rw [fz_0] at hm
  refine hm.trans ?_
  simp (decide := true) (disch := omega) only [B_X10_findOrder_147, b1_some, b2_some, litI, neg1, nI_add, nI_mul, e1_p1, nI_e0, ib, ib1, ite_not, if_true, if_false, not_true_eq_false, not_false_eq_true, setI_hv, le_lit, Nat.le_refl]
theorem m_free {M : Nat} {σ : Hp} {F : Nat → Nat → Int32} (s : SM M σ) {n d : Nat} {c : Nat → Nat} {x2 : Int32} (h8 : n ≤ 8) (hd : d < n) (hc : ∀ k, k ≤ d → c k ≤ n ∧ F (M + 20) k = nI (c k)) (rec : Hp × Int32 → Option Hp) : L_X10_findOrder_34 rec (hv σ F) M (nI n) x2 (nI d) FU (nI 1, nI 0) = F_X10_findOrder_74 rec (hv σ F) M (nI n) x2 (nI d) (nI (if ∀ k, k < d → c k ≠ c d then 1 else 0)) := by
  unfold L_X10_findOrder_34
  have cd := hc d (Nat.le_refl _)
  obtain ⟨m, hm⟩ := it_FU (body := fun rec' st => B_X10_findOrder_34 rec (hv σ F) M (nI n) x2 (nI d) rec' st.1 st.2) (fun t => (nI (if ∀ k, k < t → c k ≠ c d then 1 else 0), nI t)) 0 d (by omega) (by omega) (fun t _ ht rec' => by
    have ct := hc t (by omega)
    show B_X10_findOrder_34 rec (hv σ F) M (nI n) x2 (nI d) rec' (nI (if ∀ k, k < t → c k ≠ c d then 1 else 0)) (nI t) = rec' (nI (if ∀ k, k < t + 1 → c k ≠ c d then 1 else 0), nI (t + 1))
    by_cases q1 : ∀ k, k < t → c k ≠ c d
    · rw [if_pos q1]
      by_cases q2 : c t = c d
      · rw [if_neg (fun u => u t (by omega) q2)]
        simp (decide := true) (disch := omega) only [B_X10_findOrder_34, gd_hv s.1, gI_hv s.1, pI_hv s.1, s.R32, s.A32, s.W32, b1_some, b2_some, litI, neg1, nI_add, nI_mul, e1_p1, nI_e0, ib, ib1, ite_not, if_true, if_false, not_true_eq_false, not_false_eq_true, setI_hv, le_lit, eq_lit, show ¬ d ≤ t by omega, ct.2, cd.2, q2]
      · rw [if_pos (fun k hk => by
          by_cases e : k = t
          · rw [e]; exact q2
          · exact q1 k (by omega))]
        simp (decide := true) (disch := omega) only [B_X10_findOrder_34, gd_hv s.1, gI_hv s.1, pI_hv s.1, s.R32, s.A32, s.W32, b1_some, b2_some, litI, neg1, nI_add, nI_mul, e1_p1, nI_e0, ib, ib1, ite_not, if_true, if_false, not_true_eq_false, not_false_eq_true, setI_hv, le_lit, eq_lit, show ¬ d ≤ t by omega, ct.2, cd.2, q2]
    · rw [if_neg q1, if_neg (fun u => q1 (fun k hk => u k (by omega)))]
      simp (decide := true) (disch := omega) only [B_X10_findOrder_34, b1_some, b2_some, litI, neg1, nI_add, nI_mul, e1_p1, nI_e0, ib, ib1, ite_not, if_true, if_false, not_true_eq_false, not_false_eq_true, setI_hv, le_lit, show ¬ d ≤ t by omega])
  have z1 : ∀ t, t = 0 → (if ∀ k, k < t → c k ≠ c d then 1 else 0) = 1 := fun t ht => if_pos (fun k hk => by omega)
  rw [z1 0 rfl] at hm
  refine hm.trans ?_
  simp (decide := true) (disch := omega) only [B_X10_findOrder_34, b1_some, b2_some, litI, neg1, nI_add, nI_mul, e1_p1, nI_e0, ib, ib1, ite_not, if_true, if_false, not_true_eq_false, not_false_eq_true, setI_hv, le_lit, Nat.le_refl]
def OI (M : Nat) (σ : Hp) (f : Nat → Nat → Int32) (S : St) (T : Nat → Nat) (b n m : Nat) (st : Hp × Int32) : Prop := ∃ F, RepM M (hv σ F) S ∧ (∀ a j, a < M ∨ M + 26 ≤ a → F a j = f a j) ∧ (∀ k, k < n → T k < 24 ∧ F (M + 19) k = nI (T k)) ∧
  ((∃ c d, d < n ∧ (∀ i, i < d → c i < n) ∧ c d ≤ n ∧ m = mt n c d ∧ st = (hv σ F, nI d) ∧ (∀ i, i < d → F (M + 20) i = nI (c i)) ∧ F (M + 20) d = e1 (c d) ∧ unq d c ∧ F M 34 = e1 (ok S T b n (num n c (d + 1) * n ^ (n - 1 - d))).1 ∧ BestO M F T n (ok S T b n (num n c (d + 1) * n ^ (n - 1 - d))).2) ∨
   (m = 0 ∧ st = (hv σ F, e1 0) ∧ F M 34 = e1 (ok S T b n (n ^ n)).1 ∧ BestO M F T n (ok S T b n (n ^ n)).2))
def OD (M : Nat) (σ : Hp) (f : Nat → Nat → Int32) (S : St) (T : Nat → Nat) (b n : Nat) (st : Hp × Int32) : Prop := ∃ F, RepM M (hv σ F) S ∧ (∀ a j, a < M ∨ M + 26 ≤ a → F a j = f a j) ∧ st = (hv σ F, e1 0) ∧ F M 34 = e1 (ok S T b n (n ^ n)).1 ∧ BestO M F T n (ok S T b n (n ^ n)).2
theorem RepM.s34 {M : Nat} {σ : Hp} {F : Nat → Nat → Int32} {S : St} (h : RepM M (hv σ F) S) (v : Int32) : RepM M (hv σ (u2 F M 34 v)) S := h.scrS 34 (by decide) v
theorem oi_step {M : Nat} {σ : Hp} {f : Nat → Nat → Int32} {S : St} (g : Good S) {T : Nat → Nat} {b n : Nat} (hb : b ≤ 1) (h1 : 1 ≤ n) (h8 : n ≤ 8) (m : Nat) (st : Hp × Int32) (hp : OI M σ f S T b n m st) : OD M σ f S T b n st ∨ ∃ m' st', m' < m ∧ OI M σ f S T b n m' st' ∧ ∀ rec, B_X10_findOrder_14 M (nI n) (nI b) rec st.1 st.2 = rec st' := by
  obtain ⟨F, rp, off, hT, hq⟩ := hp
  rcases hq with ⟨c, d, hd, hc, hcd, em, es, k1, k2, k3, k4, k5⟩ | ⟨em, es, k4, k5⟩
  case inr => exact Or.inl ⟨F, rp, off, es, k4, k5⟩
  right
  have s : SM M σ := rp.1
  subst es
  obtain ⟨F1, hF1⟩ : ∃ F1, F1 = u2 F (M + 20) d (nI (c d)) := ⟨_, rfl⟩
  have r1 : RepM M (hv σ F1) S := rp.sa 20 (by omega) (fun a j ha => by rw [hF1]; exact u2_n (by omega))
  have o1 : ∀ a j, ¬ (a = M + 20 ∧ j = d) → F1 a j = F a j := fun a j ha => by rw [hF1]; exact u2_n ha
  have T1 : ∀ k, k < n → T k < 24 ∧ F1 (M + 19) k = nI (T k) := fun k hk => ⟨(hT k hk).1, (o1 _ _ (by omega)).trans (hT k hk).2⟩
  have C1 : ∀ k, k < d → F1 (M + 20) k = nI (c k) := fun k hk => (o1 _ _ (by omega)).trans (k1 k hk)
  have Cd : F1 (M + 20) d = nI (c d) := by rw [hF1]; exact u2_e
  have C2 : ∀ k, k ≤ d → c k ≤ n ∧ F1 (M + 20) k = nI (c k) := fun k hk => by
    by_cases e : k = d
    · rw [e]; exact ⟨hcd, Cd⟩
    · exact ⟨by have := hc k (by omega); omega, C1 k (by omega)⟩
  have K4 : F1 M 34 = e1 (ok S T b n (num n c (d + 1) * n ^ (n - 1 - d))).1 := (o1 _ _ (by omega)).trans k4
  have K5 : BestO M F1 T n (ok S T b n (num n c (d + 1) * n ^ (n - 1 - d))).2 := fun z i hi => (o1 _ _ (by omega)).trans (k5 z i hi)
  have off1 : ∀ a j, a < M ∨ M + 26 ≤ a → F1 a j = f a j := fun a j ha => (o1 _ _ (by omega)).trans (off a j ha)
  have pb := ok_b g T b h8 (num n c (d + 1) * n ^ (n - 1 - d))
  -- the head of the loop
  have head : ∀ rec, B_X10_findOrder_14 M (nI n) (nI b) rec (hv σ F) (nI d) = F_X10_findOrder_74 rec (hv σ F1) M (nI n) (nI b) (nI d) (nI (if ∀ k, k < d → c k ≠ c d then 1 else 0)) := fun rec => by
    rw [← m_free s h8 hd C2 rec]
    rw [hF1]
    simp (decide := true) (disch := omega) only [B_X10_findOrder_14, gd_hv s.1, gI_hv s.1, pI_hv s.1, s.R32, s.A32, s.W32, b1_some, b2_some, litI, neg1, nI_add, nI_mul, e1_p1, nI_e0, ib, ib1, ite_not, if_true, if_false, not_true_eq_false, not_false_eq_true, setI_hv, lt_lit, show ¬ d < 0 by omega, k2]
  show ∃ m' st', m' < m ∧ OI M σ f S T b n m' st' ∧ ∀ rec, B_X10_findOrder_14 M (nI n) (nI b) rec (hv σ F) (nI d) = rec st'
  clear hF1
  by_cases q9 : c d = n
  · cases d with
    | zero =>
      have eP : num n c (0 + 1) * n ^ (n - 1 - 0) = n ^ n := by
        show (n * 0 + c 0) * n ^ (n - 1 - 0) = n ^ n
        rw [q9, Nat.mul_zero, Nat.zero_add, Nat.mul_comm, ← Nat.pow_succ]
        exact congrArg (fun k => n ^ k) (by omega)
      rw [eP] at K4 K5
      refine ⟨0, (hv σ F1, e1 0), by rw [em]; exact mt_pos (by omega), ⟨F1, r1, off1, T1, Or.inr ⟨rfl, rfl, K4, K5⟩⟩, fun rec => ?_⟩
      rw [head rec]
      rw [q9] at Cd
      rw [if_pos (fun k hk => absurd hk (Nat.not_lt_zero k))]
      simp (decide := true) (disch := omega) only [F_X10_findOrder_74, gd_hv s.1, gI_hv s.1, pI_hv s.1, s.R32, s.A32, s.W32, b1_some, b2_some, litI, neg1, nI_add, nI_mul, e1_p1, nI_e0, ib, ib1, ite_not, if_true, if_false, not_true_eq_false, not_false_eq_true, setI_hv, Cd, nI_e]
    | succ d =>
      have hcd' := hc d (by omega)
      have eP := num_back (b := n) (n := n) (c := c) hd q9
      refine ⟨mt n (up c d (c d + 1)) d, (hv σ F1, nI d), by rw [em]; exact mt_back (by omega) (by omega), ⟨F1, r1, off1, T1, Or.inl ⟨up c d (c d + 1), d, by omega, fun i hi => by rw [up_n (by omega)]; exact hc i (by omega), by rw [up_e]; omega, rfl, rfl, fun i hi => ?_, ?_, fun k hk j hj => ?_, ?_, ?_⟩⟩, fun rec => ?_⟩
      · rw [up_n (by omega)]
        exact C1 i (by omega)
      · rw [up_e, e1_s]
        exact C1 d (by omega)
      · rw [up_n (by omega), up_n (by omega)]
        exact k3 k (by omega) j hj
      · rw [eP]; exact K4
      · rw [eP]; exact K5
      · rw [head rec]
        rw [q9] at Cd
        generalize (if ∀ k, k < d + 1 → c k ≠ c (d + 1) then 1 else 0) = y
        simp (decide := true) (disch := omega) only [F_X10_findOrder_74, gd_hv s.1, gI_hv s.1, pI_hv s.1, s.R32, s.A32, s.W32, b1_some, b2_some, litI, neg1, nI_add, nI_mul, e1_p1, nI_e0, ib, ib1, ite_not, if_true, if_false, not_true_eq_false, not_false_eq_true, setI_hv, Cd, nI_e, e1_s]
  · have hcn : c d < n := by omega
    have hcl : ∀ i, i ≤ d → c i < n := fun i hi => by
      by_cases e : i = d
      · rw [e]; exact hcn
      · exact hc i (by omega)
    have stay : num n (up c d (c d + 1)) (d + 1) * n ^ (n - 1 - d) = num n c (d + 1) * n ^ (n - 1 - d) + n ^ (n - 1 - d) := by
      rw [num_stay, Nat.succ_mul]
    by_cases fr : ∀ k, k < d → c k ≠ c d
    · have hu : unq (d + 1) c := (unq_s d c).mpr ⟨k3, fr⟩
      by_cases qn : d + 1 = n
      · -- a leaf
        have z0 : n - 1 - d = 0 := by omega
        have eP : num n c (d + 1) * n ^ (n - 1 - d) = num n c (d + 1) := by rw [z0, Nat.pow_zero, Nat.mul_one]
        have eP' : num n (up c d (c d + 1)) (d + 1) * n ^ (n - 1 - d) = num n c (d + 1) + 1 := by rw [num_stay, z0, Nat.pow_zero, Nat.mul_one]
        have ev := o_leaf (S := S) (T := T) (b := b) qn hcl (by rw [← qn]; exact hu)
        have Cn : ∀ k, k < n → c k < n ∧ F1 (M + 20) k = nI (c k) := fun k hk => ⟨hcl k (by omega), (C2 k (by omega)).2⟩
        have sl := smo_le g T b c n (by omega)
        have ps := ok_s S T b n (num n c (d + 1))
        rw [ev] at ps
        rw [eP] at K4 K5 pb
        have sums : ∀ rec, F_X10_findOrder_74 rec (hv σ F1) M (nI n) (nI b) (nI d) (nI 1) = F_X10_findOrder_119 rec (hv σ F1) M (nI n) (nI b) (nI d) (nI (smo S T b c n)) := fun rec => by
          have dn : nI n - nI 1 = nI d := by rw [nI_sub (by omega), show n - 1 = d by omega]
          have b01 : b = 0 ∨ b = 1 := by omega
          rcases b01 with rfl | rfl
          · have sp := m_harm g r1 h8 T1 Cn
            simp (decide := true) (disch := omega) only [F_X10_findOrder_74, gd_hv s.1, gI_hv s.1, pI_hv s.1, s.R32, s.A32, s.W32, b1_some, b2_some, litI, neg1, nI_add, nI_mul, e1_p1, nI_e0, ib, ib1, ite_not, if_true, if_false, not_true_eq_false, not_false_eq_true, setI_hv, Cd, eq_lit, q9, dn, sp]
          · have sp := m_speech g r1 h1 h8 T1 Cn
            simp (decide := true) (disch := omega) only [F_X10_findOrder_74, gd_hv s.1, gI_hv s.1, pI_hv s.1, s.R32, s.A32, s.W32, b1_some, b2_some, litI, neg1, nI_add, nI_mul, e1_p1, nI_e0, ib, ib1, ite_not, if_true, if_false, not_true_eq_false, not_false_eq_true, setI_hv, Cd, eq_lit, q9, dn, sp]
        obtain ⟨v, hv'⟩ : ∃ v, v = smo S T b c n := ⟨_, rfl⟩
        rw [← hv'] at sums ps sl
        obtain ⟨o, ho⟩ : ∃ o, o = (ok S T b n (num n c (d + 1))).1 := ⟨_, rfl⟩
        rw [← ho] at ps K4 pb
        by_cases qb : o = 0 ∨ v + 1 < o
        · rw [if_pos ⟨by omega, qb⟩] at ps
          have cp := fun rec => m_cpy (F := u2 F1 M 34 (nI v)) s (x2 := nI b) (x3 := nI d) h8 (T := T) (c := c) (fun k hk => (u2_n (by omega)).trans (T1 k hk).2) (fun k hk => ⟨(Cn k hk).1, (u2_n (by omega)).trans (Cn k hk).2⟩) rec
          refine ⟨mt n (up c d (c d + 1)) d, (hv σ (fz (u2 F1 M 34 (nI v)) (M + 21) n (fun k => T (c k))), nI d), by rw [em]; exact mt_stay (by omega), ⟨_, (r1.s34 (nI v)).zz 21 _ _ (by omega), fun a j ha => ?_, fun k hk => ⟨(T1 k hk).1, ?_⟩, Or.inl ⟨up c d (c d + 1), d, hd, fun i hi => by rw [up_n (by omega)]; exact hc i hi, by rw [up_e]; omega, rfl, rfl, fun i hi => ?_, ?_, fun k hk j hj => ?_, ?_, ?_⟩⟩, fun rec => ?_⟩
          · rw [fz_off (by omega), u2_n (by omega)]
            exact off1 a j ha
          · rw [fz_off (by omega), u2_n (by omega)]
            exact (T1 k hk).2
          · rw [fz_off (by omega), u2_n (by omega), up_n (by omega)]
            exact C1 i hi
          · rw [fz_off (by omega), u2_n (by omega), up_e, e1_s]
            exact Cd
          · rw [up_n (by omega), up_n (by omega)]
            exact k3 k hk j hj
          · rw [fz_off (by omega), u2_e, eP', ps, e1_s]
          · rw [eP', ps]
            intro z i hi
            rw [fz_rd hi]
            show nI (T (c i)) = nI (T (dgb n n (num n c (d + 1) + 1 - 1) i))
            rw [Nat.add_sub_cancel, o_dig (d := d) (c := c) hd hcl (by rw [eP]; exact Nat.le_refl _) (by rw [eP, z0, Nat.pow_zero]; omega) (by omega)]
          · rw [head rec, if_pos fr, sums rec, ← cp rec]
            by_cases qz : o = 0
            · rw [qz] at K4
              simp (decide := true) (disch := omega) only [F_X10_findOrder_119, gd_hv s.1, gI_hv s.1, pI_hv s.1, b1_some, b2_some, litI, neg1, nI_add, nI_mul, e1_p1, nI_e0, ib, ib1, ite_not, if_true, if_false, not_true_eq_false, not_false_eq_true, setI_hv, K4]
            · have K4' := K4.trans (e1_of (by omega))
              simp (decide := true) (disch := omega) only [F_X10_findOrder_119, gd_hv s.1, gI_hv s.1, pI_hv s.1, b1_some, b2_some, litI, neg1, nI_add, nI_mul, e1_p1, nI_e0, ib, ib1, ite_not, if_true, if_false, not_true_eq_false, not_false_eq_true, setI_hv, K4', le_lit, show ¬ o - 1 ≤ v by omega]
        · rw [if_neg (fun z => qb z.2)] at ps
          refine ⟨mt n (up c d (c d + 1)) d, (hv σ F1, nI d), by rw [em]; exact mt_stay (by omega), ⟨F1, r1, off1, T1, Or.inl ⟨up c d (c d + 1), d, hd, fun i hi => by rw [up_n (by omega)]; exact hc i hi, by rw [up_e]; omega, rfl, rfl, fun i hi => ?_, ?_, fun k hk j hj => ?_, ?_, ?_⟩⟩, fun rec => ?_⟩
          · rw [up_n (by omega)]
            exact C1 i hi
          · rw [up_e, e1_s]
            exact Cd
          · rw [up_n (by omega), up_n (by omega)]
            exact k3 k hk j hj
          · rw [eP', ps, ← ho]
            exact K4
          · rw [eP', ps]
            exact K5
          · rw [head rec, if_pos fr, sums rec]
            have K4' := K4.trans (e1_of (by omega))
            simp (decide := true) (disch := omega) only [F_X10_findOrder_119, gd_hv s.1, gI_hv s.1, pI_hv s.1, b1_some, b2_some, litI, neg1, nI_add, nI_mul, e1_p1, nI_e0, ib, ib1, ite_not, if_true, if_false, not_true_eq_false, not_false_eq_true, setI_hv, K4', le_lit, show o - 1 ≤ v by omega]
      · -- one level further
        have eP := num_down (b := n) (n := n) (c := c) (d := d) (by omega)
        refine ⟨mt n (up c (d + 1) 0) (d + 1), (hv σ (u2 F1 (M + 20) (d + 1) (e1 0)), nI (d + 1)), by rw [em]; exact mt_down (by omega) hd, ⟨_, r1.sa 20 (by omega) (fun a j ha => u2_n (by omega)), fun a j ha => (u2_n (by omega)).trans (off1 a j ha), fun k hk => ⟨(T1 k hk).1, (u2_n (by omega)).trans (T1 k hk).2⟩, Or.inl ⟨up c (d + 1) 0, d + 1, by omega, fun i hi => ?_, by rw [up_e]; omega, rfl, rfl, fun i hi => ?_, ?_, fun k hk j hj => ?_, ?_, ?_⟩⟩, fun rec => ?_⟩
        · rw [up_n (by omega)]
          exact hcl i (by omega)
        · rw [u2_n (by omega), up_n (by omega)]
          exact (C2 i (by omega)).2
        · rw [u2_e, up_e]
        · rw [up_n (by omega), up_n (by omega)]
          exact hu k (by omega) j hj
        · rw [eP, u2_n (by omega)]
          exact K4
        · rw [eP]
          intro z i hi
          show u2 F1 (M + 20) (d + 1) (e1 0) (M + 21) i = _
          rw [u2_n (by omega)]
          exact K5 z i hi
        · rw [head rec, if_pos fr]
          have dn : (nI d = nI n - nI 1) = False := by
            rw [nI_sub (by omega), eq_lit (by omega) (by omega)]
            exact eq_false (by omega)
          simp (decide := true) (disch := omega) only [F_X10_findOrder_74, gd_hv s.1, gI_hv s.1, pI_hv s.1, s.R32, s.A32, s.W32, b1_some, b2_some, litI, neg1, nI_add, nI_mul, e1_p1, nI_e0, ib, ib1, ite_not, if_true, if_false, not_true_eq_false, not_false_eq_true, setI_hv, Cd, eq_lit, q9, dn]
    · -- a place met before
      refine ⟨mt n (up c d (c d + 1)) d, (hv σ F1, nI d), by rw [em]; exact mt_stay (by omega), ⟨F1, r1, off1, T1, Or.inl ⟨up c d (c d + 1), d, hd, fun i hi => by rw [up_n (by omega)]; exact hc i hi, by rw [up_e]; omega, rfl, rfl, fun i hi => ?_, ?_, fun k hk j hj => ?_, ?_, ?_⟩⟩, fun rec => ?_⟩
      · rw [up_n (by omega)]
        exact C1 i hi
      · rw [up_e, e1_s]
        exact Cd
      · rw [up_n (by omega), up_n (by omega)]
        exact k3 k hk j hj
      · rw [stay, o_dup hd hcl fr]
        exact K4
      · rw [stay, o_dup hd hcl fr]
        exact K5
      · rw [head rec, if_neg fr]
        simp (decide := true) (disch := omega) only [F_X10_findOrder_74, gd_hv s.1, gI_hv s.1, pI_hv s.1, s.R32, s.A32, s.W32, b1_some, b2_some, litI, neg1, nI_add, nI_mul, e1_p1, nI_e0, ib, ib1, ite_not, if_true, if_false, not_true_eq_false, not_false_eq_true, setI_hv, Cd, eq_lit, q9]
theorem m_find {M : Nat} {σ : Hp} {f : Nat → Nat → Int32} {S : St} (g : Good S) (h : RepM M (hv σ f) S) {T : Nat → Nat} {b n : Nat} (hb : b ≤ 1) (h1 : 1 ≤ n) (h8 : n ≤ 8) (hT : ∀ k, k < n → T k < 24 ∧ f (M + 19) k = nI (T k)) : ∃ F, F_X10_findOrder (hv σ f) M (nI n) (nI b) = some (hv σ F) ∧ RepM M (hv σ F) S ∧ (∀ a j, a < M ∨ M + 26 ≤ a → F a j = f a j) ∧ F M 34 = e1 (ok S T b n (n ^ n)).1 ∧ ∀ i, i < n → F (M + 21) i = nI (T (dgb n n ((ok S T b n (n ^ n)).2 - 1) i)) := by
  have s : SM M σ := h.1
  have n0 : num n (fun _ => 0) (0 + 1) * n ^ (n - 1 - 0) = 0 := by
    show (n * 0 + 0) * _ = 0
    rw [Nat.mul_zero, Nat.zero_add, Nat.zero_mul]
  obtain ⟨st, r, ⟨F, rp, off, es, k4, k5⟩, e⟩ := it_muF (body := fun rec st => B_X10_findOrder_14 M (nI n) (nI b) rec st.1 st.2) (OI M σ f S T b n) (OD M σ f S T b n) (oi_step g hb h1 h8) (mt n (fun _ => 0) 0) (hv σ (u2 (u2 f M 34 (e1 0)) (M + 20) 0 (e1 0)), nI 0) ⟨_, (h.s34 (e1 0)).sa 20 (by omega) (fun a j ha => u2_n (by omega)), fun a j ha => by rw [u2_n (by omega), u2_n (by omega)], fun k hk => ⟨(hT k hk).1, by rw [u2_n (by omega), u2_n (by omega)]; exact (hT k hk).2⟩, Or.inl ⟨fun _ => 0, 0, by omega, fun i hi => by omega, Nat.zero_le n, rfl, rfl, fun i hi => by omega, u2_e, fun k hk => absurd hk (Nat.not_lt_zero k), by rw [n0, u2_n (by omega), u2_e]; rfl, fun z => absurd (by rw [n0]; rfl) z⟩⟩ (mt_0 _ _ (by omega))
  subst es
  have nz := ok_full S T b h1
  refine ⟨F, ?_, rp, off, k4, k5 (fun z => nz (ok_z S T b n _ z))⟩
  have L0 : F_X10_findOrder (hv σ f) M (nI n) (nI b) = it (fun rec st => B_X10_findOrder_14 M (nI n) (nI b) rec st.1 st.2) FU (hv σ (u2 (u2 f M 34 (e1 0)) (M + 20) 0 (e1 0)), nI 0) := by
    unfold F_X10_findOrder
    simp (decide := true) (disch := omega) only [gd_hv s.1, gI_hv s.1, pI_hv s.1, s.R32, s.A32, s.W32, b1_some, b2_some, litI, neg1, nI_add, nI_mul, e1_p1, nI_e0, ib, ib1, ite_not, if_true, if_false, not_true_eq_false, not_false_eq_true, setI_hv]
    rfl
  rw [L0]
  refine e.trans ?_
  simp (decide := true) (disch := omega) only [B_X10_findOrder_14, b1_some, b2_some, litI, neg1, nI_add, nI_mul, e1_p1, nI_e0, ib, ib1, ite_not, if_true, if_false, not_true_eq_false, not_false_eq_true, setI_hv, e1_lt, Nat.le_refl]
/-! laid, code -/
def ordr (S : St) (T : Nat → Nat) (b n : Nat) (i : Int32) : Int32 := if i = -1 then e1 (ok S T b n (n ^ n)).1 else if nI n ≤ i then -1 else nI (T (dgb n n ((ok S T b n (n ^ n)).2 - 1) i.toNatClampNeg))
def oOrd (lo hi b : Nat) (x : Int64) (n i : Int32) (S : St) : Int32 × St := if inR n lo hi then (if thr n.toNatClampNeg x then (if unq n.toNatClampNeg (hdv x) ∧ -1 ≤ i then ordr S (if b = 1 then srt n.toNatClampNeg (hdv x) else hdv x) b n.toNatClampNeg i else -3) else -2, S) else (-3, S)
theorem ord_in {i : Int32} {n : Nat} (hn : n ≤ 8) (h : -1 ≤ i) : i = -1 ∨ nI n ≤ i ∨ ∃ j, j < n ∧ i = nI j := by
  have h1 := Int32.le_iff_toInt_le.mp h
  rw [m1_toInt] at h1
  by_cases q : i = -1
  · exact Or.inl q
  · right
    have q1 : i.toInt ≠ -1 := fun z => q (by rw [← Int32.toInt_inj, z, m1_toInt])
    by_cases q2 : (n : Int) ≤ i.toInt
    · left
      rw [Int32.le_iff_toInt_le, tI (by omega)]
      exact q2
    · right
      refine ⟨i.toInt.toNat, by omega, ?_⟩
      rw [← Int32.toInt_inj, tI (by omega)]
      omega
theorem m_xsort {M : Nat} {σ : Hp} {f : Nat → Nat → Int32} (s : SM M σ) {n : Nat} {A : Nat → Nat} {i : Int32} (h1 : 1 ≤ n) (h8 : n ≤ 8) (hA : ∀ k, k < n → A k ≤ 100) : L_X10_laid_42 M (nI n) i FU (hv σ (fz f (M + 19) n A), nI 0) = F_X10_laid_142 (hv σ (fz f (M + 19) n (srt n A))) M (nI n) i := by
  unfold L_X10_laid_42
  obtain ⟨m, hm⟩ := it_FU (body := fun rec st => B_X10_laid_42 M (nI n) i rec st.1 st.2) (fun a => (hv σ (fz f (M + 19) n (exO n A a)), nI a)) 0 n (by omega) (by omega) (fun a _ ha rec => by
    obtain ⟨o1, o2, o3⟩ := exO_ok (n := n) 100 hA a (by omega)
    have lp : L_X10_laid_54 rec M (nI n) i (nI a) FU (hv σ (fz f (M + 19) n (exO n A a)), nI (a + 1)) = rec (hv σ (fz f (M + 19) n (exI (exO n A a) a (n - 1 - a))), nI (a + 1)) := by
      unfold L_X10_laid_54
      obtain ⟨m', hm'⟩ := it_FU (body := fun rec' st => B_X10_laid_54 rec M (nI n) i (nI a) rec' st.1 st.2) (fun t => (hv σ (fz f (M + 19) n (exI (exO n A a) a t)), nI (a + 1 + t))) 0 (n - 1 - a) (by omega) (by omega) (fun t _ ht rec' => by
        obtain ⟨j1, j2, j3, j4⟩ := exI_ok (n := n) 100 o1 o3 t (by omega)
        show B_X10_laid_54 rec M (nI n) i (nI a) rec' (hv σ (fz f (M + 19) n (exI (exO n A a) a t))) (nI (a + 1 + t)) = rec' (hv σ (fz f (M + 19) n (exA (exI (exO n A a) a t) a (a + 1 + t))), nI (a + 1 + (t + 1)))
        generalize exI (exO n A a) a t = B at j4
        have b1 := j4 a ha
        have b2 := j4 (a + 1 + t) (by omega)
        have r1 : fz f (M + 19) n B (M + 19) a = nI (B a) := fz_rd ha
        have r2 : fz f (M + 19) n B (M + 19) (a + 1 + t) = nI (B (a + 1 + t)) := fz_rd (by omega)
        have ls := lss_le B a (a + 1 + t)
        unfold exA
        rw [← fz_up ha, ← fz_up (by omega)]
        generalize fz f (M + 19) n B = F at r1 r2
        have tail : F_X10_laid_94 rec rec' (hv σ F) M (nI n) i (nI a) (nI (a + 1 + t)) (nI (lss B a (a + 1 + t))) = rec' (hv σ (u2 (u2 F (M + 19) (a + 1 + t) (nI (B a + B (a + 1 + t) - lss B a (a + 1 + t)))) (M + 19) a (nI (lss B a (a + 1 + t)))), nI (a + 1 + (t + 1))) := by
          generalize lss B a (a + 1 + t) = L at ls
          simp (decide := true) (disch := omega) only [F_X10_laid_94, gd_hv s.1, gI_hv s.1, pI_hv s.1, s.R31, s.A31, s.W31, b1_some, b2_some, litI, neg1, nI_add, nI_mul, e1_p1, nI_e0, ib, ib1, ite_not, if_true, if_false, not_true_eq_false, not_false_eq_true, setI_hv, r1, r2, nI_sub]
          rfl
        rw [← tail]
        unfold lss
        by_cases q : B (a + 1 + t) ≤ B a
        · rw [if_pos q]
          simp (decide := true) (disch := omega) only [B_X10_laid_54, gd_hv s.1, gI_hv s.1, pI_hv s.1, s.R31, s.A31, s.W31, b1_some, b2_some, litI, neg1, nI_add, nI_mul, e1_p1, nI_e0, ib, ib1, ite_not, if_true, if_false, not_true_eq_false, not_false_eq_true, setI_hv, le_lit, show ¬ n ≤ a + 1 + t by omega, r1, r2, q]
        · rw [if_neg q]
          simp (decide := true) (disch := omega) only [B_X10_laid_54, gd_hv s.1, gI_hv s.1, pI_hv s.1, s.R31, s.A31, s.W31, b1_some, b2_some, litI, neg1, nI_add, nI_mul, e1_p1, nI_e0, ib, ib1, ite_not, if_true, if_false, not_true_eq_false, not_false_eq_true, setI_hv, le_lit, show ¬ n ≤ a + 1 + t by omega, r1, r2, q])
      refine Eq.trans hm' ?_
      show B_X10_laid_54 rec M (nI n) i (nI a) m' (hv σ (fz f (M + 19) n (exI (exO n A a) a (n - 1 - a)))) (nI (a + 1 + (n - 1 - a))) = _
      rw [show a + 1 + (n - 1 - a) = n by omega]
      simp (decide := true) (disch := omega) only [B_X10_laid_54, b1_some, b2_some, litI, neg1, nI_add, nI_mul, e1_p1, nI_e0, ib, ib1, ite_not, if_true, if_false, not_true_eq_false, not_false_eq_true, setI_hv, le_lit, Nat.le_refl]
    show B_X10_laid_42 M (nI n) i rec (hv σ (fz f (M + 19) n (exO n A a))) (nI a) = rec (hv σ (fz f (M + 19) n (exI (exO n A a) a (n - 1 - a))), nI (a + 1))
    rw [← lp]
    simp (decide := true) (disch := omega) only [B_X10_laid_42, b1_some, b2_some, litI, neg1, nI_add, nI_mul, e1_p1, nI_e0, ib, ib1, ite_not, if_true, if_false, not_true_eq_false, not_false_eq_true, setI_hv, le_lit, show ¬ n ≤ a by omega])
  refine Eq.trans hm ?_
  simp (decide := true) (disch := omega) only [B_X10_laid_42, b1_some, b2_some, litI, neg1, nI_add, nI_mul, e1_p1, nI_e0, ib, ib1, ite_not, if_true, if_false, not_true_eq_false, not_false_eq_true, setI_hv, le_lit, Nat.le_refl]
  rfl
theorem m_laid (M : Nat) (x : Int64) (n i : Int32) : OkMf M (fun σ => F_X10_laid σ M x n i) (oOrd 1 8 1 x n i) := by
  intro σ f S g h
  have s : SM M σ := h.1
  show ∃ f', F_X10_laid (hv σ f) M x n i = _ ∧ _
  unfold F_X10_laid
  rw [gd_hv s.1, x10_inR (hv σ f) n 1 8 1 8 rfl rfl, b2_some]
  rcases in_split n 1 8 (by omega) (by omega) with ⟨k, h1, h8, rfl⟩ | hk
  case inr =>
    have e : oOrd 1 8 1 x n i S = (-3, S) := if_neg hk
    rw [e, if_neg hk]
    exact ⟨f, rfl, h, fun _ _ _ => rfl⟩
  have e : oOrd 1 8 1 x (nI k) i S = (if thr k x then (if unq k (hdv x) ∧ -1 ≤ i then ordr S (srt k (hdv x)) 1 k i else -3) else -2, S) := by
    unfold oOrd
    rw [cl_I (by omega), if_pos (inR_of h1 h8 (by omega)), if_pos rfl]
  rw [e, if_pos (inR_of h1 h8 (by omega)), if_neg (by decide)]
  obtain ⟨f1, t1, t2, t3⟩ := m_take (f := f) s (n := k) (x := x) h8
  have r1 : RepM M (hv σ f1) S := h.sa 19 (by omega) t2
  rw [t1, b2_some]
  by_cases q1 : thr k x
  case neg =>
    rw [if_neg q1, if_neg (by decide), if_neg q1]
    exact ⟨f1, rfl, r1, fun a j ha => t2 a j (by omega)⟩
  rw [if_pos q1, if_pos q1]
  by_cases q2 : unq k (hdv x)
  case neg =>
    rw [if_neg q2, if_neg (by decide), if_neg (fun z => q2 z.1)]
    exact ⟨f1, rfl, r1, fun a j ha => t2 a j (by omega)⟩
  rw [if_pos q2, if_pos (show nI 1 = (1 : Int32) from rfl)]
  by_cases q3 : (-1 : Int32) ≤ i
  case neg =>
    rw [if_neg q3, if_neg (fun z => q3 z.2)]
    exact ⟨f1, rfl, r1, fun a j ha => t2 a j (by omega)⟩
  rw [if_pos q3, if_pos ⟨q2, q3⟩]
  have ef : f1 = fz f1 (M + 19) k (hdv x) := (fz_same (fun j hj => t3 q1 j hj)).symm
  have so := srt_ok (n := k) (A := hdv x) 23 (fun j hj => q1 j hj)
  have r2 : RepM M (hv σ (fz f1 (M + 19) k (srt k (hdv x)))) S := r1.zz 19 _ _ (by omega)
  obtain ⟨F, u1, u2', u3, u4, u5⟩ := m_find g r2 (T := srt k (hdv x)) (b := 1) (n := k) (by omega) h1 h8 (fun j hj => ⟨by have := so.2.2 j hj; omega, fz_rd hj⟩)
  refine ⟨F, ?_, u2', fun a j ha => (u3 a j ha).trans ((fz_off (by omega)).trans (t2 a j (by omega)))⟩
  have xs := m_xsort (f := f1) s (n := k) (A := hdv x) (i := i) h1 h8 (fun j hj => by have := q1 j hj; omega)
  rw [← ef] at xs
  show L_X10_laid_42 M (nI k) i FU (hv σ f1, nI 0) = _
  rw [xs]
  have u1' : F_X10_findOrder (hv σ (fz f1 (M + 19) k (srt k (hdv x)))) M (nI k) 1 = some (hv σ F) := u1
  unfold F_X10_laid_142 ordr
  rw [u1', b1_some]
  rcases ord_in h8 q3 with q | q | ⟨j, hj, rfl⟩
  · rw [if_pos q, if_pos q]
    simp (decide := true) (disch := omega) only [gd_hv s.1, gI_hv s.1, pI_hv s.1, b1_some, b2_some, litI, neg1, nI_add, nI_mul, e1_p1, nI_e0, ib, ib1, ite_not, if_true, if_false, not_true_eq_false, not_false_eq_true, setI_hv, u4]
  · by_cases q' : i = -1
    · rw [if_pos q', if_pos q']
      simp (decide := true) (disch := omega) only [gd_hv s.1, gI_hv s.1, pI_hv s.1, b1_some, b2_some, litI, neg1, nI_add, nI_mul, e1_p1, nI_e0, ib, ib1, ite_not, if_true, if_false, not_true_eq_false, not_false_eq_true, setI_hv, u4]
    · rw [if_neg q', if_neg q', if_pos q, if_pos q]
  · have n1 : ¬ nI j = -1 := by rw [nI_m1 (by omega)]; exact id
    have n2 : ¬ nI k ≤ nI j := by rw [le_lit (by omega) (by omega)]; omega
    rw [if_neg n1, if_neg n1, if_neg n2, if_neg n2, cl_I (by omega)]
    simp (decide := true) (disch := omega) only [gd_hv s.1, gI_hv s.1, pI_hv s.1, s.R33, s.A33, s.W33, b1_some, b2_some, litI, neg1, nI_add, nI_mul, e1_p1, nI_e0, ib, ib1, ite_not, if_true, if_false, not_true_eq_false, not_false_eq_true, setI_hv, u5]
theorem m_code (M : Nat) (x : Int64) (n i : Int32) : OkMf M (fun σ => F_X10_code σ M x n i) (oOrd 2 6 0 x n i) := by
  intro σ f S g h
  have s : SM M σ := h.1
  show ∃ f', F_X10_code (hv σ f) M x n i = _ ∧ _
  unfold F_X10_code
  rw [gd_hv s.1, x10_inR (hv σ f) n 2 6 2 6 rfl rfl, b2_some]
  rcases in_split n 2 6 (by omega) (by omega) with ⟨k, h1, h8, rfl⟩ | hk
  case inr =>
    have e : oOrd 2 6 0 x n i S = (-3, S) := if_neg hk
    rw [e, if_neg hk]
    exact ⟨f, rfl, h, fun _ _ _ => rfl⟩
  have e : oOrd 2 6 0 x (nI k) i S = (if thr k x then (if unq k (hdv x) ∧ -1 ≤ i then ordr S (hdv x) 0 k i else -3) else -2, S) := by
    unfold oOrd
    rw [cl_I (by omega), if_pos (inR_of h1 h8 (by omega)), if_neg (by decide : ¬ 0 = 1)]
  rw [e, if_pos (inR_of h1 h8 (by omega)), if_neg (by decide)]
  obtain ⟨f1, t1, t2, t3⟩ := m_take (f := f) s (n := k) (x := x) (by omega)
  have r1 : RepM M (hv σ f1) S := h.sa 19 (by omega) t2
  rw [t1, b2_some]
  by_cases q1 : thr k x
  case neg =>
    rw [if_neg q1, if_neg (by decide), if_neg q1]
    exact ⟨f1, rfl, r1, fun a j ha => t2 a j (by omega)⟩
  rw [if_pos q1, if_pos q1]
  by_cases q2 : unq k (hdv x)
  case neg =>
    rw [if_neg q2, if_neg (by decide), if_neg (fun z => q2 z.1)]
    exact ⟨f1, rfl, r1, fun a j ha => t2 a j (by omega)⟩
  rw [if_pos q2, if_pos (show nI 1 = (1 : Int32) from rfl)]
  by_cases q3 : (-1 : Int32) ≤ i
  case neg =>
    rw [if_neg q3, if_neg (fun z => q3 z.2)]
    exact ⟨f1, rfl, r1, fun a j ha => t2 a j (by omega)⟩
  rw [if_pos q3, if_pos ⟨q2, q3⟩]
  obtain ⟨F, u1, u2', u3, u4, u5⟩ := m_find g r1 (T := hdv x) (b := 0) (n := k) (by omega) (by omega) (by omega) (fun j hj => ⟨by have := q1 j hj; omega, t3 q1 j hj⟩)
  refine ⟨F, ?_, u2', fun a j ha => (u3 a j ha).trans (t2 a j (by omega))⟩
  have u1' : F_X10_findOrder (hv σ f1) M (nI k) 0 = some (hv σ F) := u1
  unfold ordr
  rw [u1', b1_some]
  rcases ord_in (by omega : k ≤ 8) q3 with q | q | ⟨j, hj, rfl⟩
  · rw [if_pos q, if_pos q]
    simp (decide := true) (disch := omega) only [gd_hv s.1, gI_hv s.1, pI_hv s.1, b1_some, b2_some, litI, neg1, nI_add, nI_mul, e1_p1, nI_e0, ib, ib1, ite_not, if_true, if_false, not_true_eq_false, not_false_eq_true, setI_hv, u4]
  · by_cases q' : i = -1
    · rw [if_pos q', if_pos q']
      simp (decide := true) (disch := omega) only [gd_hv s.1, gI_hv s.1, pI_hv s.1, b1_some, b2_some, litI, neg1, nI_add, nI_mul, e1_p1, nI_e0, ib, ib1, ite_not, if_true, if_false, not_true_eq_false, not_false_eq_true, setI_hv, u4]
    · rw [if_neg q', if_neg q', if_pos q, if_pos q]
  · have n1 : ¬ nI j = -1 := by rw [nI_m1 (by omega)]; exact id
    have n2 : ¬ nI k ≤ nI j := by rw [le_lit (by omega) (by omega)]; omega
    rw [if_neg n1, if_neg n1, if_neg n2, if_neg n2, cl_I (by omega)]
    simp (decide := true) (disch := omega) only [gd_hv s.1, gI_hv s.1, pI_hv s.1, s.R33, s.A33, s.W33, b1_some, b2_some, litI, neg1, nI_add, nI_mul, e1_p1, nI_e0, ib, ib1, ite_not, if_true, if_false, not_true_eq_false, not_false_eq_true, setI_hv, u5]
end
section
set_option maxRecDepth 100000
/-! pure law 36: cells that are made -/
theorem SX.mono {N : Nat} {σ σ' : Hp} (h1 : SX N σ) (hs : ∀ o, o < 245 → SameAt σ σ' (N + o)) : SX N σ' := by
  have hx1 : ∀ x ∈ xFix, x.1 < 245 := by decide
  have hx2 : ∀ x ∈ [(12, 1), (110, 1), (211, 5), (224, 5), (227, 5)], x.1 < 245 := by decide
  exact ⟨fun o ho => by rw [(hs o ho).1]; exact h1.1 o ho, fun x hx => by rw [(hs _ (hx1 x hx)).2.2.1]; exact h1.2.1 x hx, fun x hx => by rw [(hs _ (hx2 x hx)).2.2.1]; exact h1.2.2.1 x hx, fun r hr => by rw [(hs 1 (by decide)).2.2.1]; exact h1.2.2.2.1 r hr, fun r hr => by rw [(hs 213 (by decide)).2.2.1]; exact h1.2.2.2.2.1 r hr,
      fun p hp => ⟨by rw [(hs 232 (by decide)).2.2.1]; exact (h1.2.2.2.2.2.1 p hp).1, by rw [(hs _ (by omega)).2.2.1]; exact (h1.2.2.2.2.2.1 p hp).2.1, by rw [(hs _ (by omega)).2.2.1]; exact (h1.2.2.2.2.2.1 p hp).2.2⟩,
      fun c hc => ⟨by rw [(hs 13 (by decide)).2.2.1]; exact (h1.2.2.2.2.2.2.1 c hc).1, by rw [(hs _ (by omega)).2.2.1]; exact (h1.2.2.2.2.2.2.1 c hc).2⟩, fun c hc => ⟨by rw [(hs 111 (by decide)).2.2.1]; exact (h1.2.2.2.2.2.2.2 c hc).1, by rw [(hs _ (by omega)).2.2.1]; exact (h1.2.2.2.2.2.2.2 c hc).2⟩⟩
theorem RepX.mono {N : Nat} {σ σ' : Hp} {S : St} (h : RepX N σ S) (hs : ∀ a, a < hZ σ → SameAt σ σ' a) (hz : hZ σ ≤ hZ σ') : RepX N σ' S := by
  obtain ⟨h1, h2, hA, hB, hC, hD, hE, hF, hG, L, l1, l2, l3, l4⟩ := h
  have hi : ∀ o k, o < 245 → hI σ' (N + o) k = hI σ (N + o) k := fun o k ho => (hs (N + o) (by omega)).2.1 k
  have hs0 : SameAt σ σ' N := hs _ (by omega)
  have hx3 : ∀ x ∈ xAr, x.1 < 245 := by decide
  have hsL : SameAt σ σ' L := hs L (by rcases l2 with q | q <;> omega)
  refine ⟨h1.mono (fun o ho => hs _ (by omega)), by omega, fun x hx => by rw [hs0.2.1]; exact hA x hx, fun x hx i hi' => by rw [hi _ _ (hx3 x hx)]; exact hB x hx i hi', fun a b ha hb => by rw [hi _ _ (by omega)]; exact hC a b ha hb, fun c hc => by rw [hi _ _ (by omega), hi _ _ (by omega), hi _ _ (by omega), hi _ _ (by omega), hi _ _ (by omega)]; exact hD c hc,
    fun i hi' => by rw [hi _ _ (by decide)]; exact hE i hi', fun p hp => by rw [hi _ _ (by omega)]; exact ⟨(hF p hp).1, fun k hk => by rw [hi _ _ (by omega), hi _ _ (by omega)]; exact (hF p hp).2 k hk⟩, fun a b ha hb => by rw [hi _ _ (by omega)]; exact hG a b ha hb,
    L, by rw [hs0.2.2.1]; exact l1, by rcases l2 with q | q; exact Or.inl q; exact Or.inr ⟨q.1, by omega⟩, by rw [hsL.1]; exact l3, fun i hi' => ?_⟩
  obtain ⟨a, g1, g2, g3, g4⟩ := l4 i hi'
  have hsa : SameAt σ σ' a := hs _ g2
  refine ⟨a, g1, by omega, by rw [hsL.2.2.1]; exact g3, ?_⟩
  unfold LnAt
  rw [hsa.1, hsa.2.1, hsa.2.1]
  exact g4
theorem RepX.sz {N : Nat} {σ : Hp} {f f' : Nat → Nat → Int32} {S : St} (h : RepX N (hv σ f) S) (hf : ∀ a k, a < hZ σ → (∀ o, (110 ≤ o ∧ o < 208) ∨ o = 212 ∨ (224 ≤ o ∧ o < 233) → a ≠ N + o) → f' a k = f a k) : RepX N (hv σ f') S := by
  have h' : RepX N (hv σ (fun a k => if a < hZ σ then f' a k else f a k)) S := h.sx (fun a k ha => by
    show (if a < hZ σ then f' a k else f a k) = f a k
    by_cases q : a < hZ σ
    · rw [if_pos q]
      exact hf a k q ha
    · rw [if_neg q])
  refine h'.mono (fun a ha => ⟨rfl, fun k => ?_, fun _ => rfl, fun _ => rfl⟩) (Nat.le_refl _)
  show f' a k = if a < hZ σ then f' a k else f a k
  exact (if_pos (show a < hZ σ from ha)).symm
/-- the ints after a cell is made -/
def bnI (σ : Hp) (f : Nat → Nat → Int32) : Nat → Nat → Int32 := fun b j => if b = hZ σ then 0 else f b j
theorem bn_e {σ : Hp} {f : Nat → Nat → Int32} {j : Nat} : bnI σ f (hZ σ) j = nI 0 := if_pos rfl
theorem bn_n {σ : Hp} {f : Nat → Nat → Int32} {a j : Nat} (h : a ≠ hZ σ) : bnI σ f a j = f a j := if_neg h
theorem born_hv (σ : Hp) (f : Nat → Nat → Int32) (kd : Kd) : born (hv σ f) kd = hv (born σ kd) (bnI σ f) := rfl
theorem hZ_hv (σ : Hp) (f : Nat → Nat → Int32) : hZ (hv σ f) = hZ σ := rfl
theorem born_same {σ : Hp} {f : Nat → Nat → Int32} {kd : Kd} {a : Nat} (h : a ≠ hZ σ) : SameAt (hv σ f) (hv (born σ kd) f) a := ⟨if_neg h, fun _ => rfl, fun _ => if_neg h, fun _ => if_neg h⟩
theorem RepX.bn {N : Nat} {σ : Hp} {f : Nat → Nat → Int32} {S : St} (h : RepX N (hv σ f) S) (kd : Kd) : RepX N (hv (born σ kd) f) S := h.mono (fun a ha => born_same (by have : a < hZ σ := ha; omega)) (by show hZ σ ≤ hZ σ + 1; omega)
theorem cp_hv {τ : Hp} {F : Nat → Nat → Int32} {a0 a n : Nat} (h0 : aN 0 a0 τ = some 8) (h1 : aN 0 a τ = some 8) (hn : n ≤ 8) : cpI a0 (nI 0) a (nI 0) (nI n) (hv τ F) = some (hv τ (fy F a n (fun j => F a0 j))) := by
  have h0' : aN 0 a0 (hv τ F) = some 8 := h0
  have h1' : aN 0 a (hv τ F) = some 8 := h1
  unfold cpI
  rw [h0', h1', b1_some, b1_some, cl_I (by omega), cl_I (by omega)]
  have c1 : ¬ (nI 0 < 0 ∨ nI 0 < 0 ∨ nI n < 0 ∨ 8 < 0 + n ∨ 8 < 0 + n) := by
    have e1 : (nI n < (0 : Int32)) = (n < 0) := lt_lit (b := 0) (by omega) (by omega)
    intro q
    rcases q with q | q | q | q | q
    · exact absurd q (by decide)
    · exact absurd q (by decide)
    · rw [e1] at q
      omega
    · omega
    · omega
  rw [if_neg c1]
  have e2 : cpH a0 0 a 0 n (hv τ F) = hv τ (fy F a n (fun j => F a0 j)) := by
    have : (fun b j => if b = a ∧ 0 ≤ j ∧ j < 0 + n then F a0 (0 + (j - 0)) else F b j) = fy F a n (fun j => F a0 j) := by
      funext b j
      unfold fy
      by_cases q : b = a ∧ j < n
      · rw [if_pos q, if_pos (by omega)]
        exact congrArg (F a0) (by omega)
      · rw [if_neg q, if_neg (by omega)]
    exact congrArg (hv τ) this
  rw [e2]
end
section
set_option maxRecDepth 100000
/-! pure law, the component's search for an order: class 7 -/
theorem x_met7 {N : Nat} {τ : Hp} {F : Nat → Nat → Int32} (s : SX N τ) {n d : Nat} {c : Nat → Nat} (h8 : n ≤ 8) (hd : d < n) (hc : ∀ k, k ≤ d → c k ≤ n ∧ F (N + 225) k = nI (c k)) : F_X6_isMet_7 (hv τ F) (N + 224) (nI d) = some (nI (if ∀ k, k < d → c k ≠ c d then 0 else 1), hv τ F) := by
  unfold F_X6_isMet_7 L_X6_isMet_7_4
  rw [gd_hv s.t224]
  have cd := hc d (Nat.le_refl _)
  obtain ⟨m, hm⟩ := it_FU (body := fun rec' st => B_X6_isMet_7_4 (hv τ F) (N + 224) (nI d) rec' st.1 st.2) (fun t => (nI (if ∀ k, k < t → c k ≠ c d then 0 else 1), nI t)) 0 d (by omega) (by omega) (fun t _ ht rec' => by
    have ct := hc t (by omega)
    show B_X6_isMet_7_4 (hv τ F) (N + 224) (nI d) rec' (nI (if ∀ k, k < t → c k ≠ c d then 0 else 1)) (nI t) = rec' (nI (if ∀ k, k < t + 1 → c k ≠ c d then 0 else 1), nI (t + 1))
    by_cases q1 : ∀ k, k < t → c k ≠ c d
    · rw [if_pos q1]
      by_cases q2 : c t = c d
      · rw [if_neg (fun u => u t (by omega) q2)]
        simp (decide := true) (disch := omega) only [B_X6_isMet_7_4, s.R224_0, s.A225, b1_some, b2_some, litI, neg1, nI_add, nI_mul, e1_p1, nI_e0, ib, ib1, ite_not, if_true, if_false, not_true_eq_false, not_false_eq_true, setI_hv, le_lit, eq_lit, show ¬ d ≤ t by omega, ct.2, cd.2, q2]
      · rw [if_pos (fun k hk => by
          by_cases e : k = t
          · rw [e]; exact q2
          · exact q1 k (by omega))]
        simp (decide := true) (disch := omega) only [B_X6_isMet_7_4, s.R224_0, s.A225, b1_some, b2_some, litI, neg1, nI_add, nI_mul, e1_p1, nI_e0, ib, ib1, ite_not, if_true, if_false, not_true_eq_false, not_false_eq_true, setI_hv, le_lit, eq_lit, show ¬ d ≤ t by omega, ct.2, cd.2, q2]
    · rw [if_neg q1, if_neg (fun u => q1 (fun k hk => u k (by omega)))]
      simp (decide := true) (disch := omega) only [B_X6_isMet_7_4, b1_some, b2_some, litI, neg1, nI_add, nI_mul, e1_p1, nI_e0, ib, ib1, ite_not, if_true, if_false, not_true_eq_false, not_false_eq_true, setI_hv, le_lit, eq_lit, show ¬ d ≤ t by omega])
  have z1 : ∀ t, t = 0 → (if ∀ k, k < t → c k ≠ c d then 0 else 1) = 0 := fun t ht => if_pos (fun k hk => by omega)
  rw [z1 0 rfl] at hm
  refine Eq.trans hm ?_
  show B_X6_isMet_7_4 (hv τ F) (N + 224) (nI d) m (nI (if ∀ k, k < d → c k ≠ c d then 0 else 1)) (nI d) = _
  by_cases q : ∀ k, k < d → c k ≠ c d
  · rw [if_pos q]
    simp (decide := true) (disch := omega) only [B_X6_isMet_7_4, b1_some, b2_some, litI, neg1, nI_add, nI_mul, e1_p1, nI_e0, ib, ib1, ite_not, if_true, if_false, not_true_eq_false, not_false_eq_true, setI_hv, le_lit, Nat.le_refl, zr_0']
  · rw [if_neg q]
    simp (decide := true) (disch := omega) only [B_X6_isMet_7_4, b1_some, b2_some, litI, neg1, nI_add, nI_mul, e1_p1, nI_e0, ib, ib1, ite_not, if_true, if_false, not_true_eq_false, not_false_eq_true, setI_hv, le_lit, Nat.le_refl, zr_1']
def BestX (N : Nat) (F : Nat → Nat → Int32) (n k : Nat) : Prop := k ≠ 0 → ∀ i, i < n → F (N + 226) i = nI (dgb n n (k - 1) i)
theorem x_more7 {N : Nat} {τ : Hp} {F : Nat → Nat → Int32} {S : St} (g : Good S) (s : SX N τ) (lk : LkX N F S) {n d : Nat} {T c : Nat → Nat} (h8 : n ≤ 8) (hd : d < n) (hT : ∀ k, k < n → T k < 24 ∧ F (N + 212) k = nI (T k)) (hc : ∀ k, k ≤ d → c k < n ∧ F (N + 225) k = nI (c k)) : F_X7_more (hv τ F) (N + 224) (N + 225) (nI d) = some (nI (inc S T 1 c d), hv τ F) := by
  unfold inc
  rw [if_pos rfl]
  by_cases q : d = 0
  · rw [if_pos q, q]
    simp (decide := true) (disch := omega) only [F_X7_more, gd_hv s.t224, b1_some, b2_some, litI, neg1, nI_add, nI_mul, e1_p1, nI_e0, ib, ib1, ite_not, if_true, if_false, not_true_eq_false, not_false_eq_true, setI_hv]
  · rw [if_neg q]
    have c1 := hc d (Nat.le_refl _)
    have c2 := hc (d - 1) (by omega)
    have t1 := hT (c d) c1.1
    have t2 := hT (c (d - 1)) c2.1
    have l := xl_lk g s lk (a := T (c (d - 1))) (b := T (c d)) t2.1 t1.1
    simp (decide := true) (disch := omega) only [F_X7_more, gd_hv s.t224, s.R224_5, s.R15, s.A225, s.A212, b1_some, b2_some, litI, neg1, nI_add, nI_mul, e1_p1, nI_e0, ib, ib1, ite_not, if_true, if_false, not_true_eq_false, not_false_eq_true, setI_hv, eq_lit, q, nI_sub, c1.2, c2.2, t1.2, t2.2, l]
def lsx (o : Nat) : Int32 := nI (if o = 0 then 268435456 else o - 1)
def RI (N Z : Nat) (σ τ : Hp) (f : Nat → Nat → Int32) (S : St) (T : Nat → Nat) (n m : Nat) (st : Hp × Int32) : Prop := ∃ F, RepX N (hv σ F) S ∧ (∀ a j, a < N ∨ (N + 245 ≤ a ∧ a < Z) → F a j = f a j) ∧ (∀ k, k < n → T k < 24 ∧ F (N + 212) k = nI (T k)) ∧ F (N + 224) 2 = nI n ∧
  ((∃ c d, d < n ∧ (∀ i, i < d → c i < n) ∧ c d ≤ n ∧ m = mt n c d ∧ st = (hv τ F, nI d) ∧ (∀ i, i < d → F (N + 225) i = nI (c i)) ∧ F (N + 225) d = e1 (c d) ∧ unq d c ∧ (∀ i, i ≤ d → F Z i = nI (smo S T 1 c i)) ∧ F (N + 224) 3 = lsx (ok S T 1 n (num n c (d + 1) * n ^ (n - 1 - d))).1 ∧ BestX N F n (ok S T 1 n (num n c (d + 1) * n ^ (n - 1 - d))).2) ∨
   (m = 0 ∧ st = (hv τ F, e1 0) ∧ F (N + 224) 3 = lsx (ok S T 1 n (n ^ n)).1 ∧ BestX N F n (ok S T 1 n (n ^ n)).2))
def RDn (N Z : Nat) (σ τ : Hp) (f : Nat → Nat → Int32) (S : St) (T : Nat → Nat) (n : Nat) (st : Hp × Int32) : Prop := ∃ F, RepX N (hv σ F) S ∧ (∀ a j, a < N ∨ (N + 245 ≤ a ∧ a < Z) → F a j = f a j) ∧ (∀ k, k < n → T k < 24 ∧ F (N + 212) k = nI (T k)) ∧ st = (hv τ F, e1 0) ∧ F (N + 224) 3 = lsx (ok S T 1 n (n ^ n)).1 ∧ BestX N F n (ok S T 1 n (n ^ n)).2
theorem ri_step {N Z : Nat} {σ τ : Hp} {f : Nat → Nat → Int32} {S : St} (g : Good S) (s : SX N τ) (hZZ : hZ σ = Z) (hZN : N + 271 ≤ Z) (hz : aN 0 Z τ = some 9) {T : Nat → Nat} {n : Nat} (h1 : 1 ≤ n) (h8 : n ≤ 8) (m : Nat) (st : Hp × Int32) (hp : RI N Z σ τ f S T n m st) : RDn N Z σ τ f S T n st ∨ ∃ m' st', m' < m ∧ RI N Z σ τ f S T n m' st' ∧ ∀ rec, B_X6_run_7_25 (N + 224) Z rec st.1 st.2 = rec st' := by
  obtain ⟨F, rp, off, hT, hM, hq⟩ := hp
  rcases hq with ⟨c, d, hd, hc, hcd, em, es, k1, k2, k3, ks, k4, k5⟩ | ⟨em, es, k4, k5⟩
  case inr => exact Or.inl ⟨F, rp, off, hT, es, k4, k5⟩
  right
  subst es
  have AZ : ∀ (G : Nat → Nat → Int32) (i : Nat), i < 9 → aI 0 Z (nI i) (hv τ G) = some (G Z i) := fun G i hi => aI_hv hz (by omega) hi
  have WZ : ∀ (G : Nat → Nat → Int32) (i : Nat) (v : Int32), i < 9 → sI 0 Z (nI i) v (hv τ G) = some (hv τ (u2 G Z i v)) := fun G i v hi => sI_hv hz (by omega) hi
  obtain ⟨F1, hF1⟩ : ∃ F1, F1 = u2 F (N + 225) d (nI (c d)) := ⟨_, rfl⟩
  have o1 : ∀ a j, ¬ (a = N + 225 ∧ j = d) → F1 a j = F a j := fun a j ha => by rw [hF1]; exact u2_n ha
  have r1 : RepX N (hv σ F1) S := rp.sx (fun a k ha => o1 a k (fun q => ha 225 (by omega) q.1))
  have T1 : ∀ k, k < n → T k < 24 ∧ F1 (N + 212) k = nI (T k) := fun k hk => ⟨(hT k hk).1, (o1 _ _ (by omega)).trans (hT k hk).2⟩
  have M1 : F1 (N + 224) 2 = nI n := (o1 _ _ (by omega)).trans hM
  have C1 : ∀ k, k < d → F1 (N + 225) k = nI (c k) := fun k hk => (o1 _ _ (by omega)).trans (k1 k hk)
  have Cd : F1 (N + 225) d = nI (c d) := by rw [hF1]; exact u2_e
  have C2 : ∀ k, k ≤ d → c k ≤ n ∧ F1 (N + 225) k = nI (c k) := fun k hk => by
    by_cases e : k = d
    · rw [e]; exact ⟨hcd, Cd⟩
    · exact ⟨by have := hc k (by omega); omega, C1 k (by omega)⟩
  have KS : ∀ i, i ≤ d → F1 Z i = nI (smo S T 1 c i) := fun i hi => (o1 _ _ (by omega)).trans (ks i hi)
  have K4 : F1 (N + 224) 3 = lsx (ok S T 1 n (num n c (d + 1) * n ^ (n - 1 - d))).1 := (o1 _ _ (by omega)).trans k4
  have K5 : BestX N F1 n (ok S T 1 n (num n c (d + 1) * n ^ (n - 1 - d))).2 := fun z i hi => (o1 _ _ (by omega)).trans (k5 z i hi)
  have off1 : ∀ a j, a < N ∨ (N + 245 ≤ a ∧ a < Z) → F1 a j = f a j := fun a j ha => (o1 _ _ (by omega)).trans (off a j ha)
  have pb := ok_b g T 1 h8 (num n c (d + 1) * n ^ (n - 1 - d))
  have head : ∀ rec, B_X6_run_7_25 (N + 224) Z rec (hv τ F) (nI d) = (if nI (c d) = nI n then rec (hv τ F1, e1 d) else b2 (F_X6_isMet_7 (hv τ F1) (N + 224) (nI d)) (fun v6 s2 => (if v6 = nI 0 then b1 (aI 0 Z (nI d) s2) (fun v7 => b1 (gR 7 0 (N + 224) s2) (fun v8 => b2 (F_X7_more s2 (N + 224) v8 (nI d)) (fun v9 s3 => b1 (sI 0 Z (nI (d + 1)) (v7 + v9) s3) (fun s4 => b1 (aI 0 Z (nI (d + 1)) s4) (fun v10 => b1 (gI 7 3 (N + 224) s4) (fun v11 => (if v10 < v11 then b1 (gI 7 2 (N + 224) s4) (fun v12 => (if nI d = (v12 - nI 1) then b1 (gI 7 2 (N + 224) s4) (fun v14 => b1 (aI 0 Z v14 s4) (fun v15 => b1 (pI 7 3 (N + 224) v15 s4) (fun s6 => b1 (gR 7 0 (N + 224) s6) (fun v16 => b1 (gR 7 1 (N + 224) s6) (fun v17 => b1 (gI 7 2 (N + 224) s6) (fun v18 => b1 (cpI v16 (nI 0) v17 (nI 0) v18 s6) (fun s7 => rec (s7, nI d)))))))) else b1 (gR 7 0 (N + 224) s4) (fun v13 => b1 (sI 0 v13 (nI (d + 1)) (e1 0) s4) (fun s5 => rec (s5, nI (d + 1)))))) else rec (s4, nI d)))))))) else rec (s2, nI d)))) := fun rec => by
    have M2 : u2 F (N + 225) d (nI (c d)) (N + 224) 2 = nI n := (u2_n (by omega)).trans hM
    rw [hF1]
    unfold B_X6_run_7_25
    rw [if_neg (by rw [litI 0, lt_lit (by omega) (by omega)]; omega)]
    simp (decide := true) (disch := omega) only [gI_hv s.t224, s.R224_0, s.A225, s.W225, b1_some, litI, k2, e1_p1, u2_e, M2, nI_add, nI_e, neg1]
  show ∃ m' st', m' < m ∧ RI N Z σ τ f S T n m' st' ∧ ∀ rec, B_X6_run_7_25 (N + 224) Z rec (hv τ F) (nI d) = rec st'
  clear hF1
  by_cases q9 : c d = n
  · have head' : ∀ rec, B_X6_run_7_25 (N + 224) Z rec (hv τ F) (nI d) = rec (hv τ F1, e1 d) := fun rec => (head rec).trans (if_pos (by rw [q9]))
    cases d with
    | zero =>
      have eP : num n c (0 + 1) * n ^ (n - 1 - 0) = n ^ n := by
        show (n * 0 + c 0) * n ^ (n - 1 - 0) = n ^ n
        rw [q9, Nat.mul_zero, Nat.zero_add, Nat.mul_comm, ← Nat.pow_succ]
        exact congrArg (fun k => n ^ k) (by omega)
      rw [eP] at K4 K5
      exact ⟨0, (hv τ F1, e1 0), by rw [em]; exact mt_pos (by omega), ⟨F1, r1, off1, T1, M1, Or.inr ⟨rfl, rfl, K4, K5⟩⟩, head'⟩
    | succ d =>
      have hcd' := hc d (by omega)
      have eP := num_back (b := n) (n := n) (c := c) hd q9
      refine ⟨mt n (up c d (c d + 1)) d, (hv τ F1, nI d), by rw [em]; exact mt_back (by omega) (by omega), ⟨F1, r1, off1, T1, M1, Or.inl ⟨up c d (c d + 1), d, by omega, fun i hi => by rw [up_n (by omega)]; exact hc i (by omega), by rw [up_e]; omega, rfl, rfl, fun i hi => ?_, ?_, fun k hk j hj => ?_, fun i hi => ?_, ?_, ?_⟩⟩, fun rec => (head' rec).trans (by rw [e1_s])⟩
      · rw [up_n (by omega)]
        exact C1 i (by omega)
      · rw [up_e, e1_s]
        exact C1 d (by omega)
      · rw [up_n (by omega), up_n (by omega)]
        exact k3 k (by omega) j hj
      · rw [smo_cg (c := up c d (c d + 1)) (c' := c) i (fun k hk => up_n (by omega))]
        exact KS i (by omega)
      · rw [eP]; exact K4
      · rw [eP]; exact K5
  · have hcn : c d < n := by omega
    have hcl : ∀ i, i ≤ d → c i < n := fun i hi => by
      by_cases e : i = d
      · rw [e]; exact hcn
      · exact hc i (by omega)
    have nq : ¬ nI (c d) = nI n := by rw [eq_lit (by omega) (by omega)]; exact q9
    have stay : num n (up c d (c d + 1)) (d + 1) * n ^ (n - 1 - d) = num n c (d + 1) * n ^ (n - 1 - d) + n ^ (n - 1 - d) := by
      rw [num_stay, Nat.succ_mul]
    have mt' := x_met7 s h8 hd C2
    by_cases fr : ∀ k, k < d → c k ≠ c d
    · have hu : unq (d + 1) c := (unq_s d c).mpr ⟨k3, fr⟩
      rw [if_pos fr] at mt'
      have C3 : ∀ k, k ≤ d → c k < n ∧ F1 (N + 225) k = nI (c k) := fun k hk => ⟨hcl k hk, (C2 k hk).2⟩
      have mo := x_more7 g s r1.lk  h8 hd T1 C3
      have sl : smo S T 1 c (d + 1) ≤ 576 * (d + 1) := smo_le g T 1 c (d + 1) (by omega)
      have es : smo S T 1 c d + inc S T 1 c d = smo S T 1 c (d + 1) := rfl
      have KSd := KS d (Nat.le_refl _)
      obtain ⟨F2, hF2⟩ : ∃ F2, F2 = u2 F1 Z (d + 1) (nI (smo S T 1 c (d + 1))) := ⟨_, rfl⟩
      have o2 : ∀ a j, a ≠ Z → F2 a j = F1 a j := fun a j ha => by rw [hF2]; exact u2_n (by omega)
      have r2 : RepX N (hv σ F2) S := r1.sz (fun a k ha _ => o2 a k (by omega))
      have T2 : ∀ k, k < n → T k < 24 ∧ F2 (N + 212) k = nI (T k) := fun k hk => ⟨(hT k hk).1, (o2 _ _ (by omega)).trans (T1 k hk).2⟩
      have M2 : F2 (N + 224) 2 = nI n := (o2 _ _ (by omega)).trans M1
      have D1 : ∀ k, k < d → F2 (N + 225) k = nI (c k) := fun k hk => (o2 _ _ (by omega)).trans (C1 k hk)
      have Dd : F2 (N + 225) d = nI (c d) := (o2 _ _ (by omega)).trans Cd
      have L4 : F2 (N + 224) 3 = lsx (ok S T 1 n (num n c (d + 1) * n ^ (n - 1 - d))).1 := (o2 _ _ (by omega)).trans K4
      have L5 : BestX N F2 n (ok S T 1 n (num n c (d + 1) * n ^ (n - 1 - d))).2 := fun z i hi => (o2 _ _ (by omega)).trans (K5 z i hi)
      have LS : ∀ i, i ≤ d + 1 → F2 Z i = nI (smo S T 1 c i) := fun i hi => by
        rw [hF2]
        by_cases e : i = d + 1
        · rw [e]; exact u2_e
        · rw [u2_n (by omega)]
          exact KS i (by omega)
      have off2 : ∀ a j, a < N ∨ (N + 245 ≤ a ∧ a < Z) → F2 a j = f a j := fun a j ha => (o2 _ _ (by omega)).trans (off1 a j ha)
      have head2 : ∀ rec, B_X6_run_7_25 (N + 224) Z rec (hv τ F) (nI d) = (if nI (smo S T 1 c (d + 1)) < F2 (N + 224) 3 then (if nI d = (nI n - nI 1) then b1 (pI 7 3 (N + 224) (F2 Z n) (hv τ F2)) (fun s6 => b1 (gR 7 0 (N + 224) s6) (fun v16 => b1 (gR 7 1 (N + 224) s6) (fun v17 => b1 (gI 7 2 (N + 224) s6) (fun v18 => b1 (cpI v16 (nI 0) v17 (nI 0) v18 s6) (fun s7 => rec (s7, nI d)))))) else b1 (gR 7 0 (N + 224) (hv τ F2)) (fun v13 => b1 (sI 0 v13 (nI (d + 1)) (e1 0) (hv τ F2)) (fun s5 => rec (s5, nI (d + 1))))) else rec (hv τ F2, nI d)) := fun rec => by
        have e2 : F2 Z (d + 1) = nI (smo S T 1 c (d + 1)) := LS (d + 1) (Nat.le_refl _)
        rw [head rec, if_neg nq, mt', b2_some, if_pos rfl, AZ F1 d (by omega), b1_some, s.R224_0, b1_some, mo, b2_some, WZ _ _ _ (by omega), b1_some, KSd, nI_add, es, ← hF2, AZ F2 (d + 1) (by omega), b1_some, gI_hv s.t224, b1_some, e2]
        simp only [gI_hv s.t224, b1_some, M2]
        rw [AZ F2 n (by omega), b1_some]
      clear hF2
      obtain ⟨v, hv'⟩ : ∃ v, v = smo S T 1 c (d + 1) := ⟨_, rfl⟩
      obtain ⟨o, ho⟩ : ∃ o, o = (ok S T 1 n (num n c (d + 1) * n ^ (n - 1 - d))).1 := ⟨_, rfl⟩
      rw [← ho] at L4 pb
      rw [← hv'] at head2 sl
      have lt' : (nI v < F2 (N + 224) 3) = (o = 0 ∨ v + 1 < o) := by
        rw [L4]
        unfold lsx
        by_cases z : o = 0
        · rw [if_pos z, lt_lit (by omega) (by omega)]
          exact propext ⟨fun _ => Or.inl z, fun _ => by omega⟩
        · rw [if_neg z, lt_lit (by omega) (by omega)]
          exact propext ⟨fun _ => Or.inr (by omega), fun w => by omega⟩
      by_cases qb : o = 0 ∨ v + 1 < o
      · by_cases qn : d + 1 = n
        · -- a leaf
          have z0 : n - 1 - d = 0 := by omega
          have eP : num n c (d + 1) * n ^ (n - 1 - d) = num n c (d + 1) := by rw [z0, Nat.pow_zero, Nat.mul_one]
          have eP' : num n (up c d (c d + 1)) (d + 1) * n ^ (n - 1 - d) = num n c (d + 1) + 1 := by rw [num_stay, z0, Nat.pow_zero, Nat.mul_one]
          have ev := o_leaf (S := S) (T := T) (b := 1) qn hcl (by rw [← qn]; exact hu)
          have evn : smo S T 1 c n = v := by rw [hv', qn]
          rw [evn] at ev
          have ps := ok_s S T 1 n (num n c (d + 1))
          rw [eP] at ho
          rw [ev, ← ho, if_pos ⟨by omega, qb⟩] at ps
          have dn : (nI d = nI n - nI 1) = True := by rw [nI_sub (by omega), show n - 1 = d by omega]; exact eq_true rfl
          have Zn : F2 Z n = nI v := by rw [LS n (by omega), evn]
          have cp := cp_hv (τ := τ) (F := u2 F2 (N + 224) 3 (nI v)) (a0 := N + 225) (a := N + 226) (n := n) s.n225 s.n226 h8
          refine ⟨mt n (up c d (c d + 1)) d, (hv τ (fy (u2 F2 (N + 224) 3 (nI v)) (N + 226) n (fun j => u2 F2 (N + 224) 3 (nI v) (N + 225) j)), nI d), by rw [em]; exact mt_stay (by omega), ⟨_, r2.sx (fun a k ha => (fy_off (fun q => ha 226 (by omega) q.1)).trans (u2_n (fun q => ha 224 (by omega) q.1))), fun a j ha => ?_, fun k hk => ⟨(T2 k hk).1, ?_⟩, ?_, Or.inl ⟨up c d (c d + 1), d, hd, fun i hi => by rw [up_n (by omega)]; exact hc i hi, by rw [up_e]; omega, rfl, rfl, fun i hi => ?_, ?_, fun k hk j hj => ?_, fun i hi => ?_, ?_, ?_⟩⟩, fun rec => ?_⟩
          · rw [fy_off (by omega), u2_n (by omega)]
            exact off2 a j ha
          · rw [fy_off (by omega), u2_n (by omega)]
            exact (T2 k hk).2
          · rw [fy_off (by omega), u2_n (by omega)]
            exact M2
          · rw [fy_off (by omega), u2_n (by omega), up_n (by omega)]
            exact D1 i hi
          · rw [fy_off (by omega), u2_n (by omega), up_e, e1_s]
            exact Dd
          · rw [up_n (by omega), up_n (by omega)]
            exact k3 k hk j hj
          · rw [fy_off (by omega), u2_n (by omega), smo_cg (c := up c d (c d + 1)) (c' := c) i (fun k hk => up_n (by omega))]
            exact LS i (by omega)
          · rw [fy_off (by omega), u2_e, eP', ps]
            unfold lsx
            rw [if_neg (by omega), Nat.add_sub_cancel]
          · rw [eP', ps]
            intro z i hi
            refine Eq.trans (fy_rd hi) ?_
            show u2 F2 (N + 224) 3 (nI v) (N + 225) i = nI (dgb n n (num n c (d + 1) + 1 - 1) i)
            rw [u2_n (by omega), Nat.add_sub_cancel, o_dig (d := d) (c := c) hd hcl (by rw [eP]; exact Nat.le_refl _) (by rw [eP, z0, Nat.pow_zero]; omega) (by omega)]
            by_cases e : i = d
            · rw [e]; exact Dd
            · exact D1 i (by omega)
          · rw [head2 rec, if_pos (lt' ▸ qb), if_pos (dn ▸ trivial), Zn, pI_hv s.t224, b1_some, s.R224_0, b1_some, s.R224_1, b1_some, gI_hv s.t224, b1_some, u2_n (by omega), M2, cp, b1_some]
        · -- one level further
          have eP := num_down (b := n) (n := n) (c := c) (d := d) (by omega)
          have dn : ¬ (nI d = nI n - nI 1) := by
            rw [nI_sub (by omega), eq_lit (by omega) (by omega)]
            omega
          refine ⟨mt n (up c (d + 1) 0) (d + 1), (hv τ (u2 F2 (N + 225) (d + 1) (e1 0)), nI (d + 1)), by rw [em]; exact mt_down (by omega) hd, ⟨_, r2.sx (fun a k ha => u2_n (fun q => ha 225 (by omega) q.1)), fun a j ha => (u2_n (by omega)).trans (off2 a j ha), fun k hk => ⟨(T2 k hk).1, (u2_n (by omega)).trans (T2 k hk).2⟩, (u2_n (by omega)).trans M2, Or.inl ⟨up c (d + 1) 0, d + 1, by omega, fun i hi => ?_, by rw [up_e]; omega, rfl, rfl, fun i hi => ?_, ?_, fun k hk j hj => ?_, fun i hi => ?_, ?_, ?_⟩⟩, fun rec => ?_⟩
          · rw [up_n (by omega)]
            exact hcl i (by omega)
          · rw [u2_n (by omega), up_n (by omega)]
            by_cases e : i = d
            · rw [e]; exact Dd
            · exact D1 i (by omega)
          · rw [u2_e, up_e]
          · rw [up_n (by omega), up_n (by omega)]
            exact hu k (by omega) j hj
          · rw [u2_n (by omega), smo_cg (c := up c (d + 1) 0) (c' := c) i (fun k hk => up_n (by omega))]
            exact LS i hi
          · rw [eP, ← ho, u2_n (by omega)]
            exact L4
          · rw [eP]
            intro z i hi
            show u2 F2 (N + 225) (d + 1) (e1 0) (N + 226) i = _
            rw [u2_n (by omega)]
            exact L5 z i hi
          · rw [head2 rec, if_pos (lt' ▸ qb), if_neg dn, s.R224_0, b1_some, s.W225 (by omega), b1_some]
      · -- too much already
        have pr := o_prune (S := S) (T := T) (b := 1) hd hcl (by rw [← ho]; omega) (by rw [← ho, ← hv']; omega)
        refine ⟨mt n (up c d (c d + 1)) d, (hv τ F2, nI d), by rw [em]; exact mt_stay (by omega), ⟨F2, r2, off2, T2, M2, Or.inl ⟨up c d (c d + 1), d, hd, fun i hi => by rw [up_n (by omega)]; exact hc i hi, by rw [up_e]; omega, rfl, rfl, fun i hi => ?_, ?_, fun k hk j hj => ?_, fun i hi => ?_, ?_, ?_⟩⟩, fun rec => ?_⟩
        · rw [up_n (by omega)]
          exact D1 i hi
        · rw [up_e, e1_s]
          exact Dd
        · rw [up_n (by omega), up_n (by omega)]
          exact k3 k hk j hj
        · rw [smo_cg (c := up c d (c d + 1)) (c' := c) i (fun k hk => up_n (by omega))]
          exact LS i (by omega)
        · rw [stay, pr, ← ho]
          exact L4
        · rw [stay, pr]
          exact L5
        · rw [head2 rec, if_neg (lt' ▸ qb)]
    · -- a place met before
      rw [if_neg fr] at mt'
      refine ⟨mt n (up c d (c d + 1)) d, (hv τ F1, nI d), by rw [em]; exact mt_stay (by omega), ⟨F1, r1, off1, T1, M1, Or.inl ⟨up c d (c d + 1), d, hd, fun i hi => by rw [up_n (by omega)]; exact hc i hi, by rw [up_e]; omega, rfl, rfl, fun i hi => ?_, ?_, fun k hk j hj => ?_, fun i hi => ?_, ?_, ?_⟩⟩, fun rec => ?_⟩
      · rw [up_n (by omega)]
        exact C1 i hi
      · rw [up_e, e1_s]
        exact Cd
      · rw [up_n (by omega), up_n (by omega)]
        exact k3 k hk j hj
      · rw [smo_cg (c := up c d (c d + 1)) (c' := c) i (fun k hk => up_n (by omega))]
        exact KS i (by omega)
      · rw [stay, o_dup hd hcl fr]
        exact K4
      · rw [stay, o_dup hd hcl fr]
        exact K5
      · rw [head rec, if_neg nq, mt', b2_some, if_neg (by decide)]
theorem x_run7 {N : Nat} {σ : Hp} {f : Nat → Nat → Int32} {S : St} (g : Good S) (h : RepX N (hv σ f) S) {T : Nat → Nat} {n : Nat} (h1 : 1 ≤ n) (h8 : n ≤ 8) (hT : ∀ k, k < n → T k < 24 ∧ f (N + 212) k = nI (T k)) : ∃ F, F_X6_run_7 (hv σ f) (N + 224) (nI n) = some (hv (born σ (.inr (0, 9))) F) ∧ RepX N (hv σ F) S ∧ (∀ a j, a < N ∨ (N + 245 ≤ a ∧ a < hZ σ) → F a j = f a j) ∧ (∀ k, k < n → F (N + 212) k = nI (T k)) ∧ F (N + 224) 3 = e1 (ok S T 1 n (n ^ n)).1 ∧ ∀ i, i < n → F (N + 226) i = nI (dgb n n ((ok S T 1 n (n ^ n)).2 - 1) i) := by
  have s : SX N σ := h.1
  have hZN : N + 271 ≤ hZ σ := h.2.1
  have sτ : SX N (born σ (.inr (0, 9))) := s.mono (fun o ho => ⟨if_neg (by omega), fun _ => if_neg (by omega), fun _ => if_neg (by omega), fun _ => if_neg (by omega)⟩)
  have hz : aN 0 (hZ σ) (born σ (.inr (0, 9))) = some 9 := aN_of (if_pos rfl)
  have n0 : num n (fun _ => 0) (0 + 1) * n ^ (n - 1 - 0) = 0 := by
    show (n * 0 + 0) * _ = 0
    rw [Nat.mul_zero, Nat.zero_add, Nat.zero_mul]
  obtain ⟨F0, hF0⟩ : ∃ F0, F0 = u2 (bnI σ (u2 (u2 f (N + 224) 2 (nI n)) (N + 224) 3 (nI 268435456))) (N + 225) 0 (e1 0) := ⟨_, rfl⟩
  have b0 : ∀ a j, a ≠ N + 224 → a ≠ N + 225 → a ≠ hZ σ → F0 a j = f a j := fun a j q1 q2 q3 => by
    rw [hF0, u2_n (by omega), bn_n q3, u2_n (by omega), u2_n (by omega)]
  obtain ⟨st, r, ⟨F, rp, off, hT', es, k4, k5⟩, e⟩ := it_muF (body := fun rec st => B_X6_run_7_25 (N + 224) (hZ σ) rec st.1 st.2) (RI N (hZ σ) σ (born σ (.inr (0, 9))) f S T n) (RDn N (hZ σ) σ (born σ (.inr (0, 9))) f S T n) (ri_step g sτ rfl hZN hz h1 h8) (mt n (fun _ => 0) 0) (hv (born σ (.inr (0, 9))) F0, nI 0) ⟨F0, h.sz (fun a k ha q => b0 a k (q 224 (by omega)) (q 225 (by omega)) (by omega)), fun a j ha => b0 a j (by omega) (by omega) (by omega), fun k hk => ⟨(hT k hk).1, (b0 _ _ (by omega) (by omega) (by omega)).trans (hT k hk).2⟩, by rw [hF0, u2_n (by omega), bn_n (by omega), u2_n (by omega), u2_e], Or.inl ⟨fun _ => 0, 0, by omega, fun i hi => by omega, Nat.zero_le n, rfl, rfl, fun i hi => by omega, by rw [hF0, u2_e], fun k hk => absurd hk (Nat.not_lt_zero k), fun i hi => by
      have : i = 0 := by omega
      subst this
      rw [hF0, u2_n (by omega), bn_e]
      rfl, by rw [n0, hF0, u2_n (by omega), bn_n (by omega), u2_e]; rfl, fun z => absurd (by rw [n0]; rfl) z⟩⟩ (mt_0 _ _ (by omega))
  subst es
  have nz := ok_full S T 1 h1
  refine ⟨F, ?_, rp, off, fun k hk => (hT' k hk).2, ?_, k5 (fun z => nz (ok_z S T 1 n _ z))⟩
  · have L0 : F_X6_run_7 (hv σ f) (N + 224) (nI n) = it (fun rec st => B_X6_run_7_25 (N + 224) (hZ σ) rec st.1 st.2) FU (hv (born σ (.inr (0, 9))) F0, nI 0) := by
      unfold F_X6_run_7
      rw [gd_hv s.t224, pI_hv s.t224, b1_some, pI_hv s.t224, b1_some, born_hv, sτ.R224_0, b1_some]
      have w := sτ.W225 (f := bnI σ (u2 (u2 f (N + 224) 2 (nI n)) (N + 224) 3 268435456)) (i := 0) (v := e1 0) (by omega)
      have w' : sI 0 (N + 225) 0 (-1) (hv (born σ (.inr (0, 9))) (bnI σ (u2 (u2 f (N + 224) 2 (nI n)) (N + 224) 3 268435456))) = some (hv (born σ (.inr (0, 9))) F0) := by
        rw [hF0]
        exact w
      rw [w', b1_some]
      rfl
    rw [L0]
    refine e.trans ?_
    simp (decide := true) (disch := omega) only [B_X6_run_7_25, b1_some, b2_some, litI, neg1, nI_add, nI_mul, e1_p1, nI_e0, ib, ib1, ite_not, if_true, if_false, not_true_eq_false, not_false_eq_true, setI_hv, e1_lt, Nat.le_refl]
  · rw [k4]
    unfold lsx
    rw [if_neg nz, e1_of (by omega)]
theorem x_told7 {N : Nat} {σ : Hp} {f : Nat → Nat → Int32} {S : St} (g : Good S) (h : RepX N (hv σ f) S) {T : Nat → Nat} {n : Nat} {i : Int32} (h1 : 1 ≤ n) (h8 : n ≤ 8) (hi : -1 ≤ i) (hT : ∀ k, k < n → T k < 24 ∧ f (N + 212) k = nI (T k)) : ∃ F, F_X0_told_7 (hv σ f) N (N + 224) (nI n) i = some (ordr S T 1 n i, hv (born σ (.inr (0, 9))) F) ∧ RepX N (hv (born σ (.inr (0, 9))) F) S ∧ FrX N (hv σ f) (hv (born σ (.inr (0, 9))) F) := by
  have s : SX N σ := h.1
  have hZN : N + 271 ≤ hZ σ := h.2.1
  have sτ : SX N (born σ (.inr (0, 9))) := s.mono (fun o ho => ⟨if_neg (by omega), fun _ => if_neg (by omega), fun _ => if_neg (by omega), fun _ => if_neg (by omega)⟩)
  obtain ⟨F, r1, r2, r3, r4, r5, r6⟩ := x_run7 g h h1 h8 hT
  refine ⟨F, ?_, r2.bn _, fun a ha => ?_, by show hZ σ ≤ hZ σ + 1; omega⟩
  · unfold F_X0_told_7 ordr
    rw [gd_hv s.t0, r1, b1_some]
    rcases ord_in h8 hi with q | q | ⟨j, hj, rfl⟩
    · rw [if_pos q, if_pos q]
      simp (decide := true) (disch := omega) only [gI_hv sτ.t224, b1_some, b2_some, litI, neg1, nI_add, nI_mul, e1_p1, nI_e0, ib, ib1, ite_not, if_true, if_false, not_true_eq_false, not_false_eq_true, setI_hv, r5]
    · by_cases q' : i = -1
      · rw [if_pos q', if_pos q']
        simp (decide := true) (disch := omega) only [gI_hv sτ.t224, b1_some, b2_some, litI, neg1, nI_add, nI_mul, e1_p1, nI_e0, ib, ib1, ite_not, if_true, if_false, not_true_eq_false, not_false_eq_true, setI_hv, r5]
      · rw [if_neg q', if_neg q', if_pos q, if_pos q]
    · have n1 : ¬ nI j = -1 := by rw [nI_m1 (by omega)]; exact id
      have n2 : ¬ nI n ≤ nI j := by rw [le_lit (by omega) (by omega)]; omega
      rw [if_neg n1, if_neg n1, if_neg n2, if_neg n2, cl_I (by omega)]
      have e6 := r6 j hj
      have dl := dgb_lt (b := n) (n := n) (k := (ok S T 1 n (n ^ n)).2 - 1) (i := j) (by omega)
      have e4 := r4 _ dl
      generalize dgb n n ((ok S T 1 n (n ^ n)).2 - 1) j = y at e6 dl e4
      simp (decide := true) (disch := omega) only [sτ.R15, sτ.R224_1, sτ.A226, sτ.A212, b1_some, b2_some, litI, neg1, nI_add, nI_mul, e1_p1, nI_e0, ib, ib1, ite_not, if_true, if_false, not_true_eq_false, not_false_eq_true, setI_hv, e6, e4]
  · have za : a ≠ hZ σ := by have hh : hZ (hv σ f) = hZ σ := rfl; rw [hh] at ha; omega
    have b := born_same (f := f) (kd := .inr (0, 9)) za
    refine ⟨b.1, fun k => ?_, b.2.2.1, b.2.2.2⟩
    have hh : hZ (hv σ f) = hZ σ := rfl
    rw [hh] at ha
    exact r3 a k ha
theorem x_hand0 {N : Nat} {σ : Hp} (s : SX N σ) {n i : Int32} {lo hi : Nat} {x : Int64} (h : ¬ inR n lo hi) : F_X0_layHand σ N x n (nI lo) (nI hi) i = some (-3, σ) := by
  unfold F_X0_layHand
  rw [gd_at s.t0, x0_isIn, if_neg h, b2_some, if_pos rfl]
theorem frx_hand {N : Nat} {σ : Hp} {f : Nat → Nat → Int32} (n : Nat) (D : Nat → Nat) : FrX N (hv σ f) (hv σ (fz f (N + 212) n D)) := ⟨fun a ha => ⟨rfl, fun k => fz_off (by omega), fun _ => rfl, fun _ => rfl⟩, Nat.le_refl _⟩
theorem x_laid (N : Nat) (x : Int64) (n i : Int32) : OkX N (fun σ => F_X0_laid σ N x n i) (oOrd 1 8 1 x n i) := by
  intro σ S g h0
  have h : RepX N (hv σ σ.2.1) S := h0
  show ∃ σ', F_X0_laid (hv σ σ.2.1) N x n i = _ ∧ RepX N σ' _ ∧ FrX N (hv σ σ.2.1) σ'
  generalize σ.2.1 = f at h
  have s : SX N (hv σ f) := h.1
  unfold F_X0_laid
  rw [gd_at s.t0]
  rcases in_split n 1 8 (by omega) (by omega) with ⟨k, h1, h8, rfl⟩ | hk
  case inr =>
    have e : oOrd 1 8 1 x n i S = (-3, S) := if_neg hk
    have h0 : F_X0_layHand (hv σ f) N x n 1 8 i = some (-3, hv σ f) := x_hand0 (lo := 1) (hi := 8) s hk
    rw [e, h0, b2_some, if_neg (by decide)]
    exact ⟨_, rfl, h, FrX.rf⟩
  have e : oOrd 1 8 1 x (nI k) i S = (if thr k x then (if unq k (hdv x) ∧ -1 ≤ i then ordr S (srt k (hdv x)) 1 k i else -3) else -2, S) := by
    unfold oOrd
    rw [cl_I (by omega), if_pos (inR_of h1 h8 (by omega)), if_pos rfl]
  have hd : F_X0_layHand (hv σ f) N x (nI k) 1 8 i = some (if thr k x then (if unq k (hdv x) ∧ -1 ≤ i then nI 0 else -3) else -2, hv σ (fz f (N + 212) k (hdv x))) := x_hand (f := f) (σ := σ) (lo := 1) (hi := 8) s h1 h8 (by omega)
  have r1 : RepX N (hv σ (fz f (N + 212) k (hdv x))) S := h.sx (fun a j ha => fz_off (ha 212 (by omega)))
  rw [e, hd, b2_some]
  by_cases q1 : thr k x
  case neg =>
    rw [if_neg q1, if_neg (by decide), if_neg q1]
    exact ⟨_, rfl, r1, frx_hand k _⟩
  rw [if_pos q1, if_pos q1]
  by_cases q2 : unq k (hdv x) ∧ -1 ≤ i
  case neg =>
    rw [if_neg q2, if_neg (by decide), if_neg q2]
    exact ⟨_, rfl, r1, frx_hand k _⟩
  rw [if_pos q2, if_pos (show nI 0 = (0 : Int32) from rfl), if_pos q2]
  have so := srt_ok (n := k) (A := hdv x) 23 (fun j hj => q1 j hj)
  have sr := x_sort (f := f) (σ := σ) s (n := k) (A := hdv x) h1 h8 (fun j hj => by have := q1 j hj; omega)
  have sr' : F_J8_sort (hv σ (fz f (N + 212) k (hdv x))) (N + 212) 0 (nI k) = some (hv σ (fz f (N + 212) k (srt k (hdv x)))) := sr
  have r2 : RepX N (hv σ (fz f (N + 212) k (srt k (hdv x)))) S := h.sx (fun a j ha => fz_off (ha 212 (by omega)))
  obtain ⟨F, t1, t2, t3⟩ := x_told7 g r2 (T := srt k (hdv x)) (n := k) (i := i) h1 h8 q2.2 (fun j hj => ⟨by have := so.2.2 j hj; omega, fz_rd hj⟩)
  refine ⟨_, ?_, t2, (frx_hand k (srt k (hdv x))).tr t3⟩
  have sσ : SX N σ := s
  rw [sσ.R15, b1_some, sr', b1_some, sσ.R17, b1_some, t1, b2_some]
end
section
set_option maxRecDepth 100000
/-! pure law, the component's search for an order: class 8 -/
theorem x_met8 {N : Nat} {τ : Hp} {F : Nat → Nat → Int32} (s : SX N τ) {n d : Nat} {c : Nat → Nat} (h8 : n ≤ 8) (hd : d < n) (hc : ∀ k, k ≤ d → c k ≤ n ∧ F (N + 228) k = nI (c k)) : F_X6_isMet_8 (hv τ F) (N + 227) (nI d) = some (nI (if ∀ k, k < d → c k ≠ c d then 0 else 1), hv τ F) := by
  unfold F_X6_isMet_8 L_X6_isMet_8_4
  rw [gd_hv s.t227]
  have cd := hc d (Nat.le_refl _)
  obtain ⟨m, hm⟩ := it_FU (body := fun rec' st => B_X6_isMet_8_4 (hv τ F) (N + 227) (nI d) rec' st.1 st.2) (fun t => (nI (if ∀ k, k < t → c k ≠ c d then 0 else 1), nI t)) 0 d (by omega) (by omega) (fun t _ ht rec' => by
    have ct := hc t (by omega)
    show B_X6_isMet_8_4 (hv τ F) (N + 227) (nI d) rec' (nI (if ∀ k, k < t → c k ≠ c d then 0 else 1)) (nI t) = rec' (nI (if ∀ k, k < t + 1 → c k ≠ c d then 0 else 1), nI (t + 1))
    by_cases q1 : ∀ k, k < t → c k ≠ c d
    · rw [if_pos q1]
      by_cases q2 : c t = c d
      · rw [if_neg (fun u => u t (by omega) q2)]
        simp (decide := true) (disch := omega) only [B_X6_isMet_8_4, s.R227_0, s.A228, b1_some, b2_some, litI, neg1, nI_add, nI_mul, e1_p1, nI_e0, ib, ib1, ite_not, if_true, if_false, not_true_eq_false, not_false_eq_true, setI_hv, le_lit, eq_lit, show ¬ d ≤ t by omega, ct.2, cd.2, q2]
      · rw [if_pos (fun k hk => by
          by_cases e : k = t
          · rw [e]; exact q2
          · exact q1 k (by omega))]
        simp (decide := true) (disch := omega) only [B_X6_isMet_8_4, s.R227_0, s.A228, b1_some, b2_some, litI, neg1, nI_add, nI_mul, e1_p1, nI_e0, ib, ib1, ite_not, if_true, if_false, not_true_eq_false, not_false_eq_true, setI_hv, le_lit, eq_lit, show ¬ d ≤ t by omega, ct.2, cd.2, q2]
    · rw [if_neg q1, if_neg (fun u => q1 (fun k hk => u k (by omega)))]
      simp (decide := true) (disch := omega) only [B_X6_isMet_8_4, b1_some, b2_some, litI, neg1, nI_add, nI_mul, e1_p1, nI_e0, ib, ib1, ite_not, if_true, if_false, not_true_eq_false, not_false_eq_true, setI_hv, le_lit, eq_lit, show ¬ d ≤ t by omega])
  have z1 : ∀ t, t = 0 → (if ∀ k, k < t → c k ≠ c d then 0 else 1) = 0 := fun t ht => if_pos (fun k hk => by omega)
  rw [z1 0 rfl] at hm
  refine Eq.trans hm ?_
  show B_X6_isMet_8_4 (hv τ F) (N + 227) (nI d) m (nI (if ∀ k, k < d → c k ≠ c d then 0 else 1)) (nI d) = _
  by_cases q : ∀ k, k < d → c k ≠ c d
  · rw [if_pos q]
    simp (decide := true) (disch := omega) only [B_X6_isMet_8_4, b1_some, b2_some, litI, neg1, nI_add, nI_mul, e1_p1, nI_e0, ib, ib1, ite_not, if_true, if_false, not_true_eq_false, not_false_eq_true, setI_hv, le_lit, Nat.le_refl, zr_0']
  · rw [if_neg q]
    simp (decide := true) (disch := omega) only [B_X6_isMet_8_4, b1_some, b2_some, litI, neg1, nI_add, nI_mul, e1_p1, nI_e0, ib, ib1, ite_not, if_true, if_false, not_true_eq_false, not_false_eq_true, setI_hv, le_lit, Nat.le_refl, zr_1']
theorem x_more8 {N : Nat} {τ : Hp} {F : Nat → Nat → Int32} {S : St} (g : Good S) (s : SX N τ) (lk : LkX N F S) (rg : ∀ a b, a < 10 → b < 10 → F (N + (214 + a)) b = nI (S.2 38 (10 * a + b))) {n d : Nat} {T c : Nat → Nat} (h8 : n ≤ 8) (hd : d < n) (hT : ∀ k, k < n → T k < 24 ∧ F (N + 212) k = nI (T k)) (hc : ∀ k, k ≤ d → c k < n ∧ F (N + 228) k = nI (c k)) : F_X8_more (hv τ F) (N + 227) (N + 228) (nI d) = some (nI (inc S T 0 c d), hv τ F) := by
  unfold F_X8_more L_X8_more_5 inc
  rw [gd_hv s.t227, if_neg (by decide : ¬ 0 = 1)]
  have c1 := hc d (Nat.le_refl _)
  have t1 := hT (c d) c1.1
  obtain ⟨m, hm⟩ := it_FU (body := fun rec st => B_X8_more_5 (N + 227) (N + 228) (nI d) rec st.1 st.2.1 st.2.2) (fun k => (hv τ F, nI (sumR (fun k => S.2 38 (10 * k + d) * lkn S (T (c k)) (T (c d))) 0 k), nI k)) 0 d (by omega) (by omega) (fun k _ hk rec => by
    have c2 := hc k (by omega)
    have t2 := hT (c k) c2.1
    have l := xl_lk g s lk (a := T (c k)) (b := T (c d)) t2.1 t1.1
    have al := rg k d (by omega) (by omega)
    show B_X8_more_5 (N + 227) (N + 228) (nI d) rec (hv τ F) (nI (sumR (fun k => S.2 38 (10 * k + d) * lkn S (T (c k)) (T (c d))) 0 k)) (nI k) = rec (hv τ F, nI (sumR (fun k => S.2 38 (10 * k + d) * lkn S (T (c k)) (T (c d))) 0 k + S.2 38 (10 * (0 + k) + d) * lkn S (T (c (0 + k))) (T (c d))), nI (k + 1))
    rw [Nat.zero_add]
    generalize sumR (fun k => S.2 38 (10 * k + d) * lkn S (T (c k)) (T (c d))) 0 k = y
    simp (decide := true) (disch := omega) only [B_X8_more_5, s.R227_5, s.R16, s.R15, s.K, s.AK, s.A228, s.A212, b1_some, b2_some, litI, neg1, nI_add, nI_mul, e1_p1, nI_e0, ib, ib1, ite_not, if_true, if_false, not_true_eq_false, not_false_eq_true, setI_hv, le_lit, show ¬ d ≤ k by omega, c1.2, c2.2, t1.2, t2.2, l, al])
  refine Eq.trans hm ?_
  simp (decide := true) (disch := omega) only [B_X8_more_5, b1_some, b2_some, litI, neg1, nI_add, nI_mul, e1_p1, nI_e0, ib, ib1, ite_not, if_true, if_false, not_true_eq_false, not_false_eq_true, setI_hv, le_lit, Nat.le_refl]
def BestX8 (N : Nat) (F : Nat → Nat → Int32) (n k : Nat) : Prop := k ≠ 0 → ∀ i, i < n → F (N + 229) i = nI (dgb n n (k - 1) i)
def RI8 (N Z : Nat) (σ τ : Hp) (f : Nat → Nat → Int32) (S : St) (T : Nat → Nat) (n m : Nat) (st : Hp × Int32) : Prop := ∃ F, RepX N (hv σ F) S ∧ (∀ a j, a < N ∨ (N + 245 ≤ a ∧ a < Z) → F a j = f a j) ∧ (∀ k, k < n → T k < 24 ∧ F (N + 212) k = nI (T k)) ∧ F (N + 227) 2 = nI n ∧
  ((∃ c d, d < n ∧ (∀ i, i < d → c i < n) ∧ c d ≤ n ∧ m = mt n c d ∧ st = (hv τ F, nI d) ∧ (∀ i, i < d → F (N + 228) i = nI (c i)) ∧ F (N + 228) d = e1 (c d) ∧ unq d c ∧ (∀ i, i ≤ d → F Z i = nI (smo S T 0 c i)) ∧ F (N + 227) 3 = lsx (ok S T 0 n (num n c (d + 1) * n ^ (n - 1 - d))).1 ∧ BestX8 N F n (ok S T 0 n (num n c (d + 1) * n ^ (n - 1 - d))).2) ∨
   (m = 0 ∧ st = (hv τ F, e1 0) ∧ F (N + 227) 3 = lsx (ok S T 0 n (n ^ n)).1 ∧ BestX8 N F n (ok S T 0 n (n ^ n)).2))
def RDn8 (N Z : Nat) (σ τ : Hp) (f : Nat → Nat → Int32) (S : St) (T : Nat → Nat) (n : Nat) (st : Hp × Int32) : Prop := ∃ F, RepX N (hv σ F) S ∧ (∀ a j, a < N ∨ (N + 245 ≤ a ∧ a < Z) → F a j = f a j) ∧ (∀ k, k < n → T k < 24 ∧ F (N + 212) k = nI (T k)) ∧ st = (hv τ F, e1 0) ∧ F (N + 227) 3 = lsx (ok S T 0 n (n ^ n)).1 ∧ BestX8 N F n (ok S T 0 n (n ^ n)).2
theorem ri_step8 {N Z : Nat} {σ τ : Hp} {f : Nat → Nat → Int32} {S : St} (g : Good S) (s : SX N τ) (hZZ : hZ σ = Z) (hZN : N + 271 ≤ Z) (hz : aN 0 Z τ = some 9) {T : Nat → Nat} {n : Nat} (h1 : 1 ≤ n) (h8 : n ≤ 8) (m : Nat) (st : Hp × Int32) (hp : RI8 N Z σ τ f S T n m st) : RDn8 N Z σ τ f S T n st ∨ ∃ m' st', m' < m ∧ RI8 N Z σ τ f S T n m' st' ∧ ∀ rec, B_X6_run_8_25 (N + 227) Z rec st.1 st.2 = rec st' := by
  obtain ⟨F, rp, off, hT, hM, hq⟩ := hp
  rcases hq with ⟨c, d, hd, hc, hcd, em, es, k1, k2, k3, ks, k4, k5⟩ | ⟨em, es, k4, k5⟩
  case inr => exact Or.inl ⟨F, rp, off, hT, es, k4, k5⟩
  right
  subst es
  have AZ : ∀ (G : Nat → Nat → Int32) (i : Nat), i < 9 → aI 0 Z (nI i) (hv τ G) = some (G Z i) := fun G i hi => aI_hv hz (by omega) hi
  have WZ : ∀ (G : Nat → Nat → Int32) (i : Nat) (v : Int32), i < 9 → sI 0 Z (nI i) v (hv τ G) = some (hv τ (u2 G Z i v)) := fun G i v hi => sI_hv hz (by omega) hi
  obtain ⟨F1, hF1⟩ : ∃ F1, F1 = u2 F (N + 228) d (nI (c d)) := ⟨_, rfl⟩
  have o1 : ∀ a j, ¬ (a = N + 228 ∧ j = d) → F1 a j = F a j := fun a j ha => by rw [hF1]; exact u2_n ha
  have r1 : RepX N (hv σ F1) S := rp.sx (fun a k ha => o1 a k (fun q => ha 228 (by omega) q.1))
  have T1 : ∀ k, k < n → T k < 24 ∧ F1 (N + 212) k = nI (T k) := fun k hk => ⟨(hT k hk).1, (o1 _ _ (by omega)).trans (hT k hk).2⟩
  have M1 : F1 (N + 227) 2 = nI n := (o1 _ _ (by omega)).trans hM
  have C1 : ∀ k, k < d → F1 (N + 228) k = nI (c k) := fun k hk => (o1 _ _ (by omega)).trans (k1 k hk)
  have Cd : F1 (N + 228) d = nI (c d) := by rw [hF1]; exact u2_e
  have C2 : ∀ k, k ≤ d → c k ≤ n ∧ F1 (N + 228) k = nI (c k) := fun k hk => by
    by_cases e : k = d
    · rw [e]; exact ⟨hcd, Cd⟩
    · exact ⟨by have := hc k (by omega); omega, C1 k (by omega)⟩
  have KS : ∀ i, i ≤ d → F1 Z i = nI (smo S T 0 c i) := fun i hi => (o1 _ _ (by omega)).trans (ks i hi)
  have K4 : F1 (N + 227) 3 = lsx (ok S T 0 n (num n c (d + 1) * n ^ (n - 1 - d))).1 := (o1 _ _ (by omega)).trans k4
  have K5 : BestX8 N F1 n (ok S T 0 n (num n c (d + 1) * n ^ (n - 1 - d))).2 := fun z i hi => (o1 _ _ (by omega)).trans (k5 z i hi)
  have off1 : ∀ a j, a < N ∨ (N + 245 ≤ a ∧ a < Z) → F1 a j = f a j := fun a j ha => (o1 _ _ (by omega)).trans (off a j ha)
  have pb := ok_b g T 0 h8 (num n c (d + 1) * n ^ (n - 1 - d))
  have head : ∀ rec, B_X6_run_8_25 (N + 227) Z rec (hv τ F) (nI d) = (if nI (c d) = nI n then rec (hv τ F1, e1 d) else b2 (F_X6_isMet_8 (hv τ F1) (N + 227) (nI d)) (fun v6 s2 => (if v6 = nI 0 then b1 (aI 0 Z (nI d) s2) (fun v7 => b1 (gR 8 0 (N + 227) s2) (fun v8 => b2 (F_X8_more s2 (N + 227) v8 (nI d)) (fun v9 s3 => b1 (sI 0 Z (nI (d + 1)) (v7 + v9) s3) (fun s4 => b1 (aI 0 Z (nI (d + 1)) s4) (fun v10 => b1 (gI 8 3 (N + 227) s4) (fun v11 => (if v10 < v11 then b1 (gI 8 2 (N + 227) s4) (fun v12 => (if nI d = (v12 - nI 1) then b1 (gI 8 2 (N + 227) s4) (fun v14 => b1 (aI 0 Z v14 s4) (fun v15 => b1 (pI 8 3 (N + 227) v15 s4) (fun s6 => b1 (gR 8 0 (N + 227) s6) (fun v16 => b1 (gR 8 1 (N + 227) s6) (fun v17 => b1 (gI 8 2 (N + 227) s6) (fun v18 => b1 (cpI v16 (nI 0) v17 (nI 0) v18 s6) (fun s7 => rec (s7, nI d)))))))) else b1 (gR 8 0 (N + 227) s4) (fun v13 => b1 (sI 0 v13 (nI (d + 1)) (e1 0) s4) (fun s5 => rec (s5, nI (d + 1)))))) else rec (s4, nI d)))))))) else rec (s2, nI d)))) := fun rec => by
    have M2 : u2 F (N + 228) d (nI (c d)) (N + 227) 2 = nI n := (u2_n (by omega)).trans hM
    rw [hF1]
    unfold B_X6_run_8_25
    rw [if_neg (by rw [litI 0, lt_lit (by omega) (by omega)]; omega)]
    simp (decide := true) (disch := omega) only [gI_hv s.t227, s.R227_0, s.A228, s.W228, b1_some, litI, k2, e1_p1, u2_e, M2, nI_add, nI_e, neg1]
  show ∃ m' st', m' < m ∧ RI8 N Z σ τ f S T n m' st' ∧ ∀ rec, B_X6_run_8_25 (N + 227) Z rec (hv τ F) (nI d) = rec st'
  clear hF1
  by_cases q9 : c d = n
  · have head' : ∀ rec, B_X6_run_8_25 (N + 227) Z rec (hv τ F) (nI d) = rec (hv τ F1, e1 d) := fun rec => (head rec).trans (if_pos (by rw [q9]))
    cases d with
    | zero =>
      have eP : num n c (0 + 1) * n ^ (n - 1 - 0) = n ^ n := by
        show (n * 0 + c 0) * n ^ (n - 1 - 0) = n ^ n
        rw [q9, Nat.mul_zero, Nat.zero_add, Nat.mul_comm, ← Nat.pow_succ]
        exact congrArg (fun k => n ^ k) (by omega)
      rw [eP] at K4 K5
      exact ⟨0, (hv τ F1, e1 0), by rw [em]; exact mt_pos (by omega), ⟨F1, r1, off1, T1, M1, Or.inr ⟨rfl, rfl, K4, K5⟩⟩, head'⟩
    | succ d =>
      have hcd' := hc d (by omega)
      have eP := num_back (b := n) (n := n) (c := c) hd q9
      refine ⟨mt n (up c d (c d + 1)) d, (hv τ F1, nI d), by rw [em]; exact mt_back (by omega) (by omega), ⟨F1, r1, off1, T1, M1, Or.inl ⟨up c d (c d + 1), d, by omega, fun i hi => by rw [up_n (by omega)]; exact hc i (by omega), by rw [up_e]; omega, rfl, rfl, fun i hi => ?_, ?_, fun k hk j hj => ?_, fun i hi => ?_, ?_, ?_⟩⟩, fun rec => (head' rec).trans (by rw [e1_s])⟩
      · rw [up_n (by omega)]
        exact C1 i (by omega)
      · rw [up_e, e1_s]
        exact C1 d (by omega)
      · rw [up_n (by omega), up_n (by omega)]
        exact k3 k (by omega) j hj
      · rw [smo_cg (c := up c d (c d + 1)) (c' := c) i (fun k hk => up_n (by omega))]
        exact KS i (by omega)
      · rw [eP]; exact K4
      · rw [eP]; exact K5
  · have hcn : c d < n := by omega
    have hcl : ∀ i, i ≤ d → c i < n := fun i hi => by
      by_cases e : i = d
      · rw [e]; exact hcn
      · exact hc i (by omega)
    have nq : ¬ nI (c d) = nI n := by rw [eq_lit (by omega) (by omega)]; exact q9
    have stay : num n (up c d (c d + 1)) (d + 1) * n ^ (n - 1 - d) = num n c (d + 1) * n ^ (n - 1 - d) + n ^ (n - 1 - d) := by
      rw [num_stay, Nat.succ_mul]
    have mt' := x_met8 s h8 hd C2
    by_cases fr : ∀ k, k < d → c k ≠ c d
    · have hu : unq (d + 1) c := (unq_s d c).mpr ⟨k3, fr⟩
      rw [if_pos fr] at mt'
      have C3 : ∀ k, k ≤ d → c k < n ∧ F1 (N + 228) k = nI (c k) := fun k hk => ⟨hcl k hk, (C2 k hk).2⟩
      have mo := x_more8 g s r1.lk (fun a b ha hb => r1.a38 ha hb) h8 hd T1 C3
      have sl : smo S T 0 c (d + 1) ≤ 576 * (d + 1) := smo_le g T 0 c (d + 1) (by omega)
      have es : smo S T 0 c d + inc S T 0 c d = smo S T 0 c (d + 1) := rfl
      have KSd := KS d (Nat.le_refl _)
      obtain ⟨F2, hF2⟩ : ∃ F2, F2 = u2 F1 Z (d + 1) (nI (smo S T 0 c (d + 1))) := ⟨_, rfl⟩
      have o2 : ∀ a j, a ≠ Z → F2 a j = F1 a j := fun a j ha => by rw [hF2]; exact u2_n (by omega)
      have r2 : RepX N (hv σ F2) S := r1.sz (fun a k ha _ => o2 a k (by omega))
      have T2 : ∀ k, k < n → T k < 24 ∧ F2 (N + 212) k = nI (T k) := fun k hk => ⟨(hT k hk).1, (o2 _ _ (by omega)).trans (T1 k hk).2⟩
      have M2 : F2 (N + 227) 2 = nI n := (o2 _ _ (by omega)).trans M1
      have D1 : ∀ k, k < d → F2 (N + 228) k = nI (c k) := fun k hk => (o2 _ _ (by omega)).trans (C1 k hk)
      have Dd : F2 (N + 228) d = nI (c d) := (o2 _ _ (by omega)).trans Cd
      have L4 : F2 (N + 227) 3 = lsx (ok S T 0 n (num n c (d + 1) * n ^ (n - 1 - d))).1 := (o2 _ _ (by omega)).trans K4
      have L5 : BestX8 N F2 n (ok S T 0 n (num n c (d + 1) * n ^ (n - 1 - d))).2 := fun z i hi => (o2 _ _ (by omega)).trans (K5 z i hi)
      have LS : ∀ i, i ≤ d + 1 → F2 Z i = nI (smo S T 0 c i) := fun i hi => by
        rw [hF2]
        by_cases e : i = d + 1
        · rw [e]; exact u2_e
        · rw [u2_n (by omega)]
          exact KS i (by omega)
      have off2 : ∀ a j, a < N ∨ (N + 245 ≤ a ∧ a < Z) → F2 a j = f a j := fun a j ha => (o2 _ _ (by omega)).trans (off1 a j ha)
      have head2 : ∀ rec, B_X6_run_8_25 (N + 227) Z rec (hv τ F) (nI d) = (if nI (smo S T 0 c (d + 1)) < F2 (N + 227) 3 then (if nI d = (nI n - nI 1) then b1 (pI 8 3 (N + 227) (F2 Z n) (hv τ F2)) (fun s6 => b1 (gR 8 0 (N + 227) s6) (fun v16 => b1 (gR 8 1 (N + 227) s6) (fun v17 => b1 (gI 8 2 (N + 227) s6) (fun v18 => b1 (cpI v16 (nI 0) v17 (nI 0) v18 s6) (fun s7 => rec (s7, nI d)))))) else b1 (gR 8 0 (N + 227) (hv τ F2)) (fun v13 => b1 (sI 0 v13 (nI (d + 1)) (e1 0) (hv τ F2)) (fun s5 => rec (s5, nI (d + 1))))) else rec (hv τ F2, nI d)) := fun rec => by
        have e2 : F2 Z (d + 1) = nI (smo S T 0 c (d + 1)) := LS (d + 1) (Nat.le_refl _)
        rw [head rec, if_neg nq, mt', b2_some, if_pos rfl, AZ F1 d (by omega), b1_some, s.R227_0, b1_some, mo, b2_some, WZ _ _ _ (by omega), b1_some, KSd, nI_add, es, ← hF2, AZ F2 (d + 1) (by omega), b1_some, gI_hv s.t227, b1_some, e2]
        simp only [gI_hv s.t227, b1_some, M2]
        rw [AZ F2 n (by omega), b1_some]
      clear hF2
      obtain ⟨v, hv'⟩ : ∃ v, v = smo S T 0 c (d + 1) := ⟨_, rfl⟩
      obtain ⟨o, ho⟩ : ∃ o, o = (ok S T 0 n (num n c (d + 1) * n ^ (n - 1 - d))).1 := ⟨_, rfl⟩
      rw [← ho] at L4 pb
      rw [← hv'] at head2 sl
      have lt' : (nI v < F2 (N + 227) 3) = (o = 0 ∨ v + 1 < o) := by
        rw [L4]
        unfold lsx
        by_cases z : o = 0
        · rw [if_pos z, lt_lit (by omega) (by omega)]
          exact propext ⟨fun _ => Or.inl z, fun _ => by omega⟩
        · rw [if_neg z, lt_lit (by omega) (by omega)]
          exact propext ⟨fun _ => Or.inr (by omega), fun w => by omega⟩
      by_cases qb : o = 0 ∨ v + 1 < o
      · by_cases qn : d + 1 = n
        · -- a leaf
          have z0 : n - 1 - d = 0 := by omega
          have eP : num n c (d + 1) * n ^ (n - 1 - d) = num n c (d + 1) := by rw [z0, Nat.pow_zero, Nat.mul_one]
          have eP' : num n (up c d (c d + 1)) (d + 1) * n ^ (n - 1 - d) = num n c (d + 1) + 1 := by rw [num_stay, z0, Nat.pow_zero, Nat.mul_one]
          have ev := o_leaf (S := S) (T := T) (b := 0) qn hcl (by rw [← qn]; exact hu)
          have evn : smo S T 0 c n = v := by rw [hv', qn]
          rw [evn] at ev
          have ps := ok_s S T 0 n (num n c (d + 1))
          rw [eP] at ho
          rw [ev, ← ho, if_pos ⟨by omega, qb⟩] at ps
          have dn : (nI d = nI n - nI 1) = True := by rw [nI_sub (by omega), show n - 1 = d by omega]; exact eq_true rfl
          have Zn : F2 Z n = nI v := by rw [LS n (by omega), evn]
          have cp := cp_hv (τ := τ) (F := u2 F2 (N + 227) 3 (nI v)) (a0 := N + 228) (a := N + 229) (n := n) s.n228 s.n229 h8
          refine ⟨mt n (up c d (c d + 1)) d, (hv τ (fy (u2 F2 (N + 227) 3 (nI v)) (N + 229) n (fun j => u2 F2 (N + 227) 3 (nI v) (N + 228) j)), nI d), by rw [em]; exact mt_stay (by omega), ⟨_, r2.sx (fun a k ha => (fy_off (fun q => ha 229 (by omega) q.1)).trans (u2_n (fun q => ha 227 (by omega) q.1))), fun a j ha => ?_, fun k hk => ⟨(T2 k hk).1, ?_⟩, ?_, Or.inl ⟨up c d (c d + 1), d, hd, fun i hi => by rw [up_n (by omega)]; exact hc i hi, by rw [up_e]; omega, rfl, rfl, fun i hi => ?_, ?_, fun k hk j hj => ?_, fun i hi => ?_, ?_, ?_⟩⟩, fun rec => ?_⟩
          · rw [fy_off (by omega), u2_n (by omega)]
            exact off2 a j ha
          · rw [fy_off (by omega), u2_n (by omega)]
            exact (T2 k hk).2
          · rw [fy_off (by omega), u2_n (by omega)]
            exact M2
          · rw [fy_off (by omega), u2_n (by omega), up_n (by omega)]
            exact D1 i hi
          · rw [fy_off (by omega), u2_n (by omega), up_e, e1_s]
            exact Dd
          · rw [up_n (by omega), up_n (by omega)]
            exact k3 k hk j hj
          · rw [fy_off (by omega), u2_n (by omega), smo_cg (c := up c d (c d + 1)) (c' := c) i (fun k hk => up_n (by omega))]
            exact LS i (by omega)
          · rw [fy_off (by omega), u2_e, eP', ps]
            unfold lsx
            rw [if_neg (by omega), Nat.add_sub_cancel]
          · rw [eP', ps]
            intro z i hi
            refine Eq.trans (fy_rd hi) ?_
            show u2 F2 (N + 227) 3 (nI v) (N + 228) i = nI (dgb n n (num n c (d + 1) + 1 - 1) i)
            rw [u2_n (by omega), Nat.add_sub_cancel, o_dig (d := d) (c := c) hd hcl (by rw [eP]; exact Nat.le_refl _) (by rw [eP, z0, Nat.pow_zero]; omega) (by omega)]
            by_cases e : i = d
            · rw [e]; exact Dd
            · exact D1 i (by omega)
          · rw [head2 rec, if_pos (lt' ▸ qb), if_pos (dn ▸ trivial), Zn, pI_hv s.t227, b1_some, s.R227_0, b1_some, s.R227_1, b1_some, gI_hv s.t227, b1_some, u2_n (by omega), M2, cp, b1_some]
        · -- one level further
          have eP := num_down (b := n) (n := n) (c := c) (d := d) (by omega)
          have dn : ¬ (nI d = nI n - nI 1) := by
            rw [nI_sub (by omega), eq_lit (by omega) (by omega)]
            omega
          refine ⟨mt n (up c (d + 1) 0) (d + 1), (hv τ (u2 F2 (N + 228) (d + 1) (e1 0)), nI (d + 1)), by rw [em]; exact mt_down (by omega) hd, ⟨_, r2.sx (fun a k ha => u2_n (fun q => ha 228 (by omega) q.1)), fun a j ha => (u2_n (by omega)).trans (off2 a j ha), fun k hk => ⟨(T2 k hk).1, (u2_n (by omega)).trans (T2 k hk).2⟩, (u2_n (by omega)).trans M2, Or.inl ⟨up c (d + 1) 0, d + 1, by omega, fun i hi => ?_, by rw [up_e]; omega, rfl, rfl, fun i hi => ?_, ?_, fun k hk j hj => ?_, fun i hi => ?_, ?_, ?_⟩⟩, fun rec => ?_⟩
          · rw [up_n (by omega)]
            exact hcl i (by omega)
          · rw [u2_n (by omega), up_n (by omega)]
            by_cases e : i = d
            · rw [e]; exact Dd
            · exact D1 i (by omega)
          · rw [u2_e, up_e]
          · rw [up_n (by omega), up_n (by omega)]
            exact hu k (by omega) j hj
          · rw [u2_n (by omega), smo_cg (c := up c (d + 1) 0) (c' := c) i (fun k hk => up_n (by omega))]
            exact LS i hi
          · rw [eP, ← ho, u2_n (by omega)]
            exact L4
          · rw [eP]
            intro z i hi
            show u2 F2 (N + 228) (d + 1) (e1 0) (N + 229) i = _
            rw [u2_n (by omega)]
            exact L5 z i hi
          · rw [head2 rec, if_pos (lt' ▸ qb), if_neg dn, s.R227_0, b1_some, s.W228 (by omega), b1_some]
      · -- too much already
        have pr := o_prune (S := S) (T := T) (b := 0) hd hcl (by rw [← ho]; omega) (by rw [← ho, ← hv']; omega)
        refine ⟨mt n (up c d (c d + 1)) d, (hv τ F2, nI d), by rw [em]; exact mt_stay (by omega), ⟨F2, r2, off2, T2, M2, Or.inl ⟨up c d (c d + 1), d, hd, fun i hi => by rw [up_n (by omega)]; exact hc i hi, by rw [up_e]; omega, rfl, rfl, fun i hi => ?_, ?_, fun k hk j hj => ?_, fun i hi => ?_, ?_, ?_⟩⟩, fun rec => ?_⟩
        · rw [up_n (by omega)]
          exact D1 i hi
        · rw [up_e, e1_s]
          exact Dd
        · rw [up_n (by omega), up_n (by omega)]
          exact k3 k hk j hj
        · rw [smo_cg (c := up c d (c d + 1)) (c' := c) i (fun k hk => up_n (by omega))]
          exact LS i (by omega)
        · rw [stay, pr, ← ho]
          exact L4
        · rw [stay, pr]
          exact L5
        · rw [head2 rec, if_neg (lt' ▸ qb)]
    · -- a place met before
      rw [if_neg fr] at mt'
      refine ⟨mt n (up c d (c d + 1)) d, (hv τ F1, nI d), by rw [em]; exact mt_stay (by omega), ⟨F1, r1, off1, T1, M1, Or.inl ⟨up c d (c d + 1), d, hd, fun i hi => by rw [up_n (by omega)]; exact hc i hi, by rw [up_e]; omega, rfl, rfl, fun i hi => ?_, ?_, fun k hk j hj => ?_, fun i hi => ?_, ?_, ?_⟩⟩, fun rec => ?_⟩
      · rw [up_n (by omega)]
        exact C1 i hi
      · rw [up_e, e1_s]
        exact Cd
      · rw [up_n (by omega), up_n (by omega)]
        exact k3 k hk j hj
      · rw [smo_cg (c := up c d (c d + 1)) (c' := c) i (fun k hk => up_n (by omega))]
        exact KS i (by omega)
      · rw [stay, o_dup hd hcl fr]
        exact K4
      · rw [stay, o_dup hd hcl fr]
        exact K5
      · rw [head rec, if_neg nq, mt', b2_some, if_neg (by decide)]
theorem x_run8 {N : Nat} {σ : Hp} {f : Nat → Nat → Int32} {S : St} (g : Good S) (h : RepX N (hv σ f) S) {T : Nat → Nat} {n : Nat} (h1 : 1 ≤ n) (h8 : n ≤ 8) (hT : ∀ k, k < n → T k < 24 ∧ f (N + 212) k = nI (T k)) : ∃ F, F_X6_run_8 (hv σ f) (N + 227) (nI n) = some (hv (born σ (.inr (0, 9))) F) ∧ RepX N (hv σ F) S ∧ (∀ a j, a < N ∨ (N + 245 ≤ a ∧ a < hZ σ) → F a j = f a j) ∧ (∀ k, k < n → F (N + 212) k = nI (T k)) ∧ F (N + 227) 3 = e1 (ok S T 0 n (n ^ n)).1 ∧ ∀ i, i < n → F (N + 229) i = nI (dgb n n ((ok S T 0 n (n ^ n)).2 - 1) i) := by
  have s : SX N σ := h.1
  have hZN : N + 271 ≤ hZ σ := h.2.1
  have sτ : SX N (born σ (.inr (0, 9))) := s.mono (fun o ho => ⟨if_neg (by omega), fun _ => if_neg (by omega), fun _ => if_neg (by omega), fun _ => if_neg (by omega)⟩)
  have hz : aN 0 (hZ σ) (born σ (.inr (0, 9))) = some 9 := aN_of (if_pos rfl)
  have n0 : num n (fun _ => 0) (0 + 1) * n ^ (n - 1 - 0) = 0 := by
    show (n * 0 + 0) * _ = 0
    rw [Nat.mul_zero, Nat.zero_add, Nat.zero_mul]
  obtain ⟨F0, hF0⟩ : ∃ F0, F0 = u2 (bnI σ (u2 (u2 f (N + 227) 2 (nI n)) (N + 227) 3 (nI 268435456))) (N + 228) 0 (e1 0) := ⟨_, rfl⟩
  have b0 : ∀ a j, a ≠ N + 227 → a ≠ N + 228 → a ≠ hZ σ → F0 a j = f a j := fun a j q1 q2 q3 => by
    rw [hF0, u2_n (by omega), bn_n q3, u2_n (by omega), u2_n (by omega)]
  obtain ⟨st, r, ⟨F, rp, off, hT', es, k4, k5⟩, e⟩ := it_muF (body := fun rec st => B_X6_run_8_25 (N + 227) (hZ σ) rec st.1 st.2) (RI8 N (hZ σ) σ (born σ (.inr (0, 9))) f S T n) (RDn8 N (hZ σ) σ (born σ (.inr (0, 9))) f S T n) (ri_step8 g sτ rfl hZN hz h1 h8) (mt n (fun _ => 0) 0) (hv (born σ (.inr (0, 9))) F0, nI 0) ⟨F0, h.sz (fun a k ha q => b0 a k (q 227 (by omega)) (q 228 (by omega)) (by omega)), fun a j ha => b0 a j (by omega) (by omega) (by omega), fun k hk => ⟨(hT k hk).1, (b0 _ _ (by omega) (by omega) (by omega)).trans (hT k hk).2⟩, by rw [hF0, u2_n (by omega), bn_n (by omega), u2_n (by omega), u2_e], Or.inl ⟨fun _ => 0, 0, by omega, fun i hi => by omega, Nat.zero_le n, rfl, rfl, fun i hi => by omega, by rw [hF0, u2_e], fun k hk => absurd hk (Nat.not_lt_zero k), fun i hi => by
      have : i = 0 := by omega
      subst this
      rw [hF0, u2_n (by omega), bn_e]
      rfl, by rw [n0, hF0, u2_n (by omega), bn_n (by omega), u2_e]; rfl, fun z => absurd (by rw [n0]; rfl) z⟩⟩ (mt_0 _ _ (by omega))
  subst es
  have nz := ok_full S T 0 h1
  refine ⟨F, ?_, rp, off, fun k hk => (hT' k hk).2, ?_, k5 (fun z => nz (ok_z S T 0 n _ z))⟩
  · have L0 : F_X6_run_8 (hv σ f) (N + 227) (nI n) = it (fun rec st => B_X6_run_8_25 (N + 227) (hZ σ) rec st.1 st.2) FU (hv (born σ (.inr (0, 9))) F0, nI 0) := by
      unfold F_X6_run_8
      rw [gd_hv s.t227, pI_hv s.t227, b1_some, pI_hv s.t227, b1_some, born_hv, sτ.R227_0, b1_some]
      have w := sτ.W228 (f := bnI σ (u2 (u2 f (N + 227) 2 (nI n)) (N + 227) 3 268435456)) (i := 0) (v := e1 0) (by omega)
      have w' : sI 0 (N + 228) 0 (-1) (hv (born σ (.inr (0, 9))) (bnI σ (u2 (u2 f (N + 227) 2 (nI n)) (N + 227) 3 268435456))) = some (hv (born σ (.inr (0, 9))) F0) := by
        rw [hF0]
        exact w
      rw [w', b1_some]
      rfl
    rw [L0]
    refine e.trans ?_
    simp (decide := true) (disch := omega) only [B_X6_run_8_25, b1_some, b2_some, litI, neg1, nI_add, nI_mul, e1_p1, nI_e0, ib, ib1, ite_not, if_true, if_false, not_true_eq_false, not_false_eq_true, setI_hv, e1_lt, Nat.le_refl]
  · rw [k4]
    unfold lsx
    rw [if_neg nz, e1_of (by omega)]
theorem x_told8 {N : Nat} {σ : Hp} {f : Nat → Nat → Int32} {S : St} (g : Good S) (h : RepX N (hv σ f) S) {T : Nat → Nat} {n : Nat} {i : Int32} (h1 : 1 ≤ n) (h8 : n ≤ 8) (hi : -1 ≤ i) (hT : ∀ k, k < n → T k < 24 ∧ f (N + 212) k = nI (T k)) : ∃ F, F_X0_told_8 (hv σ f) N (N + 227) (nI n) i = some (ordr S T 0 n i, hv (born σ (.inr (0, 9))) F) ∧ RepX N (hv (born σ (.inr (0, 9))) F) S ∧ FrX N (hv σ f) (hv (born σ (.inr (0, 9))) F) := by
  have s : SX N σ := h.1
  have hZN : N + 271 ≤ hZ σ := h.2.1
  have sτ : SX N (born σ (.inr (0, 9))) := s.mono (fun o ho => ⟨if_neg (by omega), fun _ => if_neg (by omega), fun _ => if_neg (by omega), fun _ => if_neg (by omega)⟩)
  obtain ⟨F, r1, r2, r3, r4, r5, r6⟩ := x_run8 g h h1 h8 hT
  refine ⟨F, ?_, r2.bn _, fun a ha => ?_, by show hZ σ ≤ hZ σ + 1; omega⟩
  · unfold F_X0_told_8 ordr
    rw [gd_hv s.t0, r1, b1_some]
    rcases ord_in h8 hi with q | q | ⟨j, hj, rfl⟩
    · rw [if_pos q, if_pos q]
      simp (decide := true) (disch := omega) only [gI_hv sτ.t227, b1_some, b2_some, litI, neg1, nI_add, nI_mul, e1_p1, nI_e0, ib, ib1, ite_not, if_true, if_false, not_true_eq_false, not_false_eq_true, setI_hv, r5]
    · by_cases q' : i = -1
      · rw [if_pos q', if_pos q']
        simp (decide := true) (disch := omega) only [gI_hv sτ.t227, b1_some, b2_some, litI, neg1, nI_add, nI_mul, e1_p1, nI_e0, ib, ib1, ite_not, if_true, if_false, not_true_eq_false, not_false_eq_true, setI_hv, r5]
      · rw [if_neg q', if_neg q', if_pos q, if_pos q]
    · have n1 : ¬ nI j = -1 := by rw [nI_m1 (by omega)]; exact id
      have n2 : ¬ nI n ≤ nI j := by rw [le_lit (by omega) (by omega)]; omega
      rw [if_neg n1, if_neg n1, if_neg n2, if_neg n2, cl_I (by omega)]
      have e6 := r6 j hj
      have dl := dgb_lt (b := n) (n := n) (k := (ok S T 0 n (n ^ n)).2 - 1) (i := j) (by omega)
      have e4 := r4 _ dl
      generalize dgb n n ((ok S T 0 n (n ^ n)).2 - 1) j = y at e6 dl e4
      simp (decide := true) (disch := omega) only [sτ.R15, sτ.R227_1, sτ.A229, sτ.A212, b1_some, b2_some, litI, neg1, nI_add, nI_mul, e1_p1, nI_e0, ib, ib1, ite_not, if_true, if_false, not_true_eq_false, not_false_eq_true, setI_hv, e6, e4]
  · have za : a ≠ hZ σ := by have hh : hZ (hv σ f) = hZ σ := rfl; rw [hh] at ha; omega
    have b := born_same (f := f) (kd := .inr (0, 9)) za
    refine ⟨b.1, fun k => ?_, b.2.2.1, b.2.2.2⟩
    have hh : hZ (hv σ f) = hZ σ := rfl
    rw [hh] at ha
    exact r3 a k ha
theorem x_code (N : Nat) (x : Int64) (n i : Int32) : OkX N (fun σ => F_X0_code σ N x n i) (oOrd 2 6 0 x n i) := by
  intro σ S g h0
  have h : RepX N (hv σ σ.2.1) S := h0
  show ∃ σ', F_X0_code (hv σ σ.2.1) N x n i = _ ∧ RepX N σ' _ ∧ FrX N (hv σ σ.2.1) σ'
  generalize σ.2.1 = f at h
  have s : SX N (hv σ f) := h.1
  unfold F_X0_code
  rw [gd_at s.t0]
  rcases in_split n 2 6 (by omega) (by omega) with ⟨k, h1, h8, rfl⟩ | hk
  case inr =>
    have e : oOrd 2 6 0 x n i S = (-3, S) := if_neg hk
    have h0 : F_X0_layHand (hv σ f) N x n 2 6 i = some (-3, hv σ f) := x_hand0 (lo := 2) (hi := 6) s hk
    rw [e, h0, b2_some, if_neg (by decide)]
    exact ⟨_, rfl, h, FrX.rf⟩
  have e : oOrd 2 6 0 x (nI k) i S = (if thr k x then (if unq k (hdv x) ∧ -1 ≤ i then ordr S (hdv x) 0 k i else -3) else -2, S) := by
    unfold oOrd
    rw [cl_I (by omega), if_pos (inR_of h1 h8 (by omega)), if_neg (by decide : ¬ 0 = 1)]
  have hd : F_X0_layHand (hv σ f) N x (nI k) 2 6 i = some (if thr k x then (if unq k (hdv x) ∧ -1 ≤ i then nI 0 else -3) else -2, hv σ (fz f (N + 212) k (hdv x))) := x_hand (f := f) (σ := σ) (lo := 2) (hi := 6) s h1 h8 (by omega)
  have r1 : RepX N (hv σ (fz f (N + 212) k (hdv x))) S := h.sx (fun a j ha => fz_off (ha 212 (by omega)))
  rw [e, hd, b2_some]
  by_cases q1 : thr k x
  case neg =>
    rw [if_neg q1, if_neg (by decide), if_neg q1]
    exact ⟨_, rfl, r1, frx_hand k _⟩
  rw [if_pos q1, if_pos q1]
  by_cases q2 : unq k (hdv x) ∧ -1 ≤ i
  case neg =>
    rw [if_neg q2, if_neg (by decide), if_neg q2]
    exact ⟨_, rfl, r1, frx_hand k _⟩
  rw [if_pos q2, if_pos (show nI 0 = (0 : Int32) from rfl), if_pos q2]
  obtain ⟨F, t1, t2, t3⟩ := x_told8 g r1 (T := hdv x) (n := k) (i := i) (by omega) (by omega) q2.2 (fun j hj => ⟨by have := q1 j hj; omega, fz_rd hj⟩)
  refine ⟨_, ?_, t2, (frx_hand k (hdv x)).tr t3⟩
  have sσ : SX N σ := s
  rw [sσ.R18, b1_some, t1, b2_some]
end
