set_option maxRecDepth 100000
/-! the abstract heap: kinds of cells, ints, references, longs, the next address -/
abbrev Kd : Type := Nat ⊕ (Nat × Nat)
abbrev Hp : Type := (Nat → Option Kd) × (Nat → Nat → Int32) × (Nat → Nat → Option Nat) × (Nat → Nat → Int64) × Nat
def hT (σ : Hp) (a : Nat) : Option Kd := σ.1 a
def hI (σ : Hp) (a k : Nat) : Int32 := σ.2.1 a k
def hR (σ : Hp) (a k : Nat) : Option Nat := σ.2.2.1 a k
def hL (σ : Hp) (a k : Nat) : Int64 := σ.2.2.2.1 a k
def hZ (σ : Hp) : Nat := σ.2.2.2.2
def u2 {α : Type} (f : Nat → Nat → α) (a k : Nat) (v : α) : Nat → Nat → α := fun b j => if b = a ∧ j = k then v else f b j
def setI (σ : Hp) (a k : Nat) (v : Int32) : Hp := (σ.1, u2 σ.2.1 a k v, σ.2.2)
def setR (σ : Hp) (a k : Nat) (v : Option Nat) : Hp := (σ.1, σ.2.1, u2 σ.2.2.1 a k v, σ.2.2.2)
def setL (σ : Hp) (a k : Nat) (v : Int64) : Hp := (σ.1, σ.2.1, σ.2.2.1, u2 σ.2.2.2.1 a k v, σ.2.2.2.2)
def born (σ : Hp) (kd : Kd) : Hp := (fun b => if b = hZ σ then some kd else hT σ b, fun b j => if b = hZ σ then 0 else hI σ b j, fun b j => if b = hZ σ then none else hR σ b j, fun b j => if b = hZ σ then 0 else hL σ b j, hZ σ + 1)
theorem hT_setI (σ : Hp) (a k : Nat) (v : Int32) (b : Nat) : hT (setI σ a k v) b = hT σ b := rfl
theorem hT_setR (σ : Hp) (a k : Nat) (v : Option Nat) (b : Nat) : hT (setR σ a k v) b = hT σ b := rfl
theorem hT_setL (σ : Hp) (a k : Nat) (v : Int64) (b : Nat) : hT (setL σ a k v) b = hT σ b := rfl
theorem hI_setI (σ : Hp) (a k : Nat) (v : Int32) (b j : Nat) : hI (setI σ a k v) b j = if b = a ∧ j = k then v else hI σ b j := rfl
theorem hI_setR (σ : Hp) (a k : Nat) (v : Option Nat) (b j : Nat) : hI (setR σ a k v) b j = hI σ b j := rfl
theorem hI_setL (σ : Hp) (a k : Nat) (v : Int64) (b j : Nat) : hI (setL σ a k v) b j = hI σ b j := rfl
theorem hR_setI (σ : Hp) (a k : Nat) (v : Int32) (b j : Nat) : hR (setI σ a k v) b j = hR σ b j := rfl
theorem hR_setR (σ : Hp) (a k : Nat) (v : Option Nat) (b j : Nat) : hR (setR σ a k v) b j = if b = a ∧ j = k then v else hR σ b j := rfl
theorem hR_setL (σ : Hp) (a k : Nat) (v : Int64) (b j : Nat) : hR (setL σ a k v) b j = hR σ b j := rfl
theorem hL_setI (σ : Hp) (a k : Nat) (v : Int32) (b j : Nat) : hL (setI σ a k v) b j = hL σ b j := rfl
theorem hL_setR (σ : Hp) (a k : Nat) (v : Option Nat) (b j : Nat) : hL (setR σ a k v) b j = hL σ b j := rfl
theorem hL_setL (σ : Hp) (a k : Nat) (v : Int64) (b j : Nat) : hL (setL σ a k v) b j = if b = a ∧ j = k then v else hL σ b j := rfl
theorem hZ_setI (σ : Hp) (a k : Nat) (v : Int32) : hZ (setI σ a k v) = hZ σ := rfl
theorem hZ_setR (σ : Hp) (a k : Nat) (v : Option Nat) : hZ (setR σ a k v) = hZ σ := rfl
theorem hZ_setL (σ : Hp) (a k : Nat) (v : Int64) : hZ (setL σ a k v) = hZ σ := rfl
theorem hT_born (σ : Hp) (kd : Kd) (b : Nat) : hT (born σ kd) b = if b = hZ σ then some kd else hT σ b := rfl
theorem hI_born (σ : Hp) (kd : Kd) (b j : Nat) : hI (born σ kd) b j = if b = hZ σ then 0 else hI σ b j := rfl
theorem hR_born (σ : Hp) (kd : Kd) (b j : Nat) : hR (born σ kd) b j = if b = hZ σ then none else hR σ b j := rfl
theorem hL_born (σ : Hp) (kd : Kd) (b j : Nat) : hL (born σ kd) b j = if b = hZ σ then 0 else hL σ b j := rfl
theorem hZ_born (σ : Hp) (kd : Kd) : hZ (born σ kd) = hZ σ + 1 := rfl
/-- the empty abstract heap over an old heap of n cells -/
def hp0 (n : Nat) : Hp := (fun _ => none, fun _ _ => 0, fun _ _ => none, fun _ _ => 0, n)
/-! steps that may fail -/
def b1 {α ρ : Type} (x : Option α) (k : α → Option ρ) : Option ρ := match x with
  | none => none
  | some a => k a
def b2 {α β ρ : Type} (x : Option (α × β)) (k : α → β → Option ρ) : Option ρ := match x with
  | none => none
  | some a => k a.1 a.2
theorem b1_some {α ρ : Type} (a : α) (k : α → Option ρ) : b1 (some a) k = k a := rfl
theorem b1_none {α ρ : Type} (k : α → Option ρ) : b1 none k = none := rfl
theorem b2_some {α β ρ : Type} (a : α) (b : β) (k : α → β → Option ρ) : b2 (some (a, b)) k = k a b := rfl
theorem b2_none {α β ρ : Type} (k : α → β → Option ρ) : b2 none k = none := rfl
theorem b1_inv {α ρ : Type} {x : Option α} {k : α → Option ρ} {r : ρ} (h : b1 x k = some r) : ∃ a, x = some a ∧ k a = some r := by
  cases x with
  | none => cases h
  | some a => exact ⟨a, rfl, h⟩
theorem b2_inv {α β ρ : Type} {x : Option (α × β)} {k : α → β → Option ρ} {r : ρ} (h : b2 x k = some r) : ∃ a b, x = some (a, b) ∧ k a b = some r := by
  cases x with
  | none => cases h
  | some a => exact ⟨a.1, a.2, rfl, h⟩
def gd {ρ : Type} (ci a : Nat) (σ : Hp) (x : Option ρ) : Option ρ := if hT σ a = some (.inl ci) then x else none
theorem gd_inv {ρ : Type} {ci a : Nat} {σ : Hp} {x : Option ρ} {r : ρ} (h : gd ci a σ x = some r) : hT σ a = some (.inl ci) ∧ x = some r := by
  unfold gd at h
  split at h
  · exact ⟨by assumption, h⟩
  · cases h
def gI (ci k a : Nat) (σ : Hp) : Option Int32 := if hT σ a = some (.inl ci) then some (hI σ a k) else none
def gL (ci k a : Nat) (σ : Hp) : Option Int64 := if hT σ a = some (.inl ci) then some (hL σ a k) else none
def gR (ci k a : Nat) (σ : Hp) : Option Nat := if hT σ a = some (.inl ci) then hR σ a k else none
def pI (ci k a : Nat) (v : Int32) (σ : Hp) : Option Hp := if hT σ a = some (.inl ci) then some (setI σ a k v) else none
def pL (ci k a : Nat) (v : Int64) (σ : Hp) : Option Hp := if hT σ a = some (.inl ci) then some (setL σ a k v) else none
def pR (ci k a : Nat) (v : Nat) (σ : Hp) : Option Hp := if hT σ a = some (.inl ci) then some (setR σ a k (some v)) else none
def aN (t a : Nat) (σ : Hp) : Option Nat := match hT σ a with
  | some (.inr x) => if x.1 = t then some x.2 else none
  | _ => none
def aL (t a : Nat) (σ : Hp) : Option Int32 := b1 (aN t a σ) fun n => some (Int32.ofNat n)
def aI (t a : Nat) (j : Int32) (σ : Hp) : Option Int32 := b1 (aN t a σ) fun n => if j < 0 ∨ n ≤ j.toNatClampNeg then none else some (hI σ a j.toNatClampNeg)
def aR (t a : Nat) (j : Int32) (σ : Hp) : Option Nat := b1 (aN t a σ) fun n => if j < 0 ∨ n ≤ j.toNatClampNeg then none else hR σ a j.toNatClampNeg
def sI (t a : Nat) (j v : Int32) (σ : Hp) : Option Hp := b1 (aN t a σ) fun n => if j < 0 ∨ n ≤ j.toNatClampNeg then none else some (setI σ a j.toNatClampNeg v)
def sR (t a : Nat) (j : Int32) (v : Nat) (σ : Hp) : Option Hp := b1 (aN t a σ) fun n => if j < 0 ∨ n ≤ j.toNatClampNeg then none else some (setR σ a j.toNatClampNeg (some v))
def dz {ρ : Type} (y : Int32) (k : Option ρ) : Option ρ := if y = 0 then none else k
/-- a boolean answer -/
def zr {ρ : Type} (y : Int32) (k : Option ρ) : Option ρ := if y = 0 ∨ y = 1 then k else none
theorem zr_inv {ρ : Type} {y : Int32} {k : Option ρ} {r : ρ} (h : zr y k = some r) : (y = 0 ∨ y = 1) ∧ k = some r := by
  unfold zr at h
  split at h
  · exact ⟨by assumption, h⟩
  · cases h
theorem aN_inv {t a n : Nat} {σ : Hp} (h : aN t a σ = some n) : hT σ a = some (.inr (t, n)) := by
  unfold aN at h
  split at h
  · rename_i x hx
    split at h
    · rename_i e
      cases h
      rw [hx, ← e]
    · cases h
  · cases h
theorem aN_of {t a n : Nat} {σ : Hp} (h : hT σ a = some (.inr (t, n))) : aN t a σ = some n := by
  unfold aN
  rw [h]
  simp
theorem aL_inv {t a : Nat} {v : Int32} {σ : Hp} (h : aL t a σ = some v) : ∃ n, hT σ a = some (.inr (t, n)) ∧ v = Int32.ofNat n := by
  obtain ⟨n, h1, h2⟩ := b1_inv h
  cases h2
  exact ⟨n, aN_inv h1, rfl⟩
theorem aI_inv {t a : Nat} {j v : Int32} {σ : Hp} (h : aI t a j σ = some v) : ∃ n, hT σ a = some (.inr (t, n)) ∧ vp_in j n ∧ v = hI σ a j.toNatClampNeg := by
  obtain ⟨n, h1, h2⟩ := b1_inv h
  split at h2
  · cases h2
  · rename_i q
    cases h2
    exact ⟨n, aN_inv h1, q, rfl⟩
theorem aR_inv {t a v : Nat} {j : Int32} {σ : Hp} (h : aR t a j σ = some v) : ∃ n, hT σ a = some (.inr (t, n)) ∧ vp_in j n ∧ hR σ a j.toNatClampNeg = some v := by
  obtain ⟨n, h1, h2⟩ := b1_inv h
  split at h2
  · cases h2
  · rename_i q
    exact ⟨n, aN_inv h1, q, h2⟩
theorem sI_inv {t a : Nat} {j v : Int32} {σ σ1 : Hp} (h : sI t a j v σ = some σ1) : ∃ n, hT σ a = some (.inr (t, n)) ∧ vp_in j n ∧ σ1 = setI σ a j.toNatClampNeg v := by
  obtain ⟨n, h1, h2⟩ := b1_inv h
  split at h2
  · cases h2
  · rename_i q
    cases h2
    exact ⟨n, aN_inv h1, q, rfl⟩
theorem sR_inv {t a v : Nat} {j : Int32} {σ σ1 : Hp} (h : sR t a j v σ = some σ1) : ∃ n, hT σ a = some (.inr (t, n)) ∧ vp_in j n ∧ σ1 = setR σ a j.toNatClampNeg (some v) := by
  obtain ⟨n, h1, h2⟩ := b1_inv h
  split at h2
  · cases h2
  · rename_i q
    cases h2
    exact ⟨n, aN_inv h1, q, rfl⟩
theorem gI_inv {ci k a : Nat} {v : Int32} {σ : Hp} (h : gI ci k a σ = some v) : hT σ a = some (.inl ci) ∧ v = hI σ a k := by
  unfold gI at h
  split at h
  · cases h
    exact ⟨by assumption, rfl⟩
  · cases h
theorem gL_inv {ci k a : Nat} {v : Int64} {σ : Hp} (h : gL ci k a σ = some v) : hT σ a = some (.inl ci) ∧ v = hL σ a k := by
  unfold gL at h
  split at h
  · cases h
    exact ⟨by assumption, rfl⟩
  · cases h
theorem gR_inv {ci k a v : Nat} {σ : Hp} (h : gR ci k a σ = some v) : hT σ a = some (.inl ci) ∧ hR σ a k = some v := by
  unfold gR at h
  split at h
  · exact ⟨by assumption, h⟩
  · cases h
theorem pI_inv {ci k a : Nat} {v : Int32} {σ σ1 : Hp} (h : pI ci k a v σ = some σ1) : hT σ a = some (.inl ci) ∧ σ1 = setI σ a k v := by
  unfold pI at h
  split at h
  · cases h
    exact ⟨by assumption, rfl⟩
  · cases h
theorem pL_inv {ci k a : Nat} {v : Int64} {σ σ1 : Hp} (h : pL ci k a v σ = some σ1) : hT σ a = some (.inl ci) ∧ σ1 = setL σ a k v := by
  unfold pL at h
  split at h
  · cases h
    exact ⟨by assumption, rfl⟩
  · cases h
theorem pR_inv {ci k a v : Nat} {σ σ1 : Hp} (h : pR ci k a v σ = some σ1) : hT σ a = some (.inl ci) ∧ σ1 = setR σ a k (some v) := by
  unfold pR at h
  split at h
  · cases h
    exact ⟨by assumption, rfl⟩
  · cases h
/-- a char answer -/
def cr {ρ : Type} (y : Int32) (k : Option ρ) : Option ρ := if (y.toUInt32 % 65536).toInt32 = y then k else none
theorem cr_inv {ρ : Type} {y : Int32} {k : Option ρ} {r : ρ} (h : cr y k = some r) : (y.toUInt32 % 65536).toInt32 = y ∧ k = some r := by
  unfold cr at h
  split at h
  · exact ⟨by assumption, h⟩
  · cases h
/-- a stretch of an int array copied -/
def cpH (a0 sp a dp n : Nat) (σ : Hp) : Hp := (σ.1, fun b j => if b = a ∧ dp ≤ j ∧ j < dp + n then hI σ a0 (sp + (j - dp)) else hI σ b j, σ.2.2)
theorem hI_cpH (a0 sp a dp n : Nat) (σ : Hp) (b j : Nat) : hI (cpH a0 sp a dp n σ) b j = if b = a ∧ dp ≤ j ∧ j < dp + n then hI σ a0 (sp + (j - dp)) else hI σ b j := rfl
theorem hT_cpH (a0 sp a dp n : Nat) (σ : Hp) (b : Nat) : hT (cpH a0 sp a dp n σ) b = hT σ b := rfl
theorem hR_cpH (a0 sp a dp n : Nat) (σ : Hp) (b j : Nat) : hR (cpH a0 sp a dp n σ) b j = hR σ b j := rfl
theorem hL_cpH (a0 sp a dp n : Nat) (σ : Hp) (b j : Nat) : hL (cpH a0 sp a dp n σ) b j = hL σ b j := rfl
theorem hZ_cpH (a0 sp a dp n : Nat) (σ : Hp) : hZ (cpH a0 sp a dp n σ) = hZ σ := rfl
def cpI (a0 : Nat) (sp : Int32) (a : Nat) (dp n : Int32) (σ : Hp) : Option Hp := b1 (aN 0 a0 σ) fun n0 => b1 (aN 0 a σ) fun n1 => if sp < 0 ∨ dp < 0 ∨ n < 0 ∨ n0 < sp.toNatClampNeg + n.toNatClampNeg ∨ n1 < dp.toNatClampNeg + n.toNatClampNeg then none else some (cpH a0 sp.toNatClampNeg a dp.toNatClampNeg n.toNatClampNeg σ)
theorem cpI_inv {a0 a : Nat} {sp dp n : Int32} {σ σ1 : Hp} (h : cpI a0 sp a dp n σ = some σ1) : ∃ n0 n1, hT σ a0 = some (.inr (0, n0)) ∧ hT σ a = some (.inr (0, n1)) ∧ ¬ sp < 0 ∧ ¬ dp < 0 ∧ ¬ n < 0 ∧ sp.toNatClampNeg + n.toNatClampNeg ≤ n0 ∧ dp.toNatClampNeg + n.toNatClampNeg ≤ n1 ∧ σ1 = cpH a0 sp.toNatClampNeg a dp.toNatClampNeg n.toNatClampNeg σ := by
  obtain ⟨n0, h1, h2⟩ := b1_inv h
  obtain ⟨n1, h3, h4⟩ := b1_inv h2
  split at h4
  · cases h4
  · rename_i q
    cases h4
    refine ⟨n0, n1, aN_inv h1, aN_inv h3, fun z => q (Or.inl z), fun z => q (Or.inr (Or.inl z)), fun z => q (Or.inr (Or.inr (Or.inl z))), ?_, ?_, rfl⟩
    · exact Nat.not_lt.mp fun z => q (Or.inr (Or.inr (Or.inr (Or.inl z))))
    · exact Nat.not_lt.mp fun z => q (Or.inr (Or.inr (Or.inr (Or.inr z))))
/-! String constants: their lengths and bytes -/
def slen : List Nat := [4, 5, 5, 4, 5, 1, 0]
def sbyt : List (List Int32) := [[114, 111, 111, 109], [97, 103, 97, 105, 110], [97, 112, 97, 114, 116], [119, 97, 108, 107], [101, 118, 101, 114, 121], [59], []]
def sK {ρ : Type} (i : Nat) (x : Option ρ) : Option ρ := if i < 7 then x else none
theorem sK_inv {ρ : Type} {r : ρ} {i : Nat} {x : Option ρ} (h : sK i x = some r) : i < 7 ∧ x = some r := by
  unfold sK at h
  split at h
  · exact ⟨by assumption, h⟩
  · cases h
def sLn {ρ : Type} (i : Nat) (K : Int32 → Option ρ) : Option ρ := sK i (K (Int32.ofNat (slen.getD i 0)))
def sB {ρ : Type} (i : Nat) (j : Int32) (K : Int32 → Option ρ) : Option ρ := if j < 0 ∨ slen.getD i 0 ≤ j.toNatClampNeg then none else sK i (K ((sbyt.getD i []).getD j.toNatClampNeg 0))
/-- a Line of one of its four kinds -/
def lk {ρ : Type} (v : Nat) (σ : Hp) (x : Option ρ) : Option ρ := if hT σ v = some (.inl 13) ∨ hT σ v = some (.inl 14) ∨ hT σ v = some (.inl 15) ∨ hT σ v = some (.inl 16) then x else none
theorem lk_inv {ρ : Type} {v : Nat} {σ : Hp} {x : Option ρ} {r : ρ} (h : lk v σ x = some r) : (hT σ v = some (.inl 13) ∨ hT σ v = some (.inl 14) ∨ hT σ v = some (.inl 15) ∨ hT σ v = some (.inl 16)) ∧ x = some r := by
  unfold lk at h
  split at h
  · exact ⟨by assumption, h⟩
  · cases h
/-- a callee's answer, or what it threw -/
def tx {α ρ : Type} (v : α ⊕ Nat) (k : α → Option ρ) (t : Nat → Option ρ) : Option ρ := match v with
  | .inl x => k x
  | .inr a => t a
theorem tx_l {α ρ : Type} {x : α} {k : α → Option ρ} {t : Nat → Option ρ} {r : ρ} (h : tx (.inl x) k t = some r) : k x = some r := h
theorem tx_r {α ρ : Type} {a : Nat} {k : α → Option ρ} {t : Nat → Option ρ} {r : ρ} (h : tx (.inr a) k t = some r) : t a = some r := h
/-- the law's script -/
def sX {ρ : Type} (L : Nat) (xs : Nat → Int32) (j : Int32) (K : Int32 → Option ρ) : Option ρ := if j < 0 ∨ L ≤ j.toNatClampNeg then none else K (xs j.toNatClampNeg)
/-- an array of arrays -/
def mkR (ti M Z : Nat) : Nat → Hp → Hp
  | 0, σ => σ
  | i + 1, σ => setR (born (mkR ti M Z i σ) (.inr (ti, M))) Z i (some (hZ (mkR ti M Z i σ)))
def mk2 (to ti N M : Nat) (σ : Hp) : Hp := mkR ti M (hZ σ) N (born σ (.inr (to, N)))
/-! loops: n turns at most -/
def it {α β : Type} (body : (α → Option β) → α → Option β) : Nat → α → Option β
  | 0 => fun _ => none
  | n + 1 => fun s => body (it body n) s
theorem it_0 {α β : Type} (body : (α → Option β) → α → Option β) (s : α) : it body 0 s = none := rfl
theorem it_s {α β : Type} (body : (α → Option β) → α → Option β) (n : Nat) (s : α) : it body (n + 1) s = body (it body n) s := rfl
theorem FU_ex : ∃ n : Nat, 2 ^ 60 ≤ n := ⟨_, Nat.le_refl _⟩
noncomputable def FU : Nat := Classical.choose FU_ex
theorem FU_ge : 2 ^ 60 ≤ FU := Classical.choose_spec FU_ex
