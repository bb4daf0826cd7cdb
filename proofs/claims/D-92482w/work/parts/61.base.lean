set_option maxRecDepth 100000
/-! pure law 1: loops, numbers, accesses -/
theorem it_to {α β : Type} {body : (α → Option β) → α → Option β} (f : Nat → α) {a b n : Nat} (hab : a ≤ b) (hn : b - a < n) (h : ∀ i, a ≤ i → i < b → ∀ rec, body rec (f i) = rec (f (i + 1))) : it body n (f a) = body (it body (n - (b - a) - 1)) (f b) := by
  induction n generalizing a with
  | zero => omega
  | succ n ih =>
    rw [it_s]
    by_cases e : a = b
    · subst e
      have : n + 1 - (a - a) - 1 = n := by omega
      rw [this]
    · rw [h a (Nat.le_refl _) (by omega), ih (a := a + 1) (by omega) (by omega) (fun i h1 h2 => h i (by omega) h2)]
      have : n - (b - (a + 1)) - 1 = n + 1 - (b - a) - 1 := by omega
      rw [this]
theorem FU_gt {k : Nat} (h : k < 1000000000) : k < FU := by
  have := FU_ge
  have e : (2 : Nat) ^ 60 = 1152921504606846976 := by decide
  omega
/-- a loop that counts: its exit at b -/
theorem it_FU {α β : Type} {body : (α → Option β) → α → Option β} (f : Nat → α) (a b : Nat) (hab : a ≤ b) (hb : b < 1000000000) (h : ∀ i, a ≤ i → i < b → ∀ rec, body rec (f i) = rec (f (i + 1))) : ∃ r : α → Option β, it body FU (f a) = body r (f b) :=
  ⟨_, it_to f hab (Nat.lt_of_le_of_lt (Nat.sub_le _ _) (FU_gt hb)) h⟩
/-- a loop whose state keeps an invariant: its exit -/
theorem it_inv {α β : Type} {body : (α → Option β) → α → Option β} (P : Nat → α → Prop) {a b n : Nat} (hab : a ≤ b) (hn : b - a < n) (h : ∀ i st, a ≤ i → i < b → P i st → ∃ st', P (i + 1) st' ∧ ∀ rec, body rec st = rec st') : ∀ st, P a st → ∃ st' k, P b st' ∧ it body n st = body (it body k) st' := by
  induction n generalizing a with
  | zero => omega
  | succ n ih =>
    intro st hst
    by_cases e : a = b
    · subst e
      exact ⟨st, n, hst, rfl⟩
    · obtain ⟨s1, h1, h2⟩ := h a st (Nat.le_refl _) (by omega) hst
      obtain ⟨s2, k, h3, h4⟩ := ih (a := a + 1) (by omega) (by omega) (fun i st g1 g2 => h i st (by omega) g2) s1 h1
      exact ⟨s2, k, h3, by rw [it_s, h2, h4]⟩
theorem it_invF {α β : Type} {body : (α → Option β) → α → Option β} (P : Nat → α → Prop) (a b : Nat) (hab : a ≤ b) (hb : b < 1000000000) (h : ∀ i st, a ≤ i → i < b → P i st → ∃ st', P (i + 1) st' ∧ ∀ rec, body rec st = rec st') (st : α) (hst : P a st) : ∃ st', ∃ r : α → Option β, P b st' ∧ it body FU st = body r st' := by
  obtain ⟨s, k, h1, h2⟩ := it_inv P hab (Nat.lt_of_le_of_lt (Nat.sub_le _ _) (FU_gt hb)) h st hst
  exact ⟨s, _, h1, h2⟩
/-! numbers -/
theorem litI (n : Nat) : (OfNat.ofNat n : Int32) = nI n := by
  cases n with
  | zero => rfl
  | succ n => rfl
theorem tI {n : Nat} (h : n < 2147483648) : (nI n).toInt = n := nI_toInt h
theorem m1_toInt : (-1 : Int32).toInt = -1 := by decide
theorem le_lit {a b : Nat} (ha : a < 2147483648) (hb : b < 2147483648) : (nI a ≤ nI b) = (a ≤ b) := propext (nI_leI ha hb)
theorem lt_lit {a b : Nat} (ha : a < 2147483648) (hb : b < 2147483648) : (nI a < nI b) = (a < b) := propext (nI_ltI ha hb)
theorem eq_lit {a b : Nat} (ha : a < 2147483648) (hb : b < 2147483648) : (nI a = nI b) = (a = b) := propext (nI_eq ha hb)
/-- a number or none: none is 0 -/
def e1 (n : Nat) : Int32 := nI n - 1
theorem e1_0 : e1 0 = -1 := by decide
theorem e1_s (n : Nat) : e1 (n + 1) = nI n := by
  unfold e1
  exact nI_pred n
theorem e1_toInt {n : Nat} (h : n < 2147483648) : (e1 n).toInt = (n : Int) - 1 := by
  cases n with
  | zero => decide
  | succ n => rw [e1_s, tI (by omega)]; omega
theorem e1_m1 {n : Nat} (h : n < 2147483648) : (e1 n = -1) = (n = 0) := by
  apply propext
  rw [← Int32.toInt_inj, e1_toInt h, m1_toInt]
  omega
theorem e1_nI {n k : Nat} (h : n < 2147483648) (hk : k < 2147483648) : (e1 n = nI k) = (n = k + 1) := by
  apply propext
  rw [← Int32.toInt_inj, e1_toInt h, tI hk]
  omega
theorem nI_m1 {n : Nat} (h : n < 2147483648) : (nI n = -1) = False := by
  apply propext
  rw [← Int32.toInt_inj, tI h, m1_toInt]
  constructor
  · intro q; omega
  · exact False.elim
theorem e1_inj {n k : Nat} (h : n < 2147483648) (hk : k < 2147483648) : (e1 n = e1 k) = (n = k) := by
  apply propext
  rw [← Int32.toInt_inj, e1_toInt h, e1_toInt hk]
  omega
theorem e1_of {n : Nat} (h : 0 < n) : e1 n = nI (n - 1) := by
  cases n with
  | zero => omega
  | succ n => rw [e1_s]; rfl
/-- x within a .. b -/
abbrev inR (x : Int32) (a b : Nat) : Prop := nI a ≤ x ∧ x ≤ nI b
theorem inR_of {j a b : Nat} (h : a ≤ j) (h2 : j ≤ b) (hb : b < 2147483648) : inR (nI j) a b := by
  show nI a ≤ nI j ∧ nI j ≤ nI b
  rw [le_lit (by omega) (by omega), le_lit (by omega) (by omega)]
  omega
theorem inR_iff {x : Int32} {a b : Nat} (ha : a < 2147483648) (hb : b < 2147483648) : inR x a b ↔ (a : Int) ≤ x.toInt ∧ x.toInt ≤ b := by
  show nI a ≤ x ∧ x ≤ nI b ↔ _
  rw [Int32.le_iff_toInt_le, Int32.le_iff_toInt_le, tI ha, tI hb]
theorem in_split (x : Int32) (a b : Nat) (hb : b < 2147483648) (ha : a < 2147483648) : (∃ j, a ≤ j ∧ j ≤ b ∧ x = nI j) ∨ ¬ inR x a b := by
  by_cases h : inR x a b
  · left
    have h' := (inR_iff ha hb).mp h
    refine ⟨x.toInt.toNat, by omega, by omega, ?_⟩
    rw [← Int32.toInt_inj, tI (by omega)]
    omega
  · exact Or.inr h
theorem zr_0 {ρ : Type} (k : Option ρ) : zr 0 k = k := if_pos (Or.inl rfl)
theorem zr_1 {ρ : Type} (k : Option ρ) : zr 1 k = k := if_pos (Or.inr rfl)
theorem x10_in (σ : Hp) (v lo hi : Int32) : F_X10_in σ v lo hi = some (if lo ≤ v ∧ v ≤ hi then 1 else 0, σ) := by
  unfold F_X10_in
  by_cases h1 : v < lo
  · rw [if_pos h1, if_neg (fun q => absurd q.1 (Int32.not_le.mpr h1))]
  · by_cases h2 : hi < v
    · rw [if_neg h1, if_pos h2, if_neg (fun q => absurd q.2 (Int32.not_le.mpr h2))]
    · rw [if_neg h1, if_neg h2, if_pos ⟨Int32.not_lt.mp h1, Int32.not_lt.mp h2⟩]
theorem zr_ite {ρ : Type} {c : Prop} (inst : Decidable c) (k : Option ρ) : zr (if c then 1 else 0) k = k := by
  split
  · exact zr_1 k
  · exact zr_0 k
theorem i64_le (a b : Int32) : (a.toInt64 ≤ b.toInt64) = (a ≤ b) := by
  apply propext
  rw [Int64.le_iff_toInt_le, Int32.le_iff_toInt_le]
  simp
theorem x0_isIn (σ : Hp) (v a b : Int32) : F_X0_isIn σ v.toInt64 a.toInt64 b.toInt64 = some (if a ≤ v ∧ v ≤ b then 1 else 0, σ) := by
  unfold F_X0_isIn
  have h1 : (lg_cmp v.toInt64 a.toInt64 < 0) = ¬ (a ≤ v) := by
    apply propext
    rw [← i64_le, ← lg_cmp_ge]
    exact Int32.not_le.symm
  have h2 : (0 < lg_cmp v.toInt64 b.toInt64) = ¬ (v ≤ b) := by
    apply propext
    rw [← i64_le]
    unfold lg_cmp
    simp only [gt_iff_lt, Int64.lt_iff_toInt_lt, Int64.le_iff_toInt_le, ← Int64.toInt_inj]
    repeat' split
    all_goals simp_all
    all_goals omega
  simp only [h1, h2]
  by_cases q1 : a ≤ v
  · by_cases q2 : v ≤ b
    · simp [q1, q2]
    · simp [q1, q2]
  · simp [q1]
/-! accesses -/
theorem aI_at {t a n i : Nat} {σ : Hp} (h : aN t a σ = some n) (hi : i < n) (hn : n < 2147483648) : aI t a (nI i) σ = some (hI σ a i) := by
  unfold aI
  rw [h, b1_some, if_neg (nI_in hi hn), nI_clamp (by omega)]
theorem sI_at {t a n i : Nat} {σ : Hp} {v : Int32} (h : aN t a σ = some n) (hi : i < n) (hn : n < 2147483648) : sI t a (nI i) v σ = some (setI σ a i v) := by
  unfold sI
  rw [h, b1_some, if_neg (nI_in hi hn), nI_clamp (by omega)]
theorem aR_at {t a n i v : Nat} {σ : Hp} (h : aN t a σ = some n) (hi : i < n) (hn : n < 2147483648) (hv : hR σ a i = some v) : aR t a (nI i) σ = some v := by
  unfold aR
  rw [h, b1_some, if_neg (nI_in hi hn), nI_clamp (by omega), hv]
theorem sR_at {t a n i v : Nat} {σ : Hp} (h : aN t a σ = some n) (hi : i < n) (hn : n < 2147483648) : sR t a (nI i) v σ = some (setR σ a i (some v)) := by
  unfold sR
  rw [h, b1_some, if_neg (nI_in hi hn), nI_clamp (by omega)]
theorem gd_at {ρ : Type} {ci a : Nat} {σ : Hp} {x : Option ρ} (h : hT σ a = some (.inl ci)) : gd ci a σ x = x := if_pos h
theorem gI_at {ci k a : Nat} {σ : Hp} (h : hT σ a = some (.inl ci)) : gI ci k a σ = some (hI σ a k) := if_pos h
theorem gL_at {ci k a : Nat} {σ : Hp} (h : hT σ a = some (.inl ci)) : gL ci k a σ = some (hL σ a k) := if_pos h
theorem gR_at {ci k a v : Nat} {σ : Hp} (h : hT σ a = some (.inl ci)) (hv : hR σ a k = some v) : gR ci k a σ = some v := (if_pos h).trans hv
theorem pI_at {ci k a : Nat} {σ : Hp} {v : Int32} (h : hT σ a = some (.inl ci)) : pI ci k a v σ = some (setI σ a k v) := if_pos h
theorem pL_at {ci k a : Nat} {σ : Hp} {v : Int64} (h : hT σ a = some (.inl ci)) : pL ci k a v σ = some (setL σ a k v) := if_pos h
theorem pR_at {ci k a v : Nat} {σ : Hp} (h : hT σ a = some (.inl ci)) : pR ci k a v σ = some (setR σ a k (some v)) := if_pos h
theorem hI_same (σ : Hp) (a k : Nat) (v : Int32) : hI (setI σ a k v) a k = v := if_pos ⟨rfl, rfl⟩
theorem hI_ne (σ : Hp) {a b k j : Nat} (v : Int32) (h : ¬ (b = a ∧ j = k)) : hI (setI σ a k v) b j = hI σ b j := if_neg h
theorem i10 : ((1 : Int32) = 0) = False := by decide
theorem i00 : ((0 : Int32) = 0) = True := by decide
theorem if10 {α : Type} (a b : α) : (if (1 : Int32) = 0 then a else b) = b := if_neg (by decide)
theorem if00 {α : Type} (a b : α) : (if (0 : Int32) = 0 then a else b) = a := if_pos rfl
theorem if11 {α : Type} (a b : α) : (if (1 : Int32) = 1 then a else b) = a := if_pos rfl
theorem x10_inR (σ : Hp) (v lo hi : Int32) (a b : Nat) (ha : nI a = lo) (hb : nI b = hi) : F_X10_in σ v lo hi = some (if inR v a b then 1 else 0, σ) := by
  rw [x10_in, ← ha, ← hb]
theorem x0_inR (σ : Hp) (v : Int32) (A B : Int64) (a b : Nat) (hA : (nI a).toInt64 = A) (hB : (nI b).toInt64 = B) : F_X0_isIn σ v.toInt64 A B = some (if inR v a b then 1 else 0, σ) := by
  rw [← hA, ← hB]
  exact x0_isIn σ v _ _
theorem x10_isThing (σ : Hp) (x : Int32) : F_X10_isThing σ x = some (if inR x 0 23 then 1 else 0, σ) := by
  unfold F_X10_isThing
  rw [x10_inR σ x 0 23 0 23 rfl rfl, b2_some, zr_ite]
theorem x0_isThing (σ : Hp) (x : Int32) : F_X0_isThing σ x = some (if inR x 0 23 then 1 else 0, σ) := by
  unfold F_X0_isThing
  rw [x0_inR σ x 0 23 0 23 (by decide) (by decide), b2_some, zr_ite]
theorem x10_isRoom (σ : Hp) (x : Int32) : F_X10_isRoom σ x = some (if inR x 0 7 then 1 else 0, σ) := by
  unfold F_X10_isRoom
  rw [x10_inR σ x 0 7 0 7 rfl rfl, b2_some, zr_ite]
theorem x0_isRoom (σ : Hp) (x : Int32) : F_X0_isRoom σ x = some (if inR x 0 7 then 1 else 0, σ) := by
  unfold F_X0_isRoom
  rw [x0_inR σ x 0 7 0 7 (by decide) (by decide), b2_some, zr_ite]
theorem x10_isCorner (σ : Hp) (x : Int32) : F_X10_isCorner σ x = some (if inR x 0 47 then 1 else 0, σ) := by
  unfold F_X10_isCorner
  rw [x10_inR σ x 0 47 0 47 rfl rfl, b2_some, zr_ite]
theorem x0_isCorner (σ : Hp) (x : Int32) : F_X0_isCorner σ x = some (if inR x 0 47 then 1 else 0, σ) := by
  unfold F_X0_isCorner
  rw [x0_inR σ x 0 47 0 47 (by decide) (by decide), b2_some, zr_ite]
theorem x10_isPupil (σ : Hp) (x : Int32) : F_X10_isPupil σ x = some (if inR x 0 3 then 1 else 0, σ) := by
  unfold F_X10_isPupil
  rw [x10_inR σ x 0 3 0 3 rfl rfl, b2_some, zr_ite]
theorem x0_isPupil (σ : Hp) (x : Int32) : F_X0_isPupil σ x = some (if inR x 0 3 then 1 else 0, σ) := by
  unfold F_X0_isPupil
  rw [x0_inR σ x 0 3 0 3 (by decide) (by decide), b2_some, zr_ite]
/-! a form for all numbers: nI n, e1 n -/
theorem neg1 : -(nI 1) = e1 0 := by decide
theorem nI_mul (a b : Nat) : nI a * nI b = nI (a * b) := (Int32.ofNat_mul a b).symm
theorem nI_sub {a b : Nat} (h : b ≤ a) : nI a - nI b = nI (a - b) := by
  obtain ⟨c, rfl⟩ := Nat.exists_eq_add_of_le h
  rw [Nat.add_sub_cancel_left, Nat.add_comm, ← nI_add, Int32.add_sub_cancel]
theorem e1_p1 (n : Nat) : e1 n + nI 1 = nI n := by
  cases n with
  | zero => decide
  | succ n => rw [e1_s, nI_add]
theorem nI_e1 {n k : Nat} (h : n < 2147483648) (hk : k < 2147483648) : (nI k = e1 n) = (n = k + 1) := by
  rw [← e1_nI h hk]
  exact propext eq_comm
theorem nI_e0 {n : Nat} (h : n < 2147483648) : (nI n = e1 0) = False := nI_m1 h
theorem ib {c : Prop} (inst : Decidable c) : ((if c then nI 1 else nI 0) = nI 0) = ¬ c := by
  by_cases h : c
  · rw [if_pos h]
    exact propext ⟨fun q => absurd q (by decide), fun q => absurd h q⟩
  · rw [if_neg h]
    exact propext ⟨fun _ => h, fun _ => rfl⟩
theorem ib1 {c : Prop} (inst : Decidable c) : ((if c then nI 1 else nI 0) = nI 1) = c := by
  by_cases h : c
  · rw [if_pos h]
    exact propext ⟨fun _ => h, fun _ => rfl⟩
  · rw [if_neg h]
    exact propext ⟨fun q => absurd q (by decide), fun q => absurd q h⟩
theorem i_lt {a b : Nat} (ha : a < 2147483648) (hb : b < 2147483648) (z : Int32) (hz : z = nI a - nI b) : z.toInt = (a : Int) - b := by
  subst hz
  by_cases h : b ≤ a
  · rw [nI_sub h, tI (by omega)]
    omega
  · have e : nI a - nI b = -(nI (b - a)) := by
      rw [← nI_sub (by omega : a ≤ b)]
      exact (Int32.neg_sub).symm
    have e2 : (-(nI (b - a))).toInt = -((b - a : Nat) : Int) := by
      rw [Int32.toInt_neg, tI (by omega)]
      apply Int.bmod_eq_of_le <;> omega
    rw [e, e2]
    omega
/-- a strength falls, to nothing at least -/
theorem fadeI {a b : Nat} (inst : Decidable (nI 0 < nI a - nI b)) (ha : a < 2147483648) (hb : b < 2147483648) : (if nI 0 < nI a - nI b then nI a - nI b else nI 0) = nI (a - b) := by
  have h := i_lt ha hb _ rfl
  by_cases q : b < a
  · rw [if_pos (by rw [Int32.lt_iff_toInt_lt, h, tI (by omega)]; omega), nI_sub (by omega)]
  · rw [if_neg (by rw [Int32.lt_iff_toInt_lt, h, tI (by omega)]; omega)]
    have : a - b = 0 := by omega
    rw [this]
theorem fade0 {a b : Nat} (ha : a < 2147483648) (hb : b < 2147483648) : (nI 0 ≤ nI a - nI b) = (b ≤ a) := by
  apply propext
  rw [Int32.le_iff_toInt_le, i_lt ha hb _ rfl, tI (by omega)]
  omega
theorem sub_sub_I (a b c : Nat) : nI a - nI b - nI c = nI a - nI (b + c) := by
  rw [Int32.sub_sub, nI_add]
theorem ite2 {α : Type} {c : Prop} {inst : Decidable c} {a b : α} (h : c) : (if c then a else b) = a := if_pos h
/-! sums -/
def sumR (f : Nat → Nat) (a : Nat) : Nat → Nat
  | 0 => 0
  | n + 1 => sumR f a n + f (a + n)
theorem sumR_le {f : Nat → Nat} {m : Nat} (h : ∀ k, f k ≤ m) (a : Nat) : ∀ n, sumR f a n ≤ m * n
  | 0 => Nat.zero_le _
  | n + 1 => by
    have h1 := sumR_le h a n
    have h2 := h (a + n)
    show sumR f a n + f (a + n) ≤ m * (n + 1)
    rw [Nat.mul_add]
    omega
theorem sumR_cg {f g : Nat → Nat} (a : Nat) : ∀ n, (∀ k, k < n → f (a + k) = g (a + k)) → sumR f a n = sumR g a n
  | 0, _ => rfl
  | n + 1, h => by
    show sumR f a n + f (a + n) = sumR g a n + g (a + n)
    rw [sumR_cg a n (fun k hk => h k (by omega)), h n (by omega)]
