set_option maxRecDepth 100000
/-! pure law 29: words of a tree by their numbers; the best of the first of them; a loop with a measure -/
theorem it_mu {α β : Type} {body : (α → Option β) → α → Option β} (P : Nat → α → Prop) (D : α → Prop) (h : ∀ m st, P m st → D st ∨ ∃ m' st', m' < m ∧ P m' st' ∧ ∀ rec, body rec st = rec st') : ∀ n m st, P m st → m < n → ∃ st' k, D st' ∧ it body n st = body (it body k) st' := by
  intro n
  induction n with
  | zero => intro m st _ hm; omega
  | succ n ih =>
    intro m st hp hm
    rcases h m st hp with q | ⟨m', st', h1, h2, h3⟩
    · exact ⟨st, n, q, rfl⟩
    · obtain ⟨s2, k, q1, q2⟩ := ih m' st' h2 (by omega)
      exact ⟨s2, k, q1, by rw [it_s, h3, q2]⟩
theorem it_muF {α β : Type} {body : (α → Option β) → α → Option β} (P : Nat → α → Prop) (D : α → Prop) (h : ∀ m st, P m st → D st ∨ ∃ m' st', m' < m ∧ P m' st' ∧ ∀ rec, body rec st = rec st') (m : Nat) (st : α) (hp : P m st) (hm : m < 1000000000000) : ∃ st', ∃ r : α → Option β, D st' ∧ it body FU st = body r st' := by
  have := FU_ge
  have e : (2 : Nat) ^ 60 = 1152921504606846976 := by decide
  obtain ⟨s, k, h1, h2⟩ := it_mu P D h FU m st hp (by omega)
  exact ⟨s, _, h1, h2⟩
def num (b : Nat) (c : Nat → Nat) : Nat → Nat
  | 0 => 0
  | d + 1 => b * num b c d + c d
def dgb (b n k i : Nat) : Nat := k / b ^ (n - 1 - i) % b
theorem num_cg {b : Nat} {c c' : Nat → Nat} : ∀ d, (∀ i, i < d → c i = c' i) → num b c d = num b c' d
  | 0, _ => rfl
  | d + 1, h => by
    show b * num b c d + c d = b * num b c' d + c' d
    rw [num_cg d (fun i hi => h i (by omega)), h d (by omega)]
theorem num_div {b : Nat} {c : Nat → Nat} {s : Nat} : ∀ t, (∀ i, i < s + t → c i < b) → num b c (s + t) / b ^ t = num b c s
  | 0, _ => by rw [Nat.pow_zero, Nat.div_one]; rfl
  | t + 1, h => by
    have hb : 0 < b := Nat.lt_of_le_of_lt (Nat.zero_le _) (h s (by omega))
    have e : num b c (s + (t + 1)) = b * num b c (s + t) + c (s + t) := rfl
    rw [Nat.pow_succ, Nat.mul_comm (b ^ t) b, ← Nat.div_div_eq_div_mul, e, Nat.mul_add_div hb, Nat.div_eq_of_lt (h (s + t) (by omega)), Nat.add_zero]
    exact num_div t (fun i hi => h i (by omega))
theorem dgb_num {b n d r : Nat} {c : Nat → Nat} (hc : ∀ i, i ≤ d → c i < b) (hd : d < n) (hr : r < b ^ (n - 1 - d)) {i : Nat} (hi : i ≤ d) : dgb b n (num b c (d + 1) * b ^ (n - 1 - d) + r) i = c i := by
  have hb : 0 < b := Nat.lt_of_le_of_lt (Nat.zero_le _) (hc 0 (by omega))
  unfold dgb
  have e1 : b ^ (n - 1 - i) = b ^ (n - 1 - d) * b ^ (d - i) := by
    rw [← Nat.pow_add]
    congr 1
    omega
  have e2 : (num b c (d + 1) * b ^ (n - 1 - d) + r) / b ^ (n - 1 - d) = num b c (d + 1) := by
    rw [Nat.mul_comm, Nat.mul_add_div (Nat.pow_pos hb), Nat.div_eq_of_lt hr, Nat.add_zero]
  have e3 : num b c (d + 1) / b ^ (d - i) = num b c (i + 1) := by
    have := num_div (b := b) (c := c) (s := i + 1) (d - i) (fun k hk => hc k (by omega))
    rw [show i + 1 + (d - i) = d + 1 by omega] at this
    exact this
  rw [e1, ← Nat.div_div_eq_div_mul, e2, e3]
  show (b * num b c i + c i) % b = c i
  rw [Nat.mul_add_mod, Nat.mod_eq_of_lt (hc i hi)]
theorem dgb_lt {b n k i : Nat} (hb : 0 < b) : dgb b n k i < b := Nat.mod_lt _ hb
/-- of the first values the best, and its number (none is 0) -/
def fo (bt : Nat → Nat → Bool) (sv : Nat → Nat) : Nat → Nat × Nat
  | 0 => (0, 0)
  | P + 1 => if bt (fo bt sv P).1 (sv P) = true then (sv P, P + 1) else fo bt sv P
theorem fo_skip {bt : Nat → Nat → Bool} {sv : Nat → Nat} {P : Nat} : ∀ t, (∀ k, P ≤ k → k < P + t → ¬ bt (fo bt sv P).1 (sv k) = true) → fo bt sv (P + t) = fo bt sv P
  | 0, _ => rfl
  | t + 1, h => by
    have ih := fo_skip (bt := bt) (sv := sv) (P := P) t (fun k h1 h2 => h k h1 (by omega))
    show (if bt (fo bt sv (P + t)).1 (sv (P + t)) = true then _ else fo bt sv (P + t)) = _
    rw [ih, if_neg (h (P + t) (by omega) (by omega))]
theorem fo_le (bt : Nat → Nat → Bool) (sv : Nat → Nat) : ∀ P, (fo bt sv P).2 ≤ P
  | 0 => Nat.le_refl _
  | P + 1 => by
    have := fo_le bt sv P
    unfold fo
    split
    · exact Nat.le_refl _
    · omega
theorem fo_b {bt : Nat → Nat → Bool} {sv : Nat → Nat} {m : Nat} (h : ∀ k, sv k ≤ m) : ∀ P, (fo bt sv P).1 ≤ m
  | 0 => Nat.zero_le _
  | P + 1 => by
    have := fo_b (bt := bt) h P
    unfold fo
    split
    · exact h P
    · exact this
/-! the measure of a tree's walk: levels below d, and at d -/
def mu (n : Nat) (c : Nat → Nat) : Nat → Nat
  | 0 => 0
  | d + 1 => mu n c d + (9 - c d) * 11 ^ (n - d)
def mt (n : Nat) (c : Nat → Nat) (d : Nat) : Nat := mu n c d + (10 - c d) * 11 ^ (n - d)
theorem mu_cg {n : Nat} {c c' : Nat → Nat} : ∀ d, (∀ i, i < d → c i = c' i) → mu n c d = mu n c' d
  | 0, _ => rfl
  | d + 1, h => by
    show mu n c d + (9 - c d) * 11 ^ (n - d) = mu n c' d + (9 - c' d) * 11 ^ (n - d)
    rw [mu_cg d (fun i hi => h i (by omega)), h d (by omega)]
theorem up_e {c : Nat → Nat} {d v : Nat} : up c d v d = v := if_pos rfl
theorem up_n {c : Nat → Nat} {d v i : Nat} (h : i ≠ d) : up c d v i = c i := if_neg h
theorem p11 (n : Nat) : 0 < 11 ^ n := Nat.pow_pos (by omega)
theorem mt_stay {n : Nat} {c : Nat → Nat} {d : Nat} (h : c d ≤ 9) : mt n (up c d (c d + 1)) d < mt n c d := by
  unfold mt
  rw [mu_cg (c := up c d (c d + 1)) (c' := c) d (fun i hi => up_n (by omega)), up_e]
  have e : (10 - c d) * 11 ^ (n - d) = (9 - c d) * 11 ^ (n - d) + 11 ^ (n - d) := by
    rw [show 10 - c d = (9 - c d) + 1 by omega, Nat.succ_mul]
  have := p11 (n - d)
  rw [e, show 10 - (c d + 1) = 9 - c d by omega]
  omega
theorem mt_down {n : Nat} {c : Nat → Nat} {d : Nat} (h : c d ≤ 9) (hd : d < n) : mt n (up c (d + 1) 0) (d + 1) < mt n c d := by
  unfold mt
  rw [mu_cg (c := up c (d + 1) 0) (c' := c) (d + 1) (fun i hi => up_n (by omega)), up_e]
  have e : (10 - c d) * 11 ^ (n - d) = (9 - c d) * 11 ^ (n - d) + 11 ^ (n - d) := by
    rw [show 10 - c d = (9 - c d) + 1 by omega, Nat.succ_mul]
  have e2 : 11 ^ (n - d) = 11 ^ (n - (d + 1)) * 11 := by
    rw [← Nat.pow_succ]
    congr 1
    omega
  have := p11 (n - (d + 1))
  have e3 : mu n c (d + 1) = mu n c d + (9 - c d) * 11 ^ (n - d) := rfl
  rw [e, e3]
  omega
theorem mt_back {n : Nat} {c : Nat → Nat} {d : Nat} (h : c d ≤ 9) (h' : c (d + 1) ≤ 9) : mt n (up c d (c d + 1)) d < mt n c (d + 1) := by
  unfold mt
  rw [mu_cg (c := up c d (c d + 1)) (c' := c) d (fun i hi => up_n (by omega)), up_e]
  have e3 : mu n c (d + 1) = mu n c d + (9 - c d) * 11 ^ (n - d) := rfl
  have : 0 < (10 - c (d + 1)) * 11 ^ (n - (d + 1)) := Nat.mul_pos (by omega) (p11 _)
  rw [e3, show 10 - (c d + 1) = 9 - c d by omega]
  omega
theorem mt_pos {n : Nat} {c : Nat → Nat} {d : Nat} (h : c d ≤ 9) : 0 < mt n c d := by
  have : 0 < (10 - c d) * 11 ^ (n - d) := Nat.mul_pos (by omega) (p11 _)
  unfold mt
  omega
theorem mt_0 (n : Nat) (c : Nat → Nat) (h : n ≤ 8) : mt n c 0 < 1000000000000 := by
  have e : mt n c 0 = (10 - c 0) * 11 ^ n := by
    show 0 + (10 - c 0) * 11 ^ n = _
    omega
  have h1 : 11 ^ n ≤ 11 ^ 8 := Nat.pow_le_pow_right (by omega) h
  have h2 : (10 - c 0) * 11 ^ n ≤ 10 * 11 ^ 8 := Nat.mul_le_mul (by omega) h1
  have h3 : 10 * 11 ^ 8 < 1000000000000 := by decide
  omega
theorem num_stay {b : Nat} {c : Nat → Nat} {d : Nat} : num b (up c d (c d + 1)) (d + 1) = num b c (d + 1) + 1 := by
  show b * num b (up c d (c d + 1)) d + up c d (c d + 1) d = b * num b c d + c d + 1
  rw [num_cg (c := up c d (c d + 1)) (c' := c) d (fun i hi => up_n (by omega)), up_e]
  omega
theorem num_down {b n : Nat} {c : Nat → Nat} {d : Nat} (hd : d + 1 < n) : num b (up c (d + 1) 0) (d + 1 + 1) * b ^ (n - 1 - (d + 1)) = num b c (d + 1) * b ^ (n - 1 - d) := by
  have e : num b (up c (d + 1) 0) (d + 1 + 1) = b * num b c (d + 1) := by
    show b * num b (up c (d + 1) 0) (d + 1) + up c (d + 1) 0 (d + 1) = _
    rw [num_cg (c := up c (d + 1) 0) (c' := c) (d + 1) (fun i hi => up_n (by omega)), up_e]
    rfl
  rw [e, show n - 1 - d = n - 1 - (d + 1) + 1 by omega, Nat.pow_succ, Nat.mul_comm b, Nat.mul_assoc, Nat.mul_comm b]
theorem num_back {b n : Nat} {c : Nat → Nat} {d : Nat} (hd : d + 1 < n) (h : c (d + 1) = b) : num b (up c d (c d + 1)) (d + 1) * b ^ (n - 1 - d) = num b c (d + 1 + 1) * b ^ (n - 1 - (d + 1)) := by
  have e : num b c (d + 1 + 1) = b * num b c (d + 1) + c (d + 1) := rfl
  rw [num_stay, e, h, show n - 1 - d = n - 1 - (d + 1) + 1 by omega, Nat.pow_succ]
  generalize b ^ (n - 1 - (d + 1)) = Y
  generalize num b c (d + 1) = X
  rw [← Nat.mul_succ, Nat.mul_comm Y b, ← Nat.mul_assoc, Nat.mul_comm (X + 1) b]
