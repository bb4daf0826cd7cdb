set_option maxRecDepth 100000
/-! pure law: tokens of a text -/
def wh (L : Nat) (Q : Nat → Bool) : Nat → Nat → Nat
  | 0, p => p
  | f + 1, p => if p < L ∧ Q p = true then wh L Q f (p + 1) else p
theorem wh_ok {L : Nat} {Q : Nat → Bool} : ∀ f p, L ≤ p + f → p ≤ wh L Q f p ∧ (∀ i, p ≤ i → i < wh L Q f p → i < L ∧ Q i = true) ∧ ¬ (wh L Q f p < L ∧ Q (wh L Q f p) = true) ∧ (p ≤ L → wh L Q f p ≤ L)
  | 0, p, h => ⟨Nat.le_refl _, fun i h1 h2 => by
      have : i < p := h2
      omega, fun z => by
      have : p < L := z.1
      omega, fun h => h⟩
  | f + 1, p, h => by
    unfold wh
    by_cases q : p < L ∧ Q p = true
    · rw [if_pos q]
      obtain ⟨i1, i2, i3, i4⟩ := wh_ok (L := L) (Q := Q) f (p + 1) (by omega)
      refine ⟨by omega, fun i h1 h2 => ?_, i3, fun _ => i4 (by omega)⟩
      by_cases e : i = p
      · rw [e]; exact q
      · exact i2 i (by omega) h2
    · rw [if_neg q]
      exact ⟨Nat.le_refl _, fun i h1 h2 => by omega, q, fun h => h⟩
theorem wh_uniq {L : Nat} {Q : Nat → Bool} {f p e : Nat} (hf : L ≤ p + f) (h1 : p ≤ e) (h2 : ∀ i, p ≤ i → i < e → i < L ∧ Q i = true) (h3 : ¬ (e < L ∧ Q e = true)) : e = wh L Q f p := by
  obtain ⟨i1, i2, i3, -⟩ := wh_ok (L := L) (Q := Q) f p hf
  by_cases q : e < wh L Q f p
  · exact absurd (i2 e h1 q) h3
  · by_cases q2 : wh L Q f p < e
    · exact absurd (h2 _ i1 q2) i3
    · omega
def kd (b : Nat) : Nat := if 97 ≤ b ∧ b ≤ 122 then 1 else if 48 ≤ b ∧ b ≤ 57 then 2 else 0
theorem kd_le (b : Nat) : kd b ≤ 2 := by
  unfold kd
  repeat' split
  all_goals omega
def isA (S : St) (p : Nat) : Nat := wh (S.1 19) (fun i => decide (S.2 20 i = 32)) 161 p
def isE (S : St) (p : Nat) : Nat := if S.1 19 ≤ isA S p then isA S p else if kd (S.2 20 (isA S p)) = 0 then isA S p + 1 else wh (S.1 19) (fun i => decide (kd (S.2 20 i) = kd (S.2 20 (isA S p)))) 161 (isA S p + 1)
theorem Good.lg {S : St} (g : Good S) : S.1 19 ≤ 160 := g.2.2.2.2.1
theorem Good.tx {S : St} (g : Good S) {i : Nat} (hi : i < 160) : S.2 20 i < 256 := g.2.2.2.2.2.2.2.2.2.2.2.2.1 i hi
theorem isA_ok {S : St} (g : Good S) {p : Nat} (hp : p ≤ S.1 19) : p ≤ isA S p ∧ isA S p ≤ S.1 19 ∧ (∀ i, p ≤ i → i < isA S p → S.2 20 i = 32) ∧ (isA S p < S.1 19 → S.2 20 (isA S p) ≠ 32) := by
  have ln := g.lg
  obtain ⟨i1, i2, i3, i4⟩ := wh_ok (L := S.1 19) (Q := fun i => decide (S.2 20 i = 32)) 161 p (by omega)
  refine ⟨i1, i4 hp, fun i h1 h2 => of_decide_eq_true (i2 i h1 h2).2, fun h z => i3 ⟨h, decide_eq_true z⟩⟩
theorem isE_ok {S : St} (g : Good S) {p : Nat} (hp : p ≤ S.1 19) : isA S p ≤ isE S p ∧ isE S p ≤ S.1 19 ∧ (isA S p < S.1 19 → isA S p < isE S p) ∧ (isA S p = S.1 19 → isE S p = S.1 19) ∧
    (isA S p < S.1 19 → kd (S.2 20 (isA S p)) = 0 → isE S p = isA S p + 1) ∧
    (isA S p < S.1 19 → kd (S.2 20 (isA S p)) ≠ 0 → (∀ i, isA S p ≤ i → i < isE S p → kd (S.2 20 i) = kd (S.2 20 (isA S p))) ∧ (isE S p < S.1 19 → kd (S.2 20 (isE S p)) ≠ kd (S.2 20 (isA S p)))) := by
  have ln := g.lg
  obtain ⟨a1, a2, -, -⟩ := isA_ok g hp
  unfold isE
  by_cases q : S.1 19 ≤ isA S p
  · rw [if_pos q]
    exact ⟨by omega, by omega, fun h => by omega, fun h => h, fun h => by omega, fun h => by omega⟩
  · rw [if_neg q]
    by_cases q2 : kd (S.2 20 (isA S p)) = 0
    · rw [if_pos q2]
      exact ⟨by omega, by omega, fun h => by omega, fun h => by omega, fun _ _ => rfl, fun _ z => absurd q2 z⟩
    · rw [if_neg q2]
      obtain ⟨i1, i2, i3, i4⟩ := wh_ok (L := S.1 19) (Q := fun i => decide (kd (S.2 20 i) = kd (S.2 20 (isA S p)))) 161 (isA S p + 1) (by omega)
      refine ⟨by omega, i4 (by omega), fun _ => by omega, fun h => by omega, fun _ z => absurd z q2, fun _ _ => ⟨fun i h1 h2 => ?_, fun h z => i3 ⟨h, decide_eq_true z⟩⟩⟩
      by_cases e : i = isA S p
      · rw [e]
      · exact of_decide_eq_true (i2 i (by omega) h2).2
def wds : List (List Nat) := [[114, 111, 111, 109], [97, 103, 97, 105, 110], [97, 112, 97, 114, 116], [119, 97, 108, 107], [101, 118, 101, 114, 121], [59]]
def wln (w : Nat) : Nat := (wds.getD w []).length
def wch (w i : Nat) : Nat := (wds.getD w []).getD i 0
abbrev wd (S : St) (p w : Nat) : Prop := isE S p - isA S p = wln w ∧ ∀ i, i < wln w → S.2 20 (isA S p + i) = wch w i
abbrev nmb (S : St) (p : Nat) : Prop := isA S p < S.1 19 ∧ kd (S.2 20 (isA S p)) = 2 ∧ isE S p - isA S p ≤ 2
def nvl (t : Nat → Nat) (a : Nat) : Nat → Nat
  | 0 => 0
  | l + 1 => 10 * nvl t a l + (t (a + l) - 48)
def nv (S : St) (p : Nat) : Nat := nvl (S.2 20) (isA S p) (isE S p - isA S p)
abbrev nok (S : St) (p lo hi : Nat) : Prop := nmb S p ∧ lo ≤ nv S p ∧ nv S p ≤ hi
theorem kd2 {b : Nat} (h : kd b = 2) : 48 ≤ b ∧ b ≤ 57 := by
  unfold kd at h
  by_cases q : 97 ≤ b ∧ b ≤ 122
  · rw [if_pos q] at h; omega
  · rw [if_neg q] at h
    by_cases q2 : 48 ≤ b ∧ b ≤ 57
    · exact q2
    · rw [if_neg q2] at h; omega
theorem kd1 {b : Nat} (h : kd b = 1) : 97 ≤ b ∧ b ≤ 122 := by
  unfold kd at h
  by_cases q : 97 ≤ b ∧ b ≤ 122
  · exact q
  · rw [if_neg q] at h
    by_cases q2 : 48 ≤ b ∧ b ≤ 57
    · rw [if_pos q2] at h; omega
    · rw [if_neg q2] at h; omega
theorem nv_lt {S : St} (g : Good S) {p : Nat} (hp : p ≤ S.1 19) (h : nmb S p) : nv S p ≤ 99 := by
  obtain ⟨e1, e2, e3, -, -, e6⟩ := isE_ok g hp
  have k := (e6 h.1 (by rw [h.2.1]; omega)).1
  have hl := h.2.2
  have h3 := e3 h.1
  unfold nv
  have l12 : isE S p - isA S p = 1 ∨ isE S p - isA S p = 2 := by omega
  have k0 := kd2 ((k (isA S p) (by omega) (by omega)).trans h.2.1)
  rcases l12 with q | q
  · rw [q]
    show 10 * 0 + (S.2 20 (isA S p + 0) - 48) ≤ 99
    rw [Nat.add_zero]
    omega
  · have k1 := kd2 ((k (isA S p + 1) (by omega) (by omega)).trans h.2.1)
    rw [q]
    show 10 * (10 * 0 + (S.2 20 (isA S p + 0) - 48)) + (S.2 20 (isA S p + 1) - 48) ≤ 99
    rw [Nat.add_zero]
    omega
/-! what a line comes to: (whether, the next place or the fault's, the row that is read) -/
abbrev Out : Type := Bool × Nat × (Nat → Nat)
def num1 (S : St) (p at' lo hi : Nat) (rd : Nat → Nat) : Out := if nok S p lo hi then (true, isE S p, up rd at' (nv S p)) else (false, isA S p, rd)
def wrd1 (S : St) (p w : Nat) (rd : Nat → Nat) : Out := if wd S p w then (true, isE S p, rd) else (false, isA S p, rd)
def bnd (o : Out) (k : Nat → (Nat → Nat) → Out) : Out := if o.1 = true then k o.2.1 o.2.2 else o
def ln0 (at' k : Nat) (rd : Nat → Nat) : Nat → Nat := up (up rd at' k) (at' + 1) 0
def lnS (S : St) (p at' : Nat) (rd : Nat → Nat) : Out :=
  if wd S p 0 then bnd (num1 S (isE S p) (at' + 1) 0 7 (ln0 at' 0 rd)) (fun p rd => num1 S p (at' + 2) 0 8 rd)
  else if wd S p 1 then num1 S (isE S p) (at' + 2) 1 99 (ln0 at' 1 rd)
  else if wd S p 2 then num1 S (isE S p) (at' + 2) 0 8 (ln0 at' 2 rd)
  else if wd S p 3 then bnd (num1 S (isE S p) (at' + 1) 0 7 (ln0 at' 3 rd)) (fun p rd => bnd (wrd1 S p 4 rd) (fun p rd => num1 S p (at' + 2) 1 99 rd))
  else (false, isA S p, ln0 at' 4294967295 rd)
/-- lines from a place on, m of them before: (whether, how many or the fault's place, the row) -/
def rdS (S : St) : Nat → Nat → Nat → (Nat → Nat) → Out
  | 0, m, p, rd => (false, p, rd)
  | f + 1, m, p, rd =>
    if (lnS S p (3 * m) rd).1 = true then
      (if isA S (lnS S p (3 * m) rd).2.1 = S.1 19 then (true, m + 1, (lnS S p (3 * m) rd).2.2)
       else if wd S (lnS S p (3 * m) rd).2.1 5 ∧ m + 1 < 10 then rdS S f (m + 1) (isE S (lnS S p (3 * m) rd).2.1) (lnS S p (3 * m) rd).2.2
       else (false, isA S (lnS S p (3 * m) rd).2.1, (lnS S p (3 * m) rd).2.2))
    else lnS S p (3 * m) rd
def rdO (S : St) : Out := rdS S 10 0 0 (S.2 28)
def oFault (S : St) : Int32 × St := (if (rdO S).1 = true then -1 else nI (rdO S).2.1, wA S 28 (rdO S).2.2)
def oRules (S : St) : Int32 × St := if (rdO S).1 = true then (nI (rdO S).2.1, w1 (w1 (wA (wA S 28 (rdO S).2.2) 30 (rdO S).2.2) 29 (rdO S).2.1) 19 0) else (-4, wA S 28 (rdO S).2.2)
theorem by_lo : ∀ b, b < 128 → (nI b).toInt8.toInt32 = nI b := by decide +kernel
theorem by_97 : ∀ b, b < 256 → (inR ((nI b).toInt8.toInt32) 97 122 ↔ (97 ≤ b ∧ b ≤ 122)) := by decide +kernel
theorem by_48 : ∀ b, b < 256 → (inR ((nI b).toInt8.toInt32) 48 57 ↔ (48 ≤ b ∧ b ≤ 57)) := by decide +kernel
theorem by_ch : ∀ c, c < 128 → ∀ b, b < 256 → ((nI b).toInt8.toInt32 = nI c ↔ b = c) := by decide +kernel
