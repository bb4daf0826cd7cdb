set_option maxRecDepth 100000
/-! pure law: the twin's tokens -/
def hl (τ : Hp) (l : Nat → Nat → Int64) : Hp := (τ.1, τ.2.1, τ.2.2.1, l, τ.2.2.2.2)
def ul (l : Nat → Nat → Int64) (a k : Nat) (v : Int64) : Nat → Nat → Int64 := u2 l a k v
theorem ul_e {l : Nat → Nat → Int64} {a k : Nat} {v : Int64} : ul l a k v a k = v := if_pos ⟨rfl, rfl⟩
theorem ul_n {l : Nat → Nat → Int64} {a k : Nat} {v : Int64} {b j : Nat} (h : ¬ (b = a ∧ j = k)) : ul l a k v b j = l b j := if_neg h
theorem ul_ul {l : Nat → Nat → Int64} {a k : Nat} {v w : Int64} : ul (ul l a k v) a k w = ul l a k w := by
  funext x j
  show (if x = a ∧ j = k then w else if x = a ∧ j = k then v else l x j) = if x = a ∧ j = k then w else l x j
  by_cases q : x = a ∧ j = k
  · rw [if_pos q, if_pos q]
  · rw [if_neg q, if_neg q, if_neg q]
def nL (n : Nat) : Int64 := Int64.ofNat n
theorem nL_toInt {n : Nat} (h : n < 4611686018427387904) : (nL n).toInt = n := Int64.toInt_ofNat_of_lt (by omega)
theorem nL_of {b : Nat} (h : b < 2147483648) : (nI b).toInt64 = nL b := by
  apply Int64.toInt_inj.1
  rw [nL_toInt (by omega), Int32.toInt_toInt64, tI h]
theorem nL_step {x b : Nat} (h : 96 ≤ b) (h2 : b < 1000) : 27 * nL x + (nI b).toInt64 - 96 = nL (27 * x + (b - 96)) := by
  rw [nL_of (by omega)]
  have e1 : (27 : Int64) * nL x = nL (27 * x) := (Int64.ofNat_mul 27 x).symm
  have e2 : nL (27 * x) + nL b = nL (27 * x + (b - 96)) + nL 96 := by
    have a1 : nL (27 * x) + nL b = nL (27 * x + b) := (Int64.ofNat_add _ _).symm
    have a2 : nL (27 * x + (b - 96)) + nL 96 = nL (27 * x + (b - 96) + 96) := (Int64.ofNat_add _ _).symm
    rw [a1, a2]
    exact congrArg nL (by omega)
  rw [e1, e2]
  exact Int64.add_sub_cancel _ _
theorem lg_eq (a b : Int64) : (lg_cmp a b = 0) = (a = b) := by
  apply propext
  unfold lg_cmp
  simp only [gt_iff_lt, Int64.lt_iff_toInt_lt, ← Int64.toInt_inj]
  repeat' split
  all_goals simp_all
  all_goals omega
/-! words as numbers -/
def tvl (t : Nat → Nat) (a : Nat) : Nat → Nat
  | 0 => 0
  | l + 1 => 27 * tvl t a l + (t (a + l) - 96)
theorem tvl_inj {t u : Nat → Nat} {a : Nat} : ∀ k k', (∀ i, i < k → 97 ≤ t (a + i) ∧ t (a + i) ≤ 122) → (∀ i, i < k' → 97 ≤ u (0 + i) ∧ u (0 + i) ≤ 122) → tvl t a k = tvl u 0 k' → k = k' ∧ ∀ i, i < k → t (a + i) = u i
  | 0, 0, _, _, _ => ⟨rfl, fun i hi => absurd hi (Nat.not_lt_zero i)⟩
  | 0, k' + 1, _, h2, h => by
    have := h2 k' (by omega)
    have e : (0 : Nat) = 27 * tvl u 0 k' + (u (0 + k') - 96) := h
    omega
  | k + 1, 0, h1, _, h => by
    have := h1 k (by omega)
    have e : 27 * tvl t a k + (t (a + k) - 96) = 0 := h
    omega
  | k + 1, k' + 1, h1, h2, h => by
    have a1 := h1 k (by omega)
    have a2 := h2 k' (by omega)
    have e : 27 * tvl t a k + (t (a + k) - 96) = 27 * tvl u 0 k' + (u (0 + k') - 96) := h
    have e1 : tvl t a k = tvl u 0 k' := by omega
    obtain ⟨i1, i2⟩ := tvl_inj k k' (fun i hi => h1 i (by omega)) (fun i hi => h2 i (by omega)) e1
    refine ⟨by omega, fun i hi => ?_⟩
    have hd : t (a + k) = u k' := by
      rw [Nat.zero_add] at e a2
      omega
    by_cases q : i = k
    · rw [q, hd, i1]
    · exact i2 i (by omega)
theorem tvl_lt {t : Nat → Nat} {a : Nat} : ∀ k, (∀ i, i < k → 97 ≤ t (a + i) ∧ t (a + i) ≤ 122) → tvl t a k < 27 ^ k
  | 0, _ => by
    show 0 < 27 ^ 0
    omega
  | k + 1, h => by
    have a1 := h k (by omega)
    have ih := tvl_lt (t := t) (a := a) k (fun i hi => h i (by omega))
    show 27 * tvl t a k + (t (a + k) - 96) < 27 ^ (k + 1)
    rw [Nat.pow_succ]
    omega
def wnl : List Nat := [365647, 670208, 847604, 453773, 3094387]
theorem wn_ok : ∀ w, w < 5 → wnl.getD w 0 = tvl (wch w) 0 (wln w) ∧ wln w ≤ 9 ∧ 4 ≤ wln w ∧ ∀ i, i < wln w → 97 ≤ wch w (0 + i) ∧ wch w (0 + i) ≤ 122 := by decide
/-- what a token's number tells -/
def Tk (S : St) (p : Nat) (v : Int64) : Prop := (v = -1 ↔ nmb S p) ∧ (v = -2 ↔ isA S p = S.1 19) ∧ (v = -3 ↔ wd S p 5) ∧ ∀ w, w < 5 → (v = nL (wnl.getD w 0) ↔ wd S p w)
theorem nL_m {n : Nat} (h : n < 4611686018427387904) : nL n ≠ -1 ∧ nL n ≠ -2 ∧ nL n ≠ -3 ∧ nL n ≠ -4 := by
  have e := nL_toInt h
  refine ⟨fun z => ?_, fun z => ?_, fun z => ?_, fun z => ?_⟩
  all_goals
    rw [z] at e
    have : (-1 : Int64).toInt = -1 ∧ (-2 : Int64).toInt = -2 ∧ (-3 : Int64).toInt = -3 ∧ (-4 : Int64).toInt = -4 := by decide
    omega
theorem wnl_b : ∀ w, w < 5 → wnl.getD w 0 < 10000000 := by decide
theorem wn_m {w : Nat} (hw : w < 5) : (-1 : Int64) ≠ nL (wnl.getD w 0) ∧ (-2 : Int64) ≠ nL (wnl.getD w 0) ∧ (-3 : Int64) ≠ nL (wnl.getD w 0) ∧ (-4 : Int64) ≠ nL (wnl.getD w 0) := by
  have b := wnl_b w hw
  obtain ⟨a, b, c, d⟩ := nL_m (n := wnl.getD w 0) (by omega)
  exact ⟨a.symm, b.symm, c.symm, d.symm⟩
theorem m1234 : (-1 : Int64) ≠ -2 ∧ (-1 : Int64) ≠ -3 ∧ (-2 : Int64) ≠ -1 ∧ (-2 : Int64) ≠ -3 ∧ (-3 : Int64) ≠ -1 ∧ (-3 : Int64) ≠ -2 ∧ (-4 : Int64) ≠ -1 ∧ (-4 : Int64) ≠ -2 ∧ (-4 : Int64) ≠ -3 := by decide
theorem wl5 : wln 5 = 1 ∧ wch 5 0 = 59 := by decide
section TK
variable {S : St} {p : Nat}
theorem tk_end (g : Good S) (hp : p ≤ S.1 19) (h : isA S p = S.1 19) : Tk S p (-2) := by
  obtain ⟨e1', e2, e3, e4, -, -⟩ := isE_ok g hp
  have e := e4 h
  refine ⟨⟨fun z => absurd z m1234.2.2.1, fun z => by have := z.1; omega⟩, ⟨fun _ => h, fun _ => rfl⟩, ⟨fun z => absurd z m1234.2.2.2.1, fun z => ?_⟩, fun w hw => ⟨fun z => absurd z (wn_m hw).2.1, fun z => ?_⟩⟩
  · have := z.1; rw [wl5.1] at this; omega
  · have := z.1; have := (wn_ok w hw).2.2.1; omega
theorem tk_letters (g : Good S) (hp : p ≤ S.1 19) (hA : isA S p < S.1 19) (h : kd (S.2 20 (isA S p)) = 1) : Tk S p (if isE S p - isA S p ≤ 9 then nL (tvl (S.2 20) (isA S p) (isE S p - isA S p)) else -4) := by
  obtain ⟨e1', e2, e3, e4, e5, e6⟩ := isE_ok g hp
  have k := (e6 hA (by rw [h]; omega)).1
  have k3 := e3 hA
  have kl : ∀ i, i < isE S p - isA S p → 97 ≤ S.2 20 (isA S p + i) ∧ S.2 20 (isA S p + i) ≤ 122 := fun i hi => kd1 ((k (isA S p + i) (by omega) (by omega)).trans h)
  have no5 : ¬ wd S p 5 := fun z => by
    have z2 := z.2 0 (by rw [wl5.1]; omega)
    rw [wl5.2, Nat.add_zero] at z2
    have := kd1 h
    omega
  by_cases q : isE S p - isA S p ≤ 9
  · rw [if_pos q]
    have lt := tvl_lt (t := S.2 20) (a := isA S p) _ kl
    have lt2 : 27 ^ (isE S p - isA S p) ≤ 27 ^ 9 := Nat.pow_le_pow_right (by omega) q
    have lt3 : (27 : Nat) ^ 9 < 4611686018427387904 := by decide
    obtain ⟨m1, m2, m3, -⟩ := nL_m (n := tvl (S.2 20) (isA S p) (isE S p - isA S p)) (by omega)
    refine ⟨⟨fun z => absurd z m1, fun z => by have := z.2.1; omega⟩, ⟨fun z => absurd z m2, fun z => by omega⟩, ⟨fun z => absurd z m3, fun z => absurd z no5⟩, fun w hw => ?_⟩
    obtain ⟨o1, o2, o3, o4⟩ := wn_ok w hw
    have b := wnl_b w hw
    constructor
    · intro z
      have z' := congrArg Int64.toInt z
      rw [nL_toInt (by omega), nL_toInt (by omega)] at z'
      have z2 : tvl (S.2 20) (isA S p) (isE S p - isA S p) = tvl (wch w) 0 (wln w) := by omega
      obtain ⟨i1, i2⟩ := tvl_inj _ _ kl o4 z2
      exact ⟨i1, fun i hi => i2 i (by omega)⟩
    · intro z
      have e : ∀ n, n ≤ wln w → tvl (S.2 20) (isA S p) n = tvl (wch w) 0 n := by
        intro n
        induction n with
        | zero => intro _; rfl
        | succ n ih =>
          intro hn
          show 27 * tvl (S.2 20) (isA S p) n + (S.2 20 (isA S p + n) - 96) = 27 * tvl (wch w) 0 n + (wch w (0 + n) - 96)
          rw [ih (by omega), z.2 n (by omega), Nat.zero_add]
      rw [z.1, e _ (Nat.le_refl _), ← o1]
  · rw [if_neg q]
    refine ⟨⟨fun z => absurd z m1234.2.2.2.2.2.2.1, fun z => by have := z.2.1; omega⟩, ⟨fun z => absurd z m1234.2.2.2.2.2.2.2.1, fun z => by omega⟩, ⟨fun z => absurd z m1234.2.2.2.2.2.2.2.2, fun z => absurd z no5⟩, fun w hw => ⟨fun z => absurd z (wn_m hw).2.2.2, fun z => ?_⟩⟩
    have := z.1
    have := (wn_ok w hw).2.1
    omega
theorem tk_digits (g : Good S) (hp : p ≤ S.1 19) (hA : isA S p < S.1 19) (h : kd (S.2 20 (isA S p)) = 2) : Tk S p (if isE S p - isA S p ≤ 2 then -1 else -4) := by
  have dd := kd2 h
  have no5 : ¬ wd S p 5 := fun z => by
    have z2 := z.2 0 (by rw [wl5.1]; omega)
    rw [wl5.2, Nat.add_zero] at z2
    omega
  have now : ∀ w, w < 5 → ¬ wd S p w := fun w hw z => by
    obtain ⟨o1, o2, o3, o4⟩ := wn_ok w hw
    have z2 := z.2 0 (by omega)
    have := o4 0 (by omega)
    rw [Nat.add_zero] at z2
    rw [Nat.add_zero] at this
    omega
  by_cases q : isE S p - isA S p ≤ 2
  · rw [if_pos q]
    exact ⟨⟨fun _ => ⟨hA, h, q⟩, fun _ => rfl⟩, ⟨fun z => absurd z m1234.1, fun z => by omega⟩, ⟨fun z => absurd z m1234.2.1, fun z => absurd z no5⟩, fun w hw => ⟨fun z => absurd z (wn_m hw).1, fun z => absurd z (now w hw)⟩⟩
  · rw [if_neg q]
    exact ⟨⟨fun z => absurd z m1234.2.2.2.2.2.2.1, fun z => absurd z.2.2 q⟩, ⟨fun z => absurd z m1234.2.2.2.2.2.2.2.1, fun z => by omega⟩, ⟨fun z => absurd z m1234.2.2.2.2.2.2.2.2, fun z => absurd z no5⟩, fun w hw => ⟨fun z => absurd z (wn_m hw).2.2.2, fun z => absurd z (now w hw)⟩⟩
theorem tk_other (g : Good S) (hp : p ≤ S.1 19) (hA : isA S p < S.1 19) (h : kd (S.2 20 (isA S p)) = 0) : Tk S p (if S.2 20 (isA S p) = 59 then -3 else -4) := by
  obtain ⟨e1', e2, e3, e4, e5, e6⟩ := isE_ok g hp
  have e := e5 hA h
  have now : ∀ w, w < 5 → ¬ wd S p w := fun w hw z => by
    have := z.1; have := (wn_ok w hw).2.2.1; omega
  have w5 : S.2 20 (isA S p) = 59 → wd S p 5 := fun z => ⟨by rw [wl5.1]; omega, fun i hi => by
    rw [wl5.1] at hi
    have : i = 0 := by omega
    rw [this, wl5.2]
    exact z⟩
  have w5' : wd S p 5 → S.2 20 (isA S p) = 59 := fun z => by
    have z2 := z.2 0 (by rw [wl5.1]; omega)
    rw [wl5.2, Nat.add_zero] at z2
    exact z2
  by_cases q : S.2 20 (isA S p) = 59
  · rw [if_pos q]
    exact ⟨⟨fun z => absurd z m1234.2.2.2.2.1, fun z => by have := z.2.1; omega⟩, ⟨fun z => absurd z m1234.2.2.2.2.2.1, fun z => by omega⟩, ⟨fun _ => w5 q, fun _ => rfl⟩, fun w hw => ⟨fun z => absurd z (wn_m hw).2.2.1, fun z => absurd z (now w hw)⟩⟩
  · rw [if_neg q]
    exact ⟨⟨fun z => absurd z m1234.2.2.2.2.2.2.1, fun z => by have := z.2.1; omega⟩, ⟨fun z => absurd z m1234.2.2.2.2.2.2.2.1, fun z => by omega⟩, ⟨fun z => absurd z m1234.2.2.2.2.2.2.2.2, fun z => absurd (w5' z) q⟩, fun w hw => ⟨fun z => absurd z (wn_m hw).2.2.2, fun z => absurd z (now w hw)⟩⟩
end TK
/-! the twin's own -/
def FrN (M : Nat) (τ τ' : Hp) : Prop := hZ τ' = hZ τ ∧ (∀ a, hT τ' a = hT τ a) ∧ (∀ a k, hR τ' a k = hR τ a k) ∧ (∀ a k, ¬ (a = M ∧ (k = 21 ∨ k = 22 ∨ k = 24 ∨ k = 25)) → hI τ' a k = hI τ a k) ∧ ∀ a k, ¬ (a = M ∧ k = 23) → hL τ' a k = hL τ a k
def dgs (f : Nat → Nat → Int32) (M : Nat) (a b c : Int32) : Nat → Nat → Int32 := fun x k => if x = M ∧ k = 25 then a else if x = M ∧ k = 24 then b else if x = M ∧ k = 21 then c else f x k
theorem dgs_u {f : Nat → Nat → Int32} {M : Nat} {a b c a' b' c' : Int32} : u2 (u2 (u2 (dgs f M a b c) M 25 a') M 24 b') M 21 c' = dgs f M a' b' c' := by
  funext x k
  unfold u2 dgs
  by_cases h1 : x = M ∧ k = 25
  · rw [if_pos h1, if_neg (by omega), if_neg (by omega), if_pos h1]
  · by_cases h2 : x = M ∧ k = 24
    · rw [if_neg (by omega), if_pos h2, if_neg h1, if_pos h2]
    · by_cases h3 : x = M ∧ k = 21
      · rw [if_pos h3, if_neg h1, if_neg h2, if_pos h3]
      · rw [if_neg h3, if_neg h2, if_neg h1, if_neg h1, if_neg h2, if_neg h3, if_neg h1, if_neg h2, if_neg h3]
theorem m_next {M : Nat} {τ : Hp} {S : St} (g : Good S) (h0 : RepM M τ S) {p : Nat} (hp : p ≤ S.1 19) (h21 : hI τ M 21 = nI p) : ∃ τ', F_X10_nextToken τ M = some τ' ∧ FrN M τ τ' ∧ hI τ' M 21 = nI (isE S p) ∧ hI τ' M 22 = nI (isA S p) ∧ Tk S p (hL τ' M 23) ∧ (nmb S p → hI τ' M 25 = nI (nv S p)) := by
  have lg := g.lg
  obtain ⟨a1, a2, a3, a4⟩ := isA_ok g hp
  obtain ⟨e1', e2, e3, e4, e5, e6⟩ := isE_ok g hp
  have s : SM M τ := h0.1
  have h : RepM M (hv τ τ.2.1) S := h0
  have l19 := h.s19
  have tx' : ∀ i, i < 160 → τ.2.1 (M + 16) i = nI (S.2 20 i) := fun i hi => h.a20 hi
  have f21 : τ.2.1 M 21 = nI p := h21
  show ∃ τ', F_X10_nextToken (hv (hl τ τ.2.2.2.1) τ.2.1) M = some τ' ∧ _
  obtain ⟨f, hf⟩ : ∃ f, f = τ.2.1 := ⟨_, rfl⟩
  obtain ⟨l, hl'⟩ : ∃ l, l = τ.2.2.2.1 := ⟨_, rfl⟩
  rw [← hf] at l19 tx' f21 ⊢
  rw [← hl']
  have gI' : ∀ l f k, gI 10 k M (hv (hl τ l) f) = some (f M k) := fun l f k => gI_hv s.1
  have pI' : ∀ l f k v, pI 10 k M v (hv (hl τ l) f) = some (hv (hl τ l) (u2 f M k v)) := fun l f k v => pI_hv s.1
  have gR' : ∀ l f, gR 10 20 M (hv (hl τ l) f) = some (M + 16) := fun l f => s.R20
  have aI' : ∀ l f i, i < 160 → aI 0 (M + 16) (nI i) (hv (hl τ l) f) = some (f (M + 16) i) := fun l f i hi => s.A20 hi
  have gL' : ∀ l f, gL 10 23 M (hv (hl τ l) f) = some (l M 23) := fun l f => gL_at s.1
  have pL' : ∀ l f v, pL 10 23 M v (hv (hl τ l) f) = some (hv (hl τ (ul l M 23 v)) f) := fun l f v => pL_at s.1
  have in97 : ∀ σ b, b < 1000 → F_X10_in σ (nI b) (nI 97) (nI 122) = some (nI (if 97 ≤ b ∧ b ≤ 122 then 1 else 0), σ) := fun σ b hb => by
    rw [x10_in]
    by_cases q : 97 ≤ b ∧ b ≤ 122
    · rw [if_pos (by rw [le_lit (by omega) (by omega), le_lit (by omega) (by omega)]; exact q), if_pos q]; rfl
    · rw [if_neg (by rw [le_lit (by omega) (by omega), le_lit (by omega) (by omega)]; exact q), if_neg q]; rfl
  have in48 : ∀ σ b, b < 1000 → F_X10_in σ (nI b) (nI 48) (nI 57) = some (nI (if 48 ≤ b ∧ b ≤ 57 then 1 else 0), σ) := fun σ b hb => by
    rw [x10_in]
    by_cases q : 48 ≤ b ∧ b ≤ 57
    · rw [if_pos (by rw [le_lit (by omega) (by omega), le_lit (by omega) (by omega)]; exact q), if_pos q]; rfl
    · rw [if_neg (by rw [le_lit (by omega) (by omega), le_lit (by omega) (by omega)]; exact q), if_neg q]; rfl
  -- spaces
  obtain ⟨m, hm⟩ := it_FU (body := fun rec st => B_X10_nextToken_0 M rec st) (fun i => hv (hl τ l) (u2 f M 21 (nI i))) p (isA S p) a1 (by omega) (fun i h1 h2 rec => by
    have b : u2 f M 21 (nI i) (M + 16) i = nI 32 := by rw [u2_n (by omega), tx' i (by omega), a3 i h1 h2]
    have l2 : u2 f M 21 (nI i) M 19 = nI (S.1 19) := (u2_n (by omega)).trans l19
    have e : u2 f M 21 (nI (i + 1)) = u2 (u2 f M 21 (nI i)) M 21 (nI (i + 1)) := u2_u2.symm
    show B_X10_nextToken_0 M rec (hv (hl τ l) (u2 f M 21 (nI i))) = rec (hv (hl τ l) (u2 f M 21 (nI (i + 1))))
    rw [e]
    have e2 : u2 f M 21 (nI i) M 21 = nI i := u2_e
    generalize u2 f M 21 (nI i) = G at b l2 e2
    simp (decide := true) (disch := omega) only [B_X10_nextToken_0, gI', pI', gR', aI', b1_some, b2_some, litI, neg1, nI_add, nI_mul, e1_p1, nI_e0, ib, ib1, ite_not, if_true, if_false, not_true_eq_false, not_false_eq_true, setI_hv, le_lit, e2, l2, b, show ¬ S.1 19 ≤ i by omega])
  have z0 : u2 f M 21 (nI p) = f := u2_id f21
  rw [z0] at hm
  have L0 : F_X10_nextToken (hv (hl τ l) f) M = F_X10_nextToken_38 (hv (hl τ l) (u2 f M 21 (nI (isA S p)))) M := by
    unfold F_X10_nextToken L_X10_nextToken_0
    rw [gd_hv (show hT (hl τ l) M = some (.inl 10) from s.1)]
    refine hm.trans ?_
    have l2 : u2 f M 21 (nI (isA S p)) M 19 = nI (S.1 19) := (u2_n (by omega)).trans l19
    have e2 : u2 f M 21 (nI (isA S p)) M 21 = nI (isA S p) := u2_e
    by_cases q : S.1 19 ≤ isA S p
    · generalize u2 f M 21 (nI (isA S p)) = G at l2 e2
      simp (decide := true) (disch := omega) only [B_X10_nextToken_0, gI', b1_some, b2_some, litI, neg1, nI_add, nI_mul, e1_p1, nI_e0, ib, ib1, ite_not, if_true, if_false, not_true_eq_false, not_false_eq_true, setI_hv, le_lit, e2, l2, q]
    · have b : u2 f M 21 (nI (isA S p)) (M + 16) (isA S p) = nI (S.2 20 (isA S p)) := (u2_n (by omega)).trans (tx' _ (by omega))
      have tb := g.tx (i := isA S p) (by omega)
      have n32 := a4 (by omega)
      generalize u2 f M 21 (nI (isA S p)) = G at l2 e2 b
      simp (decide := true) (disch := omega) only [B_X10_nextToken_0, gI', gR', aI', b1_some, b2_some, litI, neg1, nI_add, nI_mul, e1_p1, nI_e0, ib, ib1, ite_not, if_true, if_false, not_true_eq_false, not_false_eq_true, setI_hv, le_lit, eq_lit, e2, l2, b, q, n32]
  obtain ⟨G, hG⟩ : ∃ G, G = u2 (u2 (u2 (u2 f M 21 (nI (isA S p))) M 22 (nI (isA S p))) M 24 0) M 25 0 := ⟨_, rfl⟩
  have G21 : G M 21 = nI (isA S p) := by rw [hG, u2_n (by omega), u2_n (by omega), u2_n (by omega), u2_e]
  have G22 : G M 22 = nI (isA S p) := by rw [hG, u2_n (by omega), u2_n (by omega), u2_e]
  have G24 : G M 24 = nI 0 := (by rw [hG, u2_n (by omega), u2_e] : G M 24 = (0 : Int32))
  have G25 : G M 25 = nI 0 := (by rw [hG, u2_e] : G M 25 = (0 : Int32))
  have Goff : ∀ a k, ¬ (a = M ∧ (k = 21 ∨ k = 22 ∨ k = 24 ∨ k = 25)) → G a k = f a k := fun a k ha => by rw [hG, u2_n (by omega), u2_n (by omega), u2_n (by omega), u2_n (by omega)]
  have G19 : G M 19 = nI (S.1 19) := (Goff _ _ (by omega)).trans l19
  have Gt : ∀ i, i < 160 → G (M + 16) i = nI (S.2 20 i) := fun i hi => (Goff _ _ (by omega)).trans (tx' i hi)
  have L1 : F_X10_nextToken (hv (hl τ l) f) M = (if nI (isA S p) = nI (S.1 19) then some (hv (hl τ (ul l M 23 (-2))) G) else b1 (gR 10 20 M (hv (hl τ l) G)) (fun v4 => b1 (gI 10 21 M (hv (hl τ l) G)) (fun v5 => b1 (aI 0 v4 v5 (hv (hl τ l) G)) (fun v6 => b2 (F_X10_in (hv (hl τ l) G) v6 (nI 97) (nI 122)) (fun v7 s4 => (if v7 = nI 0 then b1 (gR 10 20 M s4) (fun v8 => b1 (gI 10 21 M s4) (fun v9 => b1 (aI 0 v8 v9 s4) (fun v10 => b2 (F_X10_in s4 v10 (nI 48) (nI 57)) (fun v11 s5 => (if v11 = nI 0 then b1 (gR 10 20 M s5) (fun v12 => b1 (gI 10 21 M s5) (fun v13 => b1 (aI 0 v12 v13 s5) (fun v14 => (if v14 = nI 59 then b1 (pL 10 23 M (-3) s5) (fun s8 => b1 (gI 10 21 M s8) (fun v16 => b1 (pI 10 21 M (v16 + nI 1) s8) (fun s9 => some s9))) else b1 (pL 10 23 M (-4) s5) (fun s6 => b1 (gI 10 21 M s6) (fun v15 => b1 (pI 10 21 M (v15 + nI 1) s6) (fun s7 => some s7))))))) else L_X10_nextToken_241 M FU s5))))) else b1 (pL 10 23 M 0 s4) (fun s10 => L_X10_nextToken_101 M FU s10))))))) := by
    rw [L0]
    have e2 : u2 f M 21 (nI (isA S p)) M 21 = nI (isA S p) := u2_e
    unfold F_X10_nextToken_38
    rw [gI', b1_some, e2, pI', b1_some, pI', b1_some, pI', b1_some]
    rw [← hG, gI', b1_some, gI', b1_some, G21, G19, pL', b1_some]
    rfl
  have fr : ∀ l' G', (∀ a k, ¬ (a = M ∧ (k = 21 ∨ k = 22 ∨ k = 24 ∨ k = 25)) → G' a k = f a k) → (∀ a k, ¬ (a = M ∧ k = 23) → l' a k = l a k) → FrN M τ (hv (hl τ l') G') := fun l' G' q1 q2 => ⟨rfl, fun _ => rfl, fun _ _ => rfl, fun a k ha => by rw [← show f a k = hI τ a k by rw [hf]; rfl]; exact q1 a k ha, fun a k ha => by rw [← show l a k = hL τ a k by rw [hl']; rfl]; exact q2 a k ha⟩
  clear hG
  rw [L1]
  by_cases qe : isA S p = S.1 19
  · rw [if_pos (by rw [qe])]
    refine ⟨_, rfl, fr _ _ Goff (fun a k ha => ul_n ha), ?_, G22, ?_, fun z => ?_⟩
    · show G M 21 = _
      rw [G21, e4 qe, qe]
    · show Tk S p (ul l M 23 (-2) M 23)
      rw [ul_e]
      exact tk_end g hp qe
    · have := z.1
      omega
  have qA : isA S p < S.1 19 := by omega
  have tb := g.tx (i := isA S p) (by omega)
  rw [if_neg (by rw [eq_lit (by omega) (by omega)]; exact qe), gR', b1_some, gI', b1_some, G21, aI' _ _ _ (by omega), b1_some, Gt _ (by omega), in97 _ _ (by omega), b2_some]
  have k3 : kd (S.2 20 (isA S p)) = 1 ∨ kd (S.2 20 (isA S p)) = 2 ∨ kd (S.2 20 (isA S p)) = 0 := by
    have := kd_le (S.2 20 (isA S p))
    omega
  rcases k3 with q1 | q1 | q1
  · -- letters
    have q1' := kd1 q1
    have kk := e6 qA (by rw [q1]; omega)
    have k3' := e3 qA
    rw [if_pos q1', if_neg (by decide), pL', b1_some]
    obtain ⟨W, hW⟩ : ∃ W : Nat → Int64, W = fun i => if i - isA S p ≤ 9 then nL (tvl (S.2 20) (isA S p) (i - isA S p)) else -4 := ⟨_, rfl⟩
    obtain ⟨m2, hm2⟩ := it_FU (body := fun rec st => B_X10_nextToken_101 M rec st) (fun i => hv (hl τ (ul l M 23 (W i))) (u2 G M 21 (nI i))) (isA S p) (isE S p) (by omega) (by omega) (fun i h1 h2 rec => by
      have ki := kd1 ((kk.1 i h1 h2).trans q1)
      have b : u2 G M 21 (nI i) (M + 16) i = nI (S.2 20 i) := (u2_n (by omega)).trans (Gt i (by omega))
      have l2 : u2 G M 21 (nI i) M 19 = nI (S.1 19) := (u2_n (by omega)).trans G19
      have c22 : u2 G M 21 (nI i) M 22 = nI (isA S p) := (u2_n (by omega)).trans G22
      have e : u2 G M 21 (nI (i + 1)) = u2 (u2 G M 21 (nI i)) M 21 (nI (i + 1)) := u2_u2.symm
      have ew : ul l M 23 (W (i + 1)) = ul (ul l M 23 (W i)) M 23 (W (i + 1)) := ul_ul.symm
      have e23 : ul l M 23 (W i) M 23 = W i := ul_e
      have i97 := in97 (hv (hl τ (ul l M 23 (W i))) (u2 G M 21 (nI i))) (S.2 20 i) (by omega)
      rw [if_pos ki] at i97
      show B_X10_nextToken_101 M rec (hv (hl τ (ul l M 23 (W i))) (u2 G M 21 (nI i))) = rec (hv (hl τ (ul l M 23 (W (i + 1)))) (u2 G M 21 (nI (i + 1))))
      rw [e, ew]
      have e2 : u2 G M 21 (nI i) M 21 = nI i := u2_e
      generalize u2 G M 21 (nI i) = G' at b l2 e2 c22 i97
      by_cases q9 : 9 ≤ i - isA S p
      · have w1 : W (i + 1) = -4 := by rw [hW]; exact if_neg (by omega)
        rw [w1]
        generalize ul l M 23 (W i) = l'' at i97
        simp (decide := true) (disch := omega) only [B_X10_nextToken_101, gI', pI', gR', aI', pL', i97, b1_some, b2_some, litI, neg1, nI_add, nI_mul, e1_p1, nI_e0, ib, ib1, ite_not, if_true, if_false, not_true_eq_false, not_false_eq_true, setI_hv, le_lit, nI_sub, e2, l2, c22, b, show ¬ S.1 19 ≤ i by omega, q9]
      · have w0 : W i = nL (tvl (S.2 20) (isA S p) (i - isA S p)) := by rw [hW]; exact if_pos (by omega)
        have w1 : W (i + 1) = nL (27 * tvl (S.2 20) (isA S p) (i - isA S p) + (S.2 20 i - 96)) := by
          rw [hW]
          show (if i + 1 - isA S p ≤ 9 then nL (tvl (S.2 20) (isA S p) (i + 1 - isA S p)) else -4) = _
          rw [if_pos (by omega), show i + 1 - isA S p = i - isA S p + 1 by omega]
          show nL (27 * tvl (S.2 20) (isA S p) (i - isA S p) + (S.2 20 (isA S p + (i - isA S p)) - 96)) = _
          rw [show isA S p + (i - isA S p) = i by omega]
        rw [w1, ← nL_step (by omega) (by omega), ← w0]
        rw [w0] at e23 ⊢
        generalize ul l M 23 (nL (tvl (S.2 20) (isA S p) (i - isA S p))) = l'' at e23
        have i97' := in97 (hv (hl τ l'') G') (S.2 20 i) (by omega)
        rw [if_pos ki] at i97'
        simp (decide := true) (disch := omega) only [B_X10_nextToken_101, gI', pI', gR', aI', pL', gL', i97', b1_some, b2_some, litI, neg1, nI_add, nI_mul, e1_p1, nI_e0, ib, ib1, ite_not, if_true, if_false, not_true_eq_false, not_false_eq_true, setI_hv, le_lit, nI_sub, e2, l2, c22, b, show ¬ S.1 19 ≤ i by omega, q9, e23])
    have zA : u2 G M 21 (nI (isA S p)) = G := u2_id G21
    have wA' : W (isA S p) = 0 := by
      rw [hW]
      show (if isA S p - isA S p ≤ 9 then nL (tvl (S.2 20) (isA S p) (isA S p - isA S p)) else -4) = 0
      rw [Nat.sub_self, if_pos (by omega)]
      rfl
    rw [zA, wA'] at hm2
    have wE : W (isE S p) = if isE S p - isA S p ≤ 9 then nL (tvl (S.2 20) (isA S p) (isE S p - isA S p)) else -4 := by rw [hW]
    have e21 : u2 G M 21 (nI (isE S p)) M 21 = nI (isE S p) := u2_e
    have c22 : u2 G M 21 (nI (isE S p)) M 22 = nI (isA S p) := (u2_n (by omega)).trans G22
    have l2 : u2 G M 21 (nI (isE S p)) M 19 = nI (S.1 19) := (u2_n (by omega)).trans G19
    have offE : ∀ a k, ¬ (a = M ∧ (k = 21 ∨ k = 22 ∨ k = 24 ∨ k = 25)) → u2 G M 21 (nI (isE S p)) a k = f a k := fun a k ha => (u2_n (by omega)).trans (Goff a k ha)
    have fin : L_X10_nextToken_101 M FU (hv (hl τ (ul l M 23 0)) G) = some (hv (hl τ (ul l M 23 (W (isE S p)))) (u2 G M 21 (nI (isE S p)))) := by
      refine hm2.trans ?_
      have f191 : F_X10_nextToken_191 (hv (hl τ (ul l M 23 (W (isE S p)))) (u2 G M 21 (nI (isE S p)))) M = some (hv (hl τ (ul l M 23 (W (isE S p)))) (u2 G M 21 (nI (isE S p)))) := by
        have e23 : ul l M 23 (W (isE S p)) M 23 = W (isE S p) := ul_e
        have uu : ul (ul l M 23 (W (isE S p))) M 23 (W (isE S p)) = ul l M 23 (W (isE S p)) := ul_ul
        by_cases q9 : isE S p - isA S p ≤ 9
        · generalize u2 G M 21 (nI (isE S p)) = G' at e21 c22
          simp (decide := true) (disch := omega) only [F_X10_nextToken_191, gI', gL', pL', b1_some, b2_some, litI, neg1, nI_add, nI_mul, e1_p1, nI_e0, ib, ib1, ite_not, if_true, if_false, not_true_eq_false, not_false_eq_true, setI_hv, le_lit, nI_sub, e21, c22, q9, e23, uu]
        · have w4 : W (isE S p) = -4 := by rw [wE]; exact if_neg q9
          rw [w4] at uu ⊢
          generalize u2 G M 21 (nI (isE S p)) = G' at e21 c22
          simp (decide := true) (disch := omega) only [F_X10_nextToken_191, gI', gL', pL', b1_some, b2_some, litI, neg1, nI_add, nI_mul, e1_p1, nI_e0, ib, ib1, ite_not, if_true, if_false, not_true_eq_false, not_false_eq_true, setI_hv, le_lit, nI_sub, e21, c22, q9, uu]
      by_cases q : S.1 19 ≤ isE S p
      · rw [← f191]
        generalize u2 G M 21 (nI (isE S p)) = G' at e21 c22 l2
        simp (decide := true) (disch := omega) only [B_X10_nextToken_101, gI', b1_some, b2_some, litI, neg1, nI_add, nI_mul, e1_p1, nI_e0, ib, ib1, ite_not, if_true, if_false, not_true_eq_false, not_false_eq_true, setI_hv, le_lit, e21, l2, q]
      · have bE : u2 G M 21 (nI (isE S p)) (M + 16) (isE S p) = nI (S.2 20 (isE S p)) := (u2_n (by omega)).trans (Gt _ (by omega))
        have tE := g.tx (i := isE S p) (by omega)
        have kE := kk.2 (by omega)
        have nE : ¬ (97 ≤ S.2 20 (isE S p) ∧ S.2 20 (isE S p) ≤ 122) := fun z => kE (by rw [q1]; unfold kd; exact if_pos z)
        have i97 := in97 (hv (hl τ (ul l M 23 (W (isE S p)))) (u2 G M 21 (nI (isE S p)))) (S.2 20 (isE S p)) (by omega)
        rw [if_neg nE] at i97
        rw [← f191]
        generalize u2 G M 21 (nI (isE S p)) = G' at e21 c22 l2 bE i97
        simp (decide := true) (disch := omega) only [B_X10_nextToken_101, gI', gR', aI', i97, b1_some, b2_some, litI, neg1, nI_add, nI_mul, e1_p1, nI_e0, ib, ib1, ite_not, if_true, if_false, not_true_eq_false, not_false_eq_true, setI_hv, le_lit, e21, l2, bE, q]
    refine ⟨_, fin, fr _ _ offE (fun a k ha => ul_n ha), e21, c22, ?_, fun z => by have := z.2.1; omega⟩
    show Tk S p (ul l M 23 (W (isE S p)) M 23)
    rw [ul_e, wE]
    exact tk_letters g hp qA q1
  · -- digits
    have q1' := kd2 q1
    have kk := e6 qA (by rw [q1]; omega)
    have k3' := e3 qA
    rw [if_neg (show ¬ (97 ≤ S.2 20 (isA S p) ∧ S.2 20 (isA S p) ≤ 122) by omega), if_pos rfl, gR', b1_some, gI', b1_some, G21, aI' _ _ _ (by omega), b1_some, Gt _ (by omega), in48 _ _ (by omega), b2_some, if_pos q1', if_neg (show ¬ nI 1 = nI 0 by decide)]
    obtain ⟨V, hV⟩ : ∃ V : Nat → Nat, V = fun i => nvl (S.2 20) (isA S p) (if i - isA S p ≤ 2 then i - isA S p else 2) := ⟨_, rfl⟩
    obtain ⟨m2, hm2⟩ := it_FU (body := fun rec st => B_X10_nextToken_241 M rec st) (fun i => hv (hl τ l) (dgs G M (nI (V i)) (nI (i - isA S p)) (nI i))) (isA S p) (isE S p) (by omega) (by omega) (fun i h1 h2 rec => by
      have ki := kd2 ((kk.1 i h1 h2).trans q1)
      have d21 : dgs G M (nI (V i)) (nI (i - isA S p)) (nI i) M 21 = nI i := by unfold dgs; rw [if_neg (by omega), if_neg (by omega), if_pos ⟨rfl, rfl⟩]
      have d24 : dgs G M (nI (V i)) (nI (i - isA S p)) (nI i) M 24 = nI (i - isA S p) := by unfold dgs; rw [if_neg (by omega), if_pos ⟨rfl, rfl⟩]
      have d25 : dgs G M (nI (V i)) (nI (i - isA S p)) (nI i) M 25 = nI (V i) := by unfold dgs; rw [if_pos ⟨rfl, rfl⟩]
      have doff : ∀ a k, a ≠ M ∨ k = 19 → dgs G M (nI (V i)) (nI (i - isA S p)) (nI i) a k = G a k := fun a k ha => by unfold dgs; rw [if_neg (by omega), if_neg (by omega), if_neg (by omega)]
      have b : dgs G M (nI (V i)) (nI (i - isA S p)) (nI i) (M + 16) i = nI (S.2 20 i) := (doff _ _ (by omega)).trans (Gt i (by omega))
      have l2 : dgs G M (nI (V i)) (nI (i - isA S p)) (nI i) M 19 = nI (S.1 19) := (doff _ _ (by omega)).trans G19
      have i48 := in48 (hv (hl τ l) (dgs G M (nI (V i)) (nI (i - isA S p)) (nI i))) (S.2 20 i) (by omega)
      rw [if_pos ki] at i48
      show B_X10_nextToken_241 M rec (hv (hl τ l) (dgs G M (nI (V i)) (nI (i - isA S p)) (nI i))) = rec (hv (hl τ l) (dgs G M (nI (V (i + 1))) (nI (i + 1 - isA S p)) (nI (i + 1))))
      rw [← dgs_u (f := G) (M := M) (a := nI (V i)) (b := nI (i - isA S p)) (c := nI i) (a' := nI (V (i + 1))) (b' := nI (i + 1 - isA S p)) (c' := nI (i + 1))]
      generalize dgs G M (nI (V i)) (nI (i - isA S p)) (nI i) = G' at d21 d24 d25 b l2 i48
      rw [show i + 1 - isA S p = i - isA S p + 1 by omega]
      by_cases q2 : 2 ≤ i - isA S p
      · have v1 : V (i + 1) = V i := by
          rw [hV]
          show nvl (S.2 20) (isA S p) (if i + 1 - isA S p ≤ 2 then i + 1 - isA S p else 2) = nvl (S.2 20) (isA S p) (if i - isA S p ≤ 2 then i - isA S p else 2)
          rw [if_neg (by omega)]
          by_cases z : i - isA S p ≤ 2
          · rw [if_pos z, show i - isA S p = 2 by omega]
          · rw [if_neg z]
        rw [v1]
        simp (decide := true) (disch := omega) only [B_X10_nextToken_241, F_X10_nextToken_307, gI', pI', gR', aI', i48, b1_some, b2_some, litI, neg1, nI_add, nI_mul, e1_p1, nI_e0, ib, ib1, ite_not, if_true, if_false, not_true_eq_false, not_false_eq_true, setI_hv, le_lit, d21, d24, d25, u2_n, u2_e, l2, b, show ¬ S.1 19 ≤ i by omega, q2]
      · have v1 : V (i + 1) = 10 * V i + S.2 20 i - 48 := by
          rw [hV]
          show nvl (S.2 20) (isA S p) (if i + 1 - isA S p ≤ 2 then i + 1 - isA S p else 2) = 10 * nvl (S.2 20) (isA S p) (if i - isA S p ≤ 2 then i - isA S p else 2) + S.2 20 i - 48
          rw [if_pos (by omega), if_pos (by omega), show i + 1 - isA S p = i - isA S p + 1 by omega]
          show 10 * nvl (S.2 20) (isA S p) (i - isA S p) + (S.2 20 (isA S p + (i - isA S p)) - 48) = _
          rw [show isA S p + (i - isA S p) = i by omega]
          omega
        rw [v1]
        simp (decide := true) (disch := omega) only [B_X10_nextToken_241, F_X10_nextToken_307, gI', pI', gR', aI', i48, b1_some, b2_some, litI, neg1, nI_add, nI_mul, e1_p1, nI_e0, ib, ib1, ite_not, if_true, if_false, not_true_eq_false, not_false_eq_true, setI_hv, le_lit, d21, d24, d25, u2_n, u2_e, l2, b, show ¬ S.1 19 ≤ i by omega, q2, nI_sub])
    have zA : dgs G M (nI (V (isA S p))) (nI (isA S p - isA S p)) (nI (isA S p)) = G := by
      have v0 : V (isA S p) = 0 := by
        rw [hV]
        show nvl (S.2 20) (isA S p) (if isA S p - isA S p ≤ 2 then isA S p - isA S p else 2) = 0
        rw [Nat.sub_self, if_pos (by omega)]
        rfl
      rw [v0, Nat.sub_self]
      funext x k
      unfold dgs
      by_cases c1 : x = M ∧ k = 25
      · rw [if_pos c1, c1.1, c1.2, G25]
      · rw [if_neg c1]
        by_cases c2 : x = M ∧ k = 24
        · rw [if_pos c2, c2.1, c2.2, G24]
        · rw [if_neg c2]
          by_cases c3 : x = M ∧ k = 21
          · rw [if_pos c3, c3.1, c3.2, G21]
          · rw [if_neg c3]
    rw [zA] at hm2
    have d21 : dgs G M (nI (V (isE S p))) (nI (isE S p - isA S p)) (nI (isE S p)) M 21 = nI (isE S p) := by unfold dgs; rw [if_neg (by omega), if_neg (by omega), if_pos ⟨rfl, rfl⟩]
    have d24 : dgs G M (nI (V (isE S p))) (nI (isE S p - isA S p)) (nI (isE S p)) M 24 = nI (isE S p - isA S p) := by unfold dgs; rw [if_neg (by omega), if_pos ⟨rfl, rfl⟩]
    have d25 : dgs G M (nI (V (isE S p))) (nI (isE S p - isA S p)) (nI (isE S p)) M 25 = nI (V (isE S p)) := by unfold dgs; rw [if_pos ⟨rfl, rfl⟩]
    have doff : ∀ a k, ¬ (a = M ∧ (k = 21 ∨ k = 24 ∨ k = 25)) → dgs G M (nI (V (isE S p))) (nI (isE S p - isA S p)) (nI (isE S p)) a k = G a k := fun a k ha => by unfold dgs; rw [if_neg (by omega), if_neg (by omega), if_neg (by omega)]
    have d19 : dgs G M (nI (V (isE S p))) (nI (isE S p - isA S p)) (nI (isE S p)) M 19 = nI (S.1 19) := (doff _ _ (by omega)).trans G19
    have d22 : dgs G M (nI (V (isE S p))) (nI (isE S p - isA S p)) (nI (isE S p)) M 22 = nI (isA S p) := (doff _ _ (by omega)).trans G22
    have dt : ∀ i, i < 160 → dgs G M (nI (V (isE S p))) (nI (isE S p - isA S p)) (nI (isE S p)) (M + 16) i = nI (S.2 20 i) := fun i hi => (doff _ _ (by omega)).trans (Gt i hi)
    have dof2 : ∀ a k, ¬ (a = M ∧ (k = 21 ∨ k = 22 ∨ k = 24 ∨ k = 25)) → dgs G M (nI (V (isE S p))) (nI (isE S p - isA S p)) (nI (isE S p)) a k = f a k := fun a k ha => (doff _ _ (by omega)).trans (Goff a k ha)
    have fin : L_X10_nextToken_241 M FU (hv (hl τ l) G) = some (hv (hl τ (ul l M 23 (if isE S p - isA S p ≤ 2 then -1 else -4))) (dgs G M (nI (V (isE S p))) (nI (isE S p - isA S p)) (nI (isE S p)))) := by
      refine hm2.trans ?_
      generalize dgs G M (nI (V (isE S p))) (nI (isE S p - isA S p)) (nI (isE S p)) = G' at d21 d24 d19 dt
      have f333 : F_X10_nextToken_333 (hv (hl τ l) G') M = some (hv (hl τ (ul l M 23 (if isE S p - isA S p ≤ 2 then -1 else -4))) G') := by
        by_cases q2 : isE S p - isA S p ≤ 2
        · rw [if_pos q2]
          simp (decide := true) (disch := omega) only [F_X10_nextToken_333, gI', pL', b1_some, b2_some, litI, neg1, nI_add, nI_mul, e1_p1, nI_e0, ib, ib1, ite_not, if_true, if_false, not_true_eq_false, not_false_eq_true, setI_hv, le_lit, d24, q2]
        · rw [if_neg q2]
          simp (decide := true) (disch := omega) only [F_X10_nextToken_333, gI', pL', b1_some, b2_some, litI, neg1, nI_add, nI_mul, e1_p1, nI_e0, ib, ib1, ite_not, if_true, if_false, not_true_eq_false, not_false_eq_true, setI_hv, le_lit, d24, q2]
      rw [← f333]
      by_cases q : S.1 19 ≤ isE S p
      · simp (decide := true) (disch := omega) only [B_X10_nextToken_241, gI', b1_some, b2_some, litI, neg1, nI_add, nI_mul, e1_p1, nI_e0, ib, ib1, ite_not, if_true, if_false, not_true_eq_false, not_false_eq_true, setI_hv, le_lit, d21, d19, q]
      · have bE := dt (isE S p) (by omega)
        have tE := g.tx (i := isE S p) (by omega)
        have kE := kk.2 (by omega)
        have nE : ¬ (48 ≤ S.2 20 (isE S p) ∧ S.2 20 (isE S p) ≤ 57) := fun z => kE (by rw [q1]; unfold kd; rw [if_neg (by omega)]; exact if_pos z)
        have i48 := in48 (hv (hl τ l) G') (S.2 20 (isE S p)) (by omega)
        rw [if_neg nE] at i48
        simp (decide := true) (disch := omega) only [B_X10_nextToken_241, gI', gR', aI', i48, b1_some, b2_some, litI, neg1, nI_add, nI_mul, e1_p1, nI_e0, ib, ib1, ite_not, if_true, if_false, not_true_eq_false, not_false_eq_true, setI_hv, le_lit, d21, d19, bE, q]
    refine ⟨_, fin, fr _ _ dof2 (fun a k ha => ul_n ha), d21, d22, ?_, fun z => ?_⟩
    · show Tk S p (ul l M 23 (if isE S p - isA S p ≤ 2 then -1 else -4) M 23)
      rw [ul_e]
      exact tk_digits g hp qA q1
    · show dgs G M (nI (V (isE S p))) (nI (isE S p - isA S p)) (nI (isE S p)) M 25 = _
      rw [d25, hV]
      show nI (nvl (S.2 20) (isA S p) (if isE S p - isA S p ≤ 2 then isE S p - isA S p else 2)) = _
      rw [if_pos z.2.2]
      rfl
  · -- what stands alone
    have nk : ¬ (97 ≤ S.2 20 (isA S p) ∧ S.2 20 (isA S p) ≤ 122) := fun z => by unfold kd at q1; rw [if_pos z] at q1; omega
    have nk2 : ¬ (48 ≤ S.2 20 (isA S p) ∧ S.2 20 (isA S p) ≤ 57) := fun z => by unfold kd at q1; rw [if_neg nk, if_pos z] at q1; omega
    have eE := e5 qA q1
    rw [if_neg nk, if_pos rfl, gR', b1_some, gI', b1_some, G21, aI' _ _ _ (by omega), b1_some, Gt _ (by omega), in48 _ _ (by omega), b2_some, if_neg nk2, if_pos rfl, gR', b1_some, gI', b1_some, G21, aI' _ _ _ (by omega), b1_some, Gt _ (by omega)]
    have e21 : u2 G M 21 (nI (isA S p) + nI 1) M 21 = nI (isE S p) := by rw [u2_e, nI_add, eE]
    have c22 : u2 G M 21 (nI (isA S p) + nI 1) M 22 = nI (isA S p) := (u2_n (by omega)).trans G22
    have offE : ∀ a k, ¬ (a = M ∧ (k = 21 ∨ k = 22 ∨ k = 24 ∨ k = 25)) → u2 G M 21 (nI (isA S p) + nI 1) a k = f a k := fun a k ha => (u2_n (by omega)).trans (Goff a k ha)
    have tk := tk_other g hp qA q1
    by_cases q59 : S.2 20 (isA S p) = 59
    · rw [if_pos q59] at tk
      rw [if_pos (by rw [q59]), pL', b1_some, gI', b1_some, G21, pI', b1_some]
      refine ⟨_, rfl, fr _ _ offE (fun a k ha => ul_n ha), e21, c22, ?_, fun z => by have := z.2.1; omega⟩
      show Tk S p (ul l M 23 (-3) M 23)
      rw [ul_e]
      exact tk
    · rw [if_neg q59] at tk
      rw [if_neg (by rw [eq_lit (by omega) (by omega)]; exact q59), pL', b1_some, gI', b1_some, G21, pI', b1_some]
      refine ⟨_, rfl, fr _ _ offE (fun a k ha => ul_n ha), e21, c22, ?_, fun z => by have := z.2.1; omega⟩
      show Tk S p (ul l M 23 (-4) M 23)
      rw [ul_e]
      exact tk
