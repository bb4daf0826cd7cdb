set_option maxRecDepth 100000
/-! pure law: the component's tokens -/
theorem RepX.a20 {N : Nat} {σ : Hp} {f : Nat → Nat → Int32} {S : St} (h : RepX N (hv σ f) S) {i : Nat} (hi : i < 160) : f (N + 210) i = (nI (S.2 20 i)).toInt8.toInt32 := h.2.2.2.2.2.2.1 i hi
theorem x_kind {N : Nat} {σ : Hp} {f : Nat → Nat → Int32} {S : St} (g : Good S) (h : RepX N (hv σ f) S) {i : Nat} (hi : i < 160) : F_X5_kindAt (hv σ f) (N + 211) (nI i) = some (nI (kd (S.2 20 i)), hv σ f) := by
  have s : SX N σ := h.1
  have b := g.tx hi
  have e := h.a20 hi
  have q1 := by_97 _ b
  have q2 := by_48 _ b
  have i1 : ∀ y, F_X0_isIn (hv σ f) (Int32.toInt64 y) 97 122 = some (if inR y 97 122 then 1 else 0, hv σ f) := fun y => x0_inR (hv σ f) y 97 122 97 122 (by decide) (by decide)
  have i2 : ∀ y, F_X0_isIn (hv σ f) (Int32.toInt64 y) 48 57 = some (if inR y 48 57 then 1 else 0, hv σ f) := fun y => x0_inR (hv σ f) y 48 57 48 57 (by decide) (by decide)
  unfold F_X5_kindAt kd
  by_cases z1 : 97 ≤ S.2 20 i ∧ S.2 20 i ≤ 122
  · have z1' := eq_true (q1.mpr z1)
    rw [if_pos z1]
    simp (decide := true) (disch := omega) only [gd_hv s.t211, s.R211_5, s.R12, s.A210, b1_some, b2_some, e, i1, i2, z1', if_true, if10, if00]
    rfl
  · have z1' := eq_false (fun z => z1 (q1.mp z))
    rw [if_neg z1]
    by_cases z2 : 48 ≤ S.2 20 i ∧ S.2 20 i ≤ 57
    · have z2' := eq_true (q2.mpr z2)
      rw [if_pos z2]
      simp (decide := true) (disch := omega) only [gd_hv s.t211, s.R211_5, s.R12, s.A210, b1_some, b2_some, e, i1, i2, z1', z2', if_true, if_false, if10, if00]
      rfl
    · have z2' := eq_false (fun z => z2 (q2.mp z))
      rw [if_neg z2]
      simp (decide := true) (disch := omega) only [gd_hv s.t211, s.R211_5, s.R12, s.A210, b1_some, b2_some, e, i1, i2, z1', z2', if_true, if_false, if10, if00]
      rfl
/-! what the reader leaves alone -/
def FrR (N : Nat) (τ τ' : Hp) : Prop := hZ τ ≤ hZ τ' ∧ (∀ a, a < hZ τ → a ≠ N + 211 → SameAt τ τ' a) ∧ hT τ' (N + 211) = hT τ (N + 211) ∧ (∀ k, hR τ' (N + 211) k = hR τ (N + 211) k) ∧ (∀ k, hL τ' (N + 211) k = hL τ (N + 211) k) ∧ ∀ k, k ≠ 2 → k ≠ 3 → k ≠ 4 → hI τ' (N + 211) k = hI τ (N + 211) k
theorem FrR.rf {N : Nat} {τ : Hp} : FrR N τ τ := ⟨Nat.le_refl _, fun _ _ _ => SameAt.rf, rfl, fun _ => rfl, fun _ => rfl, fun _ _ _ _ => rfl⟩
theorem FrR.tr {N : Nat} {τ τ1 τ2 : Hp} (h : FrR N τ τ1) (h' : FrR N τ1 τ2) : FrR N τ τ2 := ⟨Nat.le_trans h.1 h'.1, fun a ha hn => (h.2.1 a ha hn).tr (h'.2.1 a (Nat.lt_of_lt_of_le ha h.1) hn), h'.2.2.1.trans h.2.2.1, fun k => (h'.2.2.2.1 k).trans (h.2.2.2.1 k), fun k => (h'.2.2.2.2.1 k).trans (h.2.2.2.2.1 k), fun k h1 h2 h3 => (h'.2.2.2.2.2 k h1 h2 h3).trans (h.2.2.2.2.2 k h1 h2 h3)⟩
theorem FrR.hv {N : Nat} {τ : Hp} {f : Nat → Nat → Int32} (h : ∀ a k, ¬ (a = N + 211 ∧ (k = 2 ∨ k = 3 ∨ k = 4)) → f a k = hI τ a k) : FrR N τ (hv τ f) := ⟨Nat.le_refl _, fun a _ hn => ⟨rfl, fun k => h a k (fun q => hn q.1), fun _ => rfl, fun _ => rfl⟩, rfl, fun _ => rfl, fun _ => rfl, fun k h1 h2 h3 => h _ k (by omega)⟩
theorem FrR.bn {N : Nat} {τ : Hp} (kd : Kd) (h : N + 211 < hZ τ) : FrR N τ (born τ kd) := ⟨by show hZ τ ≤ hZ τ + 1; omega, fun a ha _ => ⟨if_neg (by omega), fun _ => if_neg (by omega), fun _ => if_neg (by omega), fun _ => if_neg (by omega)⟩, if_neg (by omega), fun _ => if_neg (by omega), fun _ => if_neg (by omega), fun k _ _ _ => if_neg (by omega)⟩
/-- a write into a cell that is new -/
theorem FrR.new {N : Nat} {τ τ1 : Hp} (h : FrR N τ τ1) {Z k : Nat} {v : Int32} (hz : hZ τ ≤ Z) (hN : N + 211 < hZ τ) : FrR N τ (setI τ1 Z k v) := ⟨h.1, fun a ha hn => (h.2.1 a ha hn).tr (SameAt.si (by omega)), h.2.2.1, h.2.2.2.1, h.2.2.2.2.1, fun j h1 h2 h3 => (hI_ne _ _ (by omega)).trans (h.2.2.2.2.2 j h1 h2 h3)⟩
theorem FrR.x {N : Nat} {τ τ' : Hp} (h : FrR N τ τ') (hN : N + 211 < hZ τ) : FrX N τ τ' := ⟨fun a ha => h.2.1 a (by omega) (by omega), h.1⟩
theorem RepX.frr {N : Nat} {τ τ' : Hp} {S : St} (h : RepX N τ S) (hf : FrR N τ τ') : RepX N τ' S := by
  have h0 : RepX N (hv τ τ.2.1) S := h
  have hz : N + 271 ≤ hZ τ := h.2.1
  have h1 : RepX N (hv τ (fun a k => if a = N + 211 then hI τ' a k else hI τ a k)) S := h0.sx (fun a k ha => if_neg (ha 211 (by omega)))
  refine h1.mono (fun a ha => ?_) hf.1
  have ha' : a < hZ τ := ha
  by_cases q : a = N + 211
  · rw [q]
    refine ⟨hf.2.2.1, fun k => ?_, hf.2.2.2.1, hf.2.2.2.2.1⟩
    show hI τ' (N + 211) k = if N + 211 = N + 211 then hI τ' (N + 211) k else hI τ (N + 211) k
    rw [if_pos rfl]
  · have s := hf.2.1 a ha' q
    refine ⟨s.1, fun k => ?_, s.2.2.1, s.2.2.2⟩
    show hI τ' a k = if a = N + 211 then hI τ' a k else hI τ a k
    rw [if_neg q]
    exact s.2.1 k
def PosX (N : Nat) (τ : Hp) (S : St) (p : Nat) : Prop := hI τ (N + 211) 2 = nI (isE S p) ∧ hI τ (N + 211) 3 = nI (isA S p) ∧ hI τ (N + 211) 4 = nI (isE S p)
theorem x_token {N : Nat} {τ : Hp} {S : St} (g : Good S) (h0 : RepX N τ S) {p : Nat} (hp : p ≤ S.1 19) (h2 : hI τ (N + 211) 2 = nI p) : ∃ τ', F_X5_token τ (N + 211) = some τ' ∧ FrR N τ τ' ∧ PosX N τ' S p := by
  have lg := g.lg
  obtain ⟨a1, a2, a3, a4⟩ := isA_ok g hp
  obtain ⟨e1', e2, e3, e4, e5, e6⟩ := isE_ok g hp
  have h : RepX N (hv τ τ.2.1) S := h0
  have s : SX N τ := h0.1
  have h2' : τ.2.1 (N + 211) 2 = nI p := h2
  show ∃ τ', F_X5_token (hv τ τ.2.1) (N + 211) = some τ' ∧ _ ∧ _
  obtain ⟨f, hf⟩ : ∃ f, f = τ.2.1 := ⟨_, rfl⟩
  rw [← hf] at h h2' ⊢
  have rx : ∀ G : Nat → Nat → Int32, (∀ a k, a ≠ N + 211 → G a k = f a k) → RepX N (hv τ G) S := fun G hG => h.sx (fun a k ha => hG a k (ha 211 (by omega)))
  obtain ⟨m, hm⟩ := it_FU (body := fun rec st => B_X5_token_0 (N + 211) rec st) (fun i => hv τ (u2 f (N + 211) 2 (nI i))) p (isA S p) a1 (by omega) (fun i h1 h2 rec => by
    have r := rx (u2 f (N + 211) 2 (nI i)) (fun a k ha => u2_n (by omega))
    have b := r.a20 (i := i) (by omega)
    rw [a3 i h1 h2, by_lo 32 (by omega)] at b
    have l := r.s19
    have e : u2 f (N + 211) 2 (nI (i + 1)) = u2 (u2 f (N + 211) 2 (nI i)) (N + 211) 2 (nI (i + 1)) := u2_u2.symm
    show B_X5_token_0 (N + 211) rec (hv τ (u2 f (N + 211) 2 (nI i))) = rec (hv τ (u2 f (N + 211) 2 (nI (i + 1))))
    rw [e]
    have e2 : u2 f (N + 211) 2 (nI i) (N + 211) 2 = nI i := u2_e
    generalize u2 f (N + 211) 2 (nI i) = G at b l e2
    simp (decide := true) (disch := omega) only [B_X5_token_0, gI_hv s.t211, pI_hv s.t211, s.R211_5, gI_hv s.t0, s.R12, s.A210, b1_some, b2_some, litI, neg1, nI_add, nI_mul, e1_p1, nI_e0, ib, ib1, ite_not, if_true, if_false, not_true_eq_false, not_false_eq_true, setI_hv, le_lit, e2, l, b, show ¬ S.1 19 ≤ i by omega])
  have z0 : u2 f (N + 211) 2 (nI p) = f := u2_id h2'
  rw [z0] at hm
  have L0 : F_X5_token (hv τ f) (N + 211) = F_X5_token_44 (hv τ (u2 f (N + 211) 2 (nI (isA S p)))) (N + 211) := by
    unfold F_X5_token L_X5_token_0
    rw [gd_hv s.t211]
    refine hm.trans ?_
    have r := rx (u2 f (N + 211) 2 (nI (isA S p))) (fun a k ha => u2_n (by omega))
    have l := r.s19
    have e2 : u2 f (N + 211) 2 (nI (isA S p)) (N + 211) 2 = nI (isA S p) := u2_e
    by_cases q : S.1 19 ≤ isA S p
    · generalize u2 f (N + 211) 2 (nI (isA S p)) = G at r l e2
      simp (decide := true) (disch := omega) only [B_X5_token_0, gI_hv s.t211, s.R211_5, gI_hv s.t0, b1_some, b2_some, litI, neg1, nI_add, nI_mul, e1_p1, nI_e0, ib, ib1, ite_not, if_true, if_false, not_true_eq_false, not_false_eq_true, setI_hv, le_lit, e2, l, q]
    · have b := r.a20 (i := isA S p) (by omega)
      have n32 : ¬ (nI (S.2 20 (isA S p))).toInt8.toInt32 = nI 32 := fun z => a4 (by omega) ((by_ch 32 (by omega) _ (g.tx (by omega))).mp z)
      generalize u2 f (N + 211) 2 (nI (isA S p)) = G at r l e2 b
      simp (decide := true) (disch := omega) only [B_X5_token_0, gI_hv s.t211, s.R211_5, gI_hv s.t0, s.R12, s.A210, b1_some, b2_some, litI, neg1, nI_add, nI_mul, e1_p1, nI_e0, ib, ib1, ite_not, if_true, if_false, not_true_eq_false, not_false_eq_true, setI_hv, le_lit, e2, l, b, q, n32]
  obtain ⟨G, hG⟩ : ∃ G, G = u2 (u2 f (N + 211) 2 (nI (isA S p))) (N + 211) 3 (nI (isA S p)) := ⟨_, rfl⟩
  have Goff : ∀ a k, a ≠ N + 211 → G a k = f a k := fun a k ha => by rw [hG, u2_n (by omega), u2_n (by omega)]
  have Goff2 : ∀ a k, ¬ (a = N + 211 ∧ (k = 2 ∨ k = 3 ∨ k = 4)) → G a k = f a k := fun a k ha => by rw [hG, u2_n (by omega), u2_n (by omega)]
  have G3 : G (N + 211) 3 = nI (isA S p) := by rw [hG, u2_e]
  have st : ∀ i0, (isA S p < S.1 19 → i0 = isA S p + 1) → (isA S p = S.1 19 → i0 = S.1 19) → L_X5_token_80 (N + 211) FU (hv τ (u2 G (N + 211) 2 (nI i0))) = some (hv τ (u2 (u2 G (N + 211) 2 (nI (isE S p))) (N + 211) 4 (nI (isE S p)))) := fun i0 c1 c2 => by
    have i0e : isA S p ≤ i0 ∧ i0 ≤ isE S p := by
      by_cases q : isA S p < S.1 19
      · have := c1 q; have := e3 q; omega
      · have := c2 (by omega); have := e4 (by omega); omega
    obtain ⟨m2, hm2⟩ := it_FU (body := fun rec st => B_X5_token_80 (N + 211) rec st) (fun i => hv τ (u2 G (N + 211) 2 (nI i))) i0 (isE S p) i0e.2 (by omega) (fun i h1 h2 rec => by
      have qA : isA S p < S.1 19 := by
        by_cases q : isA S p < S.1 19
        · exact q
        · have := c2 (by omega); have := e4 (by omega); omega
      have i0' := c1 qA
      have r := rx (u2 G (N + 211) 2 (nI i)) (fun a k ha => (u2_n (by omega)).trans (Goff a k ha))
      have l := r.s19
      have k0 : ¬ kd (S.2 20 (isA S p)) = 0 := fun z => by have := e5 qA z; omega
      have ki := (e6 qA k0).1 i (by omega) h2
      have kA := x_kind g r (i := isA S p) (by omega)
      have kI := x_kind g r (i := i) (by omega)
      rw [ki] at kI
      have kl := kd_le (S.2 20 (isA S p))
      have e : u2 G (N + 211) 2 (nI (i + 1)) = u2 (u2 G (N + 211) 2 (nI i)) (N + 211) 2 (nI (i + 1)) := u2_u2.symm
      show B_X5_token_80 (N + 211) rec (hv τ (u2 G (N + 211) 2 (nI i))) = rec (hv τ (u2 G (N + 211) 2 (nI (i + 1))))
      rw [e]
      have e2 : u2 G (N + 211) 2 (nI i) (N + 211) 2 = nI i := u2_e
      have e3 : u2 G (N + 211) 2 (nI i) (N + 211) 3 = nI (isA S p) := (u2_n (by omega)).trans G3
      generalize u2 G (N + 211) 2 (nI i) = G' at l e2 e3 kA kI
      simp (decide := true) (disch := omega) only [B_X5_token_80, gI_hv s.t211, pI_hv s.t211, s.R211_5, gI_hv s.t0, b1_some, b2_some, litI, neg1, nI_add, nI_mul, e1_p1, nI_e0, ib, ib1, ite_not, if_true, if_false, not_true_eq_false, not_false_eq_true, setI_hv, le_lit, e2, e3, l, kA, kI, show ¬ S.1 19 ≤ i by omega, show ¬ kd (S.2 20 (isA S p)) ≤ 0 by omega])
    refine hm2.trans ?_
    have r := rx (u2 G (N + 211) 2 (nI (isE S p))) (fun a k ha => (u2_n (by omega)).trans (Goff a k ha))
    have l := r.s19
    have e2 : u2 G (N + 211) 2 (nI (isE S p)) (N + 211) 2 = nI (isE S p) := u2_e
    have e3' : u2 G (N + 211) 2 (nI (isE S p)) (N + 211) 3 = nI (isA S p) := (u2_n (by omega)).trans G3
    by_cases q : S.1 19 ≤ isE S p
    · generalize u2 G (N + 211) 2 (nI (isE S p)) = G' at l e2
      simp (decide := true) (disch := omega) only [B_X5_token_80, F_X5_token_137, gI_hv s.t211, pI_hv s.t211, s.R211_5, gI_hv s.t0, b1_some, b2_some, litI, neg1, nI_add, nI_mul, e1_p1, nI_e0, ib, ib1, ite_not, if_true, if_false, not_true_eq_false, not_false_eq_true, setI_hv, le_lit, e2, l, q]
    · have kA := x_kind g r (i := isA S p) (by omega)
      have kE := x_kind g r (i := isE S p) (by omega)
      have kl := kd_le (S.2 20 (isA S p))
      have kl2 := kd_le (S.2 20 (isE S p))
      have qA : isA S p < S.1 19 := by omega
      by_cases k0 : kd (S.2 20 (isA S p)) = 0
      · generalize u2 G (N + 211) 2 (nI (isE S p)) = G' at l e2 e3' kA kE
        rw [k0] at kA
        simp (decide := true) (disch := omega) only [B_X5_token_80, F_X5_token_137, gI_hv s.t211, pI_hv s.t211, s.R211_5, gI_hv s.t0, b1_some, b2_some, litI, neg1, nI_add, nI_mul, e1_p1, nI_e0, ib, ib1, ite_not, if_true, if_false, not_true_eq_false, not_false_eq_true, setI_hv, le_lit, e2, e3', l, kA, q, Nat.le_refl]
      · have kn := (e6 qA k0).2 (by omega)
        generalize u2 G (N + 211) 2 (nI (isE S p)) = G' at l e2 e3' kA kE
        simp (decide := true) (disch := omega) only [B_X5_token_80, F_X5_token_137, gI_hv s.t211, pI_hv s.t211, s.R211_5, gI_hv s.t0, b1_some, b2_some, litI, neg1, nI_add, nI_mul, e1_p1, nI_e0, ib, ib1, ite_not, if_true, if_false, not_true_eq_false, not_false_eq_true, setI_hv, le_lit, eq_lit, e2, e3', l, kA, kE, q, kn, show ¬ kd (S.2 20 (isA S p)) ≤ 0 by omega]
  refine ⟨hv τ (u2 (u2 G (N + 211) 2 (nI (isE S p))) (N + 211) 4 (nI (isE S p))), ?_, FrR.hv (fun a k ha => ?_), ?_, ?_, ?_⟩
  · rw [L0]
    have rA := rx (u2 f (N + 211) 2 (nI (isA S p))) (fun a k ha => u2_n (by omega))
    have lG : G N 13 = nI (S.1 19) := (Goff _ _ (by omega)).trans h.s19
    have G2 : G (N + 211) 2 = nI (isA S p) := by rw [hG, u2_n (by omega), u2_e]
    have e2 : u2 f (N + 211) 2 (nI (isA S p)) (N + 211) 2 = nI (isA S p) := u2_e
    unfold F_X5_token_44
    rw [gI_hv s.t211, b1_some, e2, pI_hv s.t211, b1_some, ← hG]
    by_cases q : S.1 19 ≤ isA S p
    · have sL := st (isA S p) (fun z => by omega) (fun z => z)
      simp (decide := true) (disch := omega) only [gI_hv s.t211, pI_hv s.t211, s.R211_5, gI_hv s.t0, b1_some, b2_some, litI, neg1, nI_add, nI_mul, e1_p1, nI_e0, ib, ib1, ite_not, if_true, if_false, not_true_eq_false, not_false_eq_true, setI_hv, le_lit, G2, lG, q, Nat.add_zero, sL]
    · have sL := st (isA S p + 1) (fun z => rfl) (fun z => by omega)
      simp (decide := true) (disch := omega) only [gI_hv s.t211, pI_hv s.t211, s.R211_5, gI_hv s.t0, b1_some, b2_some, litI, neg1, nI_add, nI_mul, e1_p1, nI_e0, ib, ib1, ite_not, if_true, if_false, not_true_eq_false, not_false_eq_true, setI_hv, le_lit, G2, lG, q, sL]
  · rw [u2_n (by omega), u2_n (by omega), Goff2 a k ha, hf]
    rfl
  · show u2 (u2 G (N + 211) 2 (nI (isE S p))) (N + 211) 4 (nI (isE S p)) (N + 211) 2 = _
    rw [u2_n (by omega), u2_e]
  · show u2 (u2 G (N + 211) 2 (nI (isE S p))) (N + 211) 4 (nI (isE S p)) (N + 211) 3 = _
    rw [u2_n (by omega), u2_n (by omega), G3]
  · show u2 (u2 G (N + 211) 2 (nI (isE S p))) (N + 211) 4 (nI (isE S p)) (N + 211) 4 = _
    rw [u2_e]
/-! words -/
theorem ln_at {τ : Hp} : ∀ w, w < 6 → F_J2_length τ w = some (nI (wln w), τ) := by
  have e : ∀ w, w < 6 → w < 7 ∧ Int32.ofNat (slen.getD w 0) >>> ((0 : Int32) &&& 31) = nI (wln w) := by decide
  intro w hw
  have q := e w hw
  unfold F_J2_length sLn F_J2_coder sK
  simp only [if_pos q.1, if10, b2_some, q.2]
theorem ch_at {τ : Hp} : ∀ w, w < 6 → ∀ i, i < wln w → F_J2_charAt τ w (nI i) = some (nI (wch w i), τ) := by
  have e : ∀ w, w < 6 → w < 7 ∧ ∀ i, i < wln w → ¬ nI i < 0 ∧ nI i < Int32.ofNat (slen.getD w 0) ∧ ¬ (nI i < 0 ∨ slen.getD w 0 ≤ (nI i).toNatClampNeg) ∧ ((((sbyt.getD w []).getD (nI i).toNatClampNeg 0) &&& 255 : Int32).toUInt32 % 65536).toInt32 = nI (wch w i) ∧ ((nI (wch w i)).toUInt32 % 65536).toInt32 = nI (wch w i) := by decide
  intro w hw i hi
  obtain ⟨q0, q⟩ := e w hw
  obtain ⟨q1, q2, q3, q4, q5⟩ := q i hi
  unfold F_J2_charAt F_J2_isLatin1 F_J3_charAt sLn sB sK F_J2_checkIndex F_J4_checkIndex cr
  simp only [if_pos q0, if10, if00, if_true, b2_some, b1_some, if_neg q1, if_pos q2, if_neg q3, q4, if_pos q5]
theorem wch_b : ∀ w, w < 6 → ∀ i, i < wln w → wch w i < 128 := by decide
theorem wln_b : ∀ w, w < 6 → wln w ≤ 5 := by decide
theorem x_word {N : Nat} {τ : Hp} {S : St} (g : Good S) (h0 : RepX N τ S) {p w : Nat} (hp : p ≤ S.1 19) (ps : PosX N τ S p) (hw : w < 6) : F_X5_isWord τ (N + 211) w = some (if wd S p w then nI 1 else nI 0, τ) := by
  have lg := g.lg
  obtain ⟨a1, a2, a3, a4⟩ := isA_ok g hp
  obtain ⟨e1', e2, e3, e4, e5, e6⟩ := isE_ok g hp
  have h : RepX N (hv τ τ.2.1) S := h0
  have s : SX N τ := h0.1
  have wb := wln_b w hw
  obtain ⟨p1, p2, p3⟩ := ps
  show F_X5_isWord (hv τ τ.2.1) (N + 211) w = some (_, hv τ τ.2.1)
  have p2' : τ.2.1 (N + 211) 3 = nI (isA S p) := p2
  have p3' : τ.2.1 (N + 211) 4 = nI (isE S p) := p3
  generalize τ.2.1 = f at h p2' p3'
  have ln := ln_at (τ := hv τ f) w hw
  unfold F_X5_isWord
  rw [gd_hv s.t211, gI_hv s.t211, b1_some, gI_hv s.t211, b1_some, ln, b2_some, p2', p3', nI_sub e1']
  by_cases q : isE S p - isA S p = wln w
  · rw [if_pos (by rw [q])]
    obtain ⟨i0, hi0, g2, g3⟩ := first (P := fun i => ¬ S.2 20 (isA S p + i) = wch w i) (wln w)
    unfold L_X5_isWord_24
    obtain ⟨m, hm⟩ := it_FU (body := fun rec st => B_X5_isWord_24 (N + 211) w rec st.1 st.2.1 st.2.2) (fun i => (hv τ f, nI (if i ≤ i0 then 1 else 0), nI i)) 0 (if i0 = wln w then wln w else i0 + 1) (by omega) (by split <;> omega) (fun i _ hi rec => by
      have ii : i ≤ i0 ∧ i < wln w := by
        by_cases e : i0 = wln w
        · rw [if_pos e] at hi; omega
        · rw [if_neg e] at hi; omega
      have b := h.a20 (i := isA S p + i) (by omega)
      have tb := g.tx (i := isA S p + i) (by omega)
      have cw := wch_b w hw i ii.2
      have ch := ch_at (τ := hv τ f) w hw i ii.2
      have bc := by_ch (wch w i) cw _ tb
      show B_X5_isWord_24 (N + 211) w rec (hv τ f) (nI (if i ≤ i0 then 1 else 0)) (nI i) = rec (hv τ f, nI (if i + 1 ≤ i0 then 1 else 0), nI (i + 1))
      rw [if_pos ii.1]
      by_cases z : i = i0
      · have n : ¬ S.2 20 (isA S p + i) = wch w i := by rw [z]; exact g3.resolve_left (by omega)
        have n' : ¬ (nI (S.2 20 (isA S p + i))).toInt8.toInt32 = nI (wch w i) := fun y => n (bc.mp y)
        rw [if_neg (by omega)]
        simp (decide := true) (disch := omega) only [B_X5_isWord_24, ln, ch, gI_hv s.t211, s.R211_5, s.R12, s.A210, b1_some, b2_some, litI, neg1, nI_add, nI_mul, e1_p1, nI_e0, ib, ib1, ite_not, if_true, if_false, not_true_eq_false, not_false_eq_true, setI_hv, le_lit, show ¬ wln w ≤ i by omega, p2', b, n']
      · have n : S.2 20 (isA S p + i) = wch w i := Classical.not_not.mp (g2 i (by omega))
        have n' : (nI (S.2 20 (isA S p + i))).toInt8.toInt32 = nI (wch w i) := bc.mpr n
        rw [if_pos (by omega)]
        simp (decide := true) (disch := omega) only [B_X5_isWord_24, ln, ch, gI_hv s.t211, s.R211_5, s.R12, s.A210, b1_some, b2_some, litI, neg1, nI_add, nI_mul, e1_p1, nI_e0, ib, ib1, ite_not, if_true, if_false, not_true_eq_false, not_false_eq_true, setI_hv, le_lit, show ¬ wln w ≤ i by omega, p2', b, n'])
    have z1 : (if 0 ≤ i0 then 1 else 0) = 1 := if_pos (by omega)
    rw [z1] at hm
    refine Eq.trans hm ?_
    by_cases e : i0 = wln w
    · have yes : wd S p w := ⟨q, fun i hi => Classical.not_not.mp (g2 i (by omega))⟩
      rw [if_pos yes, if_pos e]
      show B_X5_isWord_24 (N + 211) w m (hv τ f) (nI (if wln w ≤ i0 then 1 else 0)) (nI (wln w)) = _
      rw [if_pos (by omega)]
      simp (decide := true) (disch := omega) only [B_X5_isWord_24, ln, b1_some, b2_some, litI, neg1, nI_add, nI_mul, e1_p1, nI_e0, ib, ib1, ite_not, if_true, if_false, not_true_eq_false, not_false_eq_true, setI_hv, le_lit, Nat.le_refl, zr_1']
    · have no : ¬ wd S p w := fun z => (g3.resolve_left e) (z.2 i0 (by omega))
      rw [if_neg no, if_neg e]
      show B_X5_isWord_24 (N + 211) w m (hv τ f) (nI (if i0 + 1 ≤ i0 then 1 else 0)) (nI (i0 + 1)) = _
      rw [if_neg (by omega)]
      simp (decide := true) (disch := omega) only [B_X5_isWord_24, b1_some, b2_some, litI, neg1, nI_add, nI_mul, e1_p1, nI_e0, ib, ib1, ite_not, if_true, if_false, not_true_eq_false, not_false_eq_true, setI_hv, zr_0']
  · rw [if_neg (by rw [eq_lit (by omega) (by omega)]; exact q), if_neg (fun z : wd S p w => q z.1)]
    unfold L_X5_isWord_24
    obtain ⟨m, hm⟩ := it_FU (body := fun rec st => B_X5_isWord_24 (N + 211) w rec st.1 st.2.1 st.2.2) (fun i => (hv τ f, nI 0, nI 0)) 0 0 (by omega) (by omega) (fun i _ hi rec => by omega)
    refine Eq.trans hm ?_
    simp (decide := true) (disch := omega) only [B_X5_isWord_24, b1_some, b2_some, litI, neg1, nI_add, nI_mul, e1_p1, nI_e0, ib, ib1, ite_not, if_true, if_false, not_true_eq_false, not_false_eq_true, setI_hv, zr_0']
theorem x_skips {N : Nat} {τ : Hp} {S : St} (g : Good S) (h0 : RepX N τ S) {p w : Nat} (hp : p ≤ S.1 19) (ps : PosX N τ S p) (hw : w < 6) : (wd S p w ∧ ∃ τ', F_X5_skips τ (N + 211) w = some (nI 1, τ') ∧ FrR N τ τ' ∧ PosX N τ' S (isE S p)) ∨ (¬ wd S p w ∧ F_X5_skips τ (N + 211) w = some (nI 0, τ)) := by
  have s : SX N τ := h0.1
  have x := x_word g h0 hp ps hw
  obtain ⟨e1', e2, -⟩ := isE_ok g hp
  unfold F_X5_skips
  rw [gd_at s.t211, x, b2_some]
  by_cases q : wd S p w
  · left
    rw [if_pos q, if_neg (by decide)]
    obtain ⟨τ', t1, t2, t3⟩ := x_token g h0 e2 ps.1
    refine ⟨q, τ', ?_, t2, t3⟩
    rw [t1, b1_some, zr_1']
  · right
    rw [if_neg q, if_pos (by decide), zr_0']
    exact ⟨q, rfl⟩
/-! faults -/
def Flt (τ : Hp) (a q : Nat) : Prop := hT τ a = some (.inl 11) ∧ hI τ a 6 = nI q
theorem x_need0 {N : Nat} {τ : Hp} {S : St} (h0 : RepX N τ S) {p : Nat} (ps : PosX N τ S p) : ∃ τ' a, F_X5_need τ (N + 211) 0 = some (.inr a, τ') ∧ FrR N τ τ' ∧ Flt τ' a (isA S p) := by
  have s : SX N τ := h0.1
  have hz : N + 271 ≤ hZ τ := h0.2.1
  have b := FrR.bn (N := N) (τ := τ) (.inl 11) (by omega)
  have t1 : hT (born τ (.inl 11)) (hZ τ) = some (.inl 11) := if_pos rfl
  have t2 : hT (born τ (.inl 11)) (N + 211) = some (.inl 5) := b.2.2.1.trans s.t211
  have e3 : hI (born τ (.inl 11)) (N + 211) 3 = nI (isA S p) := (if_neg (by omega)).trans ps.2.1
  refine ⟨setI (born τ (.inl 11)) (hZ τ) 6 (nI (isA S p)), hZ τ, ?_, b.new (Nat.le_refl _) (by omega), t1, hI_same _ _ _ _⟩
  unfold F_X5_need F_X11_init F_J7_init_11 F_J6_init_2_11
  rw [gd_at s.t211, if_pos rfl, gI_at t2, b1_some, e3]
  simp only [gd_at t1, if00, if_true, b1_some, pI_at t1]
  rw [gd_at (show hT (setI (born τ (.inl 11)) (hZ τ) 6 (nI (isA S p))) (hZ τ) = some (.inl 11) from t1)]
theorem x_need1 {N : Nat} {τ : Hp} (s : SX N τ) : F_X5_need τ (N + 211) 1 = some (.inl (), τ) := by
  unfold F_X5_need
  rw [gd_at s.t211, if_neg (by decide)]
