set_option maxRecDepth 100000
/-! pure law 3: the abstract state, and how the two objects hold it.
S.1 k: the twin's scalar field k (0 day, 1 doors, 6 tell, 7 gain, 19 bytes, 29 lines); S.2 k i: the twin's array field k at i (9 top, 11 ghost, 13 putOn, 14 walkedOn: 0 is none, n + 1 is n) -/
abbrev St : Type := (Nat → Nat) × (Nat → Nat → Nat)
def w1 (S : St) (k v : Nat) : St := (fun j => if j = k then v else S.1 j, S.2)
def w2 (S : St) (k i v : Nat) : St := (S.1, u2 S.2 k i v)
theorem w1_1 (S : St) (k v j : Nat) : (w1 S k v).1 j = if j = k then v else S.1 j := rfl
theorem w1_2 (S : St) (k v : Nat) : (w1 S k v).2 = S.2 := rfl
theorem w2_1 (S : St) (k i v : Nat) : (w2 S k i v).1 = S.1 := rfl
theorem w2_2 (S : St) (k i v f j : Nat) : (w2 S k i v).2 f j = if f = k ∧ j = i then v else S.2 f j := rfl
def enc (k n : Nat) : Int32 := if k = 9 ∨ k = 11 ∨ k = 13 ∨ k = 14 then e1 n else nI n
theorem enc9 (n : Nat) : enc 9 n = e1 n := rfl
theorem enc11 (n : Nat) : enc 11 n = e1 n := rfl
theorem enc13 (n : Nat) : enc 13 n = e1 n := rfl
theorem enc14 (n : Nat) : enc 14 n = e1 n := rfl
def pTab : List (Nat × Nat × Nat) := [(2, 1, 14), (3, 2, 14), (5, 4, 24), (8, 5, 11), (9, 6, 48), (10, 7, 48), (11, 8, 48), (12, 9, 48), (13, 10, 48), (14, 11, 8), (20, 16, 160), (30, 18, 30), (35, 22, 4), (36, 23, 48), (37, 24, 48), (38, 25, 100), (28, 17, 30)]
def pSc : List Nat := [0, 1, 6, 7, 19, 29]
def RepM (M : Nat) (σ : Hp) (S : St) : Prop := SM M σ ∧ M + 26 ≤ hZ σ ∧ (∀ k ∈ pSc, hI σ M k = nI (S.1 k)) ∧ ∀ x ∈ pTab, ∀ i, i < x.2.2 → hI σ (M + x.2.1) i = enc x.1 (S.2 x.1 i)
theorem pTab_inj : ∀ x ∈ pTab, ∀ y ∈ pTab, x.2.1 = y.2.1 → x = y := by decide
theorem pTab_inj1 : ∀ x ∈ pTab, ∀ y ∈ pTab, x.1 = y.1 → x = y := by decide
theorem pTab_pos : ∀ x ∈ pTab, 0 < x.2.1 := by decide
theorem RepM.set {M : Nat} {σ : Hp} {S : St} (h : RepM M σ S) (x : Nat × Nat × Nat) (hx : x ∈ pTab) (i v : Nat) : RepM M (setI σ (M + x.2.1) i (enc x.1 v)) (w2 S x.1 i v) := by
  obtain ⟨h1, h2, h3, h4⟩ := h
  refine ⟨h1, h2, fun k hk => ?_, fun y hy j hj => ?_⟩
  · rw [hI_ne _ _ (fun q => by have := pTab_pos x hx; omega)]
    exact h3 k hk
  · rw [hI_setI, w2_2]
    by_cases e : M + y.2.1 = M + x.2.1 ∧ j = i
    · have : y = x := pTab_inj y hy x hx (by omega)
      subst this
      rw [if_pos e, if_pos ⟨rfl, e.2⟩]
    · rw [if_neg e, if_neg (fun q => e ⟨by rw [pTab_inj1 y hy x hx q.1], q.2⟩)]
      exact h4 y hy j hj
theorem RepM.setS {M : Nat} {σ : Hp} {S : St} (h : RepM M σ S) (k v : Nat) : RepM M (setI σ M k (nI v)) (w1 S k v) := by
  obtain ⟨h1, h2, h3, h4⟩ := h
  refine ⟨h1, h2, fun j hj => ?_, fun y hy j hj => ?_⟩
  · rw [hI_setI, w1_1]
    by_cases e : j = k
    · rw [if_pos ⟨rfl, e⟩, if_pos e]
    · rw [if_neg (fun q => e q.2), if_neg e]
      exact h3 j hj
  · rw [hI_ne _ _ (fun q => by have := pTab_pos y hy; omega), w1_2]
    exact h4 y hy j hj
/-- scratch: an array of the twin's that isn't followed -/
theorem RepM.scr {M : Nat} {σ : Hp} {S : St} (h : RepM M σ S) (o : Nat) (ho : 0 < o ∧ ∀ x ∈ pTab, x.2.1 ≠ o) (i : Nat) (v : Int32) : RepM M (setI σ (M + o) i v) S := by
  obtain ⟨h1, h2, h3, h4⟩ := h
  refine ⟨h1, h2, fun k hk => ?_, fun y hy j hj => ?_⟩
  · rw [hI_ne _ _ (fun q => by have := ho.1; omega)]
    exact h3 k hk
  · rw [hI_ne _ _ (fun q => ho.2 y hy (by omega))]
    exact h4 y hy j hj
theorem RepM.scrS {M : Nat} {σ : Hp} {S : St} (h : RepM M σ S) (k : Nat) (hk : k ∉ pSc) (v : Int32) : RepM M (setI σ M k v) S := by
  obtain ⟨h1, h2, h3, h4⟩ := h
  refine ⟨h1, h2, fun j hj => ?_, fun y hy j hj => ?_⟩
  · have e : ¬ (M = M ∧ j = k) := fun q => hk (q.2 ▸ hj)
    rw [hI_ne _ _ e]
    exact h3 j hj
  · rw [hI_ne _ _ (fun q => by have := pTab_pos y hy; omega)]
    exact h4 y hy j hj
theorem RepM.scrL {M : Nat} {σ : Hp} {S : St} (h : RepM M σ S) (a k : Nat) (v : Int64) : RepM M (setL σ a k v) S := h
/-! what is left alone -/
def SameAt (σ σ' : Hp) (a : Nat) : Prop := hT σ' a = hT σ a ∧ (∀ k, hI σ' a k = hI σ a k) ∧ (∀ k, hR σ' a k = hR σ a k) ∧ ∀ k, hL σ' a k = hL σ a k
theorem SameAt.rf {σ : Hp} {a : Nat} : SameAt σ σ a := ⟨rfl, fun _ => rfl, fun _ => rfl, fun _ => rfl⟩
theorem SameAt.tr {σ σ1 σ2 : Hp} {a : Nat} (h : SameAt σ σ1 a) (h' : SameAt σ1 σ2 a) : SameAt σ σ2 a := ⟨h'.1.trans h.1, fun k => (h'.2.1 k).trans (h.2.1 k), fun k => (h'.2.2.1 k).trans (h.2.2.1 k), fun k => (h'.2.2.2 k).trans (h.2.2.2 k)⟩
theorem SameAt.si {σ : Hp} {a b k : Nat} {v : Int32} (h : a ≠ b) : SameAt σ (setI σ b k v) a := ⟨rfl, fun j => hI_ne _ _ (fun q => h q.1), fun _ => rfl, fun _ => rfl⟩
theorem SameAt.sl {σ : Hp} {a b k : Nat} {v : Int64} (h : a ≠ b) : SameAt σ (setL σ b k v) a := ⟨rfl, fun _ => rfl, fun _ => rfl, fun j => if_neg (fun q => h q.1)⟩
theorem SameAt.sr {σ : Hp} {a b k : Nat} {v : Option Nat} (h : a ≠ b) : SameAt σ (setR σ b k v) a := ⟨rfl, fun _ => rfl, fun j => if_neg (fun q => h q.1), fun _ => rfl⟩
def FrM (M : Nat) (σ σ' : Hp) : Prop := (∀ a, a < M ∨ M + 26 ≤ a → SameAt σ σ' a) ∧ hZ σ' = hZ σ
theorem FrM.rf {M : Nat} {σ : Hp} : FrM M σ σ := ⟨fun _ _ => SameAt.rf, rfl⟩
theorem FrM.tr {M : Nat} {σ σ1 σ2 : Hp} (h : FrM M σ σ1) (h' : FrM M σ1 σ2) : FrM M σ σ2 := ⟨fun a ha => (h.1 a ha).tr (h'.1 a ha), h'.2.trans h.2⟩
theorem FrM.si {M : Nat} {σ σ1 : Hp} (h : FrM M σ σ1) {o k : Nat} {v : Int32} (ho : o < 26) : FrM M σ (setI σ1 (M + o) k v) := h.tr ⟨fun a ha => SameAt.si (by omega), rfl⟩
theorem FrM.s0 {M : Nat} {σ σ1 : Hp} (h : FrM M σ σ1) {k : Nat} {v : Int32} : FrM M σ (setI σ1 M k v) := h.tr ⟨fun a ha => SameAt.si (by omega), rfl⟩
theorem FrM.sl {M : Nat} {σ σ1 : Hp} (h : FrM M σ σ1) {k : Nat} {v : Int64} : FrM M σ (setL σ1 M k v) := h.tr ⟨fun a ha => SameAt.sl (by omega), rfl⟩
def FrX (N : Nat) (σ σ' : Hp) : Prop := (∀ a, a < N ∨ (N + 245 ≤ a ∧ a < hZ σ) → SameAt σ σ' a) ∧ hZ σ ≤ hZ σ'
theorem FrX.rf {N : Nat} {σ : Hp} : FrX N σ σ := ⟨fun _ _ => SameAt.rf, Nat.le_refl _⟩
theorem FrX.tr {N : Nat} {σ σ1 σ2 : Hp} (h : FrX N σ σ1) (h' : FrX N σ1 σ2) : FrX N σ σ2 := ⟨fun a ha => (h.1 a ha).tr (h'.1 a (by have := h.2; omega)), Nat.le_trans h.2 h'.2⟩
theorem FrX.si {N : Nat} {σ σ1 : Hp} (h : FrX N σ σ1) {o k : Nat} {v : Int32} (ho : o < 245) : FrX N σ (setI σ1 (N + o) k v) := h.tr ⟨fun a ha => SameAt.si (by omega), Nat.le_refl _⟩
theorem FrX.s0 {N : Nat} {σ σ1 : Hp} (h : FrX N σ σ1) {k : Nat} {v : Int32} : FrX N σ (setI σ1 N k v) := h.tr ⟨fun a ha => SameAt.si (by omega), Nat.le_refl _⟩
theorem RepM.fr {N : Nat} {σ σ' : Hp} {S : St} (h : RepM (N + 245) σ S) (hf : FrX N σ σ') : RepM (N + 245) σ' S := by
  obtain ⟨h1, h2, h3, h4⟩ := h
  have hs : ∀ o, o < 26 → SameAt σ σ' (N + 245 + o) := fun o ho => hf.1 _ (by omega)
  have hs0 : SameAt σ σ' (N + 245) := hf.1 _ (by omega)
  have hlt : ∀ x ∈ pTab, x.2.1 < 26 := by decide
  have hlm : ∀ x ∈ mTab, x.2.1 < 26 := by decide
  refine ⟨⟨?_, fun x hx => ⟨?_, ?_⟩⟩, by have := hf.2; omega, fun k hk => ?_, fun x hx i hi => ?_⟩
  · rw [hs0.1]; exact h1.1
  · rw [hs0.2.2.1]; exact (h1.2 x hx).1
  · rw [(hs _ (hlm x hx)).1]; exact (h1.2 x hx).2
  · rw [hs0.2.1]; exact h3 k hk
  · rw [(hs _ (hlt x hx)).2.1]; exact h4 x hx i hi
/-! the component -/
def jn (S : St) (a b : Nat) : Prop := ∃ k, k < S.1 1 ∧ ((S.2 2 k = a ∧ S.2 3 k = b) ∨ (S.2 2 k = b ∧ S.2 3 k = a))
/-- a line of the rules: sort, room, number -/
def LnAt (σ : Hp) (a s r n : Nat) : Prop := (s = 0 ∧ hT σ a = some (.inl 13) ∧ hI σ a 0 = nI r ∧ hI σ a 1 = nI n) ∨ (s = 1 ∧ hT σ a = some (.inl 14) ∧ hI σ a 0 = nI n) ∨ (s = 2 ∧ hT σ a = some (.inl 15) ∧ hI σ a 0 = nI n) ∨ (s = 3 ∧ hT σ a = some (.inl 16) ∧ hI σ a 0 = nI r ∧ hI σ a 1 = nI n)
def LinesAt (N : Nat) (σ : Hp) (L n : Nat) (f : Nat → Nat) : Prop := (L = N + 209 ∨ (N + 271 ≤ L ∧ L < hZ σ)) ∧ hT σ L = some (.inr (4, 10)) ∧ ∀ i, i < n → ∃ a, N + 271 ≤ a ∧ a < hZ σ ∧ hR σ L i = some a ∧ LnAt σ a (f (3 * i)) (f (3 * i + 1)) (f (3 * i + 2))
def xSc : List (Nat × Nat) := [(1, 1), (3, 6), (4, 7), (6, 0), (11, 29), (13, 19)]
def xAr : List (Nat × Nat × Nat) := [(10, 5, 24), (11, 8, 11), (208, 14, 8)]
def RA (N : Nat) (σ : Hp) (f : Nat → Nat) : Prop := ∀ x ∈ xSc, hI σ N x.1 = nI (f x.2)
def RB (N : Nat) (σ : Hp) (f : Nat → Nat → Nat) : Prop := ∀ x ∈ xAr, ∀ i, i < x.2.2 → hI σ (N + x.1) i = enc x.2.1 (f x.2.1 i)
def RC (N : Nat) (σ : Hp) (P : Nat → Nat → Prop) : Prop := ∀ a b, a < 8 → b < 8 → (P a b → hI σ (N + (2 + a)) b = 1) ∧ (¬ P a b → hI σ (N + (2 + a)) b = 0)
def RD (N : Nat) (σ : Hp) (f : Nat → Nat → Nat) : Prop := ∀ c, c < 48 → hI σ (N + (14 + 2 * c)) 0 = e1 (f 9 c) ∧ hI σ (N + (14 + 2 * c)) 1 = nI (f 10 c) ∧ hI σ (N + (14 + 2 * c)) 3 = e1 (f 13 c) ∧ hI σ (N + (15 + 2 * c)) 0 = e1 (f 11 c) ∧ hI σ (N + (15 + 2 * c)) 1 = nI (f 12 c)
def RE (N : Nat) (σ : Hp) (t : Nat → Nat) : Prop := ∀ i, i < 160 → hI σ (N + 210) i = (nI (t i)).toInt8.toInt32
def RF (N : Nat) (σ : Hp) (f : Nat → Nat → Nat) : Prop := ∀ p, p < 4 → hI σ (N + (233 + 3 * p)) 2 = nI (f 35 p) ∧ ∀ k, k < 12 → hI σ (N + (234 + 3 * p)) k = nI (f 36 (12 * p + k)) ∧ hI σ (N + (235 + 3 * p)) k = nI (f 37 (12 * p + k))
def RG (N : Nat) (σ : Hp) (t : Nat → Nat) : Prop := ∀ a b, a < 10 → b < 10 → hI σ (N + (214 + a)) b = nI (t (10 * a + b))
def RH (N : Nat) (σ : Hp) (n : Nat) (t : Nat → Nat) : Prop := ∃ L, hR σ N 10 = some L ∧ LinesAt N σ L n t
def RepX (N : Nat) (σ : Hp) (S : St) : Prop := SX N σ ∧ N + 271 ≤ hZ σ ∧ RA N σ S.1 ∧ RB N σ S.2 ∧ RC N σ (jn S) ∧ RD N σ S.2 ∧ RE N σ (S.2 20) ∧ RF N σ S.2 ∧ RG N σ (S.2 38) ∧ RH N σ (S.1 29) (S.2 30)
section RW
variable {N : Nat} {σ : Hp} {o i : Nat} {v : Int32}
theorem RA.ne {f : Nat → Nat} (h : RA N σ f) (ho : 0 < o) : RA N (setI σ (N + o) i v) f := fun x hx => by
  rw [hI_ne _ _ (by omega)]
  exact h x hx
theorem RA.ne0 {f : Nat → Nat} (h : RA N σ f) (hi : ∀ x ∈ xSc, x.1 ≠ i) : RA N (setI σ N i v) f := fun x hx => by
  rw [hI_ne _ _ (fun q => hi x hx q.2)]
  exact h x hx
theorem RA.set {f : Nat → Nat} (h : RA N σ f) (x : Nat × Nat) (hx : x ∈ xSc) (n : Nat) : RA N (setI σ N x.1 (nI n)) (fun j => if j = x.2 then n else f j) := fun y hy => by
  have inj1 : ∀ x ∈ xSc, ∀ y ∈ xSc, x.1 = y.1 → x = y := by decide
  have inj2 : ∀ x ∈ xSc, ∀ y ∈ xSc, x.2 = y.2 → x = y := by decide
  rw [hI_setI]
  by_cases e : y.1 = x.1
  · have := inj1 y hy x hx e
    subst this
    rw [if_pos ⟨rfl, rfl⟩]
    show nI n = nI (if y.2 = y.2 then n else f y.2)
    rw [if_pos rfl]
  · rw [if_neg (fun q => e q.2)]
    show _ = nI (if y.2 = x.2 then n else f y.2)
    rw [if_neg (fun q => e (by rw [inj2 y hy x hx q]))]
    exact h y hy
theorem RB.ne {f : Nat → Nat → Nat} (h : RB N σ f) (ho : ∀ x ∈ xAr, x.1 ≠ o) : RB N (setI σ (N + o) i v) f := fun x hx j hj => by
  rw [hI_ne _ _ (fun q => ho x hx (by omega))]
  exact h x hx j hj
theorem RB.ne0 {f : Nat → Nat → Nat} (h : RB N σ f) : RB N (setI σ N i v) f := h.ne (o := 0) (by decide)
theorem RB.set {f : Nat → Nat → Nat} (h : RB N σ f) (x : Nat × Nat × Nat) (hx : x ∈ xAr) (n : Nat) : RB N (setI σ (N + x.1) i (enc x.2.1 n)) (u2 f x.2.1 i n) := fun y hy j hj => by
  have inj1 : ∀ x ∈ xAr, ∀ y ∈ xAr, x.1 = y.1 → x = y := by decide
  have inj2 : ∀ x ∈ xAr, ∀ y ∈ xAr, x.2.1 = y.2.1 → x = y := by decide
  rw [hI_setI]
  show _ = enc y.2.1 (if y.2.1 = x.2.1 ∧ j = i then n else f y.2.1 j)
  by_cases e : y.1 = x.1 ∧ j = i
  · have := inj1 y hy x hx e.1
    subst this
    rw [if_pos ⟨rfl, e.2⟩, if_pos ⟨rfl, e.2⟩]
  · rw [if_neg (fun q => e ⟨by omega, q.2⟩), if_neg (fun q => e ⟨by rw [inj2 y hy x hx q.1], q.2⟩)]
    exact h y hy j hj
theorem RC.ne {P : Nat → Nat → Prop} (h : RC N σ P) (ho : o < 2 ∨ 10 ≤ o) : RC N (setI σ (N + o) i v) P := fun a b ha hb => by
  rw [hI_ne _ _ (by omega)]
  exact h a b ha hb
theorem RC.ne0 {P : Nat → Nat → Prop} (h : RC N σ P) : RC N (setI σ N i v) P := h.ne (o := 0) (by decide)
theorem RD.ne {f : Nat → Nat → Nat} (h : RD N σ f) (ho : o < 14 ∨ 110 ≤ o) : RD N (setI σ (N + o) i v) f := fun c hc => by
  rw [hI_ne _ _ (by omega), hI_ne _ _ (by omega), hI_ne _ _ (by omega), hI_ne _ _ (by omega), hI_ne _ _ (by omega)]
  exact h c hc
theorem RD.ne0 {f : Nat → Nat → Nat} (h : RD N σ f) : RD N (setI σ N i v) f := h.ne (o := 0) (by decide)
theorem RE.ne {t : Nat → Nat} (h : RE N σ t) (ho : o ≠ 210) : RE N (setI σ (N + o) i v) t := fun j hj => by
  rw [hI_ne _ _ (by omega)]
  exact h j hj
theorem RE.ne0 {t : Nat → Nat} (h : RE N σ t) : RE N (setI σ N i v) t := h.ne (o := 0) (by decide)
theorem RF.ne {f : Nat → Nat → Nat} (h : RF N σ f) (ho : o < 233 ∨ 245 ≤ o) : RF N (setI σ (N + o) i v) f := fun p hp => by
  rw [hI_ne _ _ (by omega)]
  refine ⟨(h p hp).1, fun k hk => ?_⟩
  rw [hI_ne _ _ (by omega), hI_ne _ _ (by omega)]
  exact (h p hp).2 k hk
theorem RF.ne0 {f : Nat → Nat → Nat} (h : RF N σ f) : RF N (setI σ N i v) f := h.ne (o := 0) (by decide)
theorem RG.ne {t : Nat → Nat} (h : RG N σ t) (ho : o < 214 ∨ 224 ≤ o) : RG N (setI σ (N + o) i v) t := fun a b ha hb => by
  rw [hI_ne _ _ (by omega)]
  exact h a b ha hb
theorem RG.ne0 {t : Nat → Nat} (h : RG N σ t) : RG N (setI σ N i v) t := h.ne (o := 0) (by decide)
theorem RH.ne {n : Nat} {t : Nat → Nat} (h : RH N σ n t) (ho : o < 245) : RH N (setI σ (N + o) i v) n t := by
  obtain ⟨L, h1, h2, h3, h4⟩ := h
  refine ⟨L, h1, h2, h3, fun j hj => ?_⟩
  obtain ⟨a, g1, g2, g3, g4⟩ := h4 j hj
  refine ⟨a, g1, g2, g3, ?_⟩
  unfold LnAt
  rw [hI_ne _ _ (by omega), hI_ne _ _ (by omega)]
  exact g4
theorem RH.ne0 {n : Nat} {t : Nat → Nat} (h : RH N σ n t) : RH N (setI σ N i v) n t := h.ne (o := 0) (by decide)
end RW
theorem w2_ne {S : St} {k i v q j : Nat} (h : q ≠ k) : (w2 S k i v).2 q j = S.2 q j := if_neg (fun e => h e.1)
theorem w2_nf {S : St} {k i v q : Nat} (h : q ≠ k) : (w2 S k i v).2 q = S.2 q := funext fun _ => w2_ne h
theorem w2_eq {S : St} {k i v : Nat} : (w2 S k i v).2 k i = v := if_pos ⟨rfl, rfl⟩
theorem w1_ne {S : St} {k v q : Nat} (h : q ≠ k) : (w1 S k v).1 q = S.1 q := if_neg h
theorem w1_eq {S : St} {k v : Nat} : (w1 S k v).1 k = v := if_pos rfl
theorem jn_w2 {S : St} {k i v : Nat} (h : k ≠ 2 ∧ k ≠ 3) : jn (w2 S k i v) = jn S := by
  funext a b
  unfold jn
  rw [w2_1, w2_nf (Ne.symm h.1), w2_nf (Ne.symm h.2)]
theorem jn_w1 {S : St} {k v : Nat} (h : k ≠ 1) : jn (w1 S k v) = jn S := by
  funext a b
  unfold jn
  rw [w1_ne (Ne.symm h), w1_2]
theorem RB.cg {N : Nat} {σ : Hp} {f f' : Nat → Nat → Nat} (h : RB N σ f) (e : ∀ x ∈ xAr, ∀ i, f' x.2.1 i = f x.2.1 i) : RB N σ f' := fun x hx i hi => by
  rw [e x hx i]
  exact h x hx i hi
theorem RD.cg {N : Nat} {σ : Hp} {f f' : Nat → Nat → Nat} (h : RD N σ f) (e : ∀ k, 9 ≤ k → k ≤ 13 → ∀ i, f' k i = f k i) : RD N σ f' := fun c hc => by
  rw [e 9 (by decide) (by decide), e 10 (by decide) (by decide), e 11 (by decide) (by decide), e 12 (by decide) (by decide), e 13 (by decide) (by decide)]
  exact h c hc
theorem RF.cg {N : Nat} {σ : Hp} {f f' : Nat → Nat → Nat} (h : RF N σ f) (e : ∀ k, 35 ≤ k → k ≤ 37 → ∀ i, f' k i = f k i) : RF N σ f' := fun p hp => by
  rw [e 35 (by decide) (by decide)]
  refine ⟨(h p hp).1, fun k hk => ?_⟩
  rw [e 36 (by decide) (by decide), e 37 (by decide) (by decide)]
  exact (h p hp).2 k hk
/-- a write into one of the component's plain arrays -/
theorem RepX.wAr {N : Nat} {σ : Hp} {S : St} (h : RepX N σ S) (x : Nat × Nat × Nat) (hx : x ∈ xAr) (i v : Nat) : RepX N (setI σ (N + x.1) i (enc x.2.1 v)) (w2 S x.2.1 i v) := by
  obtain ⟨h1, h2, hA, hB, hC, hD, hE, hF, hG, hH⟩ := h
  have hf : ∀ x ∈ xAr, 10 ≤ x.1 ∧ (x.1 < 14 ∨ 110 ≤ x.1) ∧ x.1 ≠ 210 ∧ x.1 < 214 ∧ (x.2.1 = 5 ∨ x.2.1 = 8 ∨ x.2.1 = 14) := by decide
  obtain ⟨g1, g2, g3, g4, g5⟩ := hf x hx
  refine ⟨h1, h2, hA.ne (by omega), hB.set x hx v, ?_, (hD.ne g2).cg (fun k _ _ i => w2_ne (by omega)), ?_, (hF.ne (by omega)).cg (fun k _ _ i => w2_ne (by omega)), ?_, ?_⟩
  · rw [jn_w2 (by omega)]; exact hC.ne (by omega)
  · rw [w2_nf (by omega)]; exact hE.ne g3
  · rw [w2_nf (by omega)]; exact hG.ne (by omega)
  · rw [w2_1, w2_nf (by omega)]; exact hH.ne (by omega)
/-- a write into a scalar field of the component: tell, gain, day, length -/
theorem RepX.wSc {N : Nat} {σ : Hp} {S : St} (h : RepX N σ S) (x : Nat × Nat) (hx : x ∈ xSc) (hn : x.2 ≠ 1 ∧ x.2 ≠ 29) (v : Nat) : RepX N (setI σ N x.1 (nI v)) (w1 S x.2 v) := by
  obtain ⟨h1, h2, hA, hB, hC, hD, hE, hF, hG, hH⟩ := h
  refine ⟨h1, h2, hA.set x hx v, hB.ne0, ?_, hD.ne0, hE.ne0, hF.ne0, hG.ne0, ?_⟩
  · rw [jn_w1 hn.1]; exact hC.ne0
  · rw [w1_ne (Ne.symm hn.2), w1_2]; exact hH.ne0
/-- scratch: a cell of the component's that isn't followed -/
theorem RepX.scr {N : Nat} {σ : Hp} {S : St} (h : RepX N σ S) (o : Nat) (ho : o = 12 ∨ (110 ≤ o ∧ o < 208) ∨ o = 209 ∨ (211 ≤ o ∧ o < 214) ∨ (224 ≤ o ∧ o < 233)) (i : Nat) (v : Int32) : RepX N (setI σ (N + o) i v) S := by
  obtain ⟨h1, h2, hA, hB, hC, hD, hE, hF, hG, hH⟩ := h
  have hf : ∀ x ∈ xAr, x.1 = 10 ∨ x.1 = 11 ∨ x.1 = 208 := by decide
  exact ⟨h1, h2, hA.ne (by omega), hB.ne (fun x hx => by have := hf x hx; omega), hC.ne (by omega), hD.ne (by omega), hE.ne (by omega), hF.ne (by omega), hG.ne (by omega), hH.ne (by omega)⟩
/-- the component doesn't see what the twin does -/
theorem RepX.fr {N : Nat} {σ σ' : Hp} {S : St} (h : RepX N σ S) (hf : FrM (N + 245) σ σ') : RepX N σ' S := by
  obtain ⟨h1, h2, hA, hB, hC, hD, hE, hF, hG, L, l1, l2, l3, l4⟩ := h
  have hs : ∀ o, o < 245 → SameAt σ σ' (N + o) := fun o ho => hf.1 _ (by omega)
  have hs0 : SameAt σ σ' N := hf.1 _ (by omega)
  have hi : ∀ o k, o < 245 → hI σ' (N + o) k = hI σ (N + o) k := fun o k ho => (hs o ho).2.1 k
  have hx1 : ∀ x ∈ xFix, x.1 < 245 := by decide
  have hx2 : ∀ x ∈ [(12, 1), (110, 1), (211, 5), (224, 5), (227, 5)], x.1 < 245 := by decide
  have hx3 : ∀ x ∈ xAr, x.1 < 245 := by decide
  have hsL : SameAt σ σ' L := by rcases l2 with q | q; exact q ▸ hs 209 (by decide); exact hf.1 _ (by omega)
  refine ⟨⟨fun o ho => by rw [(hs o ho).1]; exact h1.1 o ho, fun x hx => by rw [(hs _ (hx1 x hx)).2.2.1]; exact h1.2.1 x hx, fun x hx => by rw [(hs _ (hx2 x hx)).2.2.1]; exact h1.2.2.1 x hx, fun r hr => by rw [(hs 1 (by decide)).2.2.1]; exact h1.2.2.2.1 r hr, fun r hr => by rw [(hs 213 (by decide)).2.2.1]; exact h1.2.2.2.2.1 r hr,
      fun p hp => ⟨by rw [(hs 232 (by decide)).2.2.1]; exact (h1.2.2.2.2.2.1 p hp).1, by rw [(hs _ (by omega)).2.2.1]; exact (h1.2.2.2.2.2.1 p hp).2.1, by rw [(hs _ (by omega)).2.2.1]; exact (h1.2.2.2.2.2.1 p hp).2.2⟩,
      fun c hc => ⟨by rw [(hs 13 (by decide)).2.2.1]; exact (h1.2.2.2.2.2.2.1 c hc).1, by rw [(hs _ (by omega)).2.2.1]; exact (h1.2.2.2.2.2.2.1 c hc).2⟩, fun c hc => ⟨by rw [(hs 111 (by decide)).2.2.1]; exact (h1.2.2.2.2.2.2.2 c hc).1, by rw [(hs _ (by omega)).2.2.1]; exact (h1.2.2.2.2.2.2.2 c hc).2⟩⟩,
    by rw [hf.2]; exact h2, fun x hx => by rw [hs0.2.1]; exact hA x hx, fun x hx i hi' => by rw [hi _ _ (hx3 x hx)]; exact hB x hx i hi', fun a b ha hb => by rw [hi _ _ (by omega)]; exact hC a b ha hb, fun c hc => by rw [hi _ _ (by omega), hi _ _ (by omega), hi _ _ (by omega), hi _ _ (by omega), hi _ _ (by omega)]; exact hD c hc,
    fun i hi' => by rw [hi _ _ (by decide)]; exact hE i hi', fun p hp => by rw [hi _ _ (by omega)]; exact ⟨(hF p hp).1, fun k hk => by rw [hi _ _ (by omega), hi _ _ (by omega)]; exact (hF p hp).2 k hk⟩, fun a b ha hb => by rw [hi _ _ (by omega)]; exact hG a b ha hb,
    L, by rw [hs0.2.2.1]; exact l1, by rw [hf.2]; exact l2, by rw [hsL.1]; exact l3, fun i hi' => ?_⟩
  obtain ⟨a, g1, g2, g3, g4⟩ := l4 i hi'
  have hsa : SameAt σ σ' a := hf.1 _ (by omega)
  refine ⟨a, g1, by rw [hf.2]; exact g2, by rw [hsL.2.2.1]; exact g3, ?_⟩
  unfold LnAt
  rw [hsa.1, hsa.2.1, hsa.2.1]
  exact g4
/-! what holds of the state all through -/
def Good (S : St) : Prop := S.1 0 ≤ 400 ∧ S.1 1 ≤ 14 ∧ (1 ≤ S.1 6 ∧ S.1 6 ≤ 8) ∧ S.1 7 ≤ 100 ∧ S.1 19 ≤ 160 ∧ S.1 29 ≤ 10 ∧
  (∀ k, k < S.1 1 → S.2 2 k < 8 ∧ S.2 3 k < 8 ∧ S.2 2 k ≠ S.2 3 k) ∧ (∀ t, t < 24 → S.2 5 t < 256) ∧ (∀ k, k < 11 → S.2 8 k ≤ 30) ∧
  (∀ c, c < 48 → S.2 9 c ≤ 24 ∧ S.2 10 c ≤ 100 ∧ S.2 11 c ≤ 24 ∧ S.2 12 c ≤ 100 ∧ S.2 13 c ≤ S.1 0 + 1 ∧ (S.2 9 c = 0 → S.2 10 c = 0 ∧ S.2 11 c = 0) ∧ (S.2 11 c = 0 ↔ S.2 12 c = 0)) ∧
  (∀ c d, c < 48 → d < 48 → S.2 9 c = S.2 9 d → S.2 9 c ≠ 0 → c = d) ∧ (∀ r, r < 8 → S.2 14 r ≤ S.1 0 + 1) ∧ (∀ i, i < 160 → S.2 20 i < 256) ∧
  (∀ i, i < S.1 29 → (S.2 30 (3 * i) = 0 ∧ S.2 30 (3 * i + 1) < 8 ∧ S.2 30 (3 * i + 2) ≤ 8) ∨ (S.2 30 (3 * i) = 1 ∧ S.2 30 (3 * i + 1) = 0 ∧ 1 ≤ S.2 30 (3 * i + 2) ∧ S.2 30 (3 * i + 2) ≤ 99) ∨ (S.2 30 (3 * i) = 2 ∧ S.2 30 (3 * i + 1) = 0 ∧ S.2 30 (3 * i + 2) ≤ 8) ∨ (S.2 30 (3 * i) = 3 ∧ S.2 30 (3 * i + 1) < 8 ∧ 1 ≤ S.2 30 (3 * i + 2) ∧ S.2 30 (3 * i + 2) ≤ 99)) ∧
  (∀ p, p < 4 → S.2 35 p ≤ 12) ∧ (∀ k, k < 48 → S.2 36 k ≤ 60 ∧ S.2 37 k ≤ 1) ∧ (∀ k, k < 100 → S.2 38 k ≤ 9) ∧ ∀ a b, a < 10 → b < 10 → S.2 38 (10 * a + b) = S.2 38 (10 * b + a)
/-! an operation on the abstract state, and what it is to follow it -/
def OkM (M : Nat) (F : Hp → Option (Int32 × Hp)) (o : St → Int32 × St) : Prop := ∀ σ S, Good S → RepM M σ S → ∃ σ', F σ = some ((o S).1, σ') ∧ RepM M σ' (o S).2 ∧ FrM M σ σ'
def OkX (N : Nat) (F : Hp → Option (Int32 × Hp)) (o : St → Int32 × St) : Prop := ∀ σ S, Good S → RepX N σ S → ∃ σ', F σ = some ((o S).1, σ') ∧ RepX N σ' (o S).2 ∧ FrX N σ σ'
def OkG (o : St → Int32 × St) : Prop := ∀ S, Good S → Good (o S).2
theorem both {N : Nat} {FX FM : Hp → Option (Int32 × Hp)} {o : St → Int32 × St} (hX : OkX N FX o) (hM : OkM (N + 245) FM o) (hG : OkG o) {σ : Hp} {S : St} (g : Good S) (rx : RepX N σ S) (rm : RepM (N + 245) σ S) :
    ∃ r σ1 σ2 S', FX σ = some (r, σ1) ∧ FM σ1 = some (r, σ2) ∧ Good S' ∧ RepX N σ2 S' ∧ RepM (N + 245) σ2 S' := by
  obtain ⟨σ1, a1, a2, a3⟩ := hX σ S g rx
  obtain ⟨σ2, b1, b2, b3⟩ := hM σ1 S g (rm.fr a3)
  exact ⟨_, σ1, σ2, _, a1, b1, hG S g, a2.fr b3, b2⟩
