set_option maxRecDepth 100000
/-! pure law 36: cells that are made -/
theorem SX.mono {N : Nat} {σ σ' : Hp} (h1 : SX N σ) (hs : ∀ o, o < 245 → SameAt σ σ' (N + o)) : SX N σ' := by
  have hx1 : ∀ x ∈ xFix, x.1 < 245 := by decide
  have hx2 : ∀ x ∈ [(12, 1), (110, 1), (211, 5), (224, 5), (227, 5)], x.1 < 245 := by decide
  exact ⟨fun o ho => by rw [(hs o ho).1]; exact h1.1 o ho, fun x hx => by rw [(hs _ (hx1 x hx)).2.2.1]; exact h1.2.1 x hx, fun x hx => by rw [(hs _ (hx2 x hx)).2.2.1]; exact h1.2.2.1 x hx, fun r hr => by rw [(hs 1 (by decide)).2.2.1]; exact h1.2.2.2.1 r hr, fun r hr => by rw [(hs 213 (by decide)).2.2.1]; exact h1.2.2.2.2.1 r hr,
      fun p hp => ⟨by rw [(hs 232 (by decide)).2.2.1]; exact (h1.2.2.2.2.2.1 p hp).1, by rw [(hs _ (by omega)).2.2.1]; exact (h1.2.2.2.2.2.1 p hp).2.1, by rw [(hs _ (by omega)).2.2.1]; exact (h1.2.2.2.2.2.1 p hp).2.2⟩,
      fun c hc => ⟨by rw [(hs 13 (by decide)).2.2.1]; exact (h1.2.2.2.2.2.2.1 c hc).1, by rw [(hs _ (by omega)).2.2.1]; exact (h1.2.2.2.2.2.2.1 c hc).2⟩, fun c hc => ⟨by rw [(hs 111 (by decide)).2.2.1]; exact (h1.2.2.2.2.2.2.2 c hc).1, by rw [(hs _ (by omega)).2.2.1]; exact (h1.2.2.2.2.2.2.2 c hc).2⟩⟩
theorem RepX.mono {N : Nat} {σ σ' : Hp} {S : St} (h : RepX N σ S) (hs : ∀ a, a < hZ σ → SameAt σ σ' a) (hz : hZ σ ≤ hZ σ') : RepX N σ' S := by
  obtain ⟨h1, h2, hA, hB, hC, hD, hE, hF, hG, L, l1, l2, l3, l4⟩ := h
  have hi : ∀ o k, o < 245 → hI σ' (N + o) k = hI σ (N + o) k := fun o k ho => (hs (N + o) (by omega)).2.1 k
  have hs0 : SameAt σ σ' N := hs _ (by omega)
  have hx3 : ∀ x ∈ xAr, x.1 < 245 := by decide
  have hsL : SameAt σ σ' L := hs L (by rcases l2 with q | q <;> omega)
  refine ⟨h1.mono (fun o ho => hs _ (by omega)), by omega, fun x hx => by rw [hs0.2.1]; exact hA x hx, fun x hx i hi' => by rw [hi _ _ (hx3 x hx)]; exact hB x hx i hi', fun a b ha hb => by rw [hi _ _ (by omega)]; exact hC a b ha hb, fun c hc => by rw [hi _ _ (by omega), hi _ _ (by omega), hi _ _ (by omega), hi _ _ (by omega), hi _ _ (by omega)]; exact hD c hc,
    fun i hi' => by rw [hi _ _ (by decide)]; exact hE i hi', fun p hp => by rw [hi _ _ (by omega)]; exact ⟨(hF p hp).1, fun k hk => by rw [hi _ _ (by omega), hi _ _ (by omega)]; exact (hF p hp).2 k hk⟩, fun a b ha hb => by rw [hi _ _ (by omega)]; exact hG a b ha hb,
    L, by rw [hs0.2.2.1]; exact l1, by rcases l2 with q | q; exact Or.inl q; exact Or.inr ⟨q.1, by omega⟩, by rw [hsL.1]; exact l3, fun i hi' => ?_⟩
  obtain ⟨a, g1, g2, g3, g4⟩ := l4 i hi'
  have hsa : SameAt σ σ' a := hs _ g2
  refine ⟨a, g1, by omega, by rw [hsL.2.2.1]; exact g3, ?_⟩
  unfold LnAt
  rw [hsa.1, hsa.2.1, hsa.2.1]
  exact g4
theorem RepX.sz {N : Nat} {σ : Hp} {f f' : Nat → Nat → Int32} {S : St} (h : RepX N (hv σ f) S) (hf : ∀ a k, a < hZ σ → (∀ o, (110 ≤ o ∧ o < 208) ∨ o = 211 ∨ o = 212 ∨ (224 ≤ o ∧ o < 233) → a ≠ N + o) → f' a k = f a k) : RepX N (hv σ f') S := by
  have h' : RepX N (hv σ (fun a k => if a < hZ σ then f' a k else f a k)) S := h.sx (fun a k ha => by
    show (if a < hZ σ then f' a k else f a k) = f a k
    by_cases q : a < hZ σ
    · rw [if_pos q]
      exact hf a k q ha
    · rw [if_neg q])
  refine h'.mono (fun a ha => ⟨rfl, fun k => ?_, fun _ => rfl, fun _ => rfl⟩) (Nat.le_refl _)
  show f' a k = if a < hZ σ then f' a k else f a k
  exact (if_pos (show a < hZ σ from ha)).symm
/-- the ints after a cell is made -/
def bnI (σ : Hp) (f : Nat → Nat → Int32) : Nat → Nat → Int32 := fun b j => if b = hZ σ then 0 else f b j
theorem bn_e {σ : Hp} {f : Nat → Nat → Int32} {j : Nat} : bnI σ f (hZ σ) j = nI 0 := if_pos rfl
theorem bn_n {σ : Hp} {f : Nat → Nat → Int32} {a j : Nat} (h : a ≠ hZ σ) : bnI σ f a j = f a j := if_neg h
theorem born_hv (σ : Hp) (f : Nat → Nat → Int32) (kd : Kd) : born (hv σ f) kd = hv (born σ kd) (bnI σ f) := rfl
theorem hZ_hv (σ : Hp) (f : Nat → Nat → Int32) : hZ (hv σ f) = hZ σ := rfl
theorem born_same {σ : Hp} {f : Nat → Nat → Int32} {kd : Kd} {a : Nat} (h : a ≠ hZ σ) : SameAt (hv σ f) (hv (born σ kd) f) a := ⟨if_neg h, fun _ => rfl, fun _ => if_neg h, fun _ => if_neg h⟩
theorem RepX.bn {N : Nat} {σ : Hp} {f : Nat → Nat → Int32} {S : St} (h : RepX N (hv σ f) S) (kd : Kd) : RepX N (hv (born σ kd) f) S := h.mono (fun a ha => born_same (by have : a < hZ σ := ha; omega)) (by show hZ σ ≤ hZ σ + 1; omega)
theorem cp_hv {τ : Hp} {F : Nat → Nat → Int32} {a0 a n : Nat} (h0 : aN 0 a0 τ = some 8) (h1 : aN 0 a τ = some 8) (hn : n ≤ 8) : cpI a0 (nI 0) a (nI 0) (nI n) (hv τ F) = some (hv τ (fy F a n (fun j => F a0 j))) := by
  have h0' : aN 0 a0 (hv τ F) = some 8 := h0
  have h1' : aN 0 a (hv τ F) = some 8 := h1
  unfold cpI
  rw [h0', h1', b1_some, b1_some, cl_I (by omega), cl_I (by omega)]
  have c1 : ¬ (nI 0 < 0 ∨ nI 0 < 0 ∨ nI n < 0 ∨ 8 < 0 + n ∨ 8 < 0 + n) := by
    have e1 : (nI n < (0 : Int32)) = (n < 0) := lt_lit (b := 0) (by omega) (by omega)
    intro q
    rcases q with q | q | q | q | q
    · exact absurd q (by decide)
    · exact absurd q (by decide)
    · rw [e1] at q
      omega
    · omega
    · omega
  rw [if_neg c1]
  have e2 : cpH a0 0 a 0 n (hv τ F) = hv τ (fy F a n (fun j => F a0 j)) := by
    have : (fun b j => if b = a ∧ 0 ≤ j ∧ j < 0 + n then F a0 (0 + (j - 0)) else F b j) = fy F a n (fun j => F a0 j) := by
      funext b j
      unfold fy
      by_cases q : b = a ∧ j < n
      · rw [if_pos q, if_pos (by omega)]
        exact congrArg (F a0) (by omega)
      · rw [if_neg q, if_neg (by omega)]
    exact congrArg (hv τ) this
  rw [e2]
