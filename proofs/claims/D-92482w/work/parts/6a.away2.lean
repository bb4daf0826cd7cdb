set_option maxRecDepth 100000
/-! pure law 10: the two ways to find how far rooms are -/
/-- an array of the heap that holds D up to n -/
def fz (f : Nat → Nat → Int32) (A n : Nat) (D : Nat → Nat) : Nat → Nat → Int32 := fun x k => if x = A ∧ k < n then nI (D k) else f x k
theorem fz_rd {f : Nat → Nat → Int32} {A n k : Nat} {D : Nat → Nat} (h : k < n) : fz f A n D A k = nI (D k) := if_pos ⟨rfl, h⟩
theorem fz_off {f : Nat → Nat → Int32} {A n x k : Nat} {D : Nat → Nat} (h : x ≠ A) : fz f A n D x k = f x k := if_neg (fun q => h q.1)
theorem fz_hi {f : Nat → Nat → Int32} {A n x k : Nat} {D : Nat → Nat} (h : ¬ (x = A ∧ k < n)) : fz f A n D x k = f x k := if_neg h
theorem fz_0 (f : Nat → Nat → Int32) (A : Nat) (D : Nat → Nat) : fz f A 0 D = f := by
  funext x k
  exact if_neg (fun q => absurd q.2 (Nat.not_lt_zero k))
theorem fz_up {f : Nat → Nat → Int32} {A n i v : Nat} {D : Nat → Nat} (h : i < n) : u2 (fz f A n D) A i (nI v) = fz f A n (up D i v) := by
  funext x k
  unfold u2 fz up
  by_cases q : x = A ∧ k = i
  · rw [if_pos q, if_pos ⟨q.1, by omega⟩, if_pos q.2]
  · rw [if_neg q]
    by_cases q2 : x = A ∧ k < n
    · rw [if_pos q2, if_pos q2, if_neg (fun z => q ⟨q2.1, z⟩)]
    · rw [if_neg q2, if_neg q2]
theorem fz_grow (f : Nat → Nat → Int32) (A i : Nat) (D : Nat → Nat) : u2 (fz f A i D) A i (nI (D i)) = fz f A (i + 1) D := by
  funext x k
  unfold u2 fz
  by_cases q : x = A ∧ k = i
  · rw [if_pos q, if_pos ⟨q.1, by omega⟩, q.2]
  · rw [if_neg q]
    by_cases q2 : x = A ∧ k < i
    · rw [if_pos q2, if_pos ⟨q2.1, by omega⟩]
    · rw [if_neg q2, if_neg (fun z => by omega)]
theorem fz_cg {f : Nat → Nat → Int32} {A n : Nat} {D D' : Nat → Nat} (h : ∀ k, k < n → D k = D' k) : fz f A n D = fz f A n D' := by
  funext x k
  unfold fz
  by_cases q : x = A ∧ k < n
  · rw [if_pos q, if_pos q, h k q.2]
  · rw [if_neg q, if_neg q]
theorem RepM.sc {M : Nat} {σ : Hp} {f f' : Nat → Nat → Int32} {S : St} (h : RepM M (hv σ f) S) (hf : ∀ o k, o = 0 ∧ k ∈ pSc ∨ (∃ x ∈ pTab, x.2.1 = o) → f' (M + o) k = f (M + o) k) : RepM M (hv σ f') S :=
  ⟨h.1, h.2.1, fun k hk => (hf 0 k (Or.inl ⟨rfl, hk⟩)).trans (h.2.2.1 k hk), fun x hx i hi => (hf x.2.1 i (Or.inr ⟨x, hx, rfl⟩)).trans (h.2.2.2 x hx i hi)⟩
theorem pTab_n3 : ∀ x ∈ pTab, x.2.1 ≠ 3 ∧ x.2.1 ≠ 12 ∧ x.2.1 ≠ 13 ∧ x.2.1 ≠ 14 ∧ x.2.1 ≠ 15 ∧ x.2.1 ≠ 19 ∧ x.2.1 ≠ 20 ∧ x.2.1 ≠ 21 := by decide
theorem RepM.sa {M : Nat} {σ : Hp} {f f' : Nat → Nat → Int32} {S : St} (h : RepM M (hv σ f) S) (o : Nat) (ho : o = 3 ∨ o = 12 ∨ o = 13 ∨ o = 14 ∨ o = 15 ∨ o = 19 ∨ o = 20 ∨ o = 21) (hf : ∀ x k, x ≠ M + o → f' x k = f x k) : RepM M (hv σ f') S :=
  h.sc (fun o' k q => hf _ _ (fun e => by
    rcases q with q | ⟨x, hx, q⟩
    · omega
    · have := pTab_n3 x hx
      omega))
theorem RepM.zz {M : Nat} {σ : Hp} {f : Nat → Nat → Int32} {S : St} (h : RepM M (hv σ f) S) (o n : Nat) (D : Nat → Nat) (ho : o = 3 ∨ o = 12 ∨ o = 13 ∨ o = 14 ∨ o = 15 ∨ o = 19 ∨ o = 20 ∨ o = 21) : RepM M (hv σ (fz f (M + o) n D)) S := h.sa o ho (fun x k hx => fz_off hx)
theorem rlx_up {x y : Nat} (d : Nat → Nat) (v w : Nat) (hv : v = if d y + 1 < d x then d y + 1 else d x) (hw : w = if up d x v x + 1 < up d x v y then up d x v x + 1 else up d x v y) : up (up d x v) y w = rlx x y d := by
  subst hw
  subst hv
  rfl
theorem m_pass {M : Nat} {σ : Hp} {f : Nat → Nat → Int32} {S : St} (g : Good S) (h : RepM M (hv σ f) S) {d : Nat → Nat} (hb : ∀ r, d r ≤ 100) (rec33 : Hp × Int32 → Option (Int32 × Hp)) (x2 x3 : Int32) : L_X10_doorsTo_42 rec33 M x2 x3 FU (hv σ (fz f (M + 3) 8 d), 0) = rec33 (hv σ (fz f (M + 3) 8 (pss S d (S.1 1))), x3 + 1) := by
  have s : SM M σ := h.1
  have hdm := g.dm
  unfold L_X10_doorsTo_42
  obtain ⟨n, hn⟩ := it_FU (body := fun rec st => B_X10_doorsTo_42 rec33 M x2 x3 rec st.1 st.2) (fun i => (hv σ (fz f (M + 3) 8 (pss S d i)), nI i)) 0 (S.1 1) (by omega) (by omega) (fun i _ hi rec => by
    have hg := g.dr hi
    have h' := h.zz 3 8 (pss S d i) (by omega)
    have b1 := Nat.le_trans (pss_le g d i (by omega) (S.2 2 i)) (hb _)
    have b2 := Nat.le_trans (pss_le g d i (by omega) (S.2 3 i)) (hb _)
    have hxy := hg.2.2
    show B_X10_doorsTo_42 rec33 M x2 x3 rec (hv σ (fz f (M + 3) 8 (pss S d i))) (nI i) = rec (hv σ (fz f (M + 3) 8 (rlx (S.2 2 i) (S.2 3 i) (pss S d i))), nI (i + 1))
    by_cases q : pss S d i (S.2 2 i) ≤ pss S d i (S.2 3 i) + 1
    · have e1 : ∀ r, up (pss S d i) (S.2 2 i) (pss S d i (S.2 2 i)) r = pss S d i r := fun r => by
        unfold up
        by_cases z : r = S.2 2 i
        · rw [if_pos z, z]
        · rw [if_neg z]
      by_cases q2 : pss S d i (S.2 3 i) ≤ pss S d i (S.2 2 i) + 1
      · simp (decide := true) (disch := omega) only [B_X10_doorsTo_42, F_X10_doorsTo_113, gd_hv s.1, gI_hv s.1, pI_hv s.1, s.R2, s.A2, s.W2, s.R3, s.A3, s.W3, s.R4, s.A4, s.W4, b1_some, b2_some, litI, neg1, nI_add, nI_mul, e1_p1, nI_e0, ib, ib1, ite_not, if_true, if_false, not_true_eq_false, not_false_eq_true, setI_hv, h'.s1, h'.a2, h'.a3, fz_rd, le_lit, show ¬ S.1 1 ≤ i by omega, q, q2, fz_up, e1]
        rw [rlx_up _ _ _ (by rw [if_neg (by omega)]) (by rw [e1, e1, if_neg (by omega)])]
      · simp (decide := true) (disch := omega) only [B_X10_doorsTo_42, F_X10_doorsTo_113, gd_hv s.1, gI_hv s.1, pI_hv s.1, s.R2, s.A2, s.W2, s.R3, s.A3, s.W3, s.R4, s.A4, s.W4, b1_some, b2_some, litI, neg1, nI_add, nI_mul, e1_p1, nI_e0, ib, ib1, ite_not, if_true, if_false, not_true_eq_false, not_false_eq_true, setI_hv, h'.s1, h'.a2, h'.a3, fz_rd, le_lit, show ¬ S.1 1 ≤ i by omega, q, q2, fz_up, e1]
        rw [rlx_up _ _ _ (by rw [if_neg (by omega)]) (by rw [e1, e1, if_pos (by omega)])]
    · have e1 : up (pss S d i) (S.2 2 i) (pss S d i (S.2 3 i) + 1) (S.2 2 i) = pss S d i (S.2 3 i) + 1 := if_pos rfl
      have e2 : up (pss S d i) (S.2 2 i) (pss S d i (S.2 3 i) + 1) (S.2 3 i) = pss S d i (S.2 3 i) := if_neg (Ne.symm hxy)
      simp (decide := true) (disch := omega) only [B_X10_doorsTo_42, F_X10_doorsTo_113, gd_hv s.1, gI_hv s.1, pI_hv s.1, s.R2, s.A2, s.W2, s.R3, s.A3, s.W3, s.R4, s.A4, s.W4, b1_some, b2_some, litI, neg1, nI_add, nI_mul, e1_p1, nI_e0, ib, ib1, ite_not, if_true, if_false, not_true_eq_false, not_false_eq_true, setI_hv, h'.s1, h'.a2, h'.a3, fz_rd, le_lit, show ¬ S.1 1 ≤ i by omega, q, fz_up, e1, e2, show pss S d i (S.2 3 i) ≤ pss S d i (S.2 3 i) + 1 + 1 by omega]
      rw [rlx_up _ _ _ (by rw [if_pos (by omega)]) (by rw [e1, e2, if_neg (by omega)])])
  refine Eq.trans (b := it (fun rec st => B_X10_doorsTo_42 rec33 M x2 x3 rec st.1 st.2) FU (hv σ (fz f (M + 3) 8 (pss S d 0)), nI 0)) rfl (hn.trans ?_)
  have h' := h.zz 3 8 (pss S d (S.1 1)) (by omega)
  simp (decide := true) (disch := omega) only [B_X10_doorsTo_42, gd_hv s.1, gI_hv s.1, pI_hv s.1, b1_some, h'.s1, Nat.le_refl, le_lit, if_true]
theorem m_dst {M : Nat} {σ : Hp} {f : Nat → Nat → Int32} {S : St} (g : Good S) (h : RepM M (hv σ f) S) {a b : Nat} (ha : a < 8) (hb : b < 8) : F_X10_doorsTo (hv σ f) M (nI a) (nI b) = some (e1 (dst S a b), hv σ (fz f (M + 3) 8 (tn S a 8))) := by
  have s : SM M σ := h.1
  unfold F_X10_doorsTo L_X10_doorsTo_2
  rw [gd_hv s.1]
  obtain ⟨n, hn⟩ := it_FU (body := fun rec st => B_X10_doorsTo_2 M (nI a) (nI b) rec st.1 st.2) (fun i => (hv σ (fz f (M + 3) i (tn S a 0)), nI i)) 0 8 (by omega) (by omega) (fun i _ hi rec => by
    show B_X10_doorsTo_2 M (nI a) (nI b) rec (hv σ (fz f (M + 3) i (tn S a 0))) (nI i) = rec (hv σ (fz f (M + 3) (i + 1) (tn S a 0)), nI (i + 1))
    rw [← fz_grow f (M + 3) i (tn S a 0)]
    show _ = rec (hv σ (u2 (fz f (M + 3) i (tn S a 0)) (M + 3) i (nI (if i = a then 0 else 100))), nI (i + 1))
    by_cases q : i = a
    · simp (decide := true) (disch := omega) only [B_X10_doorsTo_2, gd_hv s.1, gI_hv s.1, pI_hv s.1, s.R4, s.A4, s.W4, b1_some, b2_some, litI, neg1, nI_add, nI_mul, e1_p1, nI_e0, ib, ib1, ite_not, if_true, if_false, not_true_eq_false, not_false_eq_true, setI_hv, le_lit, eq_lit, show ¬ 8 ≤ i by omega, q, show ¬ 8 ≤ a by omega]
    · simp (decide := true) (disch := omega) only [B_X10_doorsTo_2, gd_hv s.1, gI_hv s.1, pI_hv s.1, s.R4, s.A4, s.W4, b1_some, b2_some, litI, neg1, nI_add, nI_mul, e1_p1, nI_e0, ib, ib1, ite_not, if_true, if_false, not_true_eq_false, not_false_eq_true, setI_hv, le_lit, eq_lit, show ¬ 8 ≤ i by omega, q])
  rw [fz_0] at hn
  refine Eq.trans (b := it (fun rec st => B_X10_doorsTo_2 M (nI a) (nI b) rec st.1 st.2) FU (hv σ f, nI 0)) rfl (hn.trans ?_)
  simp (decide := true) (disch := omega) only [B_X10_doorsTo_2, litI, le_lit, Nat.le_refl, if_true]
  unfold L_X10_doorsTo_33
  obtain ⟨n', hn'⟩ := it_FU (body := fun rec st => B_X10_doorsTo_33 M (nI b) rec st.1 st.2) (fun i => (hv σ (fz f (M + 3) 8 (tn S a i)), nI i)) 0 8 (by omega) (by omega) (fun i _ hi rec => by
    show B_X10_doorsTo_33 M (nI b) rec (hv σ (fz f (M + 3) 8 (tn S a i))) (nI i) = rec (hv σ (fz f (M + 3) 8 (pss S (tn S a i) (S.1 1))), nI (i + 1))
    unfold B_X10_doorsTo_33
    rw [m_pass g h (fun r => (tn_snd g a i r).1) rec (nI b) (nI i)]
    simp (decide := true) (disch := omega) only [b1_some, b2_some, litI, neg1, nI_add, nI_mul, e1_p1, nI_e0, ib, ib1, ite_not, if_true, if_false, not_true_eq_false, not_false_eq_true, setI_hv, le_lit, show ¬ 8 ≤ i by omega])
  refine hn'.trans ?_
  have ht := tn_snd g a 8 b
  rw [tn_dst g ha hb]
  by_cases q : tn S a 8 b < 100
  · simp (decide := true) (disch := omega) only [B_X10_doorsTo_33, F_X10_doorsTo_171, gd_hv s.1, gI_hv s.1, pI_hv s.1, s.R4, s.A4, s.W4, b1_some, b2_some, litI, neg1, nI_add, nI_mul, e1_p1, nI_e0, ib, ib1, ite_not, if_true, if_false, not_true_eq_false, not_false_eq_true, setI_hv, le_lit, lt_lit, fz_rd, Nat.le_refl, q, e1_s]
  · simp (decide := true) (disch := omega) only [B_X10_doorsTo_33, F_X10_doorsTo_171, gd_hv s.1, gI_hv s.1, pI_hv s.1, s.R4, s.A4, s.W4, b1_some, b2_some, litI, neg1, nI_add, nI_mul, e1_p1, nI_e0, ib, ib1, ite_not, if_true, if_false, not_true_eq_false, not_false_eq_true, setI_hv, le_lit, lt_lit, fz_rd, Nat.le_refl, q]
/-! bits -/
theorem bitN : ∀ m, m < 256 → ∀ i, i < 8 → (nI m >>> (nI i &&& nI 31)) &&& nI 1 = nI (m / 2 ^ i % 2) := by decide +kernel
theorem orN : ∀ m, m < 256 → ∀ i, i < 8 → nI m ||| (nI 1 <<< (nI i &&& nI 31)) = nI (m ||| 2 ^ i) := by decide +kernel
theorem shN : ∀ i, i < 8 → nI 1 <<< (nI i &&& nI 31) = nI (2 ^ i) := by decide +kernel
theorem or_0 : ∀ m, m < 256 → nI m ||| nI 0 = nI m := by decide +kernel
theorem or_b : ∀ q, q < 8 → ∀ m, m < 256 → m ||| 2 ^ q < 256 ∧ ∀ z, z < 8 → (m ||| 2 ^ q) / 2 ^ z % 2 = if z = q then 1 else m / 2 ^ z % 2 := by decide +kernel
theorem p2_b : ∀ a, a < 8 → 2 ^ a < 256 ∧ ∀ z, z < 8 → 2 ^ a / 2 ^ z % 2 = if z = a then 1 else 0 := by decide +kernel
def rwq (S : St) (r t : Nat) : Nat → Nat
  | 0 => t
  | q + 1 => if jl S r q (S.1 1) = 1 then rwq S r t q ||| 2 ^ q else rwq S r t q
def thn (S : St) (m : Nat) : Nat → Nat
  | 0 => m
  | r + 1 => if m / 2 ^ r % 2 = 1 then rwq S r (thn S m r) 8 else thn S m r
def cmm (S : St) (a : Nat) : Nat → Nat
  | 0 => 2 ^ a
  | n + 1 => thn S (cmm S a n) 8
theorem rwq_b (S : St) {r t : Nat} (ht : t < 256) : ∀ q, q ≤ 8 → rwq S r t q < 256 ∧ ∀ z, z < 8 → (rwq S r t q / 2 ^ z % 2 = 1 ↔ t / 2 ^ z % 2 = 1 ∨ (z < q ∧ jn S r z))
  | 0, _ => ⟨ht, fun z hz => ⟨fun h => Or.inl h, fun h => h.elim id (fun w => absurd w.1 (Nat.not_lt_zero z))⟩⟩
  | q + 1, hq => by
    have ih := rwq_b S (r := r) ht q (by omega)
    unfold rwq
    by_cases e : jl S r q (S.1 1) = 1
    · rw [if_pos e]
      have ob := or_b q (by omega) _ ih.1
      refine ⟨ob.1, fun z hz => ?_⟩
      rw [ob.2 z hz]
      by_cases w : z = q
      · rw [if_pos w]
        exact ⟨fun _ => Or.inr ⟨by omega, by rw [w]; exact (jl_jn S r q).mp e⟩, fun _ => rfl⟩
      · rw [if_neg w, ih.2 z hz]
        constructor
        · rintro (h | h)
          · exact Or.inl h
          · exact Or.inr ⟨by omega, h.2⟩
        · rintro (h | h)
          · exact Or.inl h
          · exact Or.inr ⟨by omega, h.2⟩
    · rw [if_neg e]
      refine ⟨ih.1, fun z hz => ?_⟩
      rw [ih.2 z hz]
      constructor
      · rintro (h | h)
        · exact Or.inl h
        · exact Or.inr ⟨by omega, h.2⟩
      · rintro (h | h)
        · exact Or.inl h
        · refine Or.inr ⟨?_, h.2⟩
          by_cases w : z = q
          · rw [w] at h
            exact absurd ((jl_jn S r q).mpr h.2) e
          · omega
theorem thn_b (S : St) {m : Nat} (hm : m < 256) : ∀ r, r ≤ 8 → thn S m r < 256 ∧ ∀ z, z < 8 → (thn S m r / 2 ^ z % 2 = 1 ↔ m / 2 ^ z % 2 = 1 ∨ ∃ x, x < r ∧ m / 2 ^ x % 2 = 1 ∧ jn S x z)
  | 0, _ => ⟨hm, fun z hz => ⟨fun h => Or.inl h, fun h => h.elim id (fun ⟨x, w, _⟩ => absurd w (Nat.not_lt_zero x))⟩⟩
  | r + 1, hr => by
    have ih := thn_b S hm r (by omega)
    unfold thn
    by_cases e : m / 2 ^ r % 2 = 1
    · rw [if_pos e]
      have rb := rwq_b S (r := r) ih.1 8 (Nat.le_refl _)
      refine ⟨rb.1, fun z hz => ?_⟩
      rw [rb.2 z hz, ih.2 z hz]
      constructor
      · rintro ((h | ⟨x, h1, h2⟩) | h)
        · exact Or.inl h
        · exact Or.inr ⟨x, by omega, h2⟩
        · exact Or.inr ⟨r, by omega, e, h.2⟩
      · rintro (h | ⟨x, h1, h2, h3⟩)
        · exact Or.inl (Or.inl h)
        · by_cases w : x = r
          · rw [w] at h3
            exact Or.inr ⟨hz, h3⟩
          · exact Or.inl (Or.inr ⟨x, by omega, h2, h3⟩)
    · rw [if_neg e]
      refine ⟨ih.1, fun z hz => ?_⟩
      rw [ih.2 z hz]
      constructor
      · rintro (h | ⟨x, h1, h2⟩)
        · exact Or.inl h
        · exact Or.inr ⟨x, by omega, h2⟩
      · rintro (h | ⟨x, h1, h2, h3⟩)
        · exact Or.inl h
        · refine Or.inr ⟨x, ?_, h2, h3⟩
          by_cases w : x = r
          · rw [w] at h2
            exact absurd h2 e
          · omega
theorem cmm_b (S : St) {a : Nat} (ha : a < 8) : ∀ n, cmm S a n < 256 ∧ ∀ z, z < 8 → (cmm S a n / 2 ^ z % 2 = 1 ↔ rch (jn S) a n z)
  | 0 => by
    have pb := p2_b a ha
    refine ⟨pb.1, fun z hz => ?_⟩
    show 2 ^ a / 2 ^ z % 2 = 1 ↔ z = a
    rw [pb.2 z hz]
    by_cases w : z = a
    · rw [if_pos w]
      exact ⟨fun _ => w, fun _ => rfl⟩
    · rw [if_neg w]
      exact ⟨fun q => absurd q (by decide), fun q => absurd q w⟩
  | n + 1 => by
    have ih := cmm_b S ha n
    have tb := thn_b S ih.1 8 (Nat.le_refl _)
    refine ⟨tb.1, fun z hz => (tb.2 z hz).trans ?_⟩
    show _ ↔ rch (jn S) a n z ∨ ∃ q, q < 8 ∧ rch (jn S) a n q ∧ jn S q z
    rw [ih.2 z hz]
    constructor
    · rintro (h | ⟨x, h1, h2, h3⟩)
      · exact Or.inl h
      · exact Or.inr ⟨x, h1, (ih.2 x h1).mp h2, h3⟩
    · rintro (h | ⟨x, h1, h2, h3⟩)
      · exact Or.inl h
      · exact Or.inr ⟨x, h1, (ih.2 x h1).mpr h2, h3⟩
theorem x_row {N : Nat} {σ : Hp} {f : Nat → Nat → Int32} {S : St} (h : RepX N (hv σ f) S) {m r t : Nat} (hm : m < 256) (hr : r < 8) (ht : t < 256) (rec7 rec32 : Int32 × Int32 → Option (Int32 × Hp)) (x2 x4 : Int32) : L_X0_awayOf_42 rec7 rec32 (hv σ f) N x2 (nI m) x4 (nI r) FU (nI t, 0) = rec32 (nI (if m / 2 ^ r % 2 = 1 then rwq S r t 8 else t), nI (r + 1)) := by
  have s : SX N σ := h.1
  unfold L_X0_awayOf_42
  by_cases e : m / 2 ^ r % 2 = 1
  · obtain ⟨n, hn⟩ := it_FU (body := fun rec st => B_X0_awayOf_42 rec7 rec32 (hv σ f) N x2 (nI m) x4 (nI r) rec st.1 st.2) (fun i => (nI (rwq S r t i), nI i)) 0 8 (by omega) (by omega) (fun i _ hi rec => by
      have rb := rwq_b S (r := r) ht i (by omega)
      show B_X0_awayOf_42 rec7 rec32 (hv σ f) N x2 (nI m) x4 (nI r) rec (nI (rwq S r t i)) (nI i) = rec (nI (if jl S r i (S.1 1) = 1 then rwq S r t i ||| 2 ^ i else rwq S r t i), nI (i + 1))
      rcases jl_01 S r i (S.1 1) with j | j
      · simp (decide := true) (disch := omega) only [B_X0_awayOf_42, gd_hv s.t0, gI_hv s.t0, pI_hv s.t0, s.R0, s.J, s.AJ, b1_some, b2_some, litI, neg1, nI_add, nI_mul, e1_p1, nI_e0, ib, ib1, ite_not, if_true, if_false, not_true_eq_false, not_false_eq_true, setI_hv, h.jo, le_lit, eq_lit, show ¬ 8 ≤ i by omega, bitN m hm r hr, e, j, or_0 _ rb.1]
      · simp (decide := true) (disch := omega) only [B_X0_awayOf_42, gd_hv s.t0, gI_hv s.t0, pI_hv s.t0, s.R0, s.J, s.AJ, b1_some, b2_some, litI, neg1, nI_add, nI_mul, e1_p1, nI_e0, ib, ib1, ite_not, if_true, if_false, not_true_eq_false, not_false_eq_true, setI_hv, h.jo, le_lit, eq_lit, show ¬ 8 ≤ i by omega, bitN m hm r hr, e, j, orN _ rb.1 i hi])
    refine Eq.trans (b := it (fun rec st => B_X0_awayOf_42 rec7 rec32 (hv σ f) N x2 (nI m) x4 (nI r) rec st.1 st.2) FU (nI (rwq S r t 0), nI 0)) rfl (hn.trans ?_)
    simp (decide := true) (disch := omega) only [B_X0_awayOf_42, b1_some, b2_some, litI, neg1, nI_add, nI_mul, e1_p1, nI_e0, ib, ib1, ite_not, if_true, if_false, not_true_eq_false, not_false_eq_true, setI_hv, le_lit, Nat.le_refl, e]
  · have b2 : m / 2 ^ r % 2 < 2 := Nat.mod_lt _ (by omega)
    obtain ⟨n, hn⟩ := it_FU (body := fun rec st => B_X0_awayOf_42 rec7 rec32 (hv σ f) N x2 (nI m) x4 (nI r) rec st.1 st.2) (fun i => (nI t, nI 0)) 0 0 (by omega) (by omega) (fun i _ hi rec => by omega)
    refine Eq.trans (b := it (fun rec st => B_X0_awayOf_42 rec7 rec32 (hv σ f) N x2 (nI m) x4 (nI r) rec st.1 st.2) FU (nI t, nI 0)) rfl (hn.trans ?_)
    simp (decide := true) (disch := omega) only [B_X0_awayOf_42, b1_some, b2_some, litI, neg1, nI_add, nI_mul, e1_p1, nI_e0, ib, ib1, ite_not, if_true, if_false, not_true_eq_false, not_false_eq_true, setI_hv, le_lit, eq_lit, bitN m hm r hr, e]
theorem x_round {N : Nat} {σ : Hp} {f : Nat → Nat → Int32} {S : St} (h : RepX N (hv σ f) S) {m : Nat} (hm : m < 256) (rec7 : Int32 × Int32 → Option (Int32 × Hp)) (x2 x4 : Int32) : L_X0_awayOf_32 rec7 (hv σ f) N x2 (nI m) x4 FU (nI m, 0) = rec7 (nI (thn S m 8), x4 + 1) := by
  unfold L_X0_awayOf_32
  obtain ⟨n, hn⟩ := it_FU (body := fun rec st => B_X0_awayOf_32 rec7 (hv σ f) N x2 (nI m) x4 rec st.1 st.2) (fun i => (nI (thn S m i), nI i)) 0 8 (by omega) (by omega) (fun i _ hi rec => by
    have tb := thn_b S hm i (by omega)
    show B_X0_awayOf_32 rec7 (hv σ f) N x2 (nI m) x4 rec (nI (thn S m i)) (nI i) = rec (nI (if m / 2 ^ i % 2 = 1 then rwq S i (thn S m i) 8 else thn S m i), nI (i + 1))
    unfold B_X0_awayOf_32
    rw [x_row h hm hi tb.1 rec7 rec x2 x4]
    simp (decide := true) (disch := omega) only [litI, le_lit, show ¬ 8 ≤ i by omega, if_false])
  refine Eq.trans (b := it (fun rec st => B_X0_awayOf_32 rec7 (hv σ f) N x2 (nI m) x4 rec st.1 st.2) FU (nI (thn S m 0), nI 0)) rfl (hn.trans ?_)
  simp (decide := true) (disch := omega) only [B_X0_awayOf_32, litI, le_lit, Nat.le_refl, if_true]
theorem x_dst {N : Nat} {σ : Hp} {f : Nat → Nat → Int32} {S : St} (h : RepX N (hv σ f) S) {a b : Nat} (ha : a < 8) (hb : b < 8) : F_X0_awayOf (hv σ f) N (nI a) (nI b) = some (e1 (dst S a b), hv σ f) := by
  have s : SX N σ := h.1
  unfold F_X0_awayOf L_X0_awayOf_7
  rw [gd_hv s.t0]
  have e0 : (1 : Int32) <<< (nI a &&& 31) = nI (2 ^ a) := shN a ha
  rw [e0]
  have step : ∀ n, n < 8 → ¬ rch (jn S) a n b → ∀ rec, B_X0_awayOf_7 (hv σ f) N (nI b) rec (nI (cmm S a n)) (nI n) = rec (nI (cmm S a (n + 1)), nI (n + 1)) := fun n hn q rec => by
    have cb := cmm_b S ha n
    have z : ¬ cmm S a n / 2 ^ b % 2 = 1 := fun w => q ((cb.2 b hb).mp w)
    have b2 : cmm S a n / 2 ^ b % 2 < 2 := Nat.mod_lt _ (by omega)
    unfold B_X0_awayOf_7
    rw [x_round h cb.1 rec (nI b) (nI n)]
    simp (decide := true) (disch := omega) only [b1_some, b2_some, litI, neg1, nI_add, nI_mul, e1_p1, nI_e0, ib, ib1, ite_not, if_true, if_false, not_true_eq_false, not_false_eq_true, setI_hv, le_lit, eq_lit, show ¬ 8 ≤ n by omega, bitN _ cb.1 b hb, z]
    rfl
  rcases dst_is S a b with ⟨d0, no⟩ | ⟨n, hn8, d0, yes, no⟩
  · obtain ⟨n, hn⟩ := it_FU (body := fun rec st => B_X0_awayOf_7 (hv σ f) N (nI b) rec st.1 st.2) (fun i => (nI (cmm S a i), nI i)) 0 8 (by omega) (by omega) (fun i _ hi rec => step i hi (no i hi) rec)
    refine Eq.trans (b := it (fun rec st => B_X0_awayOf_7 (hv σ f) N (nI b) rec st.1 st.2) FU (nI (cmm S a 0), nI 0)) rfl (hn.trans ?_)
    simp (decide := true) (disch := omega) only [B_X0_awayOf_7, b1_some, b2_some, litI, neg1, nI_add, nI_mul, e1_p1, nI_e0, ib, ib1, ite_not, if_true, if_false, not_true_eq_false, not_false_eq_true, setI_hv, le_lit, Nat.le_refl, d0]
  · obtain ⟨k, hk⟩ := it_FU (body := fun rec st => B_X0_awayOf_7 (hv σ f) N (nI b) rec st.1 st.2) (fun i => (nI (cmm S a i), nI i)) 0 n (by omega) (by omega) (fun i _ hi rec => step i (by omega) (no i hi) rec)
    refine Eq.trans (b := it (fun rec st => B_X0_awayOf_7 (hv σ f) N (nI b) rec st.1 st.2) FU (nI (cmm S a 0), nI 0)) rfl (hk.trans ?_)
    have cb := cmm_b S ha n
    have z : cmm S a n / 2 ^ b % 2 = 1 := (cb.2 b hb).mpr yes
    simp (decide := true) (disch := omega) only [B_X0_awayOf_7, b1_some, b2_some, litI, neg1, nI_add, nI_mul, e1_p1, nI_e0, ib, ib1, ite_not, if_true, if_false, not_true_eq_false, not_false_eq_true, setI_hv, le_lit, eq_lit, show ¬ 8 ≤ n by omega, bitN _ cb.1 b hb, z, d0, e1_s]
noncomputable def oAway (a b : Int32) (S : St) : Int32 × St := if inR a 0 7 ∧ inR b 0 7 then (e1 (dst S a.toNatClampNeg b.toNatClampNeg), S) else (-2, S)
theorem m_away (M : Nat) (a b : Int32) : OkMf M (fun σ => F_X10_away σ M a b) (oAway a b) := by
  intro σ f S g h
  have s : SM M σ := h.1
  simp only [F_X10_away, oAway, gd_hv s.1, x10_isRoom, b2_some]
  rcases in_split a 0 7 (by omega) (by omega) with ⟨i, -, hi, rfl⟩ | hk
  case inr => simp (decide := true) (disch := omega) only [b1_some, b2_some, litI, neg1, nI_add, nI_mul, e1_p1, nI_e0, ib, ib1, ite_not, if_true, if_false, not_true_eq_false, not_false_eq_true, setI_hv, hk, false_and]; exact ⟨_, rfl, h, fun _ _ _ => rfl⟩
  have qi := eq_true (inR_of (Nat.zero_le i) hi (by omega))
  rcases in_split b 0 7 (by omega) (by omega) with ⟨j, -, hj, rfl⟩ | hv
  case inr => simp (decide := true) (disch := omega) only [b1_some, b2_some, litI, neg1, nI_add, nI_mul, e1_p1, nI_e0, ib, ib1, ite_not, if_true, if_false, not_true_eq_false, not_false_eq_true, setI_hv, qi, hv, and_false, false_and]; exact ⟨_, rfl, h, fun _ _ _ => rfl⟩
  have qj := eq_true (inR_of (Nat.zero_le j) hj (by omega))
  simp (decide := true) (disch := omega) only [b1_some, b2_some, litI, neg1, nI_add, nI_mul, e1_p1, nI_e0, ib, ib1, ite_not, if_true, if_false, not_true_eq_false, not_false_eq_true, setI_hv, qi, qj, and_self, m_dst g h, cl_I]
  exact ⟨_, rfl, h.zz 3 8 _ (by omega), fun a k ha => fz_off (by omega)⟩
theorem x_away (N : Nat) (a b : Int32) : OkXf N (fun σ => F_X0_away σ N a b) (oAway a b) := by
  intro σ f S g h
  have s : SX N σ := h.1
  simp only [F_X0_away, oAway, gd_hv s.t0, x0_isRoom, b2_some]
  rcases in_split a 0 7 (by omega) (by omega) with ⟨i, -, hi, rfl⟩ | hk
  case inr => simp (decide := true) (disch := omega) only [b1_some, b2_some, litI, neg1, nI_add, nI_mul, e1_p1, nI_e0, ib, ib1, ite_not, if_true, if_false, not_true_eq_false, not_false_eq_true, setI_hv, hk, false_and]; exact ⟨_, rfl, h, fun _ _ _ => rfl⟩
  have qi := eq_true (inR_of (Nat.zero_le i) hi (by omega))
  rcases in_split b 0 7 (by omega) (by omega) with ⟨j, -, hj, rfl⟩ | hv
  case inr => simp (decide := true) (disch := omega) only [b1_some, b2_some, litI, neg1, nI_add, nI_mul, e1_p1, nI_e0, ib, ib1, ite_not, if_true, if_false, not_true_eq_false, not_false_eq_true, setI_hv, qi, hv, and_false, false_and]; exact ⟨_, rfl, h, fun _ _ _ => rfl⟩
  have qj := eq_true (inR_of (Nat.zero_le j) hj (by omega))
  simp (decide := true) (disch := omega) only [b1_some, b2_some, litI, neg1, nI_add, nI_mul, e1_p1, nI_e0, ib, ib1, ite_not, if_true, if_false, not_true_eq_false, not_false_eq_true, setI_hv, qi, qj, and_self, x_dst h, cl_I]
  exact ⟨_, rfl, h, fun _ _ _ => rfl⟩
