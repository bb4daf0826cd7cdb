set_option maxRecDepth 100000
/-! pure law 27: minutes, a house lived on with -/
theorem zr_0' {ρ : Type} (k : Option ρ) : zr (nI 0) k = k := zr_0 k
theorem zr_1' {ρ : Type} (k : Option ρ) : zr (nI 1) k = k := zr_1 k
theorem and127 (y : Int32) : y &&& nI 127 = nI (y.toBitVec.toNat % 128) := by
  apply Int32.toBitVec_inj.1
  apply BitVec.eq_of_toNat_eq
  show (y.toBitVec &&& 127#32).toNat = (BitVec.ofNat 32 (y.toBitVec.toNat % 128)).toNat
  rw [BitVec.toNat_and]
  show y.toBitVec.toNat &&& 127 = (y.toBitVec.toNat % 128) % 2 ^ 32
  rw [show (127 : Nat) = 2 ^ 7 - 1 by decide, Nat.and_two_pow_sub_one_eq_mod]
  omega
theorem and15 (y : Int32) : y &&& nI 15 = nI (y.toBitVec.toNat % 16) := by
  apply Int32.toBitVec_inj.1
  apply BitVec.eq_of_toNat_eq
  show (y.toBitVec &&& 15#32).toNat = (BitVec.ofNat 32 (y.toBitVec.toNat % 16)).toNat
  rw [BitVec.toNat_and]
  show y.toBitVec.toNat &&& 15 = (y.toBitVec.toNat % 16) % 2 ^ 32
  rw [show (15 : Nat) = 2 ^ 4 - 1 by decide, Nat.and_two_pow_sub_one_eq_mod]
  omega
def mn (x : Int32) (k : Nat) : Nat := (x >>> (nI (7 * k) &&& nI 31)).toBitVec.toNat % 128
def rwv (x : Int32) (k : Nat) : Nat := (x >>> (nI (4 * k) &&& nI 31)).toBitVec.toNat % 16
theorem mn_lt (x : Int32) (k : Nat) : mn x k < 128 := Nat.mod_lt _ (by omega)
theorem rwv_lt (x : Int32) (k : Nat) : rwv x k < 16 := Nat.mod_lt _ (by omega)
theorem mn_eq (x : Int32) (k : Nat) : x >>> (nI (7 * k) &&& nI 31) &&& nI 127 = nI (mn x k) := and127 _
theorem rwv_eq (x : Int32) (k : Nat) : x >>> (nI (4 * k) &&& nI 31) &&& nI 15 = nI (rwv x k) := and15 _
abbrev amn (n : Nat) (x : Int32) : Prop := ∀ k, k < n → mn x k < 100
theorem m_mins {σ : Hp} {n : Nat} {x : Int32} (h1 : 1 ≤ n) (h4 : n ≤ 4) : F_X10_areMinutes σ (nI n) x = some (if amn n x then nI 1 else nI 0, σ) := by
  have i1 : F_X10_in σ (nI n) 1 4 = some (nI 1, σ) := by
    rw [x10_inR σ (nI n) 1 4 1 4 rfl rfl, if_pos (inR_of h1 h4 (by omega))]
    rfl
  unfold F_X10_areMinutes L_X10_areMinutes_9
  rw [i1, b2_some]
  obtain ⟨i, hi, h2, h3⟩ := first (P := fun k => ¬ mn x k < 100) n
  obtain ⟨m, hm⟩ := it_FU (body := fun rec st => B_X10_areMinutes_9 σ (nI n) x rec st.1 st.2) (fun k => (nI 1, nI k)) 0 i (by omega) (by omega) (fun k _ hk rec => by
    have q : mn x k < 100 := Classical.not_not.mp (h2 k hk)
    simp (decide := true) (disch := omega) only [B_X10_areMinutes_9, b1_some, b2_some, litI, neg1, nI_add, nI_mul, e1_p1, nI_e0, ib, ib1, ite_not, if_true, if_false, not_true_eq_false, not_false_eq_true, setI_hv, mn_eq, le_lit, show ¬ n ≤ k by omega, show ¬ 100 ≤ mn x k by omega])
  by_cases e : i = n
  · subst e
    rw [if_pos (fun k hk => Classical.not_not.mp (h2 k hk))]
    refine Eq.trans hm ?_
    simp (decide := true) (disch := omega) only [B_X10_areMinutes_9, b1_some, b2_some, litI, neg1, nI_add, nI_mul, e1_p1, nI_e0, ib, ib1, ite_not, if_true, if_false, not_true_eq_false, not_false_eq_true, setI_hv, le_lit, Nat.le_refl, zr_1', zr_0']
  · have q : ¬ mn x i < 100 := h3.resolve_left e
    rw [if_neg (fun z => q (z i (by omega)))]
    obtain ⟨m', hm'⟩ := it_FU (body := fun rec st => B_X10_areMinutes_9 σ (nI n) x rec st.1 st.2) (fun k => if k ≤ i then (nI 1, nI k) else (nI 0, nI k)) 0 (i + 1) (by omega) (by omega) (fun k _ hk rec => by
      show B_X10_areMinutes_9 σ (nI n) x rec (if k ≤ i then (nI 1, nI k) else (nI 0, nI k)).1 (if k ≤ i then (nI 1, nI k) else (nI 0, nI k)).2 = rec (if k + 1 ≤ i then (nI 1, nI (k + 1)) else (nI 0, nI (k + 1)))
      rw [if_pos (by omega)]
      by_cases z : k = i
      · subst z
        have ml := mn_lt x k
        rw [if_neg (by omega)]
        simp (decide := true) (disch := omega) only [B_X10_areMinutes_9, b1_some, b2_some, litI, neg1, nI_add, nI_mul, e1_p1, nI_e0, ib, ib1, ite_not, if_true, if_false, not_true_eq_false, not_false_eq_true, setI_hv, mn_eq, le_lit, show ¬ n ≤ k by omega, show 100 ≤ mn x k by omega]
      · have q : mn x k < 100 := Classical.not_not.mp (h2 k (by omega))
        rw [if_pos (by omega)]
        simp (decide := true) (disch := omega) only [B_X10_areMinutes_9, b1_some, b2_some, litI, neg1, nI_add, nI_mul, e1_p1, nI_e0, ib, ib1, ite_not, if_true, if_false, not_true_eq_false, not_false_eq_true, setI_hv, mn_eq, le_lit, show ¬ n ≤ k by omega, show ¬ 100 ≤ mn x k by omega])
    have z1 : (if 0 ≤ i then (nI 1, nI 0) else (nI 0, nI 0) : Int32 × Int32) = (nI 1, nI 0) := if_pos (by omega)
    have z2 : (if i + 1 ≤ i then (nI 1, nI (i + 1)) else (nI 0, nI (i + 1)) : Int32 × Int32) = (nI 0, nI (i + 1)) := if_neg (by omega)
    simp only [z1, z2] at hm'
    refine Eq.trans hm' ?_
    simp (decide := true) (disch := omega) only [B_X10_areMinutes_9, b1_some, b2_some, litI, neg1, nI_add, nI_mul, e1_p1, nI_e0, ib, ib1, ite_not, if_true, if_false, not_true_eq_false, not_false_eq_true, setI_hv, zr_0', ite_self]
theorem x_mins {σ : Hp} {n : Nat} {x : Int32} (h1 : 1 ≤ n) (h4 : n ≤ 4) : F_X0_areMinutes σ (nI n) x = some (if amn n x then nI 1 else nI 0, σ) := by
  have i1 : F_X0_isIn σ (nI n).toInt64 1 4 = some (nI 1, σ) := by
    rw [x0_inR σ (nI n) 1 4 1 4 (by decide) (by decide), if_pos (inR_of h1 h4 (by omega))]
    rfl
  unfold F_X0_areMinutes L_X0_areMinutes_12
  rw [i1, b2_some]
  obtain ⟨i, hi, h2, h3⟩ := first (P := fun k => ¬ mn x k < 100) n
  by_cases e : i = n
  · subst e
    obtain ⟨m, hm⟩ := it_FU (body := fun rec st => B_X0_areMinutes_12 (nI i) x rec st.1 st.2.1 st.2.2) (fun k => (σ, nI 1, nI k)) 0 i (by omega) (by omega) (fun k _ hk rec => by
      have q : mn x k < 100 := Classical.not_not.mp (h2 k hk)
      simp (decide := true) (disch := omega) only [B_X0_areMinutes_12, F_X0_minutesOf, b1_some, b2_some, litI, neg1, nI_add, nI_mul, e1_p1, nI_e0, ib, ib1, ite_not, if_true, if_false, not_true_eq_false, not_false_eq_true, setI_hv, mn_eq, le_lit, show ¬ i ≤ k by omega, show ¬ 100 ≤ mn x k by omega])
    rw [if_pos (fun k hk => Classical.not_not.mp (h2 k hk))]
    refine Eq.trans hm ?_
    simp (decide := true) (disch := omega) only [B_X0_areMinutes_12, b1_some, b2_some, litI, neg1, nI_add, nI_mul, e1_p1, nI_e0, ib, ib1, ite_not, if_true, if_false, not_true_eq_false, not_false_eq_true, setI_hv, le_lit, Nat.le_refl, zr_1', zr_0']
  · have q : ¬ mn x i < 100 := h3.resolve_left e
    rw [if_neg (fun z => q (z i (by omega)))]
    obtain ⟨m', hm'⟩ := it_FU (body := fun rec st => B_X0_areMinutes_12 (nI n) x rec st.1 st.2.1 st.2.2) (fun k => if k ≤ i then (σ, nI 1, nI k) else (σ, nI 0, nI k)) 0 (i + 1) (by omega) (by omega) (fun k _ hk rec => by
      show B_X0_areMinutes_12 (nI n) x rec (if k ≤ i then (σ, nI 1, nI k) else (σ, nI 0, nI k)).1 (if k ≤ i then (σ, nI 1, nI k) else (σ, nI 0, nI k)).2.1 (if k ≤ i then (σ, nI 1, nI k) else (σ, nI 0, nI k)).2.2 = rec (if k + 1 ≤ i then (σ, nI 1, nI (k + 1)) else (σ, nI 0, nI (k + 1)))
      rw [if_pos (by omega)]
      by_cases z : k = i
      · subst z
        have ml := mn_lt x k
        rw [if_neg (by omega)]
        simp (decide := true) (disch := omega) only [B_X0_areMinutes_12, F_X0_minutesOf, b1_some, b2_some, litI, neg1, nI_add, nI_mul, e1_p1, nI_e0, ib, ib1, ite_not, if_true, if_false, not_true_eq_false, not_false_eq_true, setI_hv, mn_eq, le_lit, show ¬ n ≤ k by omega, show 100 ≤ mn x k by omega]
      · have q : mn x k < 100 := Classical.not_not.mp (h2 k (by omega))
        rw [if_pos (by omega)]
        simp (decide := true) (disch := omega) only [B_X0_areMinutes_12, F_X0_minutesOf, b1_some, b2_some, litI, neg1, nI_add, nI_mul, e1_p1, nI_e0, ib, ib1, ite_not, if_true, if_false, not_true_eq_false, not_false_eq_true, setI_hv, mn_eq, le_lit, show ¬ n ≤ k by omega, show ¬ 100 ≤ mn x k by omega])
    have z1 : (if 0 ≤ i then (σ, nI 1, nI 0) else (σ, nI 0, nI 0) : Hp × Int32 × Int32) = (σ, nI 1, nI 0) := if_pos (by omega)
    have z2 : (if i + 1 ≤ i then (σ, nI 1, nI (i + 1)) else (σ, nI 0, nI (i + 1)) : Hp × Int32 × Int32) = (σ, nI 0, nI (i + 1)) := if_neg (by omega)
    simp only [z1, z2] at hm'
    refine Eq.trans hm' ?_
    simp (decide := true) (disch := omega) only [B_X0_areMinutes_12, b1_some, b2_some, litI, neg1, nI_add, nI_mul, e1_p1, nI_e0, ib, ib1, ite_not, if_true, if_false, not_true_eq_false, not_false_eq_true, setI_hv, zr_0', ite_self]
/-- n isn't within 1 .. 4 -/
theorem m_mins0 {σ : Hp} {n x : Int32} (h : ¬ inR n 1 4) : F_X10_areMinutes σ n x = some (nI 0, σ) := by
  unfold F_X10_areMinutes L_X10_areMinutes_9
  rw [x10_inR σ n 1 4 1 4 rfl rfl, if_neg h, b2_some]
  obtain ⟨m, hm⟩ := it_FU (body := fun rec st => B_X10_areMinutes_9 σ n x rec st.1 st.2) (fun k => (nI 0, nI 0)) 0 0 (by omega) (by omega) (fun k _ hk rec => by omega)
  refine Eq.trans hm ?_
  simp (decide := true) (disch := omega) only [B_X10_areMinutes_9, b1_some, b2_some, litI, neg1, nI_add, nI_mul, e1_p1, nI_e0, ib, ib1, ite_not, if_true, if_false, not_true_eq_false, not_false_eq_true, setI_hv, zr_0', ite_self]
theorem x_mins0 {σ : Hp} {n x : Int32} (h : ¬ inR n 1 4) : F_X0_areMinutes σ n x = some (nI 0, σ) := by
  unfold F_X0_areMinutes L_X0_areMinutes_12
  rw [x0_inR σ n 1 4 1 4 (by decide) (by decide), if_neg h, b2_some]
  obtain ⟨m, hm⟩ := it_FU (body := fun rec st => B_X0_areMinutes_12 n x rec st.1 st.2.1 st.2.2) (fun k => (σ, nI 0, nI 0)) 0 0 (by omega) (by omega) (fun k _ hk rec => by omega)
  refine Eq.trans hm ?_
  simp (decide := true) (disch := omega) only [B_X0_areMinutes_12, b1_some, b2_some, litI, neg1, nI_add, nI_mul, e1_p1, nI_e0, ib, ib1, ite_not, if_true, if_false, not_true_eq_false, not_false_eq_true, setI_hv, zr_0', ite_self]
/-! strengths lived on with: (of what is on top, of ghosts) -/
abbrev Lv : Type := (Nat → Nat) × (Nat → Nat)
def lvd (S : St) (L : Lv) : Lv := (fun c => dKv S (L.1 c) c, fun c => dWv S (L.2 c))
def lv1 (S : St) (r : Nat) (L : Lv) : Lv := lvd S (if r = 8 then L else (wK S r L.1 6, L.2))
def lvs (S : St) (p : Nat → Nat) : Nat → Lv
  | 0 => (S.2 10, S.2 12)
  | k + 1 => lv1 S (p k) (lvs S p k)
abbrev gne (S : St) (x : Int32) (k r : Nat) : Prop := r = 8 ∨ (cst S r ≠ 0 ∧ cst S r ≤ mn x k + 1)
noncomputable def sbv (S : St) (x : Int32) (p : Nat → Nat) (n : Nat) : Nat := if ∀ k, k < n → gne S x k (p k) then sts (S.2 9) (lvs S p n).1 + 1 else 0
theorem cst_le (S : St) (r : Nat) : cst S r ≤ 21 := by
  have h1 := dst_le S 0 r
  have h2 := stn_le (S.2 9) r
  unfold cst
  split <;> omega
theorem lvs_cg {S : St} {p q : Nat → Nat} : ∀ n, (∀ k, k < n → p k = q k) → lvs S p n = lvs S q n
  | 0, _ => rfl
  | n + 1, h => by
    show lv1 S (p n) (lvs S p n) = lv1 S (q n) (lvs S q n)
    rw [lvs_cg n (fun k hk => h k (by omega)), h n (by omega)]
theorem sbv_cg {S : St} {x : Int32} {p q : Nat → Nat} {n : Nat} (h : ∀ k, k < n → p k = q k) : sbv S x p n = sbv S x q n := by
  unfold sbv
  rw [lvs_cg n h]
  have e : (∀ k, k < n → gne S x k (p k)) = (∀ k, k < n → gne S x k (q k)) := by
    apply propext
    constructor
    · intro z k hk
      rw [← h k hk]
      exact z k hk
    · intro z k hk
      rw [h k hk]
      exact z k hk
  simp only [e]
theorem sts_le {T K : Nat → Nat} (h : ∀ c, c < 48 → K c ≤ 100) : sts T K ≤ 4800 := by
  have e : sts T K = sumR (fun c => if c < 48 then (if T c = 0 then 0 else K c) else 0) 0 48 := sumR_cg 0 48 (fun k hk => by
    exact (if_pos (by omega : 0 + k < 48)).symm)
  rw [e]
  refine Nat.le_trans (sumR_le (m := 100) (fun k => ?_) 0 48) (by omega)
  show (if k < 48 then (if T k = 0 then 0 else K k) else 0) ≤ 100
  by_cases q : k < 48
  · have := h k q
    rw [if_pos q]
    split <;> omega
  · rw [if_neg q]
    omega
def LB (S : St) (L : Lv) : Prop := ∀ c, c < 48 → L.1 c ≤ 100 ∧ L.2 c ≤ 100 ∧ (S.2 9 c = 0 → L.1 c = 0)
theorem LB.s1 {S : St} {L : Lv} (g : Good S) (h : LB S L) (r : Nat) : LB S (lv1 S r L) := fun c hc => by
  have b := h c hc
  have k1 : (if r = 8 then L else (wK S r L.1 6, L.2)).1 c ≤ 100 := by
    split
    · exact b.1
    · show wK S r L.1 6 c ≤ 100
      unfold wK
      split
      · exact wkv_le g c b.1
      · exact b.1
  have k2 : (if r = 8 then L else (wK S r L.1 6, L.2)).2 c ≤ 100 := by
    split
    · exact b.2.1
    · exact b.2.1
  refine ⟨dKv_le S k1, dWv_le S k2, fun q => ?_⟩
  show dKv S _ c = 0
  unfold dKv
  rw [if_pos q]
theorem lvs_b {S : St} (g : Good S) (p : Nat → Nat) : ∀ n, LB S (lvs S p n)
  | 0 => fun c hc => by
    have b := g.cn hc
    exact ⟨b.2.1, b.2.2.2.1, fun q => (b.2.2.2.2.2.1 q).1⟩
  | n + 1 => (lvs_b g p n).s1 g (p n)
theorem sbv_le {S : St} (g : Good S) (x : Int32) (p : Nat → Nat) (n : Nat) : sbv S x p n ≤ 4801 := by
  have := sts_le (T := S.2 9) (fun c hc => (lvs_b g p n c hc).1)
  unfold sbv
  split <;> omega
/-! the component: scratch, a copy of the house, the plan lived -/
theorem RepX.sx {N : Nat} {σ : Hp} {f f' : Nat → Nat → Int32} {S : St} (h : RepX N (hv σ f) S) (hf : ∀ a k, (∀ o, (110 ≤ o ∧ o < 208) ∨ o = 211 ∨ o = 212 ∨ (224 ≤ o ∧ o < 233) → a ≠ N + o) → f' a k = f a k) : RepX N (hv σ f') S := by
  obtain ⟨g1, g2, hA, hB, hC, hD, hE, hF, hG, L, l1, l2, l3, l4⟩ := h
  have hx3 : ∀ x ∈ xAr, x.1 = 10 ∨ x.1 = 11 ∨ x.1 = 208 := by decide
  have ho : ∀ o k, o < 110 ∨ o = 208 ∨ o = 210 ∨ (214 ≤ o ∧ o < 224) ∨ 233 ≤ o → f' (N + o) k = f (N + o) k := fun o k q => hf _ k (fun o' h' => by omega)
  refine ⟨g1, g2, fun x hx => ?_, fun x hx i hi => ?_, fun a b ha hb => ?_, fun c hc => ?_, fun i hi => ?_, fun p hp => ?_, fun a b ha hb => ?_, L, l1, l2, l3, fun i hi => ?_⟩
  · exact (ho 0 _ (by omega)).trans (hA x hx)
  · exact (ho _ _ (by have := hx3 x hx; omega)).trans (hB x hx i hi)
  · have e2 : hI (hv σ f') (N + (2 + a)) b = hI (hv σ f) (N + (2 + a)) b := ho _ _ (by omega)
    rw [e2]
    exact hC a b ha hb
  · have d := hD c hc
    exact ⟨(ho _ _ (by omega)).trans d.1, (ho _ _ (by omega)).trans d.2.1, (ho _ _ (by omega)).trans d.2.2.1, (ho _ _ (by omega)).trans d.2.2.2.1, (ho _ _ (by omega)).trans d.2.2.2.2⟩
  · exact (ho _ _ (by omega)).trans (hE i hi)
  · exact ⟨(ho _ _ (by omega)).trans (hF p hp).1, fun k hk => ⟨(ho _ _ (by omega)).trans ((hF p hp).2 k hk).1, (ho _ _ (by omega)).trans ((hF p hp).2 k hk).2⟩⟩
  · exact (ho _ _ (by omega)).trans (hG a b ha hb)
  · obtain ⟨a, q1, q2, q3, q4⟩ := l4 i hi
    refine ⟨a, q1, q2, q3, ?_⟩
    unfold LnAt
    have ea : ∀ k, hI (hv σ f') a k = hI (hv σ f) a k := fun k => hf a k (fun o h' => by omega)
    rw [ea, ea]
    exact q4
theorem x_copy {N : Nat} {σ : Hp} {f : Nat → Nat → Int32} {S : St} (h : RepX N (hv σ f) S) : ∃ f', F_X1_copy (hv σ f) (N + 110) (N + 12) = some (hv σ f') ∧ HD (N + 110) f' (S.2 9) (S.2 10) (S.2 11) (S.2 12) ∧ ∀ a k, (∀ o, 110 ≤ o → o < 208 → a ≠ N + o) → f' a k = f a k := by
  have s : SX N σ := h.1
  have hs := s.h12
  have ht := s.h110
  unfold F_X1_copy L_X1_copy_2
  rw [ht.D]
  obtain ⟨st, r, ⟨f', e1', p1, p2⟩, e⟩ := it_invF (body := fun rec st => B_X1_copy_2 (N + 110) (N + 12) rec st.1 st.2) (fun i st => ∃ f', st = (hv σ f', nI i) ∧ (∀ c, c < i → f' (N + 110 + (2 + 2 * c)) 0 = e1 (S.2 9 c) ∧ f' (N + 110 + (2 + 2 * c)) 1 = nI (S.2 10 c) ∧ f' (N + 110 + (3 + 2 * c)) 0 = e1 (S.2 11 c) ∧ f' (N + 110 + (3 + 2 * c)) 1 = nI (S.2 12 c)) ∧ ∀ a k, (∀ o, 110 ≤ o → o < 208 → a ≠ N + o) → f' a k = f a k) 0 48 (by omega) (by omega) (fun i st _ hi hp => by
    obtain ⟨f1, rfl, p1, p2⟩ := hp
    have a9 : f1 (N + 12 + (2 + 2 * i)) 0 = e1 (S.2 9 i) := (p2 _ _ (fun o _ _ => by omega)).trans (h.a9 hi)
    have a10 : f1 (N + 12 + (2 + 2 * i)) 1 = nI (S.2 10 i) := (p2 _ _ (fun o _ _ => by omega)).trans (h.a10 hi)
    have a11 : f1 (N + 12 + (3 + 2 * i)) 0 = e1 (S.2 11 i) := (p2 _ _ (fun o _ _ => by omega)).trans (h.a11 hi)
    have a12 : f1 (N + 12 + (3 + 2 * i)) 1 = nI (S.2 12 i) := (p2 _ _ (fun o _ _ => by omega)).trans (h.a12 hi)
    refine ⟨_, ⟨u2 (u2 (u2 (u2 f1 (N + 110 + (2 + 2 * i)) 0 (e1 (S.2 9 i))) (N + 110 + (2 + 2 * i)) 1 (nI (S.2 10 i))) (N + 110 + (3 + 2 * i)) 0 (e1 (S.2 11 i))) (N + 110 + (3 + 2 * i)) 1 (nI (S.2 12 i)), rfl, fun c hc => ?_, fun a k ha => ?_⟩, fun rec => ?_⟩
    · by_cases q : c = i
      · subst q
        simp (disch := omega) only [u2_e, u2_n, and_self]
      · have := p1 c (by omega)
        simp (disch := omega) only [u2_n]
        exact this
    · have n1 := ha (112 + 2 * i) (by omega) (by omega)
      have n2 := ha (113 + 2 * i) (by omega) (by omega)
      rw [u2_n (by omega), u2_n (by omega), u2_n (by omega), u2_n (by omega)]
      exact p2 a k ha
    · simp (decide := true) (disch := omega) only [B_X1_copy_2, F_X3_copy, F_X2_copy_3, F_X2_copy_4, F_X2_lay_3, F_X2_lay_4, hs.D, hs.R0, hs.C, hs.CD, hs.CI, hs.CW, hs.G, hs.GD, hs.GI, hs.GW, ht.D, ht.R0, ht.C, ht.CD, ht.CI, ht.CW, ht.G, ht.GD, ht.GI, ht.GW, b1_some, b2_some, litI, neg1, nI_add, nI_mul, e1_p1, nI_e0, ib, ib1, ite_not, if_true, if_false, not_true_eq_false, not_false_eq_true, setI_hv, le_lit, show ¬ 48 ≤ i by omega, a9, a10, a11, a12, u2_n]) (hv σ f, nI 0) ⟨f, rfl, fun c hc => absurd hc (Nat.not_lt_zero c), fun _ _ _ => rfl⟩
  subst e1'
  refine ⟨f', e.trans ?_, p1, p2⟩
  simp (decide := true) (disch := omega) only [B_X1_copy_2, b1_some, b2_some, litI, neg1, nI_add, nI_mul, e1_p1, nI_e0, ib, ib1, ite_not, if_true, if_false, not_true_eq_false, not_false_eq_true, setI_hv, le_lit, Nat.le_refl]
theorem x_sb {N : Nat} {σ : Hp} {f : Nat → Nat → Int32} {S : St} (g : Good S) (h : RepX N (hv σ f) S) {n : Nat} {x : Int32} {p : Nat → Nat} (hn : n ≤ 4) (hp : ∀ i, i < n → p i ≤ 8 ∧ f (N + 230) i = nI (p i)) (hc : ∀ r, r < 8 → f (N + 231) r = e1 (cst S r)) : ∃ f', F_X0_strengthBehind (hv σ f) N (nI n) x = some (e1 (sbv S x p n), hv σ f') ∧ ∀ a k, (∀ o, 110 ≤ o → o < 208 → a ≠ N + o) → f' a k = f a k := by
  have s : SX N σ := h.1
  have ht := s.h110
  obtain ⟨f0, c1, c2, c3⟩ := x_copy h
  obtain ⟨i0, hi0, h2, h3⟩ := first (P := fun k => ¬ gne S x k (p k)) n
  obtain ⟨st, r, ⟨f', G, es, p1, p2, p3⟩, e⟩ := it_invF (body := fun rec st => B_X0_strengthBehind_13 N (nI n) x rec st.1 st.2) (fun i st => ∃ f' G, st = (hv σ f', nI i) ∧ HD (N + 110) f' (S.2 9) (lvs S p i).1 G (lvs S p i).2 ∧ HB (S.2 9) (lvs S p i).1 G (lvs S p i).2 ∧ ∀ a k, (∀ o, 110 ≤ o → o < 208 → a ≠ N + o) → f' a k = f a k) 0 i0 (by omega) (by omega) (fun i st _ hi hq => by
    obtain ⟨f1, G, rfl, p1, p2, p3⟩ := hq
    have pi := hp i (by omega)
    have a230 : f1 (N + 230) i = nI (p i) := (p3 _ _ (fun o _ _ => by omega)).trans pi.2
    have lk : LkX N f1 S := h.lk.cg (fun a k ha => p3 a k (fun o _ _ => by omega))
    have gi : gne S x i (p i) := Classical.not_not.mp (h2 i hi)
    generalize hL : lvs S p i = Li at p1 p2
    by_cases q : p i = 8
    · have gy := x_goBy g s ht (by omega) lk p1 p2
      have e1' : lv1 S (p i) Li = lvd S Li := by
        unfold lv1
        rw [if_pos q]
      have e2 : lvs S p (i + 1) = lvd S Li := (congrArg (lv1 S (p i)) hL).trans e1'
      rw [e2]
      refine ⟨_, ⟨gb (N + 110) S Li.1 G Li.2 f1 48, fun c => dGv S (Li.2 c) (G c), rfl, gb_hd p1, p2.day, fun a k ha => (gb_off 48 (fun c hc => ?_)).trans (p3 a k ha)⟩, fun rec => ?_⟩
      · have n1 := ha (112 + 2 * c) (by omega) (by omega)
        have n2 := ha (113 + 2 * c) (by omega) (by omega)
        omega
      · simp (decide := true) (disch := omega) only [B_X0_strengthBehind_13, gd_hv s.t0, gI_hv s.t0, pI_hv s.t0, s.R8, s.R19, s.A230, s.W230, b1_some, b2_some, litI, neg1, nI_add, nI_mul, e1_p1, nI_e0, ib, ib1, ite_not, if_true, if_false, not_true_eq_false, not_false_eq_true, setI_hv, le_lit, eq_lit, show ¬ n ≤ i by omega, a230, q, gy]
    · have wl := x_walk' g s ht (by omega) lk p1 p2 (r := p i) (by omega)
      have d2 := wx_hd p1 (p i)
      have b2 := p2.walk g (p i) 6
      have lk2 : LkX N (wx (N + 110) S Li.1 (p i) f1 6) S := lk.cg (fun a k ha => wx_off 6 (fun j hj => by omega))
      have gy := x_goBy g s ht (by omega) lk2 d2 b2
      have c1 := cst_le S (p i)
      have ml := mn_lt x i
      have gi' : cst S (p i) ≠ 0 ∧ cst S (p i) ≤ mn x i + 1 := gi.resolve_left q
      have a231 : f1 (N + 231) (p i) = nI (cst S (p i) - 1) := ((p3 _ _ (fun o _ _ => by omega)).trans (hc (p i) (by omega))).trans (e1_of (by omega))
      have e1' : lv1 S (p i) Li = lvd S (wK S (p i) Li.1 6, Li.2) := by
        unfold lv1
        rw [if_neg q]
      have e2 : lvs S p (i + 1) = lvd S (wK S (p i) Li.1 6, Li.2) := (congrArg (lv1 S (p i)) hL).trans e1'
      have w230 : wx (N + 110) S Li.1 (p i) f1 6 (N + 230) i = nI (p i) := (wx_off 6 (fun j hj => by omega)).trans a230
      rw [e2]
      refine ⟨_, ⟨gb (N + 110) S (wK S (p i) Li.1 6) G Li.2 (wx (N + 110) S Li.1 (p i) f1 6) 48, fun c => dGv S (Li.2 c) (G c), rfl, gb_hd d2, b2.day, fun a k ha => ((gb_off 48 (fun c hc => ?_)).trans (wx_off 6 (fun j hj => ?_))).trans (p3 a k ha)⟩, fun rec => ?_⟩
      · have n1 := ha (112 + 2 * c) (by omega) (by omega)
        have n2 := ha (113 + 2 * c) (by omega) (by omega)
        omega
      · have n1 := ha (112 + 2 * (6 * p i + j)) (by omega) (by omega)
        omega
      · simp (decide := true) (disch := omega) only [B_X0_strengthBehind_13, F_X0_minutesOf, gd_hv s.t0, gI_hv s.t0, pI_hv s.t0, s.R8, s.R19, s.A230, s.W230, s.R20, s.A231, s.W231, b1_some, b2_some, litI, neg1, nI_add, nI_mul, e1_p1, nI_e0, ib, ib1, ite_not, if_true, if_false, not_true_eq_false, not_false_eq_true, setI_hv, le_lit, eq_lit, show ¬ n ≤ i by omega, a230, a231, q, show cst S (p i) - 1 ≤ mn x i by omega, mn_eq, wl, gy]) (hv σ f0, nI 0) ⟨f0, S.2 11, rfl, c2, g.hb, c3⟩
  subst es
  have L0 : F_X0_strengthBehind (hv σ f) N (nI n) x = B_X0_strengthBehind_13 N (nI n) x r (hv σ f') (nI i0) := by
    refine Eq.trans ?_ e
    unfold F_X0_strengthBehind L_X0_strengthBehind_13
    simp (decide := true) (disch := omega) only [gd_hv s.t0, gI_hv s.t0, pI_hv s.t0, s.R7, s.R8, b1_some, b2_some, litI, neg1, nI_add, nI_mul, e1_p1, nI_e0, ib, ib1, ite_not, if_true, if_false, not_true_eq_false, not_false_eq_true, setI_hv, c1]
  refine ⟨f', L0.trans ?_, p3⟩
  unfold sbv
  by_cases ei : i0 = n
  · subst ei
    rw [if_pos (fun k hk => Classical.not_not.mp (h2 k hk))]
    simp (decide := true) (disch := omega) only [B_X0_strengthBehind_13, gd_hv s.t0, gI_hv s.t0, pI_hv s.t0, s.R8, b1_some, b2_some, litI, neg1, nI_add, nI_mul, e1_p1, nI_e0, ib, ib1, ite_not, if_true, if_false, not_true_eq_false, not_false_eq_true, setI_hv, le_lit, Nat.le_refl, x_sts ht p1 p2, e1_s]
  · have gn : ¬ gne S x i0 (p i0) := h3.resolve_left ei
    rw [if_neg (fun z => gn (z i0 (by omega)))]
    have pi := hp i0 (by omega)
    have a230 : f' (N + 230) i0 = nI (p i0) := (p3 _ _ (fun o _ _ => by omega)).trans pi.2
    have q : ¬ p i0 = 8 := fun z => gn (Or.inl z)
    have c1 := cst_le S (p i0)
    have ml := mn_lt x i0
    have a231 : f' (N + 231) (p i0) = e1 (cst S (p i0)) := (p3 _ _ (fun o _ _ => by omega)).trans (hc (p i0) (by omega))
    by_cases q2 : cst S (p i0) = 0
    · simp (decide := true) (disch := omega) only [B_X0_strengthBehind_13, gd_hv s.t0, gI_hv s.t0, pI_hv s.t0, s.R8, s.R19, s.A230, s.W230, s.R20, s.A231, s.W231, b1_some, b2_some, litI, neg1, nI_add, nI_mul, e1_p1, nI_e0, ib, ib1, ite_not, if_true, if_false, not_true_eq_false, not_false_eq_true, setI_hv, le_lit, eq_lit, show ¬ n ≤ i0 by omega, a230, a231, q, q2]
    · have q3 : ¬ cst S (p i0) ≤ mn x i0 + 1 := fun z => gn (Or.inr ⟨q2, z⟩)
      rw [e1_of (by omega)] at a231
      simp (decide := true) (disch := omega) only [B_X0_strengthBehind_13, F_X0_minutesOf, gd_hv s.t0, gI_hv s.t0, pI_hv s.t0, s.R8, s.R19, s.A230, s.W230, s.R20, s.A231, s.W231, b1_some, b2_some, litI, neg1, nI_add, nI_mul, e1_p1, nI_e0, ib, ib1, ite_not, if_true, if_false, not_true_eq_false, not_false_eq_true, setI_hv, le_lit, eq_lit, show ¬ n ≤ i0 by omega, a230, a231, q, show ¬ cst S (p i0) - 1 ≤ mn x i0 by omega, mn_eq]
