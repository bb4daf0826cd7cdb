set_option maxRecDepth 100000
/-! pure law: the twin reads all lines -/
def FrT (M : Nat) (τ τ' : Hp) : Prop := hZ τ' = hZ τ ∧ (∀ a, hT τ' a = hT τ a) ∧ (∀ a k, hR τ' a k = hR τ a k) ∧ (∀ a k, a < M ∨ M + 26 ≤ a → hI τ' a k = hI τ a k) ∧ ∀ a k, a ≠ M → hL τ' a k = hL τ a k
theorem FrT.rf {M : Nat} {τ : Hp} : FrT M τ τ := ⟨rfl, fun _ => rfl, fun _ _ => rfl, fun _ _ _ => rfl, fun _ _ _ => rfl⟩
theorem FrT.tr {M : Nat} {τ τ1 τ2 : Hp} (h : FrT M τ τ1) (h' : FrT M τ1 τ2) : FrT M τ τ2 := ⟨h'.1.trans h.1, fun a => (h'.2.1 a).trans (h.2.1 a), fun a k => (h'.2.2.1 a k).trans (h.2.2.1 a k), fun a k ha => (h'.2.2.2.1 a k ha).trans (h.2.2.2.1 a k ha), fun a k ha => (h'.2.2.2.2 a k ha).trans (h.2.2.2.2 a k ha)⟩
theorem FrN.t {M : Nat} {τ τ' : Hp} (h : FrN M τ τ') : FrT M τ τ' := ⟨h.1, h.2.1, h.2.2.1, fun a k ha => h.2.2.2.1 a k (by omega), fun a k ha => h.2.2.2.2 a k (by omega)⟩
theorem FrT.m {M : Nat} {τ τ' : Hp} (h : FrT M τ τ') : FrM M τ τ' := ⟨fun a ha => ⟨h.2.1 a, fun k => h.2.2.2.1 a k ha, fun k => h.2.2.1 a k, fun k => h.2.2.2.2 a k (by omega)⟩, h.1⟩
theorem FrT.si {M : Nat} {τ τ1 : Hp} (h : FrT M τ τ1) {o k : Nat} {v : Int32} (ho : o < 26) : FrT M τ (setI τ1 (M + o) k v) := ⟨h.1, h.2.1, h.2.2.1, fun a j ha => (hI_ne _ _ (by omega)).trans (h.2.2.2.1 a j ha), h.2.2.2.2⟩
theorem FrT.s0 {M : Nat} {τ τ1 : Hp} (h : FrT M τ τ1) {k : Nat} {v : Int32} : FrT M τ (setI τ1 M k v) := h.si (o := 0) (by omega)
theorem RepM.frn {M : Nat} {τ τ' : Hp} {S : St} (h : RepM M τ S) (hf : FrN M τ τ') : RepM M τ' S := by
  obtain ⟨h1, h2, h3, h4⟩ := h
  have hs : ∀ k ∈ pSc, k ≠ 21 ∧ k ≠ 22 ∧ k ≠ 24 ∧ k ≠ 25 := by decide
  refine ⟨⟨(hf.2.1 M).trans h1.1, fun x hx => ⟨(hf.2.2.1 _ _).trans (h1.2 x hx).1, (hf.2.1 _).trans (h1.2 x hx).2⟩⟩, by rw [hf.1]; exact h2, fun k hk => (hf.2.2.2.1 _ _ (by have := hs k hk; omega)).trans (h3 k hk), fun x hx i hi => (hf.2.2.2.1 _ _ (by have := pTab_pos x hx; omega)).trans (h4 x hx i hi)⟩
theorem good28 {S : St} (g : Good S) (rd : Nat → Nat) : Good (wA S 28 rd) := g
theorem m_next28 {M : Nat} {τ : Hp} {S : St} {rd : Nat → Nat} (g : Good S) (h0 : RepM M τ (wA S 28 rd)) {p : Nat} (hp : p ≤ S.1 19) (h21 : hI τ M 21 = nI p) : ∃ τ', F_X10_nextToken τ M = some τ' ∧ FrN M τ τ' ∧ hI τ' M 21 = nI (isE S p) ∧ hI τ' M 22 = nI (isA S p) ∧ Tk S p (hL τ' M 23) ∧ (nmb S p → hI τ' M 25 = nI (nv S p)) := m_next (S := wA S 28 rd) (good28 g rd) h0 hp h21
theorem w28_up (S : St) (rd : Nat → Nat) (i v : Nat) : w2 (wA S 28 rd) 28 i v = wA S 28 (up rd i v) := by
  unfold w2 wA u2
  refine Prod.ext rfl ?_
  funext q j
  show (if q = 28 ∧ j = i then v else (if q = 28 then rd else S.2 q) j) = (if q = 28 then up rd i v else S.2 q) j
  by_cases c : q = 28
  · rw [if_pos c, if_pos c]
    unfold up
    by_cases e : j = i
    · rw [if_pos ⟨c, e⟩, if_pos e]
    · rw [if_neg (fun z => e z.2), if_neg e]
  · rw [if_neg (fun z => c z.1), if_neg c, if_neg c]
theorem RepM.rd {M : Nat} {τ : Hp} {S : St} {rd : Nat → Nat} (h : RepM M τ (wA S 28 rd)) (i v : Nat) : RepM M (setI τ (M + 17) i (nI v)) (wA S 28 (up rd i v)) := by
  have := h.set (28, 17, 30) (by decide) i v
  have e : w2 (wA S 28 rd) (28, 17, 30).1 i v = wA S 28 (up rd i v) := w28_up S rd i v
  rw [e] at this
  exact this
/-- what a part of a line comes to -/
def MO (M : Nat) (τ0 : Hp) (S : St) (x : Option (Int32 × Hp)) (o : Out) : Prop := (o.1 = true ∧ ∃ τ', x = some (nI 1, τ') ∧ FrT M τ0 τ' ∧ RepM M τ' (wA S 28 o.2.2) ∧ hI τ' M 21 = nI o.2.1 ∧ o.2.1 ≤ S.1 19 ∧ hI τ' M 27 = hI τ0 M 27) ∨ (o.1 = false ∧ ∃ τ', x = some (nI 0, τ') ∧ FrT M τ0 τ' ∧ RepM M τ' (wA S 28 o.2.2) ∧ hI τ' M 26 = nI o.2.1)
theorem MO.tr {M : Nat} {τ0 τ1 : Hp} {S : St} {x : Option (Int32 × Hp)} {o : Out} (h : MO M τ1 S x o) (f : FrT M τ0 τ1) (e : hI τ1 M 27 = hI τ0 M 27) : MO M τ0 S x o := by
  rcases h with ⟨q, τ', a, b, c, d, k, m⟩ | ⟨q, τ', a, b, c, d⟩
  · exact Or.inl ⟨q, τ', a, f.tr b, c, d, k, m.trans e⟩
  · exact Or.inr ⟨q, τ', a, f.tr b, c, d⟩
theorem m_fails {M : Nat} {τ : Hp} (s : SM M τ) {q : Nat} (h : hI τ M 22 = nI q) : F_X10_fails τ M = some (nI 0, setI τ M 26 (nI q)) := by
  unfold F_X10_fails
  rw [gd_at s.1, gI_at s.1, b1_some, h, pI_at s.1, b1_some]
  rfl
theorem m_number {M : Nat} {τ : Hp} {S : St} {rd : Nat → Nat} (g : Good S) (h0 : RepM M τ (wA S 28 rd)) {p at' lo hi : Nat} (hp : p ≤ S.1 19) (h21 : hI τ M 21 = nI p) (ha : at' < 30) (hlo : lo ≤ 99) (hhi : hi ≤ 99) : MO M τ S (F_X10_isNumber τ M (nI at') (nI lo) (nI hi)) (num1 S p at' lo hi rd) := by
  obtain ⟨τ1, t1, t2, t3, t4, t5, t6⟩ := m_next28 g h0 hp h21
  have r1 := h0.frn t2
  have s : SM M τ := h0.1
  have s1 : SM M τ1 := r1.1
  have E := (isE_ok g hp).2.1
  have fl := m_fails s1 t4
  have r26 : RepM M (setI τ1 M 26 (nI (isA S p))) (wA S 28 rd) := r1.scrS 26 (by decide) _
  have e27 : hI τ1 M 27 = hI τ M 27 := t2.2.2.2.1 _ _ (by omega)
  unfold F_X10_isNumber num1
  rw [gd_at s.1, t1, b1_some, gL_at s1.1, b1_some]
  by_cases qn : nmb S p
  · have v1 := t5.1.mpr qn
    have nl := nv_lt g hp qn
    rw [if_pos (show lg_cmp (hL τ1 M 23) (-1) = 0 by rw [lg_eq]; exact v1), gI_at s1.1, b1_some, t6 qn, x10_in, b2_some]
    by_cases qr : lo ≤ nv S p ∧ nv S p ≤ hi
    · left
      rw [if_pos (show nok S p lo hi from ⟨qn, qr⟩), if_pos (show nI lo ≤ nI (nv S p) ∧ nI (nv S p) ≤ nI hi from inR_of qr.1 qr.2 (by omega)), if_neg (show ¬ (1 : Int32) = 0 by decide), s1.r28, b1_some, gI_at s1.1, b1_some, t6 qn, sI_at s1.n28 ha (by omega), b1_some]
      exact ⟨rfl, _, rfl, t2.t.si (by omega), r1.rd at' (nv S p), (hI_ne _ _ (by omega)).trans t3, E, (hI_ne _ _ (by omega)).trans e27⟩
    · right
      have nr : ¬ (nI lo ≤ nI (nv S p) ∧ nI (nv S p) ≤ nI hi) := fun z => qr (by
        have z1 := z.1
        have z2 := z.2
        rw [le_lit (by omega) (by omega)] at z1 z2
        exact ⟨z1, z2⟩)
      rw [if_neg (show ¬ nok S p lo hi from fun z => qr z.2), if_neg nr, if_pos (show (0 : Int32) = 0 from rfl), fl, b2_some, zr_0']
      exact ⟨rfl, _, rfl, t2.t.s0, r26, hI_same _ _ _ _⟩
  · right
    have v1 : ¬ hL τ1 M 23 = -1 := fun z => qn (t5.1.mp z)
    rw [if_neg (show ¬ lg_cmp (hL τ1 M 23) (-1) = 0 by rw [lg_eq]; exact v1), if_neg (show ¬ nok S p lo hi from fun z => qn z.1), fl, b2_some, zr_0']
    exact ⟨rfl, _, rfl, t2.t.s0, r26, hI_same _ _ _ _⟩
theorem m_word {M : Nat} {τ : Hp} {S : St} {rd : Nat → Nat} (g : Good S) (h0 : RepM M τ (wA S 28 rd)) {p w : Nat} (hp : p ≤ S.1 19) (h21 : hI τ M 21 = nI p) (hw : w < 5) : MO M τ S (F_X10_isWord τ M (nL (wnl.getD w 0))) (wrd1 S p w rd) := by
  obtain ⟨τ1, t1, t2, t3, t4, t5, t6⟩ := m_next28 g h0 hp h21
  have r1 := h0.frn t2
  have s : SM M τ := h0.1
  have s1 : SM M τ1 := r1.1
  have E := (isE_ok g hp).2.1
  have fl := m_fails s1 t4
  have r26 : RepM M (setI τ1 M 26 (nI (isA S p))) (wA S 28 rd) := r1.scrS 26 (by decide) _
  have e27 : hI τ1 M 27 = hI τ M 27 := t2.2.2.2.1 _ _ (by omega)
  unfold F_X10_isWord wrd1
  rw [gd_at s.1, t1, b1_some, gL_at s1.1, b1_some]
  by_cases qw : wd S p w
  · left
    rw [if_pos (show lg_cmp (hL τ1 M 23) (nL (wnl.getD w 0)) = 0 by rw [lg_eq]; exact (t5.2.2.2 w hw).mpr qw), if_pos qw]
    exact ⟨rfl, _, rfl, t2.t, r1, t3, E, e27⟩
  · right
    rw [if_neg (show ¬ lg_cmp (hL τ1 M 23) (nL (wnl.getD w 0)) = 0 by rw [lg_eq]; exact fun z => qw ((t5.2.2.2 w hw).mp z)), if_neg qw, fl, b2_some, if_pos (show nI 0 = 0 from rfl)]
    exact ⟨rfl, _, rfl, t2.t.s0, r26, hI_same _ _ _ _⟩
/-- one part after another -/
theorem m_bnd {M : Nat} {τ : Hp} {S : St} {x : Option (Int32 × Hp)} {o : Out} {k : Nat → (Nat → Nat) → Out} {K : Hp → Option (Int32 × Hp)} (h : MO M τ S x o) (hK : ∀ τ1, o.1 = true → FrT M τ τ1 → RepM M τ1 (wA S 28 o.2.2) → hI τ1 M 21 = nI o.2.1 → o.2.1 ≤ S.1 19 → MO M τ1 S (K τ1) (k o.2.1 o.2.2)) : MO M τ S (b2 x (fun v s3 => if v = 0 then some (0, s3) else K s3)) (bnd o k) := by
  unfold bnd
  rcases h with ⟨q, τ', a, b, c, d, kk, m⟩ | ⟨q, τ', a, b, c, d⟩
  · rw [if_pos q, a, b2_some, if_neg (by decide)]
    exact (hK τ' q b c d kk).tr b m
  · rw [if_neg (by rw [q]; exact Bool.false_ne_true), a, b2_some, if_pos (show nI 0 = 0 from rfl)]
    exact Or.inr ⟨q, τ', rfl, b, c, d⟩
theorem MO.if1 {M : Nat} {τ : Hp} {S : St} {x : Option (Int32 × Hp)} {o : Out} (h : MO M τ S x o) : MO M τ S (b2 x (fun v s3 => if v = 0 then some (0, s3) else some (1, s3))) o := by
  rcases h with ⟨q, τ', a, b, c, d, kk, m⟩ | ⟨q, τ', a, b, c, d⟩
  · rw [a, b2_some, if_neg (by decide)]
    exact Or.inl ⟨q, τ', rfl, b, c, d, kk, m⟩
  · rw [a, b2_some, if_pos (show nI 0 = 0 from rfl)]
    exact Or.inr ⟨q, τ', rfl, b, c, d⟩
theorem MO.zr {M : Nat} {τ : Hp} {S : St} {x : Option (Int32 × Hp)} {o : Out} (h : MO M τ S x o) : MO M τ S (b2 x (fun v s3 => zr v (some (v, s3)))) o := by
  rcases h with ⟨q, τ', a, b, c, d, kk, m⟩ | ⟨q, τ', a, b, c, d⟩
  · rw [a, b2_some, zr_1']
    exact Or.inl ⟨q, τ', rfl, b, c, d, kk, m⟩
  · rw [a, b2_some, zr_0']
    exact Or.inr ⟨q, τ', rfl, b, c, d⟩
theorem m_line {M : Nat} {τ : Hp} {S : St} {rd : Nat → Nat} (g : Good S) (h0 : RepM M τ (wA S 28 rd)) {p at' : Nat} (hp : p ≤ S.1 19) (h21 : hI τ M 21 = nI p) (ha : at' + 2 < 30) : MO M τ S (F_X10_isLine τ M (nI at')) (lnS S p at' rd) := by
  obtain ⟨τ1, t1, t2, t3, t4, t5, t6⟩ := m_next28 g h0 hp h21
  have r1 := h0.frn t2
  have s : SM M τ := h0.1
  have s1 : SM M τ1 := r1.1
  have E := (isE_ok g hp).2.1
  have e27 : hI τ1 M 27 = hI τ M 27 := t2.2.2.2.1 _ _ (by omega)
  have a1 : nI at' + 1 = nI (at' + 1) := nI_add at' 1
  have a2 : nI at' + 2 = nI (at' + 2) := nI_add at' 2
  -- the row's first two
  have st : ∀ k, ∃ τ2, τ2 = setI (setI τ1 (M + 17) at' (nI k)) (M + 17) (at' + 1) (nI 0) ∧ FrT M τ τ2 ∧ RepM M τ2 (wA S 28 (ln0 at' k rd)) ∧ hI τ2 M 21 = nI (isE S p) ∧ hI τ2 M 22 = nI (isA S p) ∧ hI τ2 M 27 = hI τ M 27 ∧ F_X10_isLine_70 τ1 M (nI at') (nI k) (nI at') (M + 17) = (if nI k = 0 then b2 (F_X10_isNumber τ2 M (nI (at' + 1)) 0 7) (fun v4 s3 => (if v4 = 0 then some (0, s3) else b2 (F_X10_isNumber s3 M (nI (at' + 2)) 0 8) (fun v5 s4 => (if v5 = 0 then some (0, s4) else some (1, s4))))) else (if nI k = 1 then b2 (F_X10_isNumber τ2 M (nI (at' + 2)) 1 99) (fun v6 s5 => zr v6 (some (v6, s5))) else (if nI k = 2 then b2 (F_X10_isNumber τ2 M (nI (at' + 2)) 0 8) (fun v7 s6 => zr v7 (some (v7, s6))) else (if nI k = 3 then b2 (F_X10_isNumber τ2 M (nI (at' + 1)) 0 7) (fun v8 s7 => (if v8 = 0 then some (0, s7) else b2 (F_X10_isWord s7 M 3094387) (fun v9 s8 => (if v9 = 0 then some (0, s8) else b2 (F_X10_isNumber s8 M (nI (at' + 2)) 1 99) (fun v10 s9 => (if v10 = 0 then some (0, s9) else some (1, s9))))))) else b2 (F_X10_fails τ2 M) (fun v11 s10 => zr v11 (some (v11, s10))))))) := fun k => by
    refine ⟨_, rfl, (t2.t.si (by omega)).si (by omega), (r1.rd at' k).rd (at' + 1) 0, (hI_ne _ _ (by omega)).trans ((hI_ne _ _ (by omega)).trans t3), (hI_ne _ _ (by omega)).trans ((hI_ne _ _ (by omega)).trans t4), (hI_ne _ _ (by omega)).trans ((hI_ne _ _ (by omega)).trans e27), ?_⟩
    have e3 : hI (setI (setI τ1 (M + 17) at' (nI k)) (M + 17) (at' + 1) (nI 0)) (M + 17) at' = nI k := by rw [hI_ne _ _ (by omega), hI_same]
    unfold F_X10_isLine_70
    rw [sI_at s1.n28 (by omega) (by omega), b1_some, SM.r28 (show SM M (setI τ1 (M + 17) at' (nI k)) from s1), b1_some, a1, (show sI 0 (M + 17) (nI (at' + 1)) 0 (setI τ1 (M + 17) at' (nI k)) = some (setI (setI τ1 (M + 17) at' (nI k)) (M + 17) (at' + 1) (nI 0)) from sI_at (SM.n28 (show SM M (setI τ1 (M + 17) at' (nI k)) from s1)) (by omega) (by omega)), b1_some,
      SM.r28 (show SM M (setI (setI τ1 (M + 17) at' (nI k)) (M + 17) (at' + 1) (nI 0)) from s1), b1_some, aI_at (SM.n28 (show SM M (setI (setI τ1 (M + 17) at' (nI k)) (M + 17) (at' + 1) (nI 0)) from s1)) (by omega) (by omega), b1_some, e3, a2]
  have hd : F_X10_isLine τ M (nI at') = F_X10_isLine_70 τ1 M (nI at') (nI (if wd S p 0 then 0 else if wd S p 1 then 1 else if wd S p 2 then 2 else if wd S p 3 then 3 else 4294967295)) (nI at') (M + 17) := by
    have w0 : (lg_cmp (hL τ1 M 23) 365647 = 0) = wd S p 0 := by rw [lg_eq]; exact propext (t5.2.2.2 0 (by omega))
    have w1' : (lg_cmp (hL τ1 M 23) 670208 = 0) = wd S p 1 := by rw [lg_eq]; exact propext (t5.2.2.2 1 (by omega))
    have w2' : (lg_cmp (hL τ1 M 23) 847604 = 0) = wd S p 2 := by rw [lg_eq]; exact propext (t5.2.2.2 2 (by omega))
    have w3' : (lg_cmp (hL τ1 M 23) 453773 = 0) = wd S p 3 := by rw [lg_eq]; exact propext (t5.2.2.2 3 (by omega))
    unfold F_X10_isLine
    rw [gd_at s.1, t1, b1_some, s1.r28, b1_some, gL_at s1.1, b1_some, b1_some, b1_some, b1_some]
    by_cases q0 : wd S p 0
    · rw [if_pos (w0 ▸ q0), if_pos q0]; rfl
    · rw [if_neg (fun z => q0 (w0 ▸ z)), if_neg q0]
      by_cases q1 : wd S p 1
      · rw [if_pos (w1' ▸ q1), if_pos q1]; rfl
      · rw [if_neg (fun z => q1 (w1' ▸ z)), if_neg q1]
        by_cases q2 : wd S p 2
        · rw [if_pos (w2' ▸ q2), if_pos q2]; rfl
        · rw [if_neg (fun z => q2 (w2' ▸ z)), if_neg q2]
          by_cases q3 : wd S p 3
          · rw [if_pos (w3' ▸ q3), if_pos q3]; rfl
          · rw [if_neg (fun z => q3 (w3' ▸ z)), if_neg q3]
            have e : (-1 : Int32) = nI 4294967295 := by decide
            rw [e]
  rw [hd]
  unfold lnS
  by_cases q0 : wd S p 0
  · rw [if_pos q0, if_pos q0]
    obtain ⟨τ2, -, u1, u2', u3, u4, u5, u6⟩ := st 0
    rw [u6, if_pos (show nI 0 = 0 from rfl)]
    exact (m_bnd (m_number g u2' (lo := 0) (hi := 7) E u3 (by omega) (by omega) (by omega)) (fun τ3 _ b c d e => (m_number g c (lo := 0) (hi := 8) e d (by omega) (by omega) (by omega)).if1)).tr u1 u5
  rw [if_neg q0, if_neg q0]
  by_cases q1 : wd S p 1
  · rw [if_pos q1, if_pos q1]
    obtain ⟨τ2, -, u1, u2', u3, u4, u5, u6⟩ := st 1
    rw [u6, if_neg (by decide), if_pos (show nI 1 = 1 from rfl)]
    exact (m_number g u2' (lo := 1) (hi := 99) E u3 (by omega) (by omega) (by omega)).zr.tr u1 u5
  rw [if_neg q1, if_neg q1]
  by_cases q2 : wd S p 2
  · rw [if_pos q2, if_pos q2]
    obtain ⟨τ2, -, u1, u2', u3, u4, u5, u6⟩ := st 2
    rw [u6, if_neg (by decide), if_neg (by decide), if_pos (show nI 2 = 2 from rfl)]
    exact (m_number g u2' (lo := 0) (hi := 8) E u3 (by omega) (by omega) (by omega)).zr.tr u1 u5
  rw [if_neg q2, if_neg q2]
  by_cases q3 : wd S p 3
  · rw [if_pos q3, if_pos q3]
    obtain ⟨τ2, -, u1, u2', u3, u4, u5, u6⟩ := st 3
    rw [u6, if_neg (by decide), if_neg (by decide), if_neg (by decide), if_pos (show nI 3 = 3 from rfl)]
    exact (m_bnd (m_number g u2' (lo := 0) (hi := 7) E u3 (by omega) (by omega) (by omega)) (fun τ3 _ b c d e => m_bnd (m_word g c e d (w := 4) (by omega)) (fun τ4 _ b c d e => (m_number g c (lo := 1) (hi := 99) e d (by omega) (by omega) (by omega)).if1))).tr u1 u5
  rw [if_neg q3, if_neg q3]
  obtain ⟨τ2, -, u1, u2', u3, u4, u5, u6⟩ := st 4294967295
  have fl := m_fails u2'.1 u4
  rw [u6, if_neg (by decide), if_neg (by decide), if_neg (by decide), if_neg (by decide), fl, b2_some, zr_0']
  exact Or.inr ⟨rfl, _, rfl, u1.s0, u2'.scrS 26 (by decide) _, hI_same _ _ _ _⟩
def EndM (M : Nat) (τ0 : Hp) (S : St) (x : Option (Int32 × Hp)) (o : Out) : Prop := (o.1 = true ∧ ∃ τ', x = some (nI 1, τ') ∧ FrT M τ0 τ' ∧ RepM M τ' (wA S 28 o.2.2) ∧ hI τ' M 27 = nI o.2.1) ∨ (o.1 = false ∧ ∃ τ', x = some (nI 0, τ') ∧ FrT M τ0 τ' ∧ RepM M τ' (wA S 28 o.2.2) ∧ hI τ' M 26 = nI o.2.1)
theorem EndM.tr {M : Nat} {τ0 τ1 : Hp} {S : St} {x : Option (Int32 × Hp)} {o : Out} (h : EndM M τ1 S x o) (f : FrT M τ0 τ1) : EndM M τ0 S x o := by
  rcases h with ⟨q, τ', a, b, c, d⟩ | ⟨q, τ', a, b, c, d⟩
  · exact Or.inl ⟨q, τ', a, f.tr b, c, d⟩
  · exact Or.inr ⟨q, τ', a, f.tr b, c, d⟩
theorem m_loop {M : Nat} {S : St} (g : Good S) : ∀ f m p rd τ n, m + f = 10 → 2 * f + 2 ≤ n → p ≤ S.1 19 → 0 < f → RepM M τ (wA S 28 rd) → hI τ M 21 = nI p → hI τ M 27 = nI m → EndM M τ S (it (fun rec st => B_X10_isRead_12 M rec st.1 st.2) n (τ, nI 1)) (rdS S f m p rd) := by
  intro f
  induction f with
  | zero => intro m p rd τ n _ _ _ h; omega
  | succ f ih =>
    intro m p rd τ n hm hn hp _ h0 h21 h27
    obtain ⟨n, rfl⟩ : ∃ k, n = k + 2 := ⟨n - 2, by omega⟩
    have s : SM M τ := h0.1
    have ln := m_line g h0 (at' := 3 * m) hp h21 (by omega)
    rw [rdS_s, it_s]
    show EndM M τ S (B_X10_isRead_12 M (it (fun rec st => B_X10_isRead_12 M rec st.1 st.2) (n + 1)) τ (nI 1)) _
    have ih' := fun m p rd τ a b c d e f => ih m p rd τ (n + 1) a (by omega) b c d e f
    have ex : ∀ τ', it (fun rec st => B_X10_isRead_12 M rec st.1 st.2) (n + 1) (τ', nI 0) = F_X10_isRead_74 τ' M := fun τ' => by
      rw [it_s]
      show B_X10_isRead_12 M _ τ' (nI 0) = _
      unfold B_X10_isRead_12
      rw [if_pos (show nI 0 = 0 from rfl)]
    generalize it (fun rec st => B_X10_isRead_12 M rec st.1 st.2) (n + 1) = R at ih' ex
    unfold B_X10_isRead_12
    rw [if_neg (by decide), gI_at s.1, b1_some, h27, show (3 : Int32) * nI m = nI (3 * m) from nI_mul 3 m]
    rcases ln with ⟨q, τ1, a, b, c, d, k, e⟩ | ⟨q, τ1, a, b, c, d⟩
    · have s1 : SM M τ1 := c.1
      obtain ⟨τ2, t1, t2, t3, t4, t5, t6⟩ := m_next28 (τ := setI τ1 M 27 (nI (m + 1))) g (c.scrS 27 (by decide) _) k ((hI_ne _ _ (by omega)).trans d)
      have r2 : RepM M τ2 (wA S 28 (lnS S p (3 * m) rd).2.2) := (RepM.scrS c 27 (by decide) _).frn t2
      have s2 : SM M τ2 := r2.1
      have f2 : FrT M τ τ2 := (b.s0).tr t2.t
      have e27 : hI τ2 M 27 = nI (m + 1) := (t2.2.2.2.1 _ _ (by omega)).trans (hI_same _ _ _ _)
      rw [a, b2_some, if_neg (by decide), gI_at s1.1, b1_some, e, h27, pI_at s1.1, b1_some, show nI m + 1 = nI (m + 1) from nI_add m 1, t1, b1_some, gL_at s2.1, b1_some, if_pos q]
      unfold tlS
      have l3 : (lg_cmp (hL τ2 M 23) (-3) = 0) = wd S (lnS S p (3 * m) rd).2.1 5 := by rw [lg_eq]; exact propext t5.2.2.1
      have l2 : (lg_cmp (hL τ2 M 23) (-2) = 0) = (isA S (lnS S p (3 * m) rd).2.1 = S.1 19) := by rw [lg_eq]; exact propext t5.2.1
      have fin : isA S (lnS S p (3 * m) rd).2.1 = S.1 19 → EndM M τ S (F_X10_isRead_74 τ2 M) (true, m + 1, (lnS S p (3 * m) rd).2.2) := fun z => by
        unfold F_X10_isRead_74
        rw [gL_at s2.1, b1_some, if_pos (l2 ▸ z)]
        exact Or.inl ⟨rfl, τ2, rfl, f2, r2, e27⟩
      have bad : ¬ isA S (lnS S p (3 * m) rd).2.1 = S.1 19 → EndM M τ S (F_X10_isRead_74 τ2 M) (false, isA S (lnS S p (3 * m) rd).2.1, (lnS S p (3 * m) rd).2.2) := fun z => by
        have fl := m_fails s2 t4
        unfold F_X10_isRead_74
        rw [gL_at s2.1, b1_some, if_neg (fun y => z (l2 ▸ y)), fl, b2_some, if_pos (show nI 0 = 0 from rfl)]
        exact Or.inr ⟨rfl, _, rfl, f2.s0, r2.scrS 26 (by decide) _, hI_same _ _ _ _⟩
      by_cases q5 : wd S (lnS S p (3 * m) rd).2.1 5
      · have nA : ¬ isA S (lnS S p (3 * m) rd).2.1 = S.1 19 := fun z => by
          have e4 := (isE_ok g k).2.2.2.1 z
          have := q5.1
          rw [wl5.1] at this
          omega
        rw [if_pos (l3 ▸ q5), gI_at s2.1, b1_some, e27, if_neg nA]
        by_cases q10 : m + 1 < 10
        · rw [if_neg (by rw [litI 10, le_lit (by omega) (by omega)]; omega), if_pos ⟨q5, q10⟩]
          exact (ih' (m + 1) (isE S (lnS S p (3 * m) rd).2.1) (lnS S p (3 * m) rd).2.2 τ2 (by omega) (isE_ok g k).2.1 (by omega) r2 t3 e27).tr f2
        · rw [if_pos (by rw [litI 10, le_lit (by omega) (by omega)]; omega), if_neg (fun z => q10 z.2)]
          have x0 := ex τ2
          show EndM M τ S (R (τ2, nI 0)) _
          rw [x0]
          exact bad nA
      · rw [if_neg (fun z => q5 (l3 ▸ z))]
        show EndM M τ S (R (τ2, nI 0)) _
        rw [ex τ2]
        by_cases qA : isA S (lnS S p (3 * m) rd).2.1 = S.1 19
        · rw [if_pos qA]
          exact fin qA
        · rw [if_neg qA, if_neg (fun z => q5 z.1)]
          exact bad qA
    · rw [a, b2_some, if_pos (show nI 0 = 0 from rfl), if_neg (by rw [q]; exact Bool.false_ne_true)]
      exact Or.inr ⟨q, τ1, rfl, b, c, d⟩
theorem wA_id (S : St) : wA S 28 (S.2 28) = S := by
  unfold wA
  refine Prod.ext rfl ?_
  funext q
  show (if q = 28 then S.2 28 else S.2 q) = S.2 q
  by_cases c : q = 28
  · rw [if_pos c, c]
  · rw [if_neg c]
theorem m_read {M : Nat} {τ : Hp} {S : St} (g : Good S) (h0 : RepM M τ S) : EndM M τ S (F_X10_isRead τ M) (rdO S) := by
  have s : SM M τ := h0.1
  have fu := FU_ge
  have e60 : (2 : Nat) ^ 60 = 1152921504606846976 := by decide
  have r1 : RepM M (setI (setI τ M 21 (nI 0)) M 27 (nI 0)) (wA S 28 (S.2 28)) := by
    rw [wA_id]
    exact (h0.scrS 21 (by decide) _).scrS 27 (by decide) _
  have ml := m_loop g 10 0 0 (S.2 28) (setI (setI τ M 21 (nI 0)) M 27 (nI 0)) FU (by omega) (by omega) (Nat.zero_le _) (by omega) r1 (by rw [hI_ne _ _ (by omega), hI_same]) (by rw [hI_same])
  have L0 : F_X10_isRead τ M = it (fun rec st => B_X10_isRead_12 M rec st.1 st.2) FU (setI (setI τ M 21 (nI 0)) M 27 (nI 0), nI 1) := by
    unfold F_X10_isRead
    rw [gd_at s.1, pI_at s.1, b1_some, pI_at (show hT (setI τ M 21 0) M = some (.inl 10) from s.1), b1_some]
    rfl
  rw [L0]
  exact ml.tr ((FrT.rf.s0).s0)
theorem m_fault (M : Nat) : OkM M (fun σ => F_X10_fault σ M) oFault := by
  intro σ S g h0
  have s := h0.1
  show ∃ σ', F_X10_fault σ M = _ ∧ _
  unfold F_X10_fault oFault
  rw [gd_at s.1]
  rcases m_read g h0 with ⟨q, τ', a, b, c, d⟩ | ⟨q, τ', a, b, c, d⟩
  · rw [a, b2_some, if_neg (by decide), if_pos q]
    exact ⟨τ', rfl, c, b.m⟩
  · rw [a, b2_some, if_pos (show nI 0 = 0 from rfl), if_neg (by rw [q]; exact Bool.false_ne_true), gI_at c.1.1, b1_some, d]
    exact ⟨τ', rfl, c, b.m⟩
theorem m_rules (M : Nat) : OkM M (fun σ => F_X10_rules σ M) oRules := by
  intro σ S g h0
  have s := h0.1
  show ∃ σ', F_X10_rules σ M = _ ∧ _
  unfold F_X10_rules oRules
  rw [gd_at s.1]
  rcases m_read g h0 with ⟨q, τ, a, b, c, d⟩ | ⟨q, τ, a, b, c, d⟩
  · rw [a, b2_some, if_neg (by decide), if_pos q]
    have c' : RepM M (hv τ τ.2.1) (wA S 28 (rdO S).2.2) := c
    have st : SM M τ := c.1
    have d' : τ.2.1 M 27 = nI (rdO S).2.1 := d
    obtain ⟨f, hf⟩ : ∃ f, f = τ.2.1 := ⟨_, rfl⟩
    rw [← hf] at c' d'
    have rd : ∀ i, i < 30 → f (M + 17) i = nI ((rdO S).2.2 i) := fun i hi => c'.2.2.2 (28, 17, 30) (by decide) i hi
    obtain ⟨m, hm⟩ := it_FU (body := fun rec st => B_X10_rules_12 M rec st.1 st.2) (fun k => (hv τ (fz f (M + 18) k (rdO S).2.2), nI k)) 0 30 (by omega) (by omega) (fun k _ hk rec => by
      have r1 : fz f (M + 18) k (rdO S).2.2 (M + 17) k = nI ((rdO S).2.2 k) := (fz_off (by omega)).trans (rd k hk)
      show B_X10_rules_12 M rec (hv τ (fz f (M + 18) k (rdO S).2.2)) (nI k) = rec (hv τ (fz f (M + 18) (k + 1) (rdO S).2.2), nI (k + 1))
      rw [← fz_grow]
      generalize fz f (M + 18) k (rdO S).2.2 = F at r1
      have s' := st
      simp (decide := true) (disch := omega) only [B_X10_rules_12, st.R28, st.R30, st.A28, st.W30, b1_some, b2_some, litI, neg1, nI_add, nI_mul, e1_p1, nI_e0, ib, ib1, ite_not, if_true, if_false, not_true_eq_false, not_false_eq_true, setI_hv, le_lit, show ¬ 30 ≤ k by omega, r1])
    rw [fz_0] at hm
    have r2 : RepM M (hv τ (fz f (M + 18) 30 (rdO S).2.2)) (wA (wA S 28 (rdO S).2.2) 30 (rdO S).2.2) := c'.fy (30, 18, 30) (by decide) _ _ rfl
    have r3 := (r2.setS 29 (rdO S).2.1).setS 19 0
    have e27 : fz f (M + 18) 30 (rdO S).2.2 M 27 = nI (rdO S).2.1 := (fz_off (by omega)).trans d'
    have L0 : L_X10_rules_12 M FU (τ, 0) = some (nI (rdO S).2.1, hv τ (u2 (u2 (fz f (M + 18) 30 (rdO S).2.2) M 29 (nI (rdO S).2.1)) M 19 (nI 0))) := by
      have e0 : (τ, (0 : Int32)) = (hv τ f, nI 0) := by rw [hf]; rfl
      unfold L_X10_rules_12
      rw [e0]
      refine hm.trans ?_
      generalize fz f (M + 18) 30 (rdO S).2.2 = F at e27
      simp (decide := true) (disch := omega) only [B_X10_rules_12, F_X10_rules_36, gI_hv st.1, pI_hv st.1, b1_some, b2_some, litI, neg1, nI_add, nI_mul, e1_p1, nI_e0, ib, ib1, ite_not, if_true, if_false, not_true_eq_false, not_false_eq_true, setI_hv, le_lit, Nat.le_refl, e27, u2_n, u2_e]
    refine ⟨_, L0, r3, ?_⟩
    refine ((b.m).tr ?_)
    refine ⟨fun x hx => ⟨rfl, fun k => ?_, fun _ => rfl, fun _ => rfl⟩, rfl⟩
    show u2 (u2 (fz f (M + 18) 30 (rdO S).2.2) M 29 (nI (rdO S).2.1)) M 19 (nI 0) x k = τ.2.1 x k
    rw [u2_n (by omega), u2_n (by omega), fz_off (by omega), hf]
  · rw [a, b2_some, if_pos (show nI 0 = 0 from rfl), if_neg (by rw [q]; exact Bool.false_ne_true)]
    exact ⟨τ, rfl, c, b.m⟩
