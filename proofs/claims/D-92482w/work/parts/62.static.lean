set_option maxRecDepth 100000
/-! pure law 2: the static shape of the two objects -/
def mTab : List (Nat × Nat × Nat × Nat) := [(2, 1, 0, 14), (3, 2, 0, 14), (4, 3, 0, 8), (5, 4, 0, 24), (8, 5, 0, 11), (9, 6, 0, 48), (10, 7, 0, 48), (11, 8, 0, 48), (12, 9, 0, 48), (13, 10, 0, 48), (14, 11, 0, 8), (15, 12, 0, 240), (16, 13, 0, 240), (17, 14, 0, 5), (18, 15, 0, 4), (20, 16, 0, 160), (28, 17, 0, 30), (30, 18, 0, 30), (31, 19, 0, 8), (32, 20, 0, 8), (33, 21, 0, 8), (35, 22, 0, 4), (36, 23, 0, 48), (37, 24, 1, 48), (38, 25, 0, 100)]
/-- the twin at M: its cell, its arrays -/
def SM (M : Nat) (σ : Hp) : Prop := hT σ M = some (.inl 10) ∧ ∀ x ∈ mTab, hR σ M x.1 = some (M + x.2.1) ∧ hT σ (M + x.2.1) = some (.inr (x.2.2.1, x.2.2.2))
theorem SM.si {M : Nat} {σ : Hp} (h : SM M σ) (a k : Nat) (v : Int32) : SM M (setI σ a k v) := h
theorem SM.sl {M : Nat} {σ : Hp} (h : SM M σ) (a k : Nat) (v : Int64) : SM M (setL σ a k v) := h
theorem SM.r2 {M : Nat} {σ : Hp} (h : SM M σ) : gR 10 2 M σ = some (M + 1) := gR_at h.1 (h.2 (2, 1, 0, 14) (by decide)).1
theorem SM.n2 {M : Nat} {σ : Hp} (h : SM M σ) : aN 0 (M + 1) σ = some 14 := aN_of (h.2 (2, 1, 0, 14) (by decide)).2
theorem SM.r3 {M : Nat} {σ : Hp} (h : SM M σ) : gR 10 3 M σ = some (M + 2) := gR_at h.1 (h.2 (3, 2, 0, 14) (by decide)).1
theorem SM.n3 {M : Nat} {σ : Hp} (h : SM M σ) : aN 0 (M + 2) σ = some 14 := aN_of (h.2 (3, 2, 0, 14) (by decide)).2
theorem SM.r4 {M : Nat} {σ : Hp} (h : SM M σ) : gR 10 4 M σ = some (M + 3) := gR_at h.1 (h.2 (4, 3, 0, 8) (by decide)).1
theorem SM.n4 {M : Nat} {σ : Hp} (h : SM M σ) : aN 0 (M + 3) σ = some 8 := aN_of (h.2 (4, 3, 0, 8) (by decide)).2
theorem SM.r5 {M : Nat} {σ : Hp} (h : SM M σ) : gR 10 5 M σ = some (M + 4) := gR_at h.1 (h.2 (5, 4, 0, 24) (by decide)).1
theorem SM.n5 {M : Nat} {σ : Hp} (h : SM M σ) : aN 0 (M + 4) σ = some 24 := aN_of (h.2 (5, 4, 0, 24) (by decide)).2
theorem SM.r8 {M : Nat} {σ : Hp} (h : SM M σ) : gR 10 8 M σ = some (M + 5) := gR_at h.1 (h.2 (8, 5, 0, 11) (by decide)).1
theorem SM.n8 {M : Nat} {σ : Hp} (h : SM M σ) : aN 0 (M + 5) σ = some 11 := aN_of (h.2 (8, 5, 0, 11) (by decide)).2
theorem SM.r9 {M : Nat} {σ : Hp} (h : SM M σ) : gR 10 9 M σ = some (M + 6) := gR_at h.1 (h.2 (9, 6, 0, 48) (by decide)).1
theorem SM.n9 {M : Nat} {σ : Hp} (h : SM M σ) : aN 0 (M + 6) σ = some 48 := aN_of (h.2 (9, 6, 0, 48) (by decide)).2
theorem SM.r10 {M : Nat} {σ : Hp} (h : SM M σ) : gR 10 10 M σ = some (M + 7) := gR_at h.1 (h.2 (10, 7, 0, 48) (by decide)).1
theorem SM.n10 {M : Nat} {σ : Hp} (h : SM M σ) : aN 0 (M + 7) σ = some 48 := aN_of (h.2 (10, 7, 0, 48) (by decide)).2
theorem SM.r11 {M : Nat} {σ : Hp} (h : SM M σ) : gR 10 11 M σ = some (M + 8) := gR_at h.1 (h.2 (11, 8, 0, 48) (by decide)).1
theorem SM.n11 {M : Nat} {σ : Hp} (h : SM M σ) : aN 0 (M + 8) σ = some 48 := aN_of (h.2 (11, 8, 0, 48) (by decide)).2
theorem SM.r12 {M : Nat} {σ : Hp} (h : SM M σ) : gR 10 12 M σ = some (M + 9) := gR_at h.1 (h.2 (12, 9, 0, 48) (by decide)).1
theorem SM.n12 {M : Nat} {σ : Hp} (h : SM M σ) : aN 0 (M + 9) σ = some 48 := aN_of (h.2 (12, 9, 0, 48) (by decide)).2
theorem SM.r13 {M : Nat} {σ : Hp} (h : SM M σ) : gR 10 13 M σ = some (M + 10) := gR_at h.1 (h.2 (13, 10, 0, 48) (by decide)).1
theorem SM.n13 {M : Nat} {σ : Hp} (h : SM M σ) : aN 0 (M + 10) σ = some 48 := aN_of (h.2 (13, 10, 0, 48) (by decide)).2
theorem SM.r14 {M : Nat} {σ : Hp} (h : SM M σ) : gR 10 14 M σ = some (M + 11) := gR_at h.1 (h.2 (14, 11, 0, 8) (by decide)).1
theorem SM.n14 {M : Nat} {σ : Hp} (h : SM M σ) : aN 0 (M + 11) σ = some 8 := aN_of (h.2 (14, 11, 0, 8) (by decide)).2
theorem SM.r15 {M : Nat} {σ : Hp} (h : SM M σ) : gR 10 15 M σ = some (M + 12) := gR_at h.1 (h.2 (15, 12, 0, 240) (by decide)).1
theorem SM.n15 {M : Nat} {σ : Hp} (h : SM M σ) : aN 0 (M + 12) σ = some 240 := aN_of (h.2 (15, 12, 0, 240) (by decide)).2
theorem SM.r16 {M : Nat} {σ : Hp} (h : SM M σ) : gR 10 16 M σ = some (M + 13) := gR_at h.1 (h.2 (16, 13, 0, 240) (by decide)).1
theorem SM.n16 {M : Nat} {σ : Hp} (h : SM M σ) : aN 0 (M + 13) σ = some 240 := aN_of (h.2 (16, 13, 0, 240) (by decide)).2
theorem SM.r17 {M : Nat} {σ : Hp} (h : SM M σ) : gR 10 17 M σ = some (M + 14) := gR_at h.1 (h.2 (17, 14, 0, 5) (by decide)).1
theorem SM.n17 {M : Nat} {σ : Hp} (h : SM M σ) : aN 0 (M + 14) σ = some 5 := aN_of (h.2 (17, 14, 0, 5) (by decide)).2
theorem SM.r18 {M : Nat} {σ : Hp} (h : SM M σ) : gR 10 18 M σ = some (M + 15) := gR_at h.1 (h.2 (18, 15, 0, 4) (by decide)).1
theorem SM.n18 {M : Nat} {σ : Hp} (h : SM M σ) : aN 0 (M + 15) σ = some 4 := aN_of (h.2 (18, 15, 0, 4) (by decide)).2
theorem SM.r20 {M : Nat} {σ : Hp} (h : SM M σ) : gR 10 20 M σ = some (M + 16) := gR_at h.1 (h.2 (20, 16, 0, 160) (by decide)).1
theorem SM.n20 {M : Nat} {σ : Hp} (h : SM M σ) : aN 0 (M + 16) σ = some 160 := aN_of (h.2 (20, 16, 0, 160) (by decide)).2
theorem SM.r28 {M : Nat} {σ : Hp} (h : SM M σ) : gR 10 28 M σ = some (M + 17) := gR_at h.1 (h.2 (28, 17, 0, 30) (by decide)).1
theorem SM.n28 {M : Nat} {σ : Hp} (h : SM M σ) : aN 0 (M + 17) σ = some 30 := aN_of (h.2 (28, 17, 0, 30) (by decide)).2
theorem SM.r30 {M : Nat} {σ : Hp} (h : SM M σ) : gR 10 30 M σ = some (M + 18) := gR_at h.1 (h.2 (30, 18, 0, 30) (by decide)).1
theorem SM.n30 {M : Nat} {σ : Hp} (h : SM M σ) : aN 0 (M + 18) σ = some 30 := aN_of (h.2 (30, 18, 0, 30) (by decide)).2
theorem SM.r31 {M : Nat} {σ : Hp} (h : SM M σ) : gR 10 31 M σ = some (M + 19) := gR_at h.1 (h.2 (31, 19, 0, 8) (by decide)).1
theorem SM.n31 {M : Nat} {σ : Hp} (h : SM M σ) : aN 0 (M + 19) σ = some 8 := aN_of (h.2 (31, 19, 0, 8) (by decide)).2
theorem SM.r32 {M : Nat} {σ : Hp} (h : SM M σ) : gR 10 32 M σ = some (M + 20) := gR_at h.1 (h.2 (32, 20, 0, 8) (by decide)).1
theorem SM.n32 {M : Nat} {σ : Hp} (h : SM M σ) : aN 0 (M + 20) σ = some 8 := aN_of (h.2 (32, 20, 0, 8) (by decide)).2
theorem SM.r33 {M : Nat} {σ : Hp} (h : SM M σ) : gR 10 33 M σ = some (M + 21) := gR_at h.1 (h.2 (33, 21, 0, 8) (by decide)).1
theorem SM.n33 {M : Nat} {σ : Hp} (h : SM M σ) : aN 0 (M + 21) σ = some 8 := aN_of (h.2 (33, 21, 0, 8) (by decide)).2
theorem SM.r35 {M : Nat} {σ : Hp} (h : SM M σ) : gR 10 35 M σ = some (M + 22) := gR_at h.1 (h.2 (35, 22, 0, 4) (by decide)).1
theorem SM.n35 {M : Nat} {σ : Hp} (h : SM M σ) : aN 0 (M + 22) σ = some 4 := aN_of (h.2 (35, 22, 0, 4) (by decide)).2
theorem SM.r36 {M : Nat} {σ : Hp} (h : SM M σ) : gR 10 36 M σ = some (M + 23) := gR_at h.1 (h.2 (36, 23, 0, 48) (by decide)).1
theorem SM.n36 {M : Nat} {σ : Hp} (h : SM M σ) : aN 0 (M + 23) σ = some 48 := aN_of (h.2 (36, 23, 0, 48) (by decide)).2
theorem SM.r37 {M : Nat} {σ : Hp} (h : SM M σ) : gR 10 37 M σ = some (M + 24) := gR_at h.1 (h.2 (37, 24, 1, 48) (by decide)).1
theorem SM.n37 {M : Nat} {σ : Hp} (h : SM M σ) : aN 1 (M + 24) σ = some 48 := aN_of (h.2 (37, 24, 1, 48) (by decide)).2
theorem SM.r38 {M : Nat} {σ : Hp} (h : SM M σ) : gR 10 38 M σ = some (M + 25) := gR_at h.1 (h.2 (38, 25, 0, 100) (by decide)).1
theorem SM.n38 {M : Nat} {σ : Hp} (h : SM M σ) : aN 0 (M + 25) σ = some 100 := aN_of (h.2 (38, 25, 0, 100) (by decide)).2
/-- the kinds of the component's cells, by their place behind its own -/
def kX (o : Nat) : Kd :=
  if o = 0 then .inl 0 else if o = 1 then .inr (6, 8) else if o < 10 then .inr (1, 8) else if o = 10 then .inr (0, 24) else if o = 11 then .inr (0, 11) else
  if o = 12 then .inl 1 else if o = 13 then .inr (3, 48) else if o < 110 then (if o % 2 = 0 then .inl 3 else .inl 4) else
  if o = 110 then .inl 1 else if o = 111 then .inr (3, 48) else if o < 208 then (if o % 2 = 0 then .inl 3 else .inl 4) else
  if o = 208 then .inr (0, 8) else if o = 209 then .inr (4, 10) else if o = 210 then .inr (2, 160) else if o = 211 then .inl 5 else if o = 212 then .inr (0, 8) else
  if o = 213 then .inr (7, 10) else if o < 224 then .inr (0, 10) else if o = 224 then .inl 7 else if o < 227 then .inr (0, 8) else if o = 227 then .inl 8 else if o < 230 then .inr (0, 8) else
  if o = 230 then .inr (0, 4) else if o = 231 then .inr (0, 8) else if o = 232 then .inr (5, 4) else if o % 3 = 2 then .inl 9 else if o % 3 = 0 then .inr (0, 12) else .inr (1, 12)
def xFix : List (Nat × Nat × Nat) := [(0, 0, 1), (0, 2, 10), (0, 5, 11), (0, 7, 12), (0, 8, 110), (0, 9, 208), (0, 12, 210), (0, 14, 211), (0, 15, 212), (0, 16, 213), (0, 17, 224), (0, 18, 227), (0, 19, 230), (0, 20, 231), (0, 21, 232), (12, 0, 13), (110, 0, 111), (224, 0, 225), (224, 1, 226), (227, 0, 228), (227, 1, 229)]
/-- the component at N -/
def SX (N : Nat) (σ : Hp) : Prop := (∀ o, o < 245 → hT σ (N + o) = some (kX o)) ∧ (∀ x ∈ xFix, hR σ (N + x.1) x.2.1 = some (N + x.2.2)) ∧ (∀ x ∈ [(12, 1), (110, 1), (211, 5), (224, 5), (227, 5)], hR σ (N + x.1) x.2 = some N) ∧
  (∀ r, r < 8 → hR σ (N + 1) r = some (N + (2 + r))) ∧ (∀ r, r < 10 → hR σ (N + 213) r = some (N + (214 + r))) ∧ (∀ p, p < 4 → hR σ (N + 232) p = some (N + (233 + 3 * p)) ∧ hR σ (N + (233 + 3 * p)) 0 = some (N + (234 + 3 * p)) ∧ hR σ (N + (233 + 3 * p)) 1 = some (N + (235 + 3 * p))) ∧
  (∀ c, c < 48 → hR σ (N + 13) c = some (N + (14 + 2 * c)) ∧ hR σ (N + (14 + 2 * c)) 2 = some (N + (15 + 2 * c))) ∧ (∀ c, c < 48 → hR σ (N + 111) c = some (N + (112 + 2 * c)) ∧ hR σ (N + (112 + 2 * c)) 2 = some (N + (113 + 2 * c)))
theorem SX.si {N : Nat} {σ : Hp} (h : SX N σ) (a k : Nat) (v : Int32) : SX N (setI σ a k v) := h
theorem SX.t0 {N : Nat} {σ : Hp} (h : SX N σ) : hT σ N = some (.inl 0) := h.1 0 (by decide)
theorem SX.r0 {N : Nat} {σ : Hp} (h : SX N σ) : gR 0 0 N σ = some (N + 1) := gR_at (h.1 0 (by decide)) (h.2.1 (0, 0, 1) (by decide))
theorem SX.r2 {N : Nat} {σ : Hp} (h : SX N σ) : gR 0 2 N σ = some (N + 10) := gR_at (h.1 0 (by decide)) (h.2.1 (0, 2, 10) (by decide))
theorem SX.r5 {N : Nat} {σ : Hp} (h : SX N σ) : gR 0 5 N σ = some (N + 11) := gR_at (h.1 0 (by decide)) (h.2.1 (0, 5, 11) (by decide))
theorem SX.r7 {N : Nat} {σ : Hp} (h : SX N σ) : gR 0 7 N σ = some (N + 12) := gR_at (h.1 0 (by decide)) (h.2.1 (0, 7, 12) (by decide))
theorem SX.r8 {N : Nat} {σ : Hp} (h : SX N σ) : gR 0 8 N σ = some (N + 110) := gR_at (h.1 0 (by decide)) (h.2.1 (0, 8, 110) (by decide))
theorem SX.r9 {N : Nat} {σ : Hp} (h : SX N σ) : gR 0 9 N σ = some (N + 208) := gR_at (h.1 0 (by decide)) (h.2.1 (0, 9, 208) (by decide))
theorem SX.r12 {N : Nat} {σ : Hp} (h : SX N σ) : gR 0 12 N σ = some (N + 210) := gR_at (h.1 0 (by decide)) (h.2.1 (0, 12, 210) (by decide))
theorem SX.r14 {N : Nat} {σ : Hp} (h : SX N σ) : gR 0 14 N σ = some (N + 211) := gR_at (h.1 0 (by decide)) (h.2.1 (0, 14, 211) (by decide))
theorem SX.r15 {N : Nat} {σ : Hp} (h : SX N σ) : gR 0 15 N σ = some (N + 212) := gR_at (h.1 0 (by decide)) (h.2.1 (0, 15, 212) (by decide))
theorem SX.r16 {N : Nat} {σ : Hp} (h : SX N σ) : gR 0 16 N σ = some (N + 213) := gR_at (h.1 0 (by decide)) (h.2.1 (0, 16, 213) (by decide))
theorem SX.r17 {N : Nat} {σ : Hp} (h : SX N σ) : gR 0 17 N σ = some (N + 224) := gR_at (h.1 0 (by decide)) (h.2.1 (0, 17, 224) (by decide))
theorem SX.r18 {N : Nat} {σ : Hp} (h : SX N σ) : gR 0 18 N σ = some (N + 227) := gR_at (h.1 0 (by decide)) (h.2.1 (0, 18, 227) (by decide))
theorem SX.r19 {N : Nat} {σ : Hp} (h : SX N σ) : gR 0 19 N σ = some (N + 230) := gR_at (h.1 0 (by decide)) (h.2.1 (0, 19, 230) (by decide))
theorem SX.r20 {N : Nat} {σ : Hp} (h : SX N σ) : gR 0 20 N σ = some (N + 231) := gR_at (h.1 0 (by decide)) (h.2.1 (0, 20, 231) (by decide))
theorem SX.r21 {N : Nat} {σ : Hp} (h : SX N σ) : gR 0 21 N σ = some (N + 232) := gR_at (h.1 0 (by decide)) (h.2.1 (0, 21, 232) (by decide))
theorem SX.r12_0 {N : Nat} {σ : Hp} (h : SX N σ) : gR 1 0 (N + 12) σ = some (N + 13) := gR_at (h.1 12 (by decide)) (h.2.1 (12, 0, 13) (by decide))
theorem SX.r110_0 {N : Nat} {σ : Hp} (h : SX N σ) : gR 1 0 (N + 110) σ = some (N + 111) := gR_at (h.1 110 (by decide)) (h.2.1 (110, 0, 111) (by decide))
theorem SX.r224_0 {N : Nat} {σ : Hp} (h : SX N σ) : gR 7 0 (N + 224) σ = some (N + 225) := gR_at (h.1 224 (by decide)) (h.2.1 (224, 0, 225) (by decide))
theorem SX.r224_1 {N : Nat} {σ : Hp} (h : SX N σ) : gR 7 1 (N + 224) σ = some (N + 226) := gR_at (h.1 224 (by decide)) (h.2.1 (224, 1, 226) (by decide))
theorem SX.r227_0 {N : Nat} {σ : Hp} (h : SX N σ) : gR 8 0 (N + 227) σ = some (N + 228) := gR_at (h.1 227 (by decide)) (h.2.1 (227, 0, 228) (by decide))
theorem SX.r227_1 {N : Nat} {σ : Hp} (h : SX N σ) : gR 8 1 (N + 227) σ = some (N + 229) := gR_at (h.1 227 (by decide)) (h.2.1 (227, 1, 229) (by decide))
theorem SX.r12_1 {N : Nat} {σ : Hp} (h : SX N σ) : gR 1 1 (N + 12) σ = some N := gR_at (h.1 12 (by decide)) (h.2.2.1 (12, 1) (by decide))
theorem SX.r110_1 {N : Nat} {σ : Hp} (h : SX N σ) : gR 1 1 (N + 110) σ = some N := gR_at (h.1 110 (by decide)) (h.2.2.1 (110, 1) (by decide))
theorem SX.r211_5 {N : Nat} {σ : Hp} (h : SX N σ) : gR 5 5 (N + 211) σ = some N := gR_at (h.1 211 (by decide)) (h.2.2.1 (211, 5) (by decide))
theorem SX.r224_5 {N : Nat} {σ : Hp} (h : SX N σ) : gR 7 5 (N + 224) σ = some N := gR_at (h.1 224 (by decide)) (h.2.2.1 (224, 5) (by decide))
theorem SX.r227_5 {N : Nat} {σ : Hp} (h : SX N σ) : gR 8 5 (N + 227) σ = some N := gR_at (h.1 227 (by decide)) (h.2.2.1 (227, 5) (by decide))
theorem SX.n1 {N : Nat} {σ : Hp} (h : SX N σ) : aN 6 (N + 1) σ = some 8 := aN_of (h.1 1 (by decide))
theorem SX.n10 {N : Nat} {σ : Hp} (h : SX N σ) : aN 0 (N + 10) σ = some 24 := aN_of (h.1 10 (by decide))
theorem SX.n11 {N : Nat} {σ : Hp} (h : SX N σ) : aN 0 (N + 11) σ = some 11 := aN_of (h.1 11 (by decide))
theorem SX.n13 {N : Nat} {σ : Hp} (h : SX N σ) : aN 3 (N + 13) σ = some 48 := aN_of (h.1 13 (by decide))
theorem SX.n111 {N : Nat} {σ : Hp} (h : SX N σ) : aN 3 (N + 111) σ = some 48 := aN_of (h.1 111 (by decide))
theorem SX.n208 {N : Nat} {σ : Hp} (h : SX N σ) : aN 0 (N + 208) σ = some 8 := aN_of (h.1 208 (by decide))
theorem SX.n209 {N : Nat} {σ : Hp} (h : SX N σ) : aN 4 (N + 209) σ = some 10 := aN_of (h.1 209 (by decide))
theorem SX.n210 {N : Nat} {σ : Hp} (h : SX N σ) : aN 2 (N + 210) σ = some 160 := aN_of (h.1 210 (by decide))
theorem SX.n212 {N : Nat} {σ : Hp} (h : SX N σ) : aN 0 (N + 212) σ = some 8 := aN_of (h.1 212 (by decide))
theorem SX.n213 {N : Nat} {σ : Hp} (h : SX N σ) : aN 7 (N + 213) σ = some 10 := aN_of (h.1 213 (by decide))
theorem SX.n225 {N : Nat} {σ : Hp} (h : SX N σ) : aN 0 (N + 225) σ = some 8 := aN_of (h.1 225 (by decide))
theorem SX.n226 {N : Nat} {σ : Hp} (h : SX N σ) : aN 0 (N + 226) σ = some 8 := aN_of (h.1 226 (by decide))
theorem SX.n228 {N : Nat} {σ : Hp} (h : SX N σ) : aN 0 (N + 228) σ = some 8 := aN_of (h.1 228 (by decide))
theorem SX.n229 {N : Nat} {σ : Hp} (h : SX N σ) : aN 0 (N + 229) σ = some 8 := aN_of (h.1 229 (by decide))
theorem SX.n230 {N : Nat} {σ : Hp} (h : SX N σ) : aN 0 (N + 230) σ = some 4 := aN_of (h.1 230 (by decide))
theorem SX.n231 {N : Nat} {σ : Hp} (h : SX N σ) : aN 0 (N + 231) σ = some 8 := aN_of (h.1 231 (by decide))
theorem SX.n232 {N : Nat} {σ : Hp} (h : SX N σ) : aN 5 (N + 232) σ = some 4 := aN_of (h.1 232 (by decide))
theorem SX.t12 {N : Nat} {σ : Hp} (h : SX N σ) : hT σ (N + 12) = some (.inl 1) := h.1 12 (by decide)
theorem SX.t110 {N : Nat} {σ : Hp} (h : SX N σ) : hT σ (N + 110) = some (.inl 1) := h.1 110 (by decide)
theorem SX.t211 {N : Nat} {σ : Hp} (h : SX N σ) : hT σ (N + 211) = some (.inl 5) := h.1 211 (by decide)
theorem SX.t224 {N : Nat} {σ : Hp} (h : SX N σ) : hT σ (N + 224) = some (.inl 7) := h.1 224 (by decide)
theorem SX.t227 {N : Nat} {σ : Hp} (h : SX N σ) : hT σ (N + 227) = some (.inl 8) := h.1 227 (by decide)
theorem SX.jrow {N : Nat} {σ : Hp} (h : SX N σ) {r : Nat} (hr : r < 8) : aR 6 (N + 1) (nI r) σ = some (N + (2 + r)) := aR_at h.n1 hr (by decide) (h.2.2.2.1 r hr)
theorem SX.njrow {N : Nat} {σ : Hp} (h : SX N σ) {r : Nat} (hr : r < 8) : aN 1 (N + (2 + r)) σ = some 8 := aN_of ((h.1 (2 + r) (by omega)).trans (by unfold kX; rw [if_neg (by omega), if_neg (by omega), if_pos (by omega)]))
theorem SX.arow {N : Nat} {σ : Hp} (h : SX N σ) {r : Nat} (hr : r < 10) : aR 7 (N + 213) (nI r) σ = some (N + (214 + r)) := aR_at h.n213 hr (by decide) (h.2.2.2.2.1 r hr)
theorem SX.narow {N : Nat} {σ : Hp} (h : SX N σ) {r : Nat} (hr : r < 10) : aN 0 (N + (214 + r)) σ = some 10 := aN_of ((h.1 (214 + r) (by omega)).trans (by
  unfold kX
  simp (disch := omega) only [if_neg, if_pos]))
theorem SX.pup {N : Nat} {σ : Hp} (h : SX N σ) {p : Nat} (hp : p < 4) : aR 5 (N + 232) (nI p) σ = some (N + (233 + 3 * p)) := aR_at h.n232 hp (by decide) (h.2.2.2.2.2.1 p hp).1
theorem SX.tpup {N : Nat} {σ : Hp} (h : SX N σ) {p : Nat} (hp : p < 4) : hT σ (N + (233 + 3 * p)) = some (.inl 9) := (h.1 (233 + 3 * p) (by omega)).trans (by
  unfold kX
  simp (disch := omega) only [if_neg, if_pos])
theorem SX.pdays {N : Nat} {σ : Hp} (h : SX N σ) {p : Nat} (hp : p < 4) : gR 9 0 (N + (233 + 3 * p)) σ = some (N + (234 + 3 * p)) := gR_at (h.tpup hp) (h.2.2.2.2.2.1 p hp).2.1
theorem SX.prights {N : Nat} {σ : Hp} (h : SX N σ) {p : Nat} (hp : p < 4) : gR 9 1 (N + (233 + 3 * p)) σ = some (N + (235 + 3 * p)) := gR_at (h.tpup hp) (h.2.2.2.2.2.1 p hp).2.2
theorem SX.npdays {N : Nat} {σ : Hp} (h : SX N σ) {p : Nat} (hp : p < 4) : aN 0 (N + (234 + 3 * p)) σ = some 12 := aN_of ((h.1 (234 + 3 * p) (by omega)).trans (by
  unfold kX
  simp (disch := omega) only [if_neg, if_pos]))
theorem SX.nprights {N : Nat} {σ : Hp} (h : SX N σ) {p : Nat} (hp : p < 4) : aN 1 (N + (235 + 3 * p)) σ = some 12 := aN_of ((h.1 (235 + 3 * p) (by omega)).trans (by
  unfold kX
  simp (disch := omega) only [if_neg, if_pos]))
theorem SX.c {N : Nat} {σ : Hp} (h : SX N σ) {c : Nat} (hc : c < 48) : aR 3 (N + 13) (nI c) σ = some (N + (14 + 2 * c)) := aR_at h.n13 hc (by decide) (h.2.2.2.2.2.2.1 c hc).1
theorem SX.tc {N : Nat} {σ : Hp} (h : SX N σ) {c : Nat} (hc : c < 48) : hT σ (N + (14 + 2 * c)) = some (.inl 3) := (h.1 (14 + 2 * c) (by omega)).trans (by
  unfold kX
  simp (disch := omega) only [if_neg, if_pos])
theorem SX.ghc {N : Nat} {σ : Hp} (h : SX N σ) {c : Nat} (hc : c < 48) : gR 3 2 (N + (14 + 2 * c)) σ = some (N + (15 + 2 * c)) := gR_at (h.tc hc) (h.2.2.2.2.2.2.1 c hc).2
theorem SX.tgc {N : Nat} {σ : Hp} (h : SX N σ) {c : Nat} (hc : c < 48) : hT σ (N + (15 + 2 * c)) = some (.inl 4) := (h.1 (15 + 2 * c) (by omega)).trans (by
  unfold kX
  simp (disch := omega) only [if_neg, if_pos])
theorem SX.d {N : Nat} {σ : Hp} (h : SX N σ) {c : Nat} (hc : c < 48) : aR 3 (N + 111) (nI c) σ = some (N + (112 + 2 * c)) := aR_at h.n111 hc (by decide) (h.2.2.2.2.2.2.2 c hc).1
theorem SX.td {N : Nat} {σ : Hp} (h : SX N σ) {c : Nat} (hc : c < 48) : hT σ (N + (112 + 2 * c)) = some (.inl 3) := (h.1 (112 + 2 * c) (by omega)).trans (by
  unfold kX
  simp (disch := omega) only [if_neg, if_pos])
theorem SX.ghd {N : Nat} {σ : Hp} (h : SX N σ) {c : Nat} (hc : c < 48) : gR 3 2 (N + (112 + 2 * c)) σ = some (N + (113 + 2 * c)) := gR_at (h.td hc) (h.2.2.2.2.2.2.2 c hc).2
theorem SX.tgd {N : Nat} {σ : Hp} (h : SX N σ) {c : Nat} (hc : c < 48) : hT σ (N + (113 + 2 * c)) = some (.inl 4) := (h.1 (113 + 2 * c) (by omega)).trans (by
  unfold kX
  simp (disch := omega) only [if_neg, if_pos])
