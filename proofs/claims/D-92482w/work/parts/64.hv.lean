set_option maxRecDepth 100000
/-! pure law 4: steps over a heap whose ints are named -/
def hv (σ : Hp) (f : Nat → Nat → Int32) : Hp := (σ.1, f, σ.2.2)
theorem hv_i (σ : Hp) (f : Nat → Nat → Int32) (a k : Nat) : hI (hv σ f) a k = f a k := rfl
theorem setI_hv (σ : Hp) (f : Nat → Nat → Int32) (a k : Nat) (v : Int32) : setI (hv σ f) a k v = hv σ (u2 f a k v) := rfl
theorem u2_e {f : Nat → Nat → Int32} {a k : Nat} {v : Int32} : u2 f a k v a k = v := if_pos ⟨rfl, rfl⟩
theorem u2_n {f : Nat → Nat → Int32} {a k : Nat} {v : Int32} {b j : Nat} (h : ¬ (b = a ∧ j = k)) : u2 f a k v b j = f b j := if_neg h
theorem u2_eq {f : Nat → Nat → Int32} {a k : Nat} {v : Int32} {b j : Nat} (h : b = a) (h' : j = k) : u2 f a k v b j = v := if_pos ⟨h, h'⟩
section HV
variable {σ : Hp} {f : Nat → Nat → Int32} {ci a b k n i t : Nat} {x v : Int32}
theorem gd_hv {ρ : Type} {z : Option ρ} (h : hT σ a = some (.inl ci)) : gd ci a (hv σ f) z = z := if_pos h
theorem gI_hv (h : hT σ a = some (.inl ci)) : gI ci k a (hv σ f) = some (f a k) := if_pos h
theorem pI_hv (h : hT σ a = some (.inl ci)) : pI ci k a v (hv σ f) = some (hv σ (u2 f a k v)) := if_pos h
theorem gR_hv (h : gR ci k a σ = some b) : gR ci k a (hv σ f) = some b := h
theorem aR_hv (h : aR t a x σ = some b) : aR t a x (hv σ f) = some b := h
theorem aI_hv (h : aN t a σ = some n) (hn : n < 2147483648) (hi : i < n) : aI t a (nI i) (hv σ f) = some (f a i) := aI_at (σ := hv σ f) h hi hn
theorem sI_hv (h : aN t a σ = some n) (hn : n < 2147483648) (hi : i < n) : sI t a (nI i) v (hv σ f) = some (hv σ (u2 f a i v)) := sI_at (σ := hv σ f) h hi hn
end HV
theorem SM.R2 {M : Nat} {σ : Hp} (h : SM M σ) {f : Nat → Nat → Int32} : gR 10 2 M (hv σ f) = some (M + 1) := h.r2
theorem SM.A2 {M : Nat} {σ : Hp} (h : SM M σ) {f : Nat → Nat → Int32} {i : Nat} (hi : i < 14) : aI 0 (M + 1) (nI i) (hv σ f) = some (f (M + 1) i) := aI_hv h.n2 (by decide) hi
theorem SM.W2 {M : Nat} {σ : Hp} (h : SM M σ) {f : Nat → Nat → Int32} {i : Nat} {v : Int32} (hi : i < 14) : sI 0 (M + 1) (nI i) v (hv σ f) = some (hv σ (u2 f (M + 1) i v)) := sI_hv h.n2 (by decide) hi
theorem SM.R3 {M : Nat} {σ : Hp} (h : SM M σ) {f : Nat → Nat → Int32} : gR 10 3 M (hv σ f) = some (M + 2) := h.r3
theorem SM.A3 {M : Nat} {σ : Hp} (h : SM M σ) {f : Nat → Nat → Int32} {i : Nat} (hi : i < 14) : aI 0 (M + 2) (nI i) (hv σ f) = some (f (M + 2) i) := aI_hv h.n3 (by decide) hi
theorem SM.W3 {M : Nat} {σ : Hp} (h : SM M σ) {f : Nat → Nat → Int32} {i : Nat} {v : Int32} (hi : i < 14) : sI 0 (M + 2) (nI i) v (hv σ f) = some (hv σ (u2 f (M + 2) i v)) := sI_hv h.n3 (by decide) hi
theorem SM.R4 {M : Nat} {σ : Hp} (h : SM M σ) {f : Nat → Nat → Int32} : gR 10 4 M (hv σ f) = some (M + 3) := h.r4
theorem SM.A4 {M : Nat} {σ : Hp} (h : SM M σ) {f : Nat → Nat → Int32} {i : Nat} (hi : i < 8) : aI 0 (M + 3) (nI i) (hv σ f) = some (f (M + 3) i) := aI_hv h.n4 (by decide) hi
theorem SM.W4 {M : Nat} {σ : Hp} (h : SM M σ) {f : Nat → Nat → Int32} {i : Nat} {v : Int32} (hi : i < 8) : sI 0 (M + 3) (nI i) v (hv σ f) = some (hv σ (u2 f (M + 3) i v)) := sI_hv h.n4 (by decide) hi
theorem SM.R5 {M : Nat} {σ : Hp} (h : SM M σ) {f : Nat → Nat → Int32} : gR 10 5 M (hv σ f) = some (M + 4) := h.r5
theorem SM.A5 {M : Nat} {σ : Hp} (h : SM M σ) {f : Nat → Nat → Int32} {i : Nat} (hi : i < 24) : aI 0 (M + 4) (nI i) (hv σ f) = some (f (M + 4) i) := aI_hv h.n5 (by decide) hi
theorem SM.W5 {M : Nat} {σ : Hp} (h : SM M σ) {f : Nat → Nat → Int32} {i : Nat} {v : Int32} (hi : i < 24) : sI 0 (M + 4) (nI i) v (hv σ f) = some (hv σ (u2 f (M + 4) i v)) := sI_hv h.n5 (by decide) hi
theorem SM.R8 {M : Nat} {σ : Hp} (h : SM M σ) {f : Nat → Nat → Int32} : gR 10 8 M (hv σ f) = some (M + 5) := h.r8
theorem SM.A8 {M : Nat} {σ : Hp} (h : SM M σ) {f : Nat → Nat → Int32} {i : Nat} (hi : i < 11) : aI 0 (M + 5) (nI i) (hv σ f) = some (f (M + 5) i) := aI_hv h.n8 (by decide) hi
theorem SM.W8 {M : Nat} {σ : Hp} (h : SM M σ) {f : Nat → Nat → Int32} {i : Nat} {v : Int32} (hi : i < 11) : sI 0 (M + 5) (nI i) v (hv σ f) = some (hv σ (u2 f (M + 5) i v)) := sI_hv h.n8 (by decide) hi
theorem SM.R9 {M : Nat} {σ : Hp} (h : SM M σ) {f : Nat → Nat → Int32} : gR 10 9 M (hv σ f) = some (M + 6) := h.r9
theorem SM.A9 {M : Nat} {σ : Hp} (h : SM M σ) {f : Nat → Nat → Int32} {i : Nat} (hi : i < 48) : aI 0 (M + 6) (nI i) (hv σ f) = some (f (M + 6) i) := aI_hv h.n9 (by decide) hi
theorem SM.W9 {M : Nat} {σ : Hp} (h : SM M σ) {f : Nat → Nat → Int32} {i : Nat} {v : Int32} (hi : i < 48) : sI 0 (M + 6) (nI i) v (hv σ f) = some (hv σ (u2 f (M + 6) i v)) := sI_hv h.n9 (by decide) hi
theorem SM.R10 {M : Nat} {σ : Hp} (h : SM M σ) {f : Nat → Nat → Int32} : gR 10 10 M (hv σ f) = some (M + 7) := h.r10
theorem SM.A10 {M : Nat} {σ : Hp} (h : SM M σ) {f : Nat → Nat → Int32} {i : Nat} (hi : i < 48) : aI 0 (M + 7) (nI i) (hv σ f) = some (f (M + 7) i) := aI_hv h.n10 (by decide) hi
theorem SM.W10 {M : Nat} {σ : Hp} (h : SM M σ) {f : Nat → Nat → Int32} {i : Nat} {v : Int32} (hi : i < 48) : sI 0 (M + 7) (nI i) v (hv σ f) = some (hv σ (u2 f (M + 7) i v)) := sI_hv h.n10 (by decide) hi
theorem SM.R11 {M : Nat} {σ : Hp} (h : SM M σ) {f : Nat → Nat → Int32} : gR 10 11 M (hv σ f) = some (M + 8) := h.r11
theorem SM.A11 {M : Nat} {σ : Hp} (h : SM M σ) {f : Nat → Nat → Int32} {i : Nat} (hi : i < 48) : aI 0 (M + 8) (nI i) (hv σ f) = some (f (M + 8) i) := aI_hv h.n11 (by decide) hi
theorem SM.W11 {M : Nat} {σ : Hp} (h : SM M σ) {f : Nat → Nat → Int32} {i : Nat} {v : Int32} (hi : i < 48) : sI 0 (M + 8) (nI i) v (hv σ f) = some (hv σ (u2 f (M + 8) i v)) := sI_hv h.n11 (by decide) hi
theorem SM.R12 {M : Nat} {σ : Hp} (h : SM M σ) {f : Nat → Nat → Int32} : gR 10 12 M (hv σ f) = some (M + 9) := h.r12
theorem SM.A12 {M : Nat} {σ : Hp} (h : SM M σ) {f : Nat → Nat → Int32} {i : Nat} (hi : i < 48) : aI 0 (M + 9) (nI i) (hv σ f) = some (f (M + 9) i) := aI_hv h.n12 (by decide) hi
theorem SM.W12 {M : Nat} {σ : Hp} (h : SM M σ) {f : Nat → Nat → Int32} {i : Nat} {v : Int32} (hi : i < 48) : sI 0 (M + 9) (nI i) v (hv σ f) = some (hv σ (u2 f (M + 9) i v)) := sI_hv h.n12 (by decide) hi
theorem SM.R13 {M : Nat} {σ : Hp} (h : SM M σ) {f : Nat → Nat → Int32} : gR 10 13 M (hv σ f) = some (M + 10) := h.r13
theorem SM.A13 {M : Nat} {σ : Hp} (h : SM M σ) {f : Nat → Nat → Int32} {i : Nat} (hi : i < 48) : aI 0 (M + 10) (nI i) (hv σ f) = some (f (M + 10) i) := aI_hv h.n13 (by decide) hi
theorem SM.W13 {M : Nat} {σ : Hp} (h : SM M σ) {f : Nat → Nat → Int32} {i : Nat} {v : Int32} (hi : i < 48) : sI 0 (M + 10) (nI i) v (hv σ f) = some (hv σ (u2 f (M + 10) i v)) := sI_hv h.n13 (by decide) hi
theorem SM.R14 {M : Nat} {σ : Hp} (h : SM M σ) {f : Nat → Nat → Int32} : gR 10 14 M (hv σ f) = some (M + 11) := h.r14
theorem SM.A14 {M : Nat} {σ : Hp} (h : SM M σ) {f : Nat → Nat → Int32} {i : Nat} (hi : i < 8) : aI 0 (M + 11) (nI i) (hv σ f) = some (f (M + 11) i) := aI_hv h.n14 (by decide) hi
theorem SM.W14 {M : Nat} {σ : Hp} (h : SM M σ) {f : Nat → Nat → Int32} {i : Nat} {v : Int32} (hi : i < 8) : sI 0 (M + 11) (nI i) v (hv σ f) = some (hv σ (u2 f (M + 11) i v)) := sI_hv h.n14 (by decide) hi
theorem SM.R15 {M : Nat} {σ : Hp} (h : SM M σ) {f : Nat → Nat → Int32} : gR 10 15 M (hv σ f) = some (M + 12) := h.r15
theorem SM.A15 {M : Nat} {σ : Hp} (h : SM M σ) {f : Nat → Nat → Int32} {i : Nat} (hi : i < 240) : aI 0 (M + 12) (nI i) (hv σ f) = some (f (M + 12) i) := aI_hv h.n15 (by decide) hi
theorem SM.W15 {M : Nat} {σ : Hp} (h : SM M σ) {f : Nat → Nat → Int32} {i : Nat} {v : Int32} (hi : i < 240) : sI 0 (M + 12) (nI i) v (hv σ f) = some (hv σ (u2 f (M + 12) i v)) := sI_hv h.n15 (by decide) hi
theorem SM.R16 {M : Nat} {σ : Hp} (h : SM M σ) {f : Nat → Nat → Int32} : gR 10 16 M (hv σ f) = some (M + 13) := h.r16
theorem SM.A16 {M : Nat} {σ : Hp} (h : SM M σ) {f : Nat → Nat → Int32} {i : Nat} (hi : i < 240) : aI 0 (M + 13) (nI i) (hv σ f) = some (f (M + 13) i) := aI_hv h.n16 (by decide) hi
theorem SM.W16 {M : Nat} {σ : Hp} (h : SM M σ) {f : Nat → Nat → Int32} {i : Nat} {v : Int32} (hi : i < 240) : sI 0 (M + 13) (nI i) v (hv σ f) = some (hv σ (u2 f (M + 13) i v)) := sI_hv h.n16 (by decide) hi
theorem SM.R17 {M : Nat} {σ : Hp} (h : SM M σ) {f : Nat → Nat → Int32} : gR 10 17 M (hv σ f) = some (M + 14) := h.r17
theorem SM.A17 {M : Nat} {σ : Hp} (h : SM M σ) {f : Nat → Nat → Int32} {i : Nat} (hi : i < 5) : aI 0 (M + 14) (nI i) (hv σ f) = some (f (M + 14) i) := aI_hv h.n17 (by decide) hi
theorem SM.W17 {M : Nat} {σ : Hp} (h : SM M σ) {f : Nat → Nat → Int32} {i : Nat} {v : Int32} (hi : i < 5) : sI 0 (M + 14) (nI i) v (hv σ f) = some (hv σ (u2 f (M + 14) i v)) := sI_hv h.n17 (by decide) hi
theorem SM.R18 {M : Nat} {σ : Hp} (h : SM M σ) {f : Nat → Nat → Int32} : gR 10 18 M (hv σ f) = some (M + 15) := h.r18
theorem SM.A18 {M : Nat} {σ : Hp} (h : SM M σ) {f : Nat → Nat → Int32} {i : Nat} (hi : i < 4) : aI 0 (M + 15) (nI i) (hv σ f) = some (f (M + 15) i) := aI_hv h.n18 (by decide) hi
theorem SM.W18 {M : Nat} {σ : Hp} (h : SM M σ) {f : Nat → Nat → Int32} {i : Nat} {v : Int32} (hi : i < 4) : sI 0 (M + 15) (nI i) v (hv σ f) = some (hv σ (u2 f (M + 15) i v)) := sI_hv h.n18 (by decide) hi
theorem SM.R20 {M : Nat} {σ : Hp} (h : SM M σ) {f : Nat → Nat → Int32} : gR 10 20 M (hv σ f) = some (M + 16) := h.r20
theorem SM.A20 {M : Nat} {σ : Hp} (h : SM M σ) {f : Nat → Nat → Int32} {i : Nat} (hi : i < 160) : aI 0 (M + 16) (nI i) (hv σ f) = some (f (M + 16) i) := aI_hv h.n20 (by decide) hi
theorem SM.W20 {M : Nat} {σ : Hp} (h : SM M σ) {f : Nat → Nat → Int32} {i : Nat} {v : Int32} (hi : i < 160) : sI 0 (M + 16) (nI i) v (hv σ f) = some (hv σ (u2 f (M + 16) i v)) := sI_hv h.n20 (by decide) hi
theorem SM.R28 {M : Nat} {σ : Hp} (h : SM M σ) {f : Nat → Nat → Int32} : gR 10 28 M (hv σ f) = some (M + 17) := h.r28
theorem SM.A28 {M : Nat} {σ : Hp} (h : SM M σ) {f : Nat → Nat → Int32} {i : Nat} (hi : i < 30) : aI 0 (M + 17) (nI i) (hv σ f) = some (f (M + 17) i) := aI_hv h.n28 (by decide) hi
theorem SM.W28 {M : Nat} {σ : Hp} (h : SM M σ) {f : Nat → Nat → Int32} {i : Nat} {v : Int32} (hi : i < 30) : sI 0 (M + 17) (nI i) v (hv σ f) = some (hv σ (u2 f (M + 17) i v)) := sI_hv h.n28 (by decide) hi
theorem SM.R30 {M : Nat} {σ : Hp} (h : SM M σ) {f : Nat → Nat → Int32} : gR 10 30 M (hv σ f) = some (M + 18) := h.r30
theorem SM.A30 {M : Nat} {σ : Hp} (h : SM M σ) {f : Nat → Nat → Int32} {i : Nat} (hi : i < 30) : aI 0 (M + 18) (nI i) (hv σ f) = some (f (M + 18) i) := aI_hv h.n30 (by decide) hi
theorem SM.W30 {M : Nat} {σ : Hp} (h : SM M σ) {f : Nat → Nat → Int32} {i : Nat} {v : Int32} (hi : i < 30) : sI 0 (M + 18) (nI i) v (hv σ f) = some (hv σ (u2 f (M + 18) i v)) := sI_hv h.n30 (by decide) hi
theorem SM.R31 {M : Nat} {σ : Hp} (h : SM M σ) {f : Nat → Nat → Int32} : gR 10 31 M (hv σ f) = some (M + 19) := h.r31
theorem SM.A31 {M : Nat} {σ : Hp} (h : SM M σ) {f : Nat → Nat → Int32} {i : Nat} (hi : i < 8) : aI 0 (M + 19) (nI i) (hv σ f) = some (f (M + 19) i) := aI_hv h.n31 (by decide) hi
theorem SM.W31 {M : Nat} {σ : Hp} (h : SM M σ) {f : Nat → Nat → Int32} {i : Nat} {v : Int32} (hi : i < 8) : sI 0 (M + 19) (nI i) v (hv σ f) = some (hv σ (u2 f (M + 19) i v)) := sI_hv h.n31 (by decide) hi
theorem SM.R32 {M : Nat} {σ : Hp} (h : SM M σ) {f : Nat → Nat → Int32} : gR 10 32 M (hv σ f) = some (M + 20) := h.r32
theorem SM.A32 {M : Nat} {σ : Hp} (h : SM M σ) {f : Nat → Nat → Int32} {i : Nat} (hi : i < 8) : aI 0 (M + 20) (nI i) (hv σ f) = some (f (M + 20) i) := aI_hv h.n32 (by decide) hi
theorem SM.W32 {M : Nat} {σ : Hp} (h : SM M σ) {f : Nat → Nat → Int32} {i : Nat} {v : Int32} (hi : i < 8) : sI 0 (M + 20) (nI i) v (hv σ f) = some (hv σ (u2 f (M + 20) i v)) := sI_hv h.n32 (by decide) hi
theorem SM.R33 {M : Nat} {σ : Hp} (h : SM M σ) {f : Nat → Nat → Int32} : gR 10 33 M (hv σ f) = some (M + 21) := h.r33
theorem SM.A33 {M : Nat} {σ : Hp} (h : SM M σ) {f : Nat → Nat → Int32} {i : Nat} (hi : i < 8) : aI 0 (M + 21) (nI i) (hv σ f) = some (f (M + 21) i) := aI_hv h.n33 (by decide) hi
theorem SM.W33 {M : Nat} {σ : Hp} (h : SM M σ) {f : Nat → Nat → Int32} {i : Nat} {v : Int32} (hi : i < 8) : sI 0 (M + 21) (nI i) v (hv σ f) = some (hv σ (u2 f (M + 21) i v)) := sI_hv h.n33 (by decide) hi
theorem SM.R35 {M : Nat} {σ : Hp} (h : SM M σ) {f : Nat → Nat → Int32} : gR 10 35 M (hv σ f) = some (M + 22) := h.r35
theorem SM.A35 {M : Nat} {σ : Hp} (h : SM M σ) {f : Nat → Nat → Int32} {i : Nat} (hi : i < 4) : aI 0 (M + 22) (nI i) (hv σ f) = some (f (M + 22) i) := aI_hv h.n35 (by decide) hi
theorem SM.W35 {M : Nat} {σ : Hp} (h : SM M σ) {f : Nat → Nat → Int32} {i : Nat} {v : Int32} (hi : i < 4) : sI 0 (M + 22) (nI i) v (hv σ f) = some (hv σ (u2 f (M + 22) i v)) := sI_hv h.n35 (by decide) hi
theorem SM.R36 {M : Nat} {σ : Hp} (h : SM M σ) {f : Nat → Nat → Int32} : gR 10 36 M (hv σ f) = some (M + 23) := h.r36
theorem SM.A36 {M : Nat} {σ : Hp} (h : SM M σ) {f : Nat → Nat → Int32} {i : Nat} (hi : i < 48) : aI 0 (M + 23) (nI i) (hv σ f) = some (f (M + 23) i) := aI_hv h.n36 (by decide) hi
theorem SM.W36 {M : Nat} {σ : Hp} (h : SM M σ) {f : Nat → Nat → Int32} {i : Nat} {v : Int32} (hi : i < 48) : sI 0 (M + 23) (nI i) v (hv σ f) = some (hv σ (u2 f (M + 23) i v)) := sI_hv h.n36 (by decide) hi
theorem SM.R37 {M : Nat} {σ : Hp} (h : SM M σ) {f : Nat → Nat → Int32} : gR 10 37 M (hv σ f) = some (M + 24) := h.r37
theorem SM.A37 {M : Nat} {σ : Hp} (h : SM M σ) {f : Nat → Nat → Int32} {i : Nat} (hi : i < 48) : aI 1 (M + 24) (nI i) (hv σ f) = some (f (M + 24) i) := aI_hv h.n37 (by decide) hi
theorem SM.W37 {M : Nat} {σ : Hp} (h : SM M σ) {f : Nat → Nat → Int32} {i : Nat} {v : Int32} (hi : i < 48) : sI 1 (M + 24) (nI i) v (hv σ f) = some (hv σ (u2 f (M + 24) i v)) := sI_hv h.n37 (by decide) hi
theorem SM.R38 {M : Nat} {σ : Hp} (h : SM M σ) {f : Nat → Nat → Int32} : gR 10 38 M (hv σ f) = some (M + 25) := h.r38
theorem SM.A38 {M : Nat} {σ : Hp} (h : SM M σ) {f : Nat → Nat → Int32} {i : Nat} (hi : i < 100) : aI 0 (M + 25) (nI i) (hv σ f) = some (f (M + 25) i) := aI_hv h.n38 (by decide) hi
theorem SM.W38 {M : Nat} {σ : Hp} (h : SM M σ) {f : Nat → Nat → Int32} {i : Nat} {v : Int32} (hi : i < 100) : sI 0 (M + 25) (nI i) v (hv σ f) = some (hv σ (u2 f (M + 25) i v)) := sI_hv h.n38 (by decide) hi
theorem SX.R0 {N : Nat} {σ : Hp} (h : SX N σ) {f : Nat → Nat → Int32} : gR 0 0 N (hv σ f) = some (N + 1) := h.r0
theorem SX.R2 {N : Nat} {σ : Hp} (h : SX N σ) {f : Nat → Nat → Int32} : gR 0 2 N (hv σ f) = some (N + 10) := h.r2
theorem SX.R5 {N : Nat} {σ : Hp} (h : SX N σ) {f : Nat → Nat → Int32} : gR 0 5 N (hv σ f) = some (N + 11) := h.r5
theorem SX.R7 {N : Nat} {σ : Hp} (h : SX N σ) {f : Nat → Nat → Int32} : gR 0 7 N (hv σ f) = some (N + 12) := h.r7
theorem SX.R8 {N : Nat} {σ : Hp} (h : SX N σ) {f : Nat → Nat → Int32} : gR 0 8 N (hv σ f) = some (N + 110) := h.r8
theorem SX.R9 {N : Nat} {σ : Hp} (h : SX N σ) {f : Nat → Nat → Int32} : gR 0 9 N (hv σ f) = some (N + 208) := h.r9
theorem SX.R12 {N : Nat} {σ : Hp} (h : SX N σ) {f : Nat → Nat → Int32} : gR 0 12 N (hv σ f) = some (N + 210) := h.r12
theorem SX.R14 {N : Nat} {σ : Hp} (h : SX N σ) {f : Nat → Nat → Int32} : gR 0 14 N (hv σ f) = some (N + 211) := h.r14
theorem SX.R15 {N : Nat} {σ : Hp} (h : SX N σ) {f : Nat → Nat → Int32} : gR 0 15 N (hv σ f) = some (N + 212) := h.r15
theorem SX.R16 {N : Nat} {σ : Hp} (h : SX N σ) {f : Nat → Nat → Int32} : gR 0 16 N (hv σ f) = some (N + 213) := h.r16
theorem SX.R17 {N : Nat} {σ : Hp} (h : SX N σ) {f : Nat → Nat → Int32} : gR 0 17 N (hv σ f) = some (N + 224) := h.r17
theorem SX.R18 {N : Nat} {σ : Hp} (h : SX N σ) {f : Nat → Nat → Int32} : gR 0 18 N (hv σ f) = some (N + 227) := h.r18
theorem SX.R19 {N : Nat} {σ : Hp} (h : SX N σ) {f : Nat → Nat → Int32} : gR 0 19 N (hv σ f) = some (N + 230) := h.r19
theorem SX.R20 {N : Nat} {σ : Hp} (h : SX N σ) {f : Nat → Nat → Int32} : gR 0 20 N (hv σ f) = some (N + 231) := h.r20
theorem SX.R21 {N : Nat} {σ : Hp} (h : SX N σ) {f : Nat → Nat → Int32} : gR 0 21 N (hv σ f) = some (N + 232) := h.r21
theorem SX.R12_0 {N : Nat} {σ : Hp} (h : SX N σ) {f : Nat → Nat → Int32} : gR 1 0 (N + 12) (hv σ f) = some (N + 13) := h.r12_0
theorem SX.R110_0 {N : Nat} {σ : Hp} (h : SX N σ) {f : Nat → Nat → Int32} : gR 1 0 (N + 110) (hv σ f) = some (N + 111) := h.r110_0
theorem SX.R224_0 {N : Nat} {σ : Hp} (h : SX N σ) {f : Nat → Nat → Int32} : gR 7 0 (N + 224) (hv σ f) = some (N + 225) := h.r224_0
theorem SX.R224_1 {N : Nat} {σ : Hp} (h : SX N σ) {f : Nat → Nat → Int32} : gR 7 1 (N + 224) (hv σ f) = some (N + 226) := h.r224_1
theorem SX.R227_0 {N : Nat} {σ : Hp} (h : SX N σ) {f : Nat → Nat → Int32} : gR 8 0 (N + 227) (hv σ f) = some (N + 228) := h.r227_0
theorem SX.R227_1 {N : Nat} {σ : Hp} (h : SX N σ) {f : Nat → Nat → Int32} : gR 8 1 (N + 227) (hv σ f) = some (N + 229) := h.r227_1
theorem SX.R12_1 {N : Nat} {σ : Hp} (h : SX N σ) {f : Nat → Nat → Int32} : gR 1 1 (N + 12) (hv σ f) = some N := h.r12_1
theorem SX.R110_1 {N : Nat} {σ : Hp} (h : SX N σ) {f : Nat → Nat → Int32} : gR 1 1 (N + 110) (hv σ f) = some N := h.r110_1
theorem SX.R211_5 {N : Nat} {σ : Hp} (h : SX N σ) {f : Nat → Nat → Int32} : gR 5 5 (N + 211) (hv σ f) = some N := h.r211_5
theorem SX.R224_5 {N : Nat} {σ : Hp} (h : SX N σ) {f : Nat → Nat → Int32} : gR 7 5 (N + 224) (hv σ f) = some N := h.r224_5
theorem SX.R227_5 {N : Nat} {σ : Hp} (h : SX N σ) {f : Nat → Nat → Int32} : gR 8 5 (N + 227) (hv σ f) = some N := h.r227_5
theorem SX.A10 {N : Nat} {σ : Hp} (h : SX N σ) {f : Nat → Nat → Int32} {i : Nat} (hi : i < 24) : aI 0 (N + 10) (nI i) (hv σ f) = some (f (N + 10) i) := aI_hv h.n10 (by decide) hi
theorem SX.W10 {N : Nat} {σ : Hp} (h : SX N σ) {f : Nat → Nat → Int32} {i : Nat} {v : Int32} (hi : i < 24) : sI 0 (N + 10) (nI i) v (hv σ f) = some (hv σ (u2 f (N + 10) i v)) := sI_hv h.n10 (by decide) hi
theorem SX.A11 {N : Nat} {σ : Hp} (h : SX N σ) {f : Nat → Nat → Int32} {i : Nat} (hi : i < 11) : aI 0 (N + 11) (nI i) (hv σ f) = some (f (N + 11) i) := aI_hv h.n11 (by decide) hi
theorem SX.W11 {N : Nat} {σ : Hp} (h : SX N σ) {f : Nat → Nat → Int32} {i : Nat} {v : Int32} (hi : i < 11) : sI 0 (N + 11) (nI i) v (hv σ f) = some (hv σ (u2 f (N + 11) i v)) := sI_hv h.n11 (by decide) hi
theorem SX.A208 {N : Nat} {σ : Hp} (h : SX N σ) {f : Nat → Nat → Int32} {i : Nat} (hi : i < 8) : aI 0 (N + 208) (nI i) (hv σ f) = some (f (N + 208) i) := aI_hv h.n208 (by decide) hi
theorem SX.W208 {N : Nat} {σ : Hp} (h : SX N σ) {f : Nat → Nat → Int32} {i : Nat} {v : Int32} (hi : i < 8) : sI 0 (N + 208) (nI i) v (hv σ f) = some (hv σ (u2 f (N + 208) i v)) := sI_hv h.n208 (by decide) hi
theorem SX.A210 {N : Nat} {σ : Hp} (h : SX N σ) {f : Nat → Nat → Int32} {i : Nat} (hi : i < 160) : aI 2 (N + 210) (nI i) (hv σ f) = some (f (N + 210) i) := aI_hv h.n210 (by decide) hi
theorem SX.W210 {N : Nat} {σ : Hp} (h : SX N σ) {f : Nat → Nat → Int32} {i : Nat} {v : Int32} (hi : i < 160) : sI 2 (N + 210) (nI i) v (hv σ f) = some (hv σ (u2 f (N + 210) i v)) := sI_hv h.n210 (by decide) hi
theorem SX.A212 {N : Nat} {σ : Hp} (h : SX N σ) {f : Nat → Nat → Int32} {i : Nat} (hi : i < 8) : aI 0 (N + 212) (nI i) (hv σ f) = some (f (N + 212) i) := aI_hv h.n212 (by decide) hi
theorem SX.W212 {N : Nat} {σ : Hp} (h : SX N σ) {f : Nat → Nat → Int32} {i : Nat} {v : Int32} (hi : i < 8) : sI 0 (N + 212) (nI i) v (hv σ f) = some (hv σ (u2 f (N + 212) i v)) := sI_hv h.n212 (by decide) hi
theorem SX.A225 {N : Nat} {σ : Hp} (h : SX N σ) {f : Nat → Nat → Int32} {i : Nat} (hi : i < 8) : aI 0 (N + 225) (nI i) (hv σ f) = some (f (N + 225) i) := aI_hv h.n225 (by decide) hi
theorem SX.W225 {N : Nat} {σ : Hp} (h : SX N σ) {f : Nat → Nat → Int32} {i : Nat} {v : Int32} (hi : i < 8) : sI 0 (N + 225) (nI i) v (hv σ f) = some (hv σ (u2 f (N + 225) i v)) := sI_hv h.n225 (by decide) hi
theorem SX.A226 {N : Nat} {σ : Hp} (h : SX N σ) {f : Nat → Nat → Int32} {i : Nat} (hi : i < 8) : aI 0 (N + 226) (nI i) (hv σ f) = some (f (N + 226) i) := aI_hv h.n226 (by decide) hi
theorem SX.W226 {N : Nat} {σ : Hp} (h : SX N σ) {f : Nat → Nat → Int32} {i : Nat} {v : Int32} (hi : i < 8) : sI 0 (N + 226) (nI i) v (hv σ f) = some (hv σ (u2 f (N + 226) i v)) := sI_hv h.n226 (by decide) hi
theorem SX.A228 {N : Nat} {σ : Hp} (h : SX N σ) {f : Nat → Nat → Int32} {i : Nat} (hi : i < 8) : aI 0 (N + 228) (nI i) (hv σ f) = some (f (N + 228) i) := aI_hv h.n228 (by decide) hi
theorem SX.W228 {N : Nat} {σ : Hp} (h : SX N σ) {f : Nat → Nat → Int32} {i : Nat} {v : Int32} (hi : i < 8) : sI 0 (N + 228) (nI i) v (hv σ f) = some (hv σ (u2 f (N + 228) i v)) := sI_hv h.n228 (by decide) hi
theorem SX.A229 {N : Nat} {σ : Hp} (h : SX N σ) {f : Nat → Nat → Int32} {i : Nat} (hi : i < 8) : aI 0 (N + 229) (nI i) (hv σ f) = some (f (N + 229) i) := aI_hv h.n229 (by decide) hi
theorem SX.W229 {N : Nat} {σ : Hp} (h : SX N σ) {f : Nat → Nat → Int32} {i : Nat} {v : Int32} (hi : i < 8) : sI 0 (N + 229) (nI i) v (hv σ f) = some (hv σ (u2 f (N + 229) i v)) := sI_hv h.n229 (by decide) hi
theorem SX.A230 {N : Nat} {σ : Hp} (h : SX N σ) {f : Nat → Nat → Int32} {i : Nat} (hi : i < 4) : aI 0 (N + 230) (nI i) (hv σ f) = some (f (N + 230) i) := aI_hv h.n230 (by decide) hi
theorem SX.W230 {N : Nat} {σ : Hp} (h : SX N σ) {f : Nat → Nat → Int32} {i : Nat} {v : Int32} (hi : i < 4) : sI 0 (N + 230) (nI i) v (hv σ f) = some (hv σ (u2 f (N + 230) i v)) := sI_hv h.n230 (by decide) hi
theorem SX.A231 {N : Nat} {σ : Hp} (h : SX N σ) {f : Nat → Nat → Int32} {i : Nat} (hi : i < 8) : aI 0 (N + 231) (nI i) (hv σ f) = some (f (N + 231) i) := aI_hv h.n231 (by decide) hi
theorem SX.W231 {N : Nat} {σ : Hp} (h : SX N σ) {f : Nat → Nat → Int32} {i : Nat} {v : Int32} (hi : i < 8) : sI 0 (N + 231) (nI i) v (hv σ f) = some (hv σ (u2 f (N + 231) i v)) := sI_hv h.n231 (by decide) hi
theorem SX.J {N : Nat} {σ : Hp} (h : SX N σ) {f : Nat → Nat → Int32} {r : Nat} (hr : r < 8) : aR 6 (N + 1) (nI r) (hv σ f) = some (N + (2 + r)) := h.jrow hr
theorem SX.AJ {N : Nat} {σ : Hp} (h : SX N σ) {f : Nat → Nat → Int32} {r i : Nat} (hr : r < 8) (hi : i < 8) : aI 1 (N + (2 + r)) (nI i) (hv σ f) = some (f (N + (2 + r)) i) := aI_hv (h.njrow hr) (by decide) hi
theorem SX.WJ {N : Nat} {σ : Hp} (h : SX N σ) {f : Nat → Nat → Int32} {r i : Nat} {v : Int32} (hr : r < 8) (hi : i < 8) : sI 1 (N + (2 + r)) (nI i) v (hv σ f) = some (hv σ (u2 f (N + (2 + r)) i v)) := sI_hv (h.njrow hr) (by decide) hi
theorem SX.K {N : Nat} {σ : Hp} (h : SX N σ) {f : Nat → Nat → Int32} {r : Nat} (hr : r < 10) : aR 7 (N + 213) (nI r) (hv σ f) = some (N + (214 + r)) := h.arow hr
theorem SX.AK {N : Nat} {σ : Hp} (h : SX N σ) {f : Nat → Nat → Int32} {r i : Nat} (hr : r < 10) (hi : i < 10) : aI 0 (N + (214 + r)) (nI i) (hv σ f) = some (f (N + (214 + r)) i) := aI_hv (h.narow hr) (by decide) hi
theorem SX.WK {N : Nat} {σ : Hp} (h : SX N σ) {f : Nat → Nat → Int32} {r i : Nat} {v : Int32} (hr : r < 10) (hi : i < 10) : sI 0 (N + (214 + r)) (nI i) v (hv σ f) = some (hv σ (u2 f (N + (214 + r)) i v)) := sI_hv (h.narow hr) (by decide) hi
theorem SX.P {N : Nat} {σ : Hp} (h : SX N σ) {f : Nat → Nat → Int32} {p : Nat} (hp : p < 4) : aR 5 (N + 232) (nI p) (hv σ f) = some (N + (233 + 3 * p)) := h.pup hp
theorem SX.PD {N : Nat} {σ : Hp} (h : SX N σ) {f : Nat → Nat → Int32} {p : Nat} (hp : p < 4) : gR 9 0 (N + (233 + 3 * p)) (hv σ f) = some (N + (234 + 3 * p)) := h.pdays hp
theorem SX.PR {N : Nat} {σ : Hp} (h : SX N σ) {f : Nat → Nat → Int32} {p : Nat} (hp : p < 4) : gR 9 1 (N + (233 + 3 * p)) (hv σ f) = some (N + (235 + 3 * p)) := h.prights hp
theorem SX.PG {N : Nat} {σ : Hp} (h : SX N σ) {f : Nat → Nat → Int32} {ρ : Type} {z : Option ρ} {p : Nat} (hp : p < 4) : gd 9 (N + (233 + 3 * p)) (hv σ f) z = z := gd_hv (h.tpup hp)
theorem SX.PI {N : Nat} {σ : Hp} (h : SX N σ) {f : Nat → Nat → Int32} {p k : Nat} (hp : p < 4) : gI 9 k (N + (233 + 3 * p)) (hv σ f) = some (f (N + (233 + 3 * p)) k) := gI_hv (h.tpup hp)
theorem SX.PW {N : Nat} {σ : Hp} (h : SX N σ) {f : Nat → Nat → Int32} {p k : Nat} {v : Int32} (hp : p < 4) : pI 9 k (N + (233 + 3 * p)) v (hv σ f) = some (hv σ (u2 f (N + (233 + 3 * p)) k v)) := pI_hv (h.tpup hp)
theorem SX.APD {N : Nat} {σ : Hp} (h : SX N σ) {f : Nat → Nat → Int32} {p i : Nat} (hp : p < 4) (hi : i < 12) : aI 0 (N + (234 + 3 * p)) (nI i) (hv σ f) = some (f (N + (234 + 3 * p)) i) := aI_hv (h.npdays hp) (by decide) hi
theorem SX.WPD {N : Nat} {σ : Hp} (h : SX N σ) {f : Nat → Nat → Int32} {p i : Nat} {v : Int32} (hp : p < 4) (hi : i < 12) : sI 0 (N + (234 + 3 * p)) (nI i) v (hv σ f) = some (hv σ (u2 f (N + (234 + 3 * p)) i v)) := sI_hv (h.npdays hp) (by decide) hi
theorem SX.APR {N : Nat} {σ : Hp} (h : SX N σ) {f : Nat → Nat → Int32} {p i : Nat} (hp : p < 4) (hi : i < 12) : aI 1 (N + (235 + 3 * p)) (nI i) (hv σ f) = some (f (N + (235 + 3 * p)) i) := aI_hv (h.nprights hp) (by decide) hi
theorem SX.WPR {N : Nat} {σ : Hp} (h : SX N σ) {f : Nat → Nat → Int32} {p i : Nat} {v : Int32} (hp : p < 4) (hi : i < 12) : sI 1 (N + (235 + 3 * p)) (nI i) v (hv σ f) = some (hv σ (u2 f (N + (235 + 3 * p)) i v)) := sI_hv (h.nprights hp) (by decide) hi
/-- a house at H of the component at N -/
def HS (N H : Nat) (σ : Hp) : Prop := hT σ H = some (.inl 1) ∧ gR 1 0 H σ = some (H + 1) ∧ gR 1 1 H σ = some N ∧ aN 3 (H + 1) σ = some 48 ∧ ∀ c, c < 48 → aR 3 (H + 1) (nI c) σ = some (H + (2 + 2 * c)) ∧ hT σ (H + (2 + 2 * c)) = some (.inl 3) ∧ gR 3 2 (H + (2 + 2 * c)) σ = some (H + (3 + 2 * c)) ∧ hT σ (H + (3 + 2 * c)) = some (.inl 4)
theorem SX.h12 {N : Nat} {σ : Hp} (h : SX N σ) : HS N (N + 12) σ := ⟨h.t12, h.r12_0, h.r12_1, h.n13, fun c hc => by
  have e1 : N + 12 + (2 + 2 * c) = N + (14 + 2 * c) := by omega
  have e2 : N + 12 + (3 + 2 * c) = N + (15 + 2 * c) := by omega
  rw [e1, e2]
  exact ⟨h.c hc, h.tc hc, h.ghc hc, h.tgc hc⟩⟩
theorem SX.h110 {N : Nat} {σ : Hp} (h : SX N σ) : HS N (N + 110) σ := ⟨h.t110, h.r110_0, h.r110_1, h.n111, fun c hc => by
  have e1 : N + 110 + (2 + 2 * c) = N + (112 + 2 * c) := by omega
  have e2 : N + 110 + (3 + 2 * c) = N + (113 + 2 * c) := by omega
  rw [e1, e2]
  exact ⟨h.d hc, h.td hc, h.ghd hc, h.tgd hc⟩⟩
theorem HS.D {N H : Nat} {σ : Hp} (h : HS N H σ) {f : Nat → Nat → Int32} {ρ : Type} {z : Option ρ} : gd 1 H (hv σ f) z = z := gd_hv h.1
theorem HS.R0 {N H : Nat} {σ : Hp} (h : HS N H σ) {f : Nat → Nat → Int32} : gR 1 0 H (hv σ f) = some (H + 1) := h.2.1
theorem HS.R1 {N H : Nat} {σ : Hp} (h : HS N H σ) {f : Nat → Nat → Int32} : gR 1 1 H (hv σ f) = some N := h.2.2.1
theorem HS.N {N H : Nat} {σ : Hp} (h : HS N H σ) {f : Nat → Nat → Int32} : aL 3 (H + 1) (hv σ f) = some (nI 48) := by
  have e : aN 3 (H + 1) (hv σ f) = some 48 := h.2.2.2.1
  unfold aL
  rw [e]
  rfl
theorem HS.C {N H : Nat} {σ : Hp} (h : HS N H σ) {f : Nat → Nat → Int32} {c : Nat} (hc : c < 48) : aR 3 (H + 1) (nI c) (hv σ f) = some (H + (2 + 2 * c)) := (h.2.2.2.2 c hc).1
theorem HS.CD {N H : Nat} {σ : Hp} (h : HS N H σ) {f : Nat → Nat → Int32} {ρ : Type} {z : Option ρ} {c : Nat} (hc : c < 48) : gd 3 (H + (2 + 2 * c)) (hv σ f) z = z := gd_hv (h.2.2.2.2 c hc).2.1
theorem HS.CI {N H : Nat} {σ : Hp} (h : HS N H σ) {f : Nat → Nat → Int32} {c k : Nat} (hc : c < 48) : gI 3 k (H + (2 + 2 * c)) (hv σ f) = some (f (H + (2 + 2 * c)) k) := gI_hv (h.2.2.2.2 c hc).2.1
theorem HS.CW {N H : Nat} {σ : Hp} (h : HS N H σ) {f : Nat → Nat → Int32} {c k : Nat} {v : Int32} (hc : c < 48) : pI 3 k (H + (2 + 2 * c)) v (hv σ f) = some (hv σ (u2 f (H + (2 + 2 * c)) k v)) := pI_hv (h.2.2.2.2 c hc).2.1
theorem HS.G {N H : Nat} {σ : Hp} (h : HS N H σ) {f : Nat → Nat → Int32} {c : Nat} (hc : c < 48) : gR 3 2 (H + (2 + 2 * c)) (hv σ f) = some (H + (3 + 2 * c)) := (h.2.2.2.2 c hc).2.2.1
theorem HS.GD {N H : Nat} {σ : Hp} (h : HS N H σ) {f : Nat → Nat → Int32} {ρ : Type} {z : Option ρ} {c : Nat} (hc : c < 48) : gd 4 (H + (3 + 2 * c)) (hv σ f) z = z := gd_hv (h.2.2.2.2 c hc).2.2.2
theorem HS.GI {N H : Nat} {σ : Hp} (h : HS N H σ) {f : Nat → Nat → Int32} {c k : Nat} (hc : c < 48) : gI 4 k (H + (3 + 2 * c)) (hv σ f) = some (f (H + (3 + 2 * c)) k) := gI_hv (h.2.2.2.2 c hc).2.2.2
theorem HS.GW {N H : Nat} {σ : Hp} (h : HS N H σ) {f : Nat → Nat → Int32} {c k : Nat} {v : Int32} (hc : c < 48) : pI 4 k (H + (3 + 2 * c)) v (hv σ f) = some (hv σ (u2 f (H + (3 + 2 * c)) k v)) := pI_hv (h.2.2.2.2 c hc).2.2.2
theorem SX.C12 {N : Nat} {σ : Hp} (h : SX N σ) {f : Nat → Nat → Int32} {c : Nat} (hc : c < 48) : aR 3 (N + 13) (nI c) (hv σ f) = some (N + 12 + (2 + 2 * c)) := (h.h12).C hc
/-! ops over named ints -/
def OkMf (M : Nat) (F : Hp → Option (Int32 × Hp)) (o : St → Int32 × St) : Prop := ∀ σ f S, Good S → RepM M (hv σ f) S → ∃ f', F (hv σ f) = some ((o S).1, hv σ f') ∧ RepM M (hv σ f') (o S).2 ∧ ∀ a k, a < M ∨ M + 26 ≤ a → f' a k = f a k
def OkXf (N : Nat) (F : Hp → Option (Int32 × Hp)) (o : St → Int32 × St) : Prop := ∀ σ f S, Good S → RepX N (hv σ f) S → ∃ f', F (hv σ f) = some ((o S).1, hv σ f') ∧ RepX N (hv σ f') (o S).2 ∧ ∀ a k, a < N ∨ N + 245 ≤ a → f' a k = f a k
theorem OkMf.ok {M : Nat} {F : Hp → Option (Int32 × Hp)} {o : St → Int32 × St} (h : OkMf M F o) : OkM M F o := fun σ S g r => by
  obtain ⟨f', h1, h2, h3⟩ := h σ σ.2.1 S g r
  exact ⟨hv σ f', h1, h2, fun a ha => ⟨rfl, fun k => h3 a k ha, fun _ => rfl, fun _ => rfl⟩, rfl⟩
theorem OkXf.ok {N : Nat} {F : Hp → Option (Int32 × Hp)} {o : St → Int32 × St} (h : OkXf N F o) : OkX N F o := fun σ S g r => by
  obtain ⟨f', h1, h2, h3⟩ := h σ σ.2.1 S g r
  exact ⟨hv σ f', h1, h2, fun a ha => ⟨rfl, fun k => h3 a k (by omega), fun _ => rfl, fun _ => rfl⟩, Nat.le_refl _⟩
section RP
variable {M N : Nat} {σ : Hp} {f : Nat → Nat → Int32} {S : St}
theorem RepM.s0 (h : RepM M (hv σ f) S) : f M 0 = nI (S.1 0) := h.2.2.1 0 (by decide)
theorem RepM.s1 (h : RepM M (hv σ f) S) : f M 1 = nI (S.1 1) := h.2.2.1 1 (by decide)
theorem RepM.s6 (h : RepM M (hv σ f) S) : f M 6 = nI (S.1 6) := h.2.2.1 6 (by decide)
theorem RepM.s7 (h : RepM M (hv σ f) S) : f M 7 = nI (S.1 7) := h.2.2.1 7 (by decide)
theorem RepM.s19 (h : RepM M (hv σ f) S) : f M 19 = nI (S.1 19) := h.2.2.1 19 (by decide)
theorem RepM.s29 (h : RepM M (hv σ f) S) : f M 29 = nI (S.1 29) := h.2.2.1 29 (by decide)
theorem RepM.a2 (h : RepM M (hv σ f) S) {i : Nat} (hi : i < 14) : f (M + 1) i = nI (S.2 2 i) := h.2.2.2 (2, 1, 14) (by decide) i hi
theorem RepM.a3 (h : RepM M (hv σ f) S) {i : Nat} (hi : i < 14) : f (M + 2) i = nI (S.2 3 i) := h.2.2.2 (3, 2, 14) (by decide) i hi
theorem RepM.a5 (h : RepM M (hv σ f) S) {i : Nat} (hi : i < 24) : f (M + 4) i = nI (S.2 5 i) := h.2.2.2 (5, 4, 24) (by decide) i hi
theorem RepM.a8 (h : RepM M (hv σ f) S) {i : Nat} (hi : i < 11) : f (M + 5) i = nI (S.2 8 i) := h.2.2.2 (8, 5, 11) (by decide) i hi
theorem RepM.a9 (h : RepM M (hv σ f) S) {i : Nat} (hi : i < 48) : f (M + 6) i = e1 (S.2 9 i) := h.2.2.2 (9, 6, 48) (by decide) i hi
theorem RepM.a10 (h : RepM M (hv σ f) S) {i : Nat} (hi : i < 48) : f (M + 7) i = nI (S.2 10 i) := h.2.2.2 (10, 7, 48) (by decide) i hi
theorem RepM.a11 (h : RepM M (hv σ f) S) {i : Nat} (hi : i < 48) : f (M + 8) i = e1 (S.2 11 i) := h.2.2.2 (11, 8, 48) (by decide) i hi
theorem RepM.a12 (h : RepM M (hv σ f) S) {i : Nat} (hi : i < 48) : f (M + 9) i = nI (S.2 12 i) := h.2.2.2 (12, 9, 48) (by decide) i hi
theorem RepM.a13 (h : RepM M (hv σ f) S) {i : Nat} (hi : i < 48) : f (M + 10) i = e1 (S.2 13 i) := h.2.2.2 (13, 10, 48) (by decide) i hi
theorem RepM.a14 (h : RepM M (hv σ f) S) {i : Nat} (hi : i < 8) : f (M + 11) i = e1 (S.2 14 i) := h.2.2.2 (14, 11, 8) (by decide) i hi
theorem RepM.a20 (h : RepM M (hv σ f) S) {i : Nat} (hi : i < 160) : f (M + 16) i = nI (S.2 20 i) := h.2.2.2 (20, 16, 160) (by decide) i hi
theorem RepM.a30 (h : RepM M (hv σ f) S) {i : Nat} (hi : i < 30) : f (M + 18) i = nI (S.2 30 i) := h.2.2.2 (30, 18, 30) (by decide) i hi
theorem RepM.a35 (h : RepM M (hv σ f) S) {i : Nat} (hi : i < 4) : f (M + 22) i = nI (S.2 35 i) := h.2.2.2 (35, 22, 4) (by decide) i hi
theorem RepM.a36 (h : RepM M (hv σ f) S) {i : Nat} (hi : i < 48) : f (M + 23) i = nI (S.2 36 i) := h.2.2.2 (36, 23, 48) (by decide) i hi
theorem RepM.a37 (h : RepM M (hv σ f) S) {i : Nat} (hi : i < 48) : f (M + 24) i = nI (S.2 37 i) := h.2.2.2 (37, 24, 48) (by decide) i hi
theorem RepM.a38 (h : RepM M (hv σ f) S) {i : Nat} (hi : i < 100) : f (M + 25) i = nI (S.2 38 i) := h.2.2.2 (38, 25, 100) (by decide) i hi
theorem RepX.s1 (h : RepX N (hv σ f) S) : f N 1 = nI (S.1 1) := h.2.2.1 (1, 1) (by decide)
theorem RepX.s6 (h : RepX N (hv σ f) S) : f N 3 = nI (S.1 6) := h.2.2.1 (3, 6) (by decide)
theorem RepX.s7 (h : RepX N (hv σ f) S) : f N 4 = nI (S.1 7) := h.2.2.1 (4, 7) (by decide)
theorem RepX.s0 (h : RepX N (hv σ f) S) : f N 6 = nI (S.1 0) := h.2.2.1 (6, 0) (by decide)
theorem RepX.s29 (h : RepX N (hv σ f) S) : f N 11 = nI (S.1 29) := h.2.2.1 (11, 29) (by decide)
theorem RepX.s19 (h : RepX N (hv σ f) S) : f N 13 = nI (S.1 19) := h.2.2.1 (13, 19) (by decide)
theorem RepX.a5 (h : RepX N (hv σ f) S) {i : Nat} (hi : i < 24) : f (N + 10) i = nI (S.2 5 i) := h.2.2.2.1 (10, 5, 24) (by decide) i hi
theorem RepX.a8 (h : RepX N (hv σ f) S) {i : Nat} (hi : i < 11) : f (N + 11) i = nI (S.2 8 i) := h.2.2.2.1 (11, 8, 11) (by decide) i hi
theorem RepX.a14 (h : RepX N (hv σ f) S) {i : Nat} (hi : i < 8) : f (N + 208) i = e1 (S.2 14 i) := h.2.2.2.1 (208, 14, 8) (by decide) i hi
theorem RepX.a9 (h : RepX N (hv σ f) S) {c : Nat} (hc : c < 48) : f (N + 12 + (2 + 2 * c)) 0 = e1 (S.2 9 c) := by
  have e : N + 12 + (2 + 2 * c) = N + (14 + 2 * c) := by omega
  rw [e]
  exact (h.2.2.2.2.2.1 c hc).1
theorem RepX.a10 (h : RepX N (hv σ f) S) {c : Nat} (hc : c < 48) : f (N + 12 + (2 + 2 * c)) 1 = nI (S.2 10 c) := by
  have e : N + 12 + (2 + 2 * c) = N + (14 + 2 * c) := by omega
  rw [e]
  exact (h.2.2.2.2.2.1 c hc).2.1
theorem RepX.a13 (h : RepX N (hv σ f) S) {c : Nat} (hc : c < 48) : f (N + 12 + (2 + 2 * c)) 3 = e1 (S.2 13 c) := by
  have e : N + 12 + (2 + 2 * c) = N + (14 + 2 * c) := by omega
  rw [e]
  exact (h.2.2.2.2.2.1 c hc).2.2.1
theorem RepX.a11 (h : RepX N (hv σ f) S) {c : Nat} (hc : c < 48) : f (N + 12 + (3 + 2 * c)) 0 = e1 (S.2 11 c) := by
  have e : N + 12 + (3 + 2 * c) = N + (15 + 2 * c) := by omega
  rw [e]
  exact (h.2.2.2.2.2.1 c hc).2.2.2.1
theorem RepX.a12 (h : RepX N (hv σ f) S) {c : Nat} (hc : c < 48) : f (N + 12 + (3 + 2 * c)) 1 = nI (S.2 12 c) := by
  have e : N + 12 + (3 + 2 * c) = N + (15 + 2 * c) := by omega
  rw [e]
  exact (h.2.2.2.2.2.1 c hc).2.2.2.2
theorem RepX.a35 (h : RepX N (hv σ f) S) {p : Nat} (hp : p < 4) : f (N + (233 + 3 * p)) 2 = nI (S.2 35 p) := (h.2.2.2.2.2.2.2.1 p hp).1
theorem RepX.a36 (h : RepX N (hv σ f) S) {p k : Nat} (hp : p < 4) (hk : k < 12) : f (N + (234 + 3 * p)) k = nI (S.2 36 (12 * p + k)) := ((h.2.2.2.2.2.2.2.1 p hp).2 k hk).1
theorem RepX.a37 (h : RepX N (hv σ f) S) {p k : Nat} (hp : p < 4) (hk : k < 12) : f (N + (235 + 3 * p)) k = nI (S.2 37 (12 * p + k)) := ((h.2.2.2.2.2.2.2.1 p hp).2 k hk).2
theorem RepX.a38 (h : RepX N (hv σ f) S) {a b : Nat} (ha : a < 10) (hb : b < 10) : f (N + (214 + a)) b = nI (S.2 38 (10 * a + b)) := h.2.2.2.2.2.2.2.2.1 a b ha hb
end RP
