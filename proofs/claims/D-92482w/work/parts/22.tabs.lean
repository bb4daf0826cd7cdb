set_option maxRecDepth 100000
/-! classes by number, array types by number -/
def clF : Nat → Option vw_C := fun n => match n with
  | 0 => some (RX0, TX0, 22)
  | 1 => some (RX1, TX1, 2)
  | 3 => some (RX3, TX3, 4)
  | 4 => some (RX4, TX4, 2)
  | 5 => some (RX5, TX5, 6)
  | 7 => some (RX7, TX7, 6)
  | 8 => some (RX8, TX8, 6)
  | 9 => some (RX9, TX9, 3)
  | 10 => some (RX10, TX10, 39)
  | 11 => some (RX11, TX11, 7)
  | 13 => some (RX13, TX13, 2)
  | 14 => some (RX14, TX14, 1)
  | 15 => some (RX15, TX15, 1)
  | 16 => some (RX16, TX16, 2)
  | _ => none
def tyA : Nat → FieldType := fun n => match n with
  | 0 => .int
  | 1 => .boolean
  | 2 => .byte
  | 3 => .object "PalaceOfRooms$Corner"
  | 4 => .object "PalaceOfRooms$Line"
  | 5 => .object "PalaceOfRooms$Pupil"
  | 6 => .array .boolean
  | _ => .array .int
/-- what a run keeps fixed: the old heap's size and cells, the classes' numbers, the array classes, the String constants and their bytes -/
abbrev Gl : Type := Nat × Heap × va_G × (Nat → ClassId) × (Nat → Nat) × (Nat → Nat)
def frN (g : Gl) : Nat → Prop := fun q => g.1 ≤ q
def fV (σ : Hp) (a : Nat) (d : String) (k : Nat) : Value := if d = "I" then .int (hI σ a k) else if d = "J" then .long (hL σ a k) else va_rf (hR σ a k)
def aV (σ : Hp) (t a j : Nat) : Value := if t < 3 then .int (hI σ a j) else va_rf (hR σ a j)
/-- fields that the abstract heap doesn't follow: Throwable's own -/
def dcF (ci k : Nat) : Prop := ci = 11 ∧ k < 6
def atH (g : Gl) (σ : Hp) (a : Nat) (kd : Kd) (H : Heap) : Prop := match kd with
  | .inl ci => ∃ (q : vw_C) (V : Nat → Value), clF ci = some q ∧ (∀ k, k < q.2.2 → ¬ dcF ci k → V k = fV σ a (q.2.1 k).2.2.1 k) ∧ t_OB a (g.2.2.1.1 ci) q.2.2 (g.2.2.1.2 ci) H V
  | .inr x => H[a]? = some (arrV (g.2.2.2.1 x.1) x.2 (aV σ x.1 a))
def HV (g : Gl) (σ : Hp) (H : Heap) : Prop := g.1 ≤ H.size ∧ (∀ q : Nat, q < g.1 → H[q]? = g.2.1[q]?) ∧ hZ σ = H.size ∧ ∀ (a : Nat) (kd : Kd), hT σ a = some kd → g.1 ≤ a ∧ atH g σ a kd H
def strTab : List (String × Nat × String × Nat) := [("PalaceOfRooms$Reader", 73, "room", 0), ("PalaceOfRooms$Reader", 87, "again", 1), ("PalaceOfRooms$Reader", 92, "apart", 2), ("PalaceOfRooms$Reader", 97, "walk", 3), ("PalaceOfRooms$Reader", 99, "every", 4), ("PalaceOfRooms$Reader", 117, ";", 5), ("PalaceOfRooms$Fault", 1, "", 6)]
/-- what is known of the old heap: the String constants, four statics -/
def STg (g : Gl) (U : State) : Prop := vk_S 7 slen sbyt g.2.2.2.2.1 g.2.2.2.2.2 (frN g) U g.2.1 ∧ (∀ x ∈ strTab, vk_R x.1 x.2.1 x.2.2.1 (g.2.2.2.2.1 x.2.2.2) U) ∧ va_Z "java/lang/String" "COMPACT_STRINGS" "Z" (.int 1) (frN g) U g.2.1 ∧
  va_Zq "jdk/internal/util/Preconditions" "SIOOBE_FORMATTER" "Ljava/util/function/BiFunction;" (frN g) U g.2.1 ∧ va_Zq "java/lang/Throwable" "UNASSIGNED_STACK" "[Ljava/lang/StackTraceElement;" (frN g) U g.2.1 ∧ va_Zq "java/lang/Throwable" "SUPPRESSED_SENTINEL" "Ljava/util/List;" (frN g) U g.2.1
