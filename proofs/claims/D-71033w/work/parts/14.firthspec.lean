/-! WHAT A FIRTH COMPUTES, over its numbers (i, j: isles; k: ropes) -/
def sulkS (F : Nat → Int) (i : Nat) : Nat → Int
  | 0 => 0
  | j + 1 => sulkS F i j + (if F (2 * j + 1) < F (2 * i + 1) then F (10 + 5 * i + j) else -F (10 + 5 * i + j))
def apS (F : Nat → Int) (i j : Nat) : Int := az (F (2 * i + 1) - F (2 * j + 1))
def nearS (F : Nat → Int) (i : Nat) : Nat → Int
  | 0 => -4
  | j + 1 => if j ≠ i ∧ (nearS F i j = -4 ∨ apS F i j < apS F i (nearS F i j).toNat) then (j : Int) else nearS F i j
def ropesS (F : Nat → Int) (i : Nat) : Nat → Int
  | 0 => 0
  | k + 1 => ropesS F i k + (if F (35 + 3 * k + 0) = (i : Int) ∨ F (35 + 3 * k + 1) = (i : Int) then 1 else 0)
def lowS (F : Nat → Int) : Nat → Int
  | 0 => 100
  | i + 1 => min (lowS F i) (F (2 * i + 1))
def highS (F : Nat → Int) : Nat → Int
  | 0 => 0
  | i + 1 => max (highS F i) (F (2 * i + 1))
/-- whom a rope ties to an isle -/
def endS (F : Nat → Int) (i k : Nat) : Nat := (F (35 + 3 * k + 0) + F (35 + 3 * k + 1) - i).toNat
def heldS (F : Nat → Int) (i : Nat) (to : Int) : Nat → Bool
  | 0 => false
  | k + 1 => heldS F i to k || (decide (F (35 + 3 * k + 0) = (i : Int) ∨ F (35 + 3 * k + 1) = (i : Int)) && (decide (F (35 + 3 * k + 2) < az (to - F (2 * endS F i k + 1))) && decide (apS F i (endS F i k) < az (to - F (2 * endS F i k + 1)))))
/-- the first isle from i on (f of them) that is at v; -4 -/
def whoS (F : Nat → Int) (v : Int) : Nat → Nat → Int
  | 0, _ => -4
  | f + 1, i => if F (2 * i + 1) = v then (i : Int) else whoS F v f (i + 1)
def fathS (kd s : Int) : Int := if kd = 0 then s else if kd = 1 then 2 * s else if kd = 2 then s / 2 else max 0 (2 * s - 1)
theorem apS_in {F : Nat → Int} (h : WF F) (i j : Nat) (hi : i < 5) (hj : j < 5) : 0 ≤ apS F i j ∧ apS F i j ≤ 99 := by
  have h1 := h.pl i hi
  have h2 := h.pl j hj
  have h3 := az_in (F (2 * i + 1) - F (2 * j + 1))
  unfold apS
  omega
theorem nearS_in (F : Nat → Int) (i : Nat) : ∀ j : Nat, nearS F i j = -4 ∨ (0 ≤ nearS F i j ∧ nearS F i j < (j : Int))
  | 0 => Or.inl rfl
  | j + 1 => by
    have ih := nearS_in F i j
    simp only [nearS]
    split <;> omega
theorem lowS_in {F : Nat → Int} (h : WF F) : ∀ i : Nat, i ≤ 5 → 0 ≤ lowS F i ∧ lowS F i ≤ 100
  | 0, _ => by simp [lowS]
  | i + 1, hi => by
    have ih := lowS_in h i (by omega)
    have h1 := h.pl i (by omega)
    simp only [lowS]
    omega
theorem highS_in {F : Nat → Int} (h : WF F) : ∀ i : Nat, i ≤ 5 → 0 ≤ highS F i ∧ highS F i ≤ 99
  | 0, _ => by simp [highS]
  | i + 1, hi => by
    have ih := highS_in h i (by omega)
    have h1 := h.pl i (by omega)
    simp only [highS]
    omega
theorem sulkS_in {F : Nat → Int} (h : WF F) (i : Nat) (hi : i < 5) : ∀ j : Nat, j ≤ 5 → -(3 * (j : Int)) ≤ sulkS F i j ∧ sulkS F i j ≤ 3 * (j : Int)
  | 0, _ => by simp [sulkS]
  | j + 1, hj => by
    have ih := sulkS_in h i hi j (by omega)
    have h1 := h.cr i j hi (by omega)
    simp only [sulkS]
    split <;> omega
theorem whoS_in (F : Nat → Int) (v : Int) : ∀ f i : Nat, whoS F v f i = -4 ∨ ((i : Int) ≤ whoS F v f i ∧ whoS F v f i < (i : Int) + (f : Int))
  | 0, _ => Or.inl rfl
  | f + 1, i => by
    have ih := whoS_in F v f (i + 1)
    simp only [whoS]
    split <;> omega
theorem ropesS_in (F : Nat → Int) (i : Nat) : ∀ k : Nat, 0 ≤ ropesS F i k ∧ ropesS F i k ≤ (k : Int)
  | 0 => by simp [ropesS]
  | k + 1 => by
    have ih := ropesS_in F i k
    simp only [ropesS]
    split <;> omega
