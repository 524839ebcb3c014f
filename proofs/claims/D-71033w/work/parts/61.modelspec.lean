/-! THE MODEL: what it answers, over its numbers -/
theorem b2_01 (P : Prop) [Decidable P] : b2 P = 0 ∨ b2 P = 1 := by unfold b2; split <;> simp
/-- what is not drawn at itself -/
def Dia (F : Nat → Int) : Prop := ∀ i : Nat, i < 5 → F (10 + 5 * i + i) = 0
def msI (F : Nat → Int) (i : Nat) (r : Int) : Nat → Int
  | 0 => r
  | j + 1 => if msI F i r j < apS F i j then apS F i j else msI F i r j
def msO (F : Nat → Int) : Nat → Int
  | 0 => 0
  | i + 1 => msI F i (msO F i) i
theorem az_def (z : Int) : az z = max z (-z) := by unfold az; split <;> omega
theorem msI_eq {F : Nat → Int} (h : WF F) {i : Nat} (hi : i < 5) {r : Int} (hr : 0 ≤ r) : ∀ j : Nat, j ≤ 5 → msI F i r j = max r (max (highS F j - F (2 * i + 1)) (F (2 * i + 1) - lowS F j))
  | 0, _ => by
    have := h.pl i hi
    simp only [msI, highS, lowS]
    omega
  | j + 1, hj => by
    have ih := msI_eq h hi hr j (by omega)
    have h1 := h.pl i hi
    have h2 := h.pl j (by omega)
    have h3 := az_def (F (2 * i + 1) - F (2 * j + 1))
    simp only [msI, highS, lowS]
    unfold apS
    split <;> omega
theorem msO_eq {F : Nat → Int} (h : WF F) : ∀ i : Nat, i ≤ 5 → msO F i = max 0 (highS F i - lowS F i)
  | 0, _ => by
    simp only [msO, highS, lowS]
    omega
  | i + 1, hi => by
    have ih := msO_eq h i (by omega)
    have h1 := h.pl i (by omega)
    simp only [msO, highS, lowS]
    rw [msI_eq h (by omega) (by omega) i (by omega)]
    have h2 := lowS_in h i (by omega)
    have h3 := highS_in h i (by omega)
    omega
theorem msI_in {F : Nat → Int} (h : WF F) {i : Nat} (hi : i < 5) {r : Int} (hr : 0 ≤ r ∧ r ≤ 99) (j : Nat) (hj : j ≤ 5) : 0 ≤ msI F i r j ∧ msI F i r j ≤ 100 := by
  have h1 := h.pl i hi
  have h2 := lowS_in h j hj
  have h3 := highS_in h j hj
  rw [msI_eq h hi hr.1 j hj]
  omega
theorem msO_in {F : Nat → Int} (h : WF F) (i : Nat) (hi : i ≤ 5) : 0 ≤ msO F i ∧ msO F i ≤ 99 := by
  have h2 := lowS_in h i hi
  have h3 := highS_in h i hi
  rw [msO_eq h i hi]
  omega
def mdr (kd s : Int) : Int := if kd = 1 then 2 * s else if kd = 2 then (if s < 0 then -(-s / 2) else s / 2) else if kd = 3 then (if 0 < 2 * s then 2 * s - 1 else if 2 * s < 0 then 2 * s + 1 else 0) else s
def tkB (F : Nat → Int) (v : Int) : Nat → Bool
  | 0 => false
  | n + 1 => tkB F v n || decide (F (2 * n + 1) = v)
theorem mdr_in {kd s : Int} (hk : 0 ≤ kd ∧ kd ≤ 3) (hs : -15 ≤ s ∧ s ≤ 15) : -30 ≤ mdr kd s ∧ mdr kd s ≤ 30 := by
  unfold mdr
  (repeat' split) <;> omega
