/-! what Firth.takes has taken -/
def tkm (F F2 : Nat → Int) (i k : Nat) : Int := if k < 2 * (i + 1) then F2 k else if 10 ≤ k ∧ k < 10 + 5 * i then F2 k else F k
theorem tkm_e1 {F F2 X : Nat → Int} {i : Nat} : ∀ j : Nat, j < 2 → tkm F F2 i (2 * i + j) = (if j < 2 then F2 (2 * i + j) else X j) := by
  intro j hj
  rw [if_pos hj]
  unfold tkm
  rw [if_pos (by omega)]
theorem tkm_e2 {F F2 : Nat → Int} {i : Nat} (h5 : i < 5) : ∀ k : Nat, (k < 57 ∨ k = 76) → (k < 2 * i ∨ 2 * i + 2 ≤ k) → tkm F F2 i k = tk1 F F2 i k := by
  intro k _ hk
  unfold tkm tk1
  by_cases h1 : k < 2 * i
  · rw [if_pos h1, if_pos (by omega)]
  · rw [if_neg h1, if_neg (by omega)]
theorem tk1_e1 {F F2 X : Nat → Int} {i : Nat} (h5 : i < 5) : ∀ j : Nat, j < 5 → tk1 F F2 (i + 1) (10 + 5 * i + j) = (if j < 5 then F2 (10 + 5 * i + j) else X j) := by
  intro j hj
  rw [if_pos hj]
  unfold tk1
  rw [if_neg (by omega), if_pos (by omega)]
theorem tk1_e2 {F F2 : Nat → Int} {i : Nat} (h5 : i < 5) : ∀ k : Nat, (k < 57 ∨ k = 76) → (k < 10 + 5 * i ∨ 10 + 5 * i + 5 ≤ k) → tk1 F F2 (i + 1) k = tkm F F2 i k := by
  intro k _ hk
  unfold tkm tk1
  by_cases h1 : k < 2 * (i + 1)
  · rw [if_pos h1, if_pos h1]
  · rw [if_neg h1, if_neg h1]
    by_cases h2 : 10 ≤ k ∧ k < 10 + 5 * i
    · rw [if_pos h2, if_pos (by omega)]
    · rw [if_neg h2, if_neg (by omega)]
theorem tk1_0 (F F2 : Nat → Int) (k : Nat) : tk1 F F2 0 k = F k := by
  unfold tk1
  rw [if_neg (by omega), if_neg (by omega)]
theorem tk2_0 (F F2 : Nat → Int) (k : Nat) : tk1 F F2 5 k = tk2 F F2 0 k := by
  unfold tk1 tk2
  by_cases h : k < 10
  · rw [if_pos (by omega), if_pos (by omega)]
  · by_cases h2 : k < 35
    · rw [if_neg (by omega), if_pos (by omega), if_pos h2]
    · rw [if_neg (by omega), if_neg (by omega), if_neg h2, if_neg (by omega)]
theorem tk2_e1 {F F2 X : Nat → Int} {i : Nat} : ∀ j : Nat, j < 3 → tk2 F F2 (i + 1) (35 + 3 * i + j) = (if j < 3 then F2 (35 + 3 * i + j) else X j) := by
  intro j hj
  rw [if_pos hj]
  unfold tk2
  rw [if_neg (by omega), if_pos (by omega)]
theorem tk2_e2 {F F2 : Nat → Int} {i : Nat} : ∀ k : Nat, (k < 57 ∨ k = 76) → (k < 35 + 3 * i ∨ 35 + 3 * i + 3 ≤ k) → tk2 F F2 (i + 1) k = tk2 F F2 i k := by
  intro k _ hk
  unfold tk2
  by_cases h1 : k < 35
  · rw [if_pos h1, if_pos h1]
  · rw [if_neg h1, if_neg h1]
    by_cases h2 : k < 35 + 3 * i
    · rw [if_pos h2, if_pos (by omega)]
    · rw [if_neg h2, if_neg (by omega)]
theorem tk_end {F F2 : Nat → Int} : ∀ k : Nat, (k < 57 ∨ k = 76) → up (up (up (up (up (tk2 F F2 6) 76 (F2 76)) 53 (F2 53)) 55 (F2 55)) 54 (F2 54)) 56 (F2 56) k = F2 k := by
  intro k hk
  unfold up
  by_cases e56 : k = 56
  · subst e56; rfl
  rw [if_neg e56]
  by_cases e54 : k = 54
  · subst e54; rfl
  rw [if_neg e54]
  by_cases e55 : k = 55
  · subst e55; rfl
  rw [if_neg e55]
  by_cases e53 : k = 53
  · subst e53; rfl
  rw [if_neg e53]
  by_cases e76 : k = 76
  · subst e76; rfl
  rw [if_neg e76]
  unfold tk2
  by_cases h : k < 35
  · rw [if_pos h]
  · rw [if_neg h, if_pos (by omega)]
