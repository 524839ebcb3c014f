/-! WHAT IS KEPT: what the component answers -/
def cpS (a b : Nat → Int) (n x : Nat) : Int := if x < n then a x else b x
theorem cpS_0 (a b : Nat → Int) : cpS a b (3 * 0) = b := by
  funext x
  exact if_neg (by omega)
theorem cpS_e1 {a b X : Nat → Int} {i : Nat} : ∀ c : Nat, c < 3 → cpS a b (3 * (i + 1)) (3 * i + c) = (if c < 3 then a (3 * i + c) else X c) := by
  intro c hc
  rw [if_pos hc]
  exact if_pos (by omega)
theorem cpS_e2 {a b : Nat → Int} {i : Nat} : ∀ x : Nat, (x < 3 * i ∨ 3 * i + 3 ≤ x) → cpS a b (3 * (i + 1)) x = cpS a b (3 * i) x := by
  intro x hx
  unfold cpS
  by_cases h : x < 3 * i
  · rw [if_pos h, if_pos (by omega)]
  · rw [if_neg h, if_neg (by omega)]
def keepS (S : Sta) (k : Nat) : Sta := up (up (up S 0 (up (up (S 0) (7 + k) (S 0 3)) (9 + k) 1)) (4 + k) (cpS (S 2) (S (4 + k)) (3 * 6))) (24 + k) (S 20)
def keepA (S : Sta) (i : Int) : Int := if ¬ (0 ≤ i ∧ i ≤ 1) then -1 else if i = 0 then S 0 9 else S 0 10
def keepT (S : Sta) (i : Int) : Sta := if ¬ (0 ≤ i ∧ i ≤ 1) then S else if i = 0 then keepS S 0 else keepS S 1
def backS (S : Sta) (k : Nat) : Sta := up (up (up S 0 (up (S 0) 3 (S 0 (7 + k)))) 2 (cpS (S (4 + k)) (S 2) (3 * 6))) 20 (S (24 + k))
def backA (S : Sta) (i : Int) : Int := if ¬ (0 ≤ i ∧ i ≤ 1) then -1 else if i = 0 then (if S 0 9 = 0 then -2 else S 24 54) else (if S 0 10 = 0 then -2 else S 25 54)
def backT (S : Sta) (i : Int) : Sta := if ¬ (0 ≤ i ∧ i ≤ 1) then S else if i = 0 then (if S 0 9 = 0 then S else backS S 0) else (if S 0 10 = 0 then S else backS S 1)
