/-! laws of what a firth computes, that the walks ask -/
theorem fathS_in {F : Nat → Int} (h : WF F) (i : Nat) (hi : i < 5) : 0 ≤ fathS (F (2 * i + 0)) (az (sulkS F i (F 76).toNat)) ∧ fathS (F (2 * i + 0)) (az (sulkS F i (F 76).toNat)) ≤ 30 := by
  have hn := h.n
  have h1 := sulkS_in h i hi (F 76).toNat (by omega)
  have h2 := az_in (sulkS F i (F 76).toNat)
  unfold fathS
  split
  · omega
  · split
    · omega
    · split <;> omega
theorem heldS_o (F : Nat → Int) (i : Nat) (zt : Int) (k : Nat) (h : ¬ (F (35 + 3 * k + 0) = (i : Int) ∨ F (35 + 3 * k + 1) = (i : Int))) : b2 (heldS F i zt (k + 1) = true) = b2 (heldS F i zt k = true) := by
  apply b2_iff
  simp only [heldS, Bool.or_eq_true, Bool.and_eq_true, decide_eq_true_eq]
  constructor
  · rintro (q | ⟨q, -⟩)
    · exact q
    · exact absurd q h
  · exact Or.inl
theorem heldS_1 (F : Nat → Int) (i : Nat) (zt : Int) (k : Nat) (h : heldS F i zt k = true) : b2 (heldS F i zt (k + 1) = true) = 1 := by
  apply b2_t
  simp only [heldS, Bool.or_eq_true]
  exact Or.inl h
theorem heldS_2 (F : Nat → Int) (i : Nat) (zt : Int) (k : Nat) (h : F (35 + 3 * k + 0) = (i : Int) ∨ F (35 + 3 * k + 1) = (i : Int)) (h2 : F (35 + 3 * k + 2) < az (zt - F (2 * endS F i k + 1))) (h3 : apS F i (endS F i k) < az (zt - F (2 * endS F i k + 1))) : b2 (heldS F i zt (k + 1) = true) = 1 := by
  apply b2_t
  simp only [heldS, Bool.or_eq_true, Bool.and_eq_true, decide_eq_true_eq]
  exact Or.inr ⟨h, h2, h3⟩
theorem heldS_3 (F : Nat → Int) (i : Nat) (zt : Int) (k : Nat) (h : ¬ heldS F i zt k = true) (h2 : ¬ (F (35 + 3 * k + 2) < az (zt - F (2 * endS F i k + 1)) ∧ apS F i (endS F i k) < az (zt - F (2 * endS F i k + 1)))) : b2 (heldS F i zt (k + 1) = true) = 0 := by
  apply b2_f
  simp only [heldS, Bool.or_eq_true, Bool.and_eq_true, decide_eq_true_eq]
  rintro (q | ⟨-, q, q2⟩)
  · exact h q
  · exact h2 ⟨q, q2⟩
theorem AA.le {ad : Nat → Nat} {N a b : Nat} (h : a ≤ b) : ∀ q, AA ad N b q → AA ad N a q := fun q hq => hq.elim Or.inl (fun z => Or.inr (Nat.le_trans h z))
