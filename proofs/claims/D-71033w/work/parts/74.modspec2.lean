/-! THE MODEL: laws, 2: a rope gone, who is where, storms -/
/-- the shift as far as c -/
def msL (F : Nat → Int) (k q x : Nat) : Int := if 35 + 3 * k ≤ x ∧ x < q then F (x + 3) else F x
theorem msL_0 (F : Nat → Int) (k : Nat) : msL F k (35 + (3 * k)) = F := by
  funext x
  exact if_neg (by omega)
theorem msL_s {F : Nat → Int} {k q : Nat} (hq : 35 + 3 * k ≤ q) : up (msL F k q) q (msL F k q (q + 3)) = msL F k (q + 1) := by
  funext x
  by_cases e : x = q
  · subst e
    rw [up_s]
    unfold msL
    rw [if_neg (by omega), if_pos (by omega)]
  · rw [up_n _ _ e]
    unfold msL
    by_cases h : 35 + 3 * k ≤ x ∧ x < q
    · rw [if_pos h, if_pos (by omega)]
    · rw [if_neg h, if_neg (by omega)]
theorem msL_50 (F : Nat → Int) (k : Nat) : msL F k 50 = msS F k := by
  funext x
  rfl
theorem mf_end (F : Nat → Int) (k : Nat) : up (msL F k 50) 53 (msL F k 50 53 - 1) = mfF F k := by
  unfold mfF
  rw [msL_50, show msS F k 53 = F 53 from if_neg (by omega)]
theorem mfF_same (F : Nat → Int) {k x : Nat} (h1 : x < 35 ∨ 50 ≤ x) (h2 : x ≠ 53) : mfF F k x = F x := by
  unfold mfF
  rw [up_n _ _ h2]
  exact if_neg (by omega)
theorem mfF_wf {F : Nat → Int} (h : WF F) {k : Nat} (hk : (k : Int) < F 53) : WF (mfF F k) := by
  have hr := h.rm
  unfold mfF
  refine WF.setRm ?_ (by omega)
  obtain ⟨h1, h2, h3, h4, h5, h6, h7, h8⟩ := h
  have n : ∀ x : Nat, (x < 35 ∨ 50 ≤ x) → msS F k x = F x := fun x hx => if_neg (by omega)
  refine ⟨by rw [n _ (by omega)]; exact h1, by rw [n _ (by omega)]; exact h2, by rw [n _ (by omega)]; exact h3, by rw [n _ (by omega)]; exact h4, fun a ha => by rw [n _ (by omega)]; exact h5 a ha, fun a ha => by rw [n _ (by omega)]; exact h6 a ha, fun a b ha hb => by rw [n _ (by omega)]; exact h7 a b ha hb, fun x hx => ?_⟩
  unfold msS
  by_cases e : k ≤ x ∧ x < 5
  · rw [if_pos (by omega), if_pos (by omega), if_pos (by omega), show 35 + 3 * x + 0 + 3 = 35 + 3 * (x + 1) + 0 by omega, show 35 + 3 * x + 1 + 3 = 35 + 3 * (x + 1) + 1 by omega, show 35 + 3 * x + 2 + 3 = 35 + 3 * (x + 1) + 2 by omega]
    exact h8 (x + 1) (by omega)
  · rw [if_neg (by omega), if_neg (by omega), if_neg (by omega)]
    exact h8 x hx
/-- no two isles are at one fathom -/
def Dis (F : Nat → Int) : Prop := ∀ a b : Nat, (a : Int) < F 76 → (b : Int) < F 76 → F (2 * a + 1) = F (2 * b + 1) → a = b
theorem who_at {F : Nat → Int} {v : Int} : ∀ n i : Nat, whoS F v n i = -4 ∨ ∃ j : Nat, whoS F v n i = (j : Int) ∧ i ≤ j ∧ j < i + n ∧ F (2 * j + 1) = v
  | 0, _ => Or.inl rfl
  | n + 1, i => by
    simp only [whoS]
    by_cases e : F (2 * i + 1) = v
    · rw [if_pos e]
      exact Or.inr ⟨i, rfl, Nat.le_refl _, by omega, e⟩
    · rw [if_neg e]
      rcases who_at n (i + 1) with h | ⟨j, h1, h2, h3, h4⟩
      · exact Or.inl h
      · exact Or.inr ⟨j, h1, by omega, by omega, h4⟩
theorem alt_fact {F : Nat → Int} (hD : Dis F) {i v : Int} (h : okI F i) : F (2 * i.toNat + 1) = v ↔ whoS F v (F 76).toNat 0 = i := by
  have h1 : 0 ≤ i ∧ i ≤ F 76 - 1 := h
  constructor
  · intro e
    have hne := (tk_who (F := F) (v := v) (F 76).toNat 0).mpr ⟨i.toNat, by omega, by omega, e⟩
    rcases who_at (F := F) (v := v) (F 76).toNat 0 with q | ⟨j, q1, _, q3, q4⟩
    · exact absurd q hne
    · have := hD j i.toNat (by omega) (by omega) (q4.trans e.symm)
      omega
  · intro e
    rcases who_at (F := F) (v := v) (F 76).toNat 0 with q | ⟨j, q1, _, q3, q4⟩
    · omega
    · have : j = i.toNat := by omega
      subst this
      exact q4
/-! storms -/
theorem stS_same {F : Nat → Int} (h : WF F) (hd : F 54 ≤ 2000) (k : Nat) {x : Nat} (h2 : x ≠ 56) (h3 : 10 ≤ x) (h4 : x ≠ 54) : ∀ d : Nat, d ≤ 8 → stS F k d x = F x
  | 0, _ => rfl
  | d + 1, hh => by
    have ih := stS_same h hd k h2 h3 h4 d (by omega)
    have hw := stS_wf h hd k d (by omega)
    simp only [stS]
    split
    · rw [up_n _ _ h4]; exact ih
    · rw [dayS_same hw.1 h2 h3 h4]; exact ih
theorem stepS_1 (F : Nat → Int) : stepS F 1 = up F 54 (F 54 + 1) := by
  unfold stepS
  exact if_neg (by omega)
theorem dvS_c (a b : Int) : dvS a b = dvS b a := by
  unfold dvS
  rw [Nat.gcd_comm]
