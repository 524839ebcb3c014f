/-! THE MODEL: what takes leaves in bounds -/
theorem whF_all (C : Int → Bool) (t : Nat → Int) : ∀ f p q : Nat, p ≤ q → q < whF C t f p → C (t q) = true
  | 0, p, q, h1, h2 => by
    simp only [whF] at h2
    omega
  | f + 1, p, q, h1, h2 => by
    simp only [whF] at h2
    by_cases c : C (t p) = true
    · rw [if_pos c] at h2
      by_cases e : q = p
      · subst e; exact c
      · exact whF_all C t f (p + 1) q (by omega) h2
    · rw [if_neg c] at h2
      omega
theorem dvK_in {t : Nat → Int} {n b : Int} (h : ∀ j : Nat, j < 2 → 48 ≤ byA t n (b + (j : Int)) ∧ byA t n (b + (j : Int)) ≤ 57) : ∀ k : Nat, 0 ≤ dvK t n b k ∧ dvK t n b k ≤ 99 ∧ (k = 0 → dvK t n b k = 0) ∧ (k = 1 → dvK t n b k ≤ 9)
  | 0 => by simp [dvK]
  | k + 1 => by
    have ih := dvK_in h k
    simp only [dvK]
    by_cases q : k < 2
    · have hd := h k q
      rw [if_pos q]
      omega
    · rw [if_neg q]
      omega
/-- .. as far as the letters go -/
theorem dvK_in2 {t : Nat → Int} {n b : Int} : ∀ k : Nat, (∀ j : Nat, j < k → 48 ≤ byA t n (b + (j : Int)) ∧ byA t n (b + (j : Int)) ≤ 57) → 0 ≤ dvK t n b k ∧ dvK t n b k ≤ 99 ∧ (k = 0 → dvK t n b k = 0) ∧ (k = 1 → dvK t n b k ≤ 9)
  | 0, _ => by simp [dvK]
  | k + 1, h => by
    have ih := dvK_in2 (n := n) (b := b) k (fun j hj => h j (by omega))
    have hd := h k (by omega)
    simp only [dvK]
    by_cases q : k < 2
    · rw [if_pos q]
      omega
    · rw [if_neg q]
      omega
theorem tkP_pi {t P : Nat → Int} (ht : TapeOK t) (h : PI P) : PI (tkP t P) := by
  have h0 := h
  have hs : (P 11).toNat ≤ spA t P ∧ spA t P ≤ (P 10).toNat := wh_in (by omega)
  have hl := wh_in (C := isLo) (t := t) (n := (P 10).toNat) (p := spA t P) (by omega)
  have hd := wh_in (C := isDi) (t := t) (n := (P 10).toNat) (p := spA t P) (by omega)
  have hlt := byA_lt ht (P 10) ((spA t P : Nat) : Int)
  unfold tkP
  by_cases c1 : 0 < P 15
  · rw [if_pos c1]; exact h
  rw [if_neg c1]
  by_cases c2 : byA t (P 10) (spA t P) < 0
  · rw [if_pos c2]
    simp only [PI, up, Nat.reduceEqDiff, if_false, if_true, ite_false, ite_true, reduceIte]
    omega
  rw [if_neg c2]
  by_cases c3 : 97 ≤ byA t (P 10) (spA t P) ∧ byA t (P 10) (spA t P) ≤ 122
  · rw [if_pos c3]
    simp only [PI, up, Nat.reduceEqDiff, if_false, if_true, ite_false, ite_true, reduceIte]
    omega
  rw [if_neg c3]
  by_cases c4 : 48 ≤ byA t (P 10) (spA t P) ∧ byA t (P 10) (spA t P) ≤ 57
  · rw [if_pos c4]
    refine ndS_pi ?_ (by omega)
    have hv := dvK_in2 (t := t) (n := P 10) (b := ((spA t P : Nat) : Int)) (wh isDi t (P 10).toNat (spA t P) - spA t P) (fun j hj => by
      have q := whF_all isDi t ((P 10).toNat - spA t P) (spA t P) (spA t P + j) (by omega) (by unfold wh at hj; omega)
      rw [byA_y (by omega), show (((spA t P : Nat) : Int) + (j : Int)).toNat = spA t P + j by omega]
      exact isDi_i.mp q)
    simp only [PI, up, Nat.reduceEqDiff, if_false, if_true, ite_false, ite_true, reduceIte]
    omega
  · rw [if_neg c4]
    have hq := ndS_pi (P := up (up (up P 11 (spA t P)) 12 (spA t P)) 13 3) (g := b2 (byA t (P 10) (spA t P) = 59)) (code := 1) (by
      simp only [PI, up, Nat.reduceEqDiff, if_false, if_true, ite_false, ite_true, reduceIte]
      omega) (by omega)
    have e10 : ndS (up (up (up P 11 (spA t P)) 12 (spA t P)) 13 3) (b2 (byA t (P 10) (spA t P) = 59)) 1 10 = P 10 := ndS_o (by omega) (by omega)
    generalize ndS (up (up (up P 11 (spA t P)) 12 (spA t P)) 13 3) (b2 (byA t (P 10) (spA t P) = 59)) 1 = X at hq e10
    simp only [PI, up, Nat.reduceEqDiff, if_false, if_true, ite_false, ite_true, reduceIte]
    omega
theorem tkP_o (t P : Nat → Int) {x : Nat} (h : x < 11 ∨ 16 < x) : tkP t P x = P x := by
  unfold tkP
  (repeat' split) <;> first | rfl | (rw [up_n _ _ (by omega), up_n _ _ (by omega), up_n _ _ (by omega)]) | (rw [ndS_o (by omega) (by omega), up_n _ _ (by omega), up_n _ _ (by omega), up_n _ _ (by omega), up_n _ _ (by omega)]) | (rw [up_n _ _ (by omega), ndS_o (by omega) (by omega), up_n _ _ (by omega), up_n _ _ (by omega), up_n _ _ (by omega)])
