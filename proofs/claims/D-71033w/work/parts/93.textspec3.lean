/-! THE MODEL: a text read, 3 -/
theorem upc3 (T : Sta) (g A : Nat → Int) : up (up T 1 g) 3 A = up (up T 3 A) 1 g := by
  funext a
  by_cases h1 : a = 1
  · subst h1; rfl
  · by_cases h2 : a = 3
    · subst h2; rfl
    · simp only [up, if_neg h1, if_neg h2]
theorem MW.re13 {G : GG} {B : Nat → Nat} {T : Sta} {H : Heap} {f g A : Nat → Int} (h : MW G B (up (up T 1 g) 3 A) H) (e : ∀ x : Nat, x < 77 → g x = f x) : MW G B (up (up T 1 f) 3 A) H :=
  ((h.eqS (upc3 T g A)).re1 (f := f) e).eqS (upc3 T f A).symm
theorem kd_eq {D F : Nat → Int} : ∀ x : Nat, x < 77 → up (cpS D F 76) 76 (D 76) x = D x := fun x hx => by
  by_cases e : x = 76
  · subst e; rw [up_s]
  · rw [up_n _ _ e]
    exact if_pos (by omega)
theorem riN_o (D : Nat → Int) (v : Int) {x : Nat} (h5 : x ≠ 15) (h6 : x ≠ 16) : ∀ (i : Nat) (P : Nat → Int), riN D v i P x = P x
  | 0, _ => rfl
  | i + 1, P => by
    simp only [riN]
    rw [ndS_o h5 h6, riN_o D v h5 h6 i P]
theorem riP_pi {t P D : Nat → Int} (ht : TapeOK t) (h : PI P) : PI (riP t P D) := tkP_pi ht (riN_pi _ _ _ _ (lkP_pi h _ _))
theorem riP_o (t P D : Nat → Int) {x : Nat} (h : x < 11) : riP t P D x = P x := by
  unfold riP
  rw [tkP_o _ _ (by omega), riN_o _ _ (by omega) (by omega), lkP_o _ _ _ (by omega) (by omega)]
theorem nhP_o (P : Nat → Int) (i : Int) {x : Nat} (h : x ≠ 8) : nhP P i x = P x := up_n _ _ h
theorem nhP_8 {P : Nat → Int} {i : Int} (hi : 0 ≤ i ∧ i ≤ 4) (h8 : -4 ≤ P 8 ∧ P 8 ≤ 4) : -4 ≤ nhP P i 8 ∧ nhP P i 8 ≤ 4 := by
  unfold nhP
  rw [up_s]
  split <;> omega
theorem rnP_pi {t P : Nat → Int} (ht : TapeOK t) (h : PI P) (lo hi : Int) : PI (rnP t P lo hi) := tkP_pi ht (lkP_pi h _ _)
theorem rnP_o (t P : Nat → Int) (lo hi : Int) {x : Nat} (h : x < 11) : rnP t P lo hi x = P x := (tkP_o _ _ (by omega)).trans (lkP_o _ _ _ (by omega) (by omega))
