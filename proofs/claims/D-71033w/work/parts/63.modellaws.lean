/-! THE MODEL: laws for what it writes -/
theorem MW.re2 {G : GG} {B : Nat → Nat} {T : Sta} {H : Heap} {f g : Nat → Int} (h : MW G B (up T 2 g) H) (e : ∀ x : Nat, x < 76 → g x = f x) : MW G B (up T 2 f) H := by
  obtain ⟨h1, h2, h3⟩ := h
  refine ⟨?_, ?_, fun j hj2 hj => ?_⟩
  · rw [up_n _ _ (by omega), up_n _ _ (by omega), up_n _ _ (by omega)] at h1 ⊢
    exact h1
  · exact h2.to (fun x _ => by unfold stF; rw [up_n _ _ (by omega), up_n _ _ (by omega), up_n _ _ (by omega), up_n _ _ (by omega), up_n _ _ (by omega), up_n _ _ (by omega)])
  · have h4 := h3 j hj2 hj
    by_cases e2 : j = 2
    · subst e2
      rw [up_s] at h4 ⊢
      exact h4.to (fun x hx => e x hx)
    · rw [up_n _ _ e2] at h4 ⊢
      exact h4
theorem MW.re1 {G : GG} {B : Nat → Nat} {T : Sta} {H : Heap} {f g : Nat → Int} (h : MW G B (up T 1 g) H) (e : ∀ x : Nat, x < 77 → g x = f x) : MW G B (up T 1 f) H := by
  obtain ⟨h1, h2, h3⟩ := h
  refine ⟨?_, ?_, fun j hj2 hj => ?_⟩
  · rw [up_n _ _ (by omega), up_s, up_n _ _ (by omega)] at h1 ⊢
    rw [← e 76 (by omega)]
    exact h1
  · refine h2.to (fun x _ => ?_)
    unfold stF
    by_cases hx : x < 76
    · rw [if_pos hx, if_pos hx, up_s, up_s, e x (by omega)]
    · rw [if_neg hx, if_neg hx, up_n _ _ (by omega), up_n _ _ (by omega), up_n _ _ (by omega), up_n _ _ (by omega)]
  · have h4 := h3 j hj2 hj
    rw [up_n _ _ (by omega)] at h4 ⊢
    exact h4
theorem cpS_s {a b : Nat → Int} {i : Nat} : up (cpS a b i) i (a i) = cpS a b (i + 1) := by
  funext x
  unfold cpS
  by_cases e : x = i
  · subst e
    rw [up_s, if_pos (by omega)]
  · rw [up_n _ _ e]
    by_cases h : x < i
    · rw [if_pos h, if_pos (by omega)]
    · rw [if_neg h, if_neg (by omega)]
theorem cpS_z (a b : Nat → Int) : cpS a b 0 = b := by
  funext x
  exact if_neg (by omega)
theorem cpS_76 {a b : Nat → Int} : ∀ x : Nat, x < 76 → cpS a b 76 x = a x := fun x hx => if_pos hx
theorem cpS_77 {a b : Nat → Int} (h : b 76 = a 76) : ∀ x : Nat, x < 77 → cpS a b 76 x = a x := by
  intro x hx
  unfold cpS
  by_cases e : x < 76
  · exact if_pos e
  · rw [if_neg e, show x = 76 by omega, h]
theorem tk_who {F : Nat → Int} {v : Int} : ∀ n i : Nat, whoS F v n i ≠ -4 ↔ ∃ j : Nat, i ≤ j ∧ j < i + n ∧ F (2 * j + 1) = v
  | 0, i => by
    simp only [whoS]
    constructor
    · intro h; exact absurd rfl h
    · rintro ⟨j, h1, h2, _⟩; omega
  | n + 1, i => by
    simp only [whoS]
    by_cases e : F (2 * i + 1) = v
    · rw [if_pos e]
      exact ⟨fun _ => ⟨i, by omega, by omega, e⟩, fun _ => by omega⟩
    · rw [if_neg e, tk_who n (i + 1)]
      constructor
      · rintro ⟨j, h1, h2, h3⟩; exact ⟨j, by omega, by omega, h3⟩
      · rintro ⟨j, h1, h2, h3⟩
        refine ⟨j, ?_, by omega, h3⟩
        rcases Nat.lt_or_ge i j with q | q
        · omega
        · have : j = i := by omega
          subst this
          exact absurd h3 e
theorem tkB_iff {F : Nat → Int} {v : Int} : ∀ n : Nat, tkB F v n = true ↔ ∃ j : Nat, j < n ∧ F (2 * j + 1) = v
  | 0 => by simp [tkB]
  | n + 1 => by
    simp only [tkB, Bool.or_eq_true, decide_eq_true_eq]
    rw [tkB_iff n]
    constructor
    · rintro (⟨j, h1, h2⟩ | h)
      · exact ⟨j, by omega, h2⟩
      · exact ⟨n, by omega, h⟩
    · rintro ⟨j, h1, h2⟩
      rcases Nat.lt_or_ge j n with q | q
      · exact Or.inl ⟨j, q, h2⟩
      · have : j = n := by omega
        subst this
        exact Or.inr h2
theorem tk_is {F : Nat → Int} {v : Int} {n : Nat} : tkB F v n = true ↔ whoS F v n 0 ≠ -4 := by
  rw [tkB_iff, tk_who]
  constructor
  · rintro ⟨j, h1, h2⟩; exact ⟨j, by omega, by omega, h2⟩
  · rintro ⟨j, _, h1, h2⟩; exact ⟨j, by omega, h2⟩
theorem az_0 : az 0 = 0 := by decide
theorem ap_ne {F : Nat → Int} {i n : Nat} (h : 1 < apS F i n) : F (2 * i + 1) ≠ F (2 * n + 1) := by
  intro e
  unfold apS at h
  rw [e, Int.sub_self, az_0] at h
  omega
theorem mdr_is {kd s : Int} (hk : 0 ≤ kd ∧ kd ≤ 3) : az (mdr kd s) = fathS kd (az s) ∧ (mdr kd s < 0 → sgS s = -1) ∧ (0 < mdr kd s → sgS s = 1) := by
  unfold mdr fathS az sgS
  refine ⟨?_, ?_, ?_⟩ <;> (repeat' split) <;> omega
/-- a day; a storm lets it pass -/
def stepS (F : Nat → Int) (zb : Int) : Nat → Int := if zb = 0 then dayS F else up F 54 (F 54 + 1)
theorem stepS_0 (F : Nat → Int) : stepS F 0 = dayS F := rfl
theorem Dia.day {F : Nat → Int} (hF : WF F) (h : Dia F) : Dia (dayS F) := fun i hi => by rw [dayS_same hF (by omega) (by omega) (by omega)]; exact h i hi
theorem Dia.days {F : Nat → Int} (hF : WF F) (h : Dia F) (k : Nat) (hk : F 54 + (k : Int) ≤ 100000) : Dia (daysS F k) := fun i hi => by rw [daysS_same hF (by omega) (by omega) (by omega) k hk]; exact h i hi
