/-! THE MODEL: a text read, 4: who is cross, ropes, a line -/
def rcI (P : Nat → Int) : Int := lkV P 0 4
def rcJ (t P : Nat → Int) : Int := lkV (rnP t P 0 4) 0 4
def rc2 (t P : Nat → Int) : Nat → Int := lkP (rnP t P 0 4) 0 4
def rc3 (t P : Nat → Int) : Nat → Int := ndS (rc2 t P) (b2 (rcI P ≠ rcJ t P)) 3
def rc4 (t P : Nat → Int) : Nat → Int := ndS (rc3 t P) (b2 (¬ bt (iI (rc3 t P 7)) (5 * rcI P + rcJ t P).toNat = true)) 4
def rc5 (t P : Nat → Int) : Nat → Int := up (rc4 t P) 7 (tcS (rc4 t P 7) (5 * rcI P + rcJ t P).toNat)
def rc7 (t P : Nat → Int) : Nat → Int := tkP t (nhP (nhP (rc5 t P) (rcI P)) (rcJ t P))
def rcP (t P : Nat → Int) : Nat → Int := rnP t (rc7 t P) 0 3
def rcD (t P D : Nat → Int) : Nat → Int := up D (10 + 5 * (rcI P).toNat + (rcJ t P).toNat) (lkV (rc7 t P) 0 3)
/-- a rope told -/
def rq6 (t P : Nat → Int) : Nat → Int := tkP t (nhP (nhP (rc3 t P) (rcI P)) (rcJ t P))
def rpP (t P : Nat → Int) : Nat → Int := rnP t (rq6 t P) 1 30
def rpD (t P D : Nat → Int) : Nat → Int := wedS D (rcI P) (rcJ t P) (lkV (rq6 t P) 1 30)
theorem PI.up78 {P : Nat → Int} (h : PI P) {x : Nat} (hx : x < 9) (v : Int) : PI (up P x v) := by
  unfold PI
  rw [up_n _ _ (show 10 ≠ x by omega), up_n _ _ (show 11 ≠ x by omega), up_n _ _ (show 12 ≠ x by omega), up_n _ _ (show 13 ≠ x by omega), up_n _ _ (show 14 ≠ x by omega), up_n _ _ (show 15 ≠ x by omega), up_n _ _ (show 16 ≠ x by omega)]
  exact h
/-- in bounds -/
def P8 (P : Nat → Int) : Prop := -4 ≤ P 8 ∧ P 8 ≤ 4
theorem rcI_in (P : Nat → Int) : 0 ≤ rcI P ∧ rcI P ≤ 4 := lk_in (by omega)
theorem rcJ_in (t P : Nat → Int) : 0 ≤ rcJ t P ∧ rcJ t P ≤ 4 := lk_in (by omega)
theorem rc3_ok {t P : Nat → Int} (ht : TapeOK t) (h : PI P) : PI (rc3 t P) ∧ ∀ x : Nat, x < 11 → rc3 t P x = P x := by
  refine ⟨ndS_pi (lkP_pi (rnP_pi ht h _ _) _ _) (by omega), fun x hx => ?_⟩
  unfold rc3 rc2
  rw [ndS_o (by omega) (by omega), lkP_o _ _ _ (by omega) (by omega), rnP_o _ _ _ _ hx]
theorem rc5_ok {t P : Nat → Int} (ht : TapeOK t) (h : PI P) : PI (rc5 t P) ∧ ∀ x : Nat, x < 11 → x ≠ 7 → rc5 t P x = P x := by
  have h3 := rc3_ok ht h
  refine ⟨(ndS_pi h3.1 (by omega)).up78 (by omega) _, fun x hx h7 => ?_⟩
  unfold rc5
  rw [up_n _ _ h7]
  unfold rc4
  rw [ndS_o (by omega) (by omega)]
  exact h3.2 x hx
theorem nh2_ok {t P : Nat → Int} (ht : TapeOK t) (h : PI P) (h8 : P8 P) {i j : Int} (hi : 0 ≤ i ∧ i ≤ 4) (hj : 0 ≤ j ∧ j ≤ 4) : PI (tkP t (nhP (nhP P i) j)) ∧ P8 (tkP t (nhP (nhP P i) j)) ∧ ∀ x : Nat, x < 11 → x ≠ 8 → tkP t (nhP (nhP P i) j) x = P x := by
  have q1 := nhP_8 hi h8
  have q2 := nhP_8 hj q1
  refine ⟨tkP_pi ht (nhP_pi (nhP_pi h _) _), ?_, fun x hx h9 => ?_⟩
  · unfold P8
    rw [tkP_o _ _ (by omega)]
    exact q2
  · rw [tkP_o _ _ (by omega), nhP_o _ _ h9, nhP_o _ _ h9]
theorem rcP_ok {t P : Nat → Int} (ht : TapeOK t) (h : PI P) (h8 : P8 P) : PI (rcP t P) ∧ P8 (rcP t P) ∧ rcP t P 10 = P 10 ∧ rcP t P 6 = P 6 := by
  have h5 := rc5_ok ht h
  have h58 : P8 (rc5 t P) := by unfold P8; rw [h5.2 8 (by omega) (by omega)]; exact h8
  have h7 := nh2_ok ht h5.1 h58 (rcI_in P) (rcJ_in t P)
  refine ⟨rnP_pi ht h7.1 _ _, ?_, ?_, ?_⟩
  · unfold P8 rcP
    rw [rnP_o _ _ _ _ (by omega)]
    exact h7.2.1
  · unfold rcP
    rw [rnP_o _ _ _ _ (by omega)]
    exact (h7.2.2 10 (by omega) (by omega)).trans (h5.2 10 (by omega) (by omega))
  · unfold rcP
    rw [rnP_o _ _ _ _ (by omega)]
    exact (h7.2.2 6 (by omega) (by omega)).trans (h5.2 6 (by omega) (by omega))
theorem rpP_ok {t P : Nat → Int} (ht : TapeOK t) (h : PI P) (h8 : P8 P) : PI (rpP t P) ∧ P8 (rpP t P) ∧ rpP t P 10 = P 10 ∧ rpP t P 6 = P 6 := by
  have h5 := rc3_ok ht h
  have h58 : P8 (rc3 t P) := by unfold P8; rw [h5.2 8 (by omega)]; exact h8
  have h7 := nh2_ok ht h5.1 h58 (rcI_in P) (rcJ_in t P)
  refine ⟨rnP_pi ht h7.1 _ _, ?_, ?_, ?_⟩
  · unfold P8 rpP
    rw [rnP_o _ _ _ _ (by omega)]
    exact h7.2.1
  · unfold rpP
    rw [rnP_o _ _ _ _ (by omega)]
    exact (h7.2.2 10 (by omega) (by omega)).trans (h5.2 10 (by omega))
  · unfold rpP
    rw [rnP_o _ _ _ _ (by omega)]
    exact (h7.2.2 6 (by omega) (by omega)).trans (h5.2 6 (by omega))
theorem rcD_wf {t P D : Nat → Int} (h : WF D) : WF (rcD t P D) := by
  have h1 := rcI_in P
  have h2 := rcJ_in t P
  exact h.setC (by omega) (by omega) (lk_in (by omega))
theorem rpD_wf {t P D : Nat → Int} (h : WF D) (h6 : D 53 < 6) : WF (rpD t P D) := h.wed h6 (rcI_in P) (rcJ_in t P) (lk_in (by omega))
/-- what the line is about -/
def rloP (t P D : Nat → Int) (k : Int) : Nat → Int := if k = 4 then rcP t P else if k = 5 then rpP t P else if k = 6 then rnP t P 0 6 else riP t P D
def rloD (t P D : Nat → Int) (k : Int) : Nat → Int := if k = 4 then rcD t P D else if k = 5 then rpD t P D else if k = 6 then up D 55 (lkV P 0 6) else riD P D k
theorem rloP_ok {t P D : Nat → Int} (ht : TapeOK t) (h : PI P) (h8 : P8 P) (k : Int) : PI (rloP t P D k) ∧ P8 (rloP t P D k) ∧ rloP t P D k 10 = P 10 ∧ rloP t P D k 6 = P 6 := by
  unfold rloP
  by_cases c4 : k = 4
  · rw [if_pos c4]; exact rcP_ok ht h h8
  rw [if_neg c4]
  by_cases c5 : k = 5
  · rw [if_pos c5]; exact rpP_ok ht h h8
  rw [if_neg c5]
  by_cases c6 : k = 6
  · rw [if_pos c6]
    exact ⟨rnP_pi ht h _ _, by unfold P8; rw [rnP_o _ _ _ _ (by omega)]; exact h8, rnP_o _ _ _ _ (by omega), rnP_o _ _ _ _ (by omega)⟩
  · rw [if_neg c6]
    exact ⟨riP_pi ht h, by unfold P8; rw [riP_o _ _ _ (by omega)]; exact h8, riP_o _ _ _ (by omega), riP_o _ _ _ (by omega)⟩
theorem rloD_wf {t P D : Nat → Int} (h : WF D) {k : Int} (hk : 0 ≤ k ∧ k ≤ 6) (h5 : k < 4 → D 76 < 5) (h6 : k = 5 → D 53 < 6) : WF (rloD t P D k) := by
  unfold rloD
  by_cases c4 : k = 4
  · rw [if_pos c4]; exact rcD_wf h
  rw [if_neg c4]
  by_cases c5 : k = 5
  · rw [if_pos c5]; exact rpD_wf h (h6 c5)
  rw [if_neg c5]
  by_cases c6 : k = 6
  · rw [if_pos c6]; exact h.setFe (lk_in (by omega))
  · rw [if_neg c6]; exact riD_wf h (h5 (by omega)) (by omega)
