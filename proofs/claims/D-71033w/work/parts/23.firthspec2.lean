/-! A FIRTH'S DAY, over its numbers -/
/-- k fathoms more, as far as nothing is in the way -/
def walkS (i : Nat) (by1 : Int) : Nat → (Nat → Int) → (Nat → Int)
  | 0, F => F
  | k + 1, F => if ¬ (0 ≤ F (2 * i + 1) + by1 ∧ F (2 * i + 1) + by1 ≤ 99) ∨ heldS F i (F (2 * i + 1) + by1) (F 53).toNat = true then F
    else if whoS F (F (2 * i + 1) + by1) (F 76).toNat 0 ≠ -4 then up F 56 (F 56 + 1)
    else walkS i by1 k (up F (2 * i + 1) (F (2 * i + 1) + by1))
def drS (F : Nat → Int) (i : Nat) : Nat → Int := walkS i (sgS (sulkS F i (F 76).toNat)) (fathS (F (2 * i + 0)) (az (sulkS F i (F 76).toNat))).toNat F
/-- where a feast takes one -/
def feastTo (F : Nat → Int) (i : Nat) : Int := F (2 * i + 1) + sgS (F (2 * (nearS F i (F 76).toNat).toNat + 1) - F (2 * i + 1))
def comeS (F : Nat → Int) (i : Nat) : Nat → Int :=
  if nearS F i (F 76).toNat = -4 ∨ apS F i (nearS F i (F 76).toNat).toNat ≤ 1 then F
  else if heldS F i (feastTo F i) (F 53).toNat = true then up F (2 * i + 1) (F (2 * i + 1)) else up F (2 * i + 1) (feastTo F i)
def goS (F : Nat → Int) : Nat → (Nat → Int)
  | 0 => F
  | i + 1 => if F 54 % 7 = F 55 then comeS (goS F i) i else drS (goS F i) i
def dayS (F : Nat → Int) : Nat → Int := up (goS F (F 76).toNat) 54 (goS F (F 76).toNat 54 + 1)
def wedS (F : Nat → Int) (i j n : Int) : Nat → Int :=
  up (up (up (up F (35 + 3 * (F 53).toNat + 0) i) (35 + 3 * (F 53).toNat + 1) j) (35 + 3 * (F 53).toNat + 2) n) 53 (F 53 + 1)
theorem walkS_stop {i : Nat} {by1 : Int} {k : Nat} {F : Nat → Int} (h : ¬ (0 ≤ F (2 * i + 1) + by1 ∧ F (2 * i + 1) + by1 ≤ 99) ∨ heldS F i (F (2 * i + 1) + by1) (F 53).toNat = true) : walkS i by1 (k + 1) F = F := by
  simp only [walkS]; rw [if_pos h]
theorem walkS_bump {i : Nat} {by1 : Int} {k : Nat} {F : Nat → Int} (h : (0 ≤ F (2 * i + 1) + by1 ∧ F (2 * i + 1) + by1 ≤ 99)) (h2 : ¬ heldS F i (F (2 * i + 1) + by1) (F 53).toNat = true) (h3 : whoS F (F (2 * i + 1) + by1) (F 76).toNat 0 ≠ -4) : walkS i by1 (k + 1) F = up F 56 (F 56 + 1) := by
  simp only [walkS]; rw [if_neg (by rintro (q | q); exact q h; exact h2 q), if_pos h3]
theorem walkS_step {i : Nat} {by1 : Int} {k : Nat} {F : Nat → Int} (h : (0 ≤ F (2 * i + 1) + by1 ∧ F (2 * i + 1) + by1 ≤ 99)) (h2 : ¬ heldS F i (F (2 * i + 1) + by1) (F 53).toNat = true) (h3 : whoS F (F (2 * i + 1) + by1) (F 76).toNat 0 = -4) : walkS i by1 (k + 1) F = walkS i by1 k (up F (2 * i + 1) (F (2 * i + 1) + by1)) := by
  simp only [walkS]; rw [if_neg (by rintro (q | q); exact q h; exact h2 q), if_neg (fun q => q h3)]
/-- an isle is put at a fathom: still in bounds -/
theorem WF.move {F : Nat → Int} (h : WF F) {i : Nat} (hi : i < 5) {v : Int} (hv : 0 ≤ v ∧ v ≤ 99) : WF (up F (2 * i + 1) v) := by
  obtain ⟨h1, h2, h3, h4, h5, h6, h7, h8⟩ := h
  have n : ∀ k : Nat, k ≠ 2 * i + 1 → up F (2 * i + 1) v k = F k := fun k hk => up_n F v hk
  refine ⟨by rw [n _ (by omega)]; exact h1, by rw [n _ (by omega)]; exact h2, by rw [n _ (by omega)]; exact h3, by rw [n _ (by omega)]; exact h4, fun a ha => by rw [n _ (by omega)]; exact h5 a ha, fun a ha => ?_, fun a b ha hb => by rw [n _ (by omega)]; exact h7 a b ha hb, fun k hk => ?_⟩
  · by_cases e : a = i
    · subst e; rw [up_s]; exact hv
    · rw [n _ (by omega)]; exact h6 a ha
  · rw [n _ (by omega), n _ (by omega), n _ (by omega)]; exact h8 k hk
theorem WF.bump {F : Nat → Int} (h : WF F) {v : Int} : WF (up F 56 v) := by
  obtain ⟨h1, h2, h3, h4, h5, h6, h7, h8⟩ := h
  have n : ∀ k : Nat, k ≠ 56 → up F 56 v k = F k := fun k hk => up_n F v hk
  exact ⟨by rw [n _ (by omega)]; exact h1, by rw [n _ (by omega)]; exact h2, by rw [n _ (by omega)]; exact h3, by rw [n _ (by omega)]; exact h4, fun a ha => by rw [n _ (by omega)]; exact h5 a ha, fun a ha => by rw [n _ (by omega)]; exact h6 a ha, fun a b ha hb => by rw [n _ (by omega)]; exact h7 a b ha hb, fun k hk => by rw [n _ (by omega), n _ (by omega), n _ (by omega)]; exact h8 k hk⟩
theorem walkS_wf {i : Nat} (hi : i < 5) (by1 : Int) : ∀ (k : Nat) (F : Nat → Int), WF F → WF (walkS i by1 k F)
  | 0, F, h => h
  | k + 1, F, h => by
    simp only [walkS]
    split
    · exact h
    · rename_i hn
      split
      · exact h.bump
      · exact walkS_wf hi by1 k _ (h.move hi (Decidable.byContradiction fun q => hn (Or.inl q)))
theorem walkS_same {i : Nat} (by1 : Int) {x : Nat} (h1 : x ≠ 2 * i + 1) (h2 : x ≠ 56) : ∀ (k : Nat) (F : Nat → Int), walkS i by1 k F x = F x
  | 0, F => rfl
  | k + 1, F => by
    simp only [walkS]
    split
    · rfl
    · split
      · exact up_n _ _ h2
      · rw [walkS_same by1 h1 h2 k, up_n _ _ h1]
theorem drS_wf {F : Nat → Int} (h : WF F) {i : Nat} (hi : i < 5) : WF (drS F i) := walkS_wf hi _ _ _ h
theorem drS_same (F : Nat → Int) {i x : Nat} (h1 : x ≠ 2 * i + 1) (h2 : x ≠ 56) : drS F i x = F x := walkS_same _ h1 h2 _ _
theorem feastTo_in {F : Nat → Int} (h : WF F) {i : Nat} (hi : i < 5) (h4 : nearS F i (F 76).toNat ≠ -4) : 0 ≤ feastTo F i ∧ feastTo F i ≤ 99 := by
  have hn := h.n
  have h1 := nearS_in F i (F 76).toNat
  have h2 := h.pl i hi
  have h3 := h.pl (nearS F i (F 76).toNat).toNat (by omega)
  unfold feastTo sgS
  split <;> (try split) <;> omega
theorem comeS_wf {F : Nat → Int} (h : WF F) {i : Nat} (hi : i < 5) : WF (comeS F i) := by
  unfold comeS
  split
  · exact h
  · rename_i hn
    split
    · exact h.move hi (h.pl i hi)
    · exact h.move hi (feastTo_in h hi (fun q => hn (Or.inl q)))
theorem comeS_same (F : Nat → Int) {i x : Nat} (h1 : x ≠ 2 * i + 1) : comeS F i x = F x := by
  unfold comeS
  split
  · rfl
  · split <;> exact up_n _ _ h1
theorem goS_wf {F : Nat → Int} (h : WF F) : ∀ i : Nat, i ≤ 5 → WF (goS F i)
  | 0, _ => h
  | i + 1, hi => by
    simp only [goS]
    split
    · exact comeS_wf (goS_wf h i (by omega)) (by omega)
    · exact drS_wf (goS_wf h i (by omega)) (by omega)
theorem goS_same (F : Nat → Int) {x : Nat} (h2 : x ≠ 56) (h3 : 10 ≤ x) : ∀ i : Nat, i ≤ 5 → goS F i x = F x
  | 0, _ => rfl
  | i + 1, hi => by
    simp only [goS]
    split
    · rw [comeS_same _ (by omega), goS_same F h2 h3 i (by omega)]
    · rw [drS_same _ (by omega) h2, goS_same F h2 h3 i (by omega)]
theorem dayS_wf {F : Nat → Int} (h : WF F) (hd : F 54 < 100000) : WF (dayS F) := by
  have hn := h.n
  have hday := h.day
  obtain ⟨h1, h2, h3, h4, h5, h6, h7, h8⟩ := goS_wf h (F 76).toNat (by omega)
  have e54 := goS_same F (x := 54) (by omega) (by omega) (F 76).toNat (by omega)
  have n : ∀ (v : Int) (k : Nat), k ≠ 54 → up (goS F (F 76).toNat) 54 v k = goS F (F 76).toNat k := fun v k hk => up_n _ _ hk
  unfold dayS
  exact ⟨by rw [n _ _ (by omega)]; exact h1, by rw [n _ _ (by omega)]; exact h2, by rw [up_s]; omega, by rw [n _ _ (by omega)]; exact h4, fun a ha => by rw [n _ _ (by omega)]; exact h5 a ha, fun a ha => by rw [n _ _ (by omega)]; exact h6 a ha, fun a b ha hb => by rw [n _ _ (by omega)]; exact h7 a b ha hb, fun k hk => by rw [n _ _ (by omega), n _ _ (by omega), n _ _ (by omega)]; exact h8 k hk⟩
theorem dayS_same {F : Nat → Int} (h : WF F) {x : Nat} (h2 : x ≠ 56) (h3 : 10 ≤ x) (h4 : x ≠ 54) : dayS F x = F x := by
  have hn := h.n
  unfold dayS
  rw [up_n _ _ h4, goS_same F h2 h3 _ (by omega)]
theorem dayS_day {F : Nat → Int} (h : WF F) : dayS F 54 = F 54 + 1 := by
  have hn := h.n
  unfold dayS
  rw [up_s, goS_same F (by omega) (by omega) _ (by omega)]
