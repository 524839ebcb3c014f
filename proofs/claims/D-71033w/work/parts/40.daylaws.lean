/-! DAYS TRIED: laws for the walks -/
theorem jd_y {p : Int × Int} {best least code code' v v' : Int} (hp : p = (best, least)) (hc : code = code') (hv : v = v') (h : v' < least) : jd p code v = (code', min least v') := by
  subst hp hc hv
  unfold jd
  rw [if_pos h, show min least v = v by omega]
theorem jd_n {p : Int × Int} {best least code v v' : Int} (hp : p = (best, least)) (hv : v = v') (h : ¬ v' < least) : jd p code v = (best, min least v') := by
  subst hp hv
  unfold jd
  rw [if_neg h, show min least v = least by omega]
theorem wedS_same {F : Nat → Int} (h : WF F) (h6 : F 53 < 6) (i j n : Int) {x : Nat} (hx : x ≠ 53) (h2 : x < 35 ∨ 53 ≤ x) : wedS F i j n x = F x := by
  have hr := h.rm
  unfold wedS
  rw [up_n _ _ (by omega), up_n _ _ (by omega), up_n _ _ (by omega), up_n _ _ (by omega)]
theorem shS_0 (F : Nat → Int) (k : Nat) : shS F k (k + 1 + 0) = F := by
  funext x
  exact if_neg (by omega)
theorem shS_e1 {F X : Nat → Int} {k c : Nat} : ∀ j : Nat, j < 3 → shS F k (k + 1 + (c + 1)) (35 + 3 * (k + c) + j) = (if j < 3 then F (35 + 3 * (k + 1 + c) + j) else X j) := by
  intro j hj
  rw [if_pos hj]
  unfold shS
  rw [if_pos (by omega), show 35 + 3 * (k + c) + j + 3 = 35 + 3 * (k + 1 + c) + j by omega]
theorem shS_e2 {F : Nat → Int} {k c : Nat} : ∀ x : Nat, (x < 57 ∨ x = 76) → (x < 35 + 3 * (k + c) ∨ 35 + 3 * (k + c) + 3 ≤ x) → shS F k (k + 1 + (c + 1)) x = shS F k (k + 1 + c) x := by
  intro x _ hx
  unfold shS
  by_cases h : 35 + 3 * k ≤ x ∧ x + 3 < 35 + 3 * (k + 1 + c)
  · rw [if_pos h, if_pos (by omega)]
  · rw [if_neg h, if_neg (by omega)]
theorem shS_o (F : Nat → Int) (k : Nat) {q x : Nat} (hq : q ≤ 6) (hx : 50 ≤ x) : shS F k q x = F x := if_neg (by omega)
theorem frayF_same {F : Nat → Int} (h : WF F) (k : Nat) {x : Nat} (hx : 50 ≤ x) (h2 : x ≠ 53) : frayF F k x = F x := by
  have hr := h.rm
  unfold frayF
  rw [up_n _ _ h2, shS_o F k (by omega) hx]
theorem wiS_y {F : Nat → Int} {v : Int} {t : Nat} (ht : t ≤ 60) (h : wiS F v 61 0 = wiS F v (61 - t) t) (hs : spd F t ≤ v) : wiS F v 61 0 = (t : Int) := by
  rw [h, show 61 - t = (60 - t) + 1 by omega]
  simp only [wiS]
  exact if_pos hs
theorem wiS_n {F : Nat → Int} {v : Int} {t : Nat} (ht : t ≤ 60) (h : wiS F v 61 0 = wiS F v (61 - t) t) (hs : ¬ spd F t ≤ v) : wiS F v 61 0 = wiS F v (61 - (t + 1)) (t + 1) := by
  rw [h, show 61 - t = (60 - t) + 1 by omega]
  simp only [wiS]
  rw [if_neg hs, show 61 - (t + 1) = 60 - t by omega]
theorem slO_y {F : Nat → Int} {k n L : Nat} {v z : Int} (hz : z = ((L + 1 : Nat) : Int)) (h : slO F k n v 30 = slO F k n v (L + 1)) (hs : spd (up F (35 + 3 * k + 2) z) n ≤ v) : slO F k n v 30 = z := by
  have e : z = (L : Int) + 1 := by omega
  subst e
  rw [h]
  simp only [slO]
  exact if_pos hs
theorem slO_n {F : Nat → Int} {k n L : Nat} {v z : Int} (hz : z = ((L + 1 : Nat) : Int)) (h : slO F k n v 30 = slO F k n v (L + 1)) (hs : ¬ spd (up F (35 + 3 * k + 2) z) n ≤ v) : slO F k n v 30 = slO F k n v L := by
  have e : z = (L : Int) + 1 := by omega
  subst e
  rw [h]
  simp only [slO]
  exact if_neg hs
