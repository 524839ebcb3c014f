/-! THE MODEL: laws of judging -/
theorem jd_b {p : Int × Int} {c v b l : Int} (h : jd p c v = (b, l)) : (b = c ∨ b = p.1) ∧ l = min p.2 v := by
  have h1 := jd_1 p c v
  have h2 := jd_2 p c v
  rw [h] at h1 h2
  dsimp only at h1 h2
  refine ⟨?_, h2⟩
  by_cases q : v < p.2
  · rw [if_pos q] at h1; exact Or.inl h1
  · rw [if_neg q] at h1; exact Or.inr h1
/-- what is no less changes nothing -/
theorem jd_id {p : Int × Int} {c v : Int} (h : p.2 ≤ v) : jd p c v = p := if_neg (by omega)
/-- soothed as the model does it: all pairs -/
def smI (F : Nat → Int) (i : Nat) : Nat → Int × Int → Int × Int
  | 0, p => p
  | j + 1, p => if j = i then smI F i j p else jd (smI F i j p) (10 * (i : Int) + (j : Int)) (spd (up F (10 + 5 * i + j) 0) 30)
def smO (F : Nat → Int) : Nat → Int × Int
  | 0 => (-4, spd F 30)
  | i + 1 => smI F i (F 76).toNat (smO F i)
theorem jd_le (p : Int × Int) (c v : Int) : (jd p c v).2 ≤ p.2 := by rw [jd_2]; omega
theorem smI_eq {F : Nat → Int} (h : WF F) (hD : Dia F) {b : Int} (hb : spd F 30 = b) {i : Nat} (hi : i < 5) : ∀ (j : Nat), j ≤ 5 → ∀ p : Int × Int, p.2 ≤ b → smI F i j p = soI F i j p ∧ (smI F i j p).2 ≤ b
  | 0, _, p, hp => by
    simp only [smI, soI]
    exact ⟨trivial, hp⟩
  | j + 1, hj, p, hp => by
    have ih := smI_eq h hD hb hi j (by omega) p hp
    have hc := h.cr i j hi (by omega)
    have hd := hD i hi
    simp only [smI, soI]
    by_cases e : j = i
    · subst e
      rw [if_pos rfl, if_neg (by omega)]
      exact ih
    · rw [if_neg e]
      by_cases q : 0 < F (10 + 5 * i + j)
      · rw [if_pos q, ih.1]
        refine ⟨rfl, ?_⟩
        have h1 := jd_le (soI F i j p) (10 * (i : Int) + (j : Int)) (spd (up F (10 + 5 * i + j) 0) 30)
        have h2 := ih.2
        rw [ih.1] at h2
        omega
      · rw [if_neg q]
        have e0 : up F (10 + 5 * i + j) 0 = F := by
          have : F (10 + 5 * i + j) = 0 := by omega
          rw [← this]
          exact up_id F _
        rw [e0, hb, jd_id ih.2]
        exact ih
theorem smO_eq {F : Nat → Int} (h : WF F) (hD : Dia F) {b : Int} (hb : spd F 30 = b) : ∀ i : Nat, i ≤ 5 → smO F i = soO F i ∧ (smO F i).2 ≤ b
  | 0, _ => by
    simp only [smO, soO]
    rw [hb]
    exact ⟨trivial, Int.le_refl _⟩
  | i + 1, hi => by
    have hn := h.n
    have ih := smO_eq h hD hb i (by omega)
    have h1 := smI_eq h hD hb (show i < 5 by omega) (F 76).toNat (by omega) (smO F i) ih.2
    simp only [smO, soO]
    rw [← ih.1]
    exact h1
/-- holy and kind as the model does them: from none -/
def mhO (F : Nat → Int) (n : Nat) : Nat → Int × Int
  | 0 => (-4, 1000000)
  | v + 1 => jd (mhO F n v) (v : Int) (spd (up F 55 (v : Int)) n)
def mkO (F : Nat → Int) (i n : Nat) : Nat → Int × Int
  | 0 => (-4, 1000000)
  | v + 1 => jd (mkO F i n v) (v : Int) (spd (up F (2 * i + 0) (v : Int)) n)
theorem jd_first {a c v l : Int} (h : v < l) : jd (a, l) c v = (c, v) := if_pos h
theorem mhO_eq {F : Nat → Int} (h : WF F) {n : Nat} (hn : F 54 + (n : Int) ≤ 100000) : ∀ v : Nat, mhO F n (v + 1) = hoO F n (v + 1)
  | 0 => by
    have q := spd_in (h.setFe (v := ((0 : Nat) : Int)) (by omega)) n (by rw [up_n _ _ (by omega)]; exact hn)
    simp only [mhO, hoO]
    rw [jd_first (by omega), jd_first (by omega)]
  | v + 1 => by
    have ih := mhO_eq h hn v
    rw [mhO, hoO, ih]
theorem mkO_eq {F : Nat → Int} (h : WF F) {i n : Nat} (hi : i < 5) (hn : F 54 + (n : Int) ≤ 100000) : ∀ v : Nat, mkO F i n (v + 1) = kiO F i n (v + 1)
  | 0 => by
    have q := spd_in (h.setK hi (v := ((0 : Nat) : Int)) (by omega)) n (by rw [up_n _ _ (by omega)]; exact hn)
    simp only [mkO, kiO]
    rw [jd_first (by omega), jd_first (by omega)]
  | v + 1 => by
    have ih := mkO_eq h hi hn v
    rw [mkO, kiO, ih]
theorem jd_0 {best least c v b l : Int} (hj : jd (best, least) c v = (b, l)) (h : v < least) : b = c := by
  rw [jd_first h] at hj
  exact (congrArg Prod.fst hj).symm
