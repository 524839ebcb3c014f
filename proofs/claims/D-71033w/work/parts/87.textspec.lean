/-! THE MODEL: a text read; P the lone numbers (10 taped, 11 pos, 12 begun, 13 sort, 14 value, 15 fault, 16 wrongAt, 6 hasFeast, 7 toldCross, 8 highest) -/
abbrev PI (P : Nat → Int) : Prop := (0 ≤ P 10 ∧ P 10 ≤ 160) ∧ (0 ≤ P 11 ∧ P 11 ≤ P 10) ∧ (0 ≤ P 12 ∧ P 12 ≤ P 10) ∧ (0 ≤ P 13 ∧ P 13 ≤ 3) ∧ (0 ≤ P 14 ∧ P 14 ≤ 99) ∧ (0 ≤ P 15 ∧ P 15 ≤ 6) ∧ (0 ≤ P 16 ∧ P 16 ≤ 160)
def TapeOK (t : Nat → Int) : Prop := ∀ x : Nat, 0 ≤ t x ∧ t x ≤ 127
def byA (t : Nat → Int) (n p : Int) : Int := if p < n then t p.toNat else -1
/-- as long as what is at p is of a sort -/
def whF (C : Int → Bool) (t : Nat → Int) : Nat → Nat → Nat
  | 0, p => p
  | f + 1, p => if C (t p) = true then whF C t f (p + 1) else p
def wh (C : Int → Bool) (t : Nat → Int) (n p : Nat) : Nat := whF C t (n - p) p
theorem wh_y {C : Int → Bool} {t : Nat → Int} {n p : Nat} (h : p < n) (hc : C (t p) = true) : wh C t n p = wh C t n (p + 1) := by
  unfold wh
  rw [show n - p = (n - (p + 1)) + 1 by omega]
  simp only [whF]
  exact if_pos hc
theorem wh_n {C : Int → Bool} {t : Nat → Int} {n p : Nat} (h : ¬ (p < n ∧ C (t p) = true)) : wh C t n p = p := by
  unfold wh
  rcases Nat.lt_or_ge p n with q | q
  · rw [show n - p = (n - (p + 1)) + 1 by omega]
    simp only [whF]
    exact if_neg (fun e => h ⟨q, e⟩)
  · rw [show n - p = 0 by omega]
    rfl
theorem whF_in (C : Int → Bool) (t : Nat → Int) : ∀ f p : Nat, p ≤ whF C t f p ∧ whF C t f p ≤ p + f
  | 0, p => by simp [whF]
  | f + 1, p => by
    have ih := whF_in C t f (p + 1)
    simp only [whF]
    split <;> omega
theorem wh_in {C : Int → Bool} {t : Nat → Int} {n p : Nat} (h : p ≤ n) : p ≤ wh C t n p ∧ wh C t n p ≤ n := by
  have := whF_in C t (n - p) p
  unfold wh
  omega
def isSp (v : Int) : Bool := decide (v = 32)
def isLo (v : Int) : Bool := decide (97 ≤ v ∧ v ≤ 122)
def isDi (v : Int) : Bool := decide (48 ≤ v ∧ v ≤ 57)
theorem isSp_i {v : Int} : isSp v = true ↔ v = 32 := decide_eq_true_iff
theorem isLo_i {v : Int} : isLo v = true ↔ 97 ≤ v ∧ v ≤ 122 := decide_eq_true_iff
theorem isDi_i {v : Int} : isDi v = true ↔ 48 ≤ v ∧ v ≤ 57 := decide_eq_true_iff
theorem byA_y {t : Nat → Int} {n p : Int} (h : p < n) : byA t n p = t p.toNat := if_pos h
theorem byA_n {t : Nat → Int} {n p : Int} (h : ¬ p < n) : byA t n p = -1 := if_neg h
/-- one more of a sort, or none: told of the byte -/
theorem wh_b {C : Int → Bool} {t : Nat → Int} {n p : Int} (h0 : 0 ≤ p) (hc : C (byA t n p) = true) (h1 : C (-1) = false) : p < n ∧ wh C t n.toNat p.toNat = wh C t n.toNat (p + 1).toNat := by
  by_cases q : p < n
  · rw [byA_y q] at hc
    refine ⟨q, ?_⟩
    rw [wh_y (by omega) hc, show p.toNat + 1 = (p + 1).toNat by omega]
  · rw [byA_n q, h1] at hc
    exact absurd hc (by decide)
theorem wh_e {C : Int → Bool} {t : Nat → Int} {n p : Int} (h0 : 0 ≤ p) (hc : ¬ C (byA t n p) = true) : wh C t n.toNat p.toNat = p.toNat := by
  refine wh_n (fun ⟨q1, q2⟩ => hc ?_)
  rw [byA_y (by omega)]
  exact q2
theorem byA_in {t : Nat → Int} (h : TapeOK t) (n p : Int) : -1 ≤ byA t n p ∧ byA t n p ≤ 127 := by
  unfold byA
  split
  · have := h p.toNat; omega
  · omega
theorem byA_lt {t : Nat → Int} (h : TapeOK t) (n p : Int) : 0 ≤ byA t n p ↔ p < n := by
  unfold byA
  split
  · have := h p.toNat; omega
  · omega
/-- a number's value by its first k letters -/
def dvK (t : Nat → Int) (n b : Int) : Nat → Int
  | 0 => 0
  | k + 1 => if k < 2 then 10 * dvK t n b k + byA t n (b + (k : Int)) - 48 else dvK t n b k
/-- a need: faults stick -/
def ndS (P : Nat → Int) (g code : Int) : Nat → Int := if g ≠ 0 ∨ P 15 ≠ 0 then P else up (up P 15 code) 16 (P 12)
abbrev spA (t P : Nat → Int) : Nat := wh isSp t (P 10).toNat (P 11).toNat
/-- the next sign -/
def tkP (t P : Nat → Int) : Nat → Int :=
  if 0 < P 15 then P
  else if byA t (P 10) (spA t P) < 0 then up (up (up P 11 (spA t P)) 12 (spA t P)) 13 0
  else if 97 ≤ byA t (P 10) (spA t P) ∧ byA t (P 10) (spA t P) ≤ 122 then up (up (up P 11 (wh isLo t (P 10).toNat (spA t P))) 12 (spA t P)) 13 1
  else if 48 ≤ byA t (P 10) (spA t P) ∧ byA t (P 10) (spA t P) ≤ 57 then
    ndS (up (up (up (up P 11 (wh isDi t (P 10).toNat (spA t P))) 12 (spA t P)) 13 2) 14 (dvK t (P 10) (spA t P) (wh isDi t (P 10).toNat (spA t P) - spA t P))) (b2 (wh isDi t (P 10).toNat (spA t P) ≤ spA t P + 2)) 1
  else up (ndS (up (up (up P 11 (spA t P)) 12 (spA t P)) 13 3) (b2 (byA t (P 10) (spA t P) = 59)) 1) 11 ((spA t P : Int) + 1)
theorem ndS_o {P : Nat → Int} {g code : Int} {x : Nat} (h5 : x ≠ 15) (h6 : x ≠ 16) : ndS P g code x = P x := by
  unfold ndS
  split
  · rfl
  · rw [up_n _ _ h6, up_n _ _ h5]
theorem ndS_15 (P : Nat → Int) (g code : Int) : ndS P g code 15 = if g ≠ 0 ∨ P 15 ≠ 0 then P 15 else code := by
  unfold ndS
  split
  · rfl
  · rw [up_n _ _ (by omega), up_s]
theorem ndS_16 (P : Nat → Int) (g code : Int) : ndS P g code 16 = if g ≠ 0 ∨ P 15 ≠ 0 then P 16 else P 12 := by
  unfold ndS
  split
  · rfl
  · rw [up_s]
theorem ndS_pi {P : Nat → Int} (h : PI P) {g code : Int} (hc : 0 ≤ code ∧ code ≤ 6) : PI (ndS P g code) := by
  unfold PI
  rw [ndS_o (x := 10) (by omega) (by omega), ndS_o (x := 11) (by omega) (by omega), ndS_o (x := 12) (by omega) (by omega), ndS_o (x := 13) (by omega) (by omega), ndS_o (x := 14) (by omega) (by omega), ndS_15, ndS_16]
  refine ⟨h.1, h.2.1, h.2.2.1, h.2.2.2.1, h.2.2.2.2.1, ?_, ?_⟩
  · split <;> omega
  · split <;> omega
