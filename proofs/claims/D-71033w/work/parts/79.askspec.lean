/-! THE MODEL: asked -/
abbrev fitP (F : Nat → Int) (i k : Nat) : Prop := snS (up F (2 * i + 0) (k : Int)) (sawF F) (F 57).toNat 21 = 1
/-- how many of the first k kinds fit -/
def mnS (F : Nat → Int) (i : Nat) : Nat → Nat
  | 0 => 0
  | k + 1 => if fitP F i k then mnS F i k + 1 else mnS F i k
theorem mnS_in (F : Nat → Int) (i : Nat) : ∀ k : Nat, mnS F i k ≤ k
  | 0 => Nat.le_refl _
  | k + 1 => by
    have ih := mnS_in F i k
    simp only [mnS]
    split <;> omega
theorem mnS_lt (F : Nat → Int) (i : Nat) {j : Nat} (hf : fitP F i j) : ∀ k : Nat, j < k → mnS F i j < mnS F i k
  | 0, h => absurd h (Nat.not_lt_zero _)
  | k + 1, h => by
    simp only [mnS]
    by_cases e : j = k
    · subst e
      rw [if_pos hf]
      omega
    · have ih := mnS_lt F i hf k (by omega)
      split <;> omega
/-- what is kept of the kinds that fit -/
def BkOK (F : Nat → Int) (i k : Nat) (B : Nat → Int) : Prop := ∀ j : Nat, j < k → fitP F i j → ∀ d i' : Nat, d ≤ 20 → (i' : Int) < F 76 → B (105 * mnS F i j + (5 * d + i')) = daysS (up F (2 * i + 0) (j : Int)) d (2 * i' + 1)
theorem BkOK.z (F : Nat → Int) (i : Nat) (B : Nat → Int) : BkOK F i 0 B := fun j h => absurd h (Nat.not_lt_zero _)
theorem BkOK.no {F B : Nat → Int} {i k : Nat} (h : BkOK F i k B) (hn : ¬ fitP F i k) : BkOK F i (k + 1) B := fun j hj hf => by
  rcases Nat.lt_or_ge j k with g | g
  · exact h j g hf
  · have : j = k := by omega
    subst this
    exact absurd hf hn
def cpB (W B : Nat → Int) (a n x : Nat) : Int := if 105 * a ≤ x ∧ x < 105 * a + n then W (x - 105 * a) else B x
theorem cpB_0 (W B : Nat → Int) (a : Nat) : cpB W B a 0 = B := by
  funext x
  exact if_neg (by omega)
theorem cpB_s {W B : Nat → Int} {a n : Nat} : up (cpB W B a n) ((105 * a) + n) (W n) = cpB W B a (n + 1) := by
  funext x
  by_cases e : x = 105 * a + n
  · subst e
    rw [up_s]
    unfold cpB
    rw [if_pos (by omega), show 105 * a + n - 105 * a = n by omega]
  · rw [up_n _ _ e]
    unfold cpB
    by_cases h : 105 * a ≤ x ∧ x < 105 * a + n
    · rw [if_pos h, if_pos (by omega)]
    · rw [if_neg h, if_neg (by omega)]
theorem BkOK.yes {F B W : Nat → Int} {i k : Nat} (h5 : 0 ≤ F 76 ∧ F 76 ≤ 5) (h : BkOK F i k B) (hf : fitP F i k) : BkOK F i (k + 1) (cpB (bkF (up F (2 * i + 0) (k : Int)) W 0 (F 76).toNat 21 0) B (mnS F i k) 105) := fun j hj hfj d i' hd hi => by
  unfold cpB
  rcases Nat.lt_or_ge j k with g | g
  · have := mnS_lt F i hfj k g
    rw [if_neg (by omega)]
    exact h j g hfj d i' hd hi
  · have : j = k := by omega
    subst this
    rw [if_pos (by omega), show 105 * mnS F i j + (5 * d + i') - 105 * mnS F i j = 105 * 0 + (5 * d + i') by omega]
    exact bkF_at (by omega) (by omega) hd
/-- of a kinds kept, how many are as k is at c; the worst; all judged -/
def mwI (B : Nat → Int) (c k : Nat) : Nat → Int
  | 0 => 0
  | b + 1 => mwI B c k b + (if iI (B (105 * k + c)) = iI (B (105 * b + c)) then 1 else 0)
def mwO (B : Nat → Int) (a c : Nat) : Nat → Int
  | 0 => 0
  | k + 1 => if mwO B a c k < mwI B c k a then mwI B c k a else mwO B a c k
theorem mwI_in (B : Nat → Int) (c k : Nat) : ∀ b : Nat, 0 ≤ mwI B c k b ∧ mwI B c k b ≤ (b : Int)
  | 0 => by simp [mwI]
  | b + 1 => by
    have ih := mwI_in B c k b
    simp only [mwI]
    split <;> omega
theorem mwO_in (B : Nat → Int) (a c : Nat) : ∀ k : Nat, 0 ≤ mwO B a c k ∧ mwO B a c k ≤ (a : Int)
  | 0 => by simp [mwO]
  | k + 1 => by
    have ih := mwO_in B a c k
    have h := mwI_in B c k a
    simp only [mwO]
    split <;> omega
def mjO (B : Nat → Int) (a : Nat) (m9 : Int) : Nat → Int × Int
  | 0 => (-4, (a : Int))
  | c + 1 => if (c : Int) % 5 < m9 then jd (mjO B a m9 c) (10 * ((c : Int) / 5) + (c : Int) % 5) (mwO B a c a) else mjO B a m9 c
def kb4 (f0 f1 f2 f3 : Bool) : Int := orZ (orZ (orZ (orZ 0 (if f0 = true then 1 else 0)) (if f1 = true then 2 else 0)) (if f2 = true then 4 else 0)) (if f3 = true then 8 else 0)
theorem kb4_dec : ∀ f0 f1 f2 f3 : Bool, (bitS (kb4 f0 f1 f2 f3) 0 ↔ f0 = true) ∧ (bitS (kb4 f0 f1 f2 f3) 1 ↔ f1 = true) ∧ (bitS (kb4 f0 f1 f2 f3) 2 ↔ f2 = true) ∧ (bitS (kb4 f0 f1 f2 f3) 3 ↔ f3 = true) ∧ bcS (kb4 f0 f1 f2 f3) = ((f0.toNat + f1.toNat + f2.toNat + f3.toNat : Nat) : Int) := by decide +kernel
theorem tb_of (F : Nat → Int) (i k : Nat) : ∃ f : Bool, (f = true ↔ fitP F i k) ∧ (if snS (up F (2 * i + 0) (k : Int)) (sawF F) (F 57).toNat 21 = 1 then ((pw2 k : Nat) : Int) else 0) = (if f = true then ((pw2 k : Nat) : Int) else 0) ∧ mnS F i (k + 1) = mnS F i k + f.toNat := by
  by_cases h : fitP F i k
  · exact ⟨true, ⟨fun _ => h, fun _ => rfl⟩, (if_pos h).trans (if_pos rfl).symm, by simp only [mnS]; rw [if_pos h]; rfl⟩
  · exact ⟨false, ⟨fun q => absurd q (by decide), fun q => absurd q h⟩, (if_neg h).trans (if_neg (by decide)).symm, by simp only [mnS]; rw [if_neg h]; rfl⟩
theorem kd_bits (F : Nat → Int) (i : Nat) : (∀ k : Nat, k < 4 → (bitS (kdS F (sawF F) (F 57).toNat i 4) (k : Int) ↔ fitP F i k)) ∧ bcS (kdS F (sawF F) (F 57).toNat i 4) = ((mnS F i 4 : Nat) : Int) := by
  obtain ⟨f0, a0, e0, n0⟩ := tb_of F i 0
  obtain ⟨f1, a1, e1, n1⟩ := tb_of F i 1
  obtain ⟨f2, a2, e2, n2⟩ := tb_of F i 2
  obtain ⟨f3, a3, e3, n3⟩ := tb_of F i 3
  have e : kdS F (sawF F) (F 57).toNat i 4 = kb4 f0 f1 f2 f3 := by
    simp only [kdS]
    rw [e0, e1, e2, e3]
    rfl
  obtain ⟨b0, b1, b2', b3, b4⟩ := kb4_dec f0 f1 f2 f3
  rw [e]
  refine ⟨fun k hk => ?_, ?_⟩
  · rcases (show k = 0 ∨ k = 1 ∨ k = 2 ∨ k = 3 by omega) with q | q | q | q <;> subst q
    · exact b0.trans a0
    · exact b1.trans a1
    · exact b2'.trans a2
    · exact b3.trans a3
  · rw [b4, n3, n2, n1, n0]
    simp only [mnS, Nat.zero_add]
section ASKM
variable {F B1 Z : Nat → Int} {i0 : Nat}
theorem mwI_m {d i' : Nat} (hF : WF F) (hd : F 54 ≤ 2000) (h5 : i0 < 5) (hB : BkOK F i0 4 B1) (hd20 : d ≤ 20) (hi : (i' : Int) < F 76) {k : Nat} (hk : k < 4) (hf : fitP F i0 k) : ∀ j : Nat, j ≤ 4 → mwI B1 (5 * d + i') (mnS F i0 k) (mnS F i0 j) = woI (kbS F Z i0 4) (kdS F (sawF F) (F 57).toNat i0 4) (5 * d + i') k j
  | 0, _ => rfl
  | j + 1, hj => by
    have hn := hF.n
    have ih := mwI_m hF hd h5 hB hd20 hi hk hf j (by omega)
    have hv : ∀ x : Nat, x < 4 → inR (daysS (up F (2 * i0 + 0) (x : Int)) d (2 * i' + 1)) := fun x hx => by
      have := (daysS_wf (hF.setK (i := i0) (v := (x : Int)) h5 (by omega)) d (by rw [up_n _ _ (by omega)]; omega)).pl i' (by omega)
      exact ⟨by omega, by omega⟩
    have bj := (kd_bits F i0).1 j (by omega)
    simp only [mnS, woI]
    rw [kbS_at hF h5 hi hd20 4 hk, kbS_at hF h5 hi hd20 4 (show j < 4 by omega)]
    by_cases hj2 : fitP F i0 j
    · rw [if_pos hj2]
      simp only [mwI]
      rw [ih, hB k hk hf d i' hd20 hi, hB j (by omega) hj2 d i' hd20 hi]
      by_cases e : daysS (up F (2 * i0 + 0) (k : Int)) d (2 * i' + 1) = daysS (up F (2 * i0 + 0) (j : Int)) d (2 * i' + 1)
      · rw [if_pos (congrArg iI e), if_pos ⟨bj.mpr hj2, e⟩]
      · rw [if_neg (mt (iI_inj (hv k hk) (hv j (by omega))).mp e), if_neg (fun h => e h.2)]
    · rw [if_neg hj2, ih, if_neg (fun h => hj2 (bj.mp h.1)), Int.add_zero]
theorem mwO_m {d i' : Nat} (hF : WF F) (hd : F 54 ≤ 2000) (h5 : i0 < 5) (hB : BkOK F i0 4 B1) (hd20 : d ≤ 20) (hi : (i' : Int) < F 76) : ∀ k : Nat, k ≤ 4 → mwO B1 (mnS F i0 4) (5 * d + i') (mnS F i0 k) = woO (kbS F Z i0 4) (kdS F (sawF F) (F 57).toNat i0 4) (5 * d + i') k
  | 0, _ => rfl
  | k + 1, hk => by
    have ih := mwO_m hF hd h5 hB hd20 hi k (by omega)
    have bk := (kd_bits F i0).1 k (by omega)
    have hw := woO_in (kbS F Z i0 4) (kdS F (sawF F) (F 57).toNat i0 4) (5 * d + i') k
    show mwO B1 (mnS F i0 4) (5 * d + i') (if fitP F i0 k then mnS F i0 k + 1 else mnS F i0 k) = _
    simp only [woO]
    by_cases hf : fitP F i0 k
    · rw [if_pos hf]
      simp only [mwO]
      rw [ih, mwI_m (Z := Z) hF hd h5 hB hd20 hi (by omega) hf 4 (Nat.le_refl _), if_pos (bk.mpr hf)]
      split <;> omega
    · rw [if_neg hf, ih, if_neg (fun h => hf (bk.mp h))]
      omega
theorem mj_m (hF : WF F) (hd : F 54 ≤ 2000) (h5 : i0 < 5) (hB : BkOK F i0 4 B1) : ∀ d : Nat, d ≤ 21 → mjO B1 (mnS F i0 4) (F 76) (5 * d) = akO (kbS F Z i0 4) (kdS F (sawF F) (F 57).toNat i0 4) (F 76).toNat d
  | 0, _ => by
    simp only [akO]
    rw [(kd_bits F i0).2]
    rfl
  | d + 1, hd21 => by
    have hn := hF.n
    have ih := mj_m hF hd h5 hB d (by omega)
    have h1 : ∀ i' : Nat, (i' : Int) ≤ F 76 → mjO B1 (mnS F i0 4) (F 76) (5 * d + i') = akI (kbS F Z i0 4) (kdS F (sawF F) (F 57).toNat i0 4) d i' (akO (kbS F Z i0 4) (kdS F (sawF F) (F 57).toNat i0 4) (F 76).toNat d) := by
      intro i'
      induction i' with
      | zero => exact fun _ => ih
      | succ i' ih2 =>
        intro hi
        have h2 := ih2 (by omega)
        show mjO B1 (mnS F i0 4) (F 76) ((5 * d + i') + 1) = _
        simp only [mjO, akI]
        rw [if_pos (by omega), h2, mwO_m (Z := Z) hF hd h5 hB (by omega) (by omega) 4 (Nat.le_refl _), show 10 * (((5 * d + i' : Nat) : Int) / 5) + ((5 * d + i' : Nat) : Int) % 5 = 10 * (d : Int) + (i' : Int) by omega]
    have h2 : ∀ i' : Nat, F 76 ≤ (i' : Int) → i' ≤ 5 → mjO B1 (mnS F i0 4) (F 76) (5 * d + i') = akI (kbS F Z i0 4) (kdS F (sawF F) (F 57).toNat i0 4) d (F 76).toNat (akO (kbS F Z i0 4) (kdS F (sawF F) (F 57).toNat i0 4) (F 76).toNat d) := by
      intro i'
      induction i' with
      | zero =>
        intro h0 _
        rw [h1 0 (by omega), show (F 76).toNat = 0 by omega]
      | succ i' ih2 =>
        intro hi hi5
        by_cases e : F 76 ≤ (i' : Int)
        · show mjO B1 (mnS F i0 4) (F 76) ((5 * d + i') + 1) = _
          simp only [mjO]
          rw [if_neg (by omega)]
          exact ih2 e (by omega)
        · have := h1 (i' + 1) (by omega)
          rw [this, show (F 76).toNat = i' + 1 by omega]
    have h3 := h2 5 (by omega) (Nat.le_refl _)
    simp only [akO]
    exact h3
end ASKM
def askM (F : Nat → Int) (i what : Int) : Int := if ¬ (okI F i ∧ 0 ≤ what ∧ what ≤ 1) then -1 else jdA (akO (kbS F (fun _ => 0) i.toNat 4) (kdS F (sawF F) (F 57).toNat i.toNat 4) (F 76).toNat 21) what
theorem ask_m {F B1 : Nat → Int} (hF : WF F) (hd : F 54 ≤ 2000) {i : Int} (hi : okI F i) (hB : BkOK F i.toNat 4 B1) {a9 : Nat} (ha : a9 = mnS F i.toNat 4) : mjO B1 a9 (F 76) 105 = akO (kbS F (fun _ => 0) i.toNat 4) (kdS F (sawF F) (F 57).toNat i.toNat 4) (F 76).toNat 21 := by
  have hn := hF.n
  have h1 : 0 ≤ i ∧ i ≤ F 76 - 1 := hi
  subst ha
  exact mj_m hF hd (by omega) hB 21 (Nat.le_refl _)
