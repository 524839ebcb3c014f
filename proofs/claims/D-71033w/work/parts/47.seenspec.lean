/-! WHAT IS SEEN, ASKED, DRIFTED: what the component answers -/
theorem b2_of {v : Int} (h : v = 0 ∨ v = 1) : v = b2 (v = 1) := by
  rcases h with h | h
  · subst h; exact (b2_f (by decide)).symm
  · subst h; exact (b2_t rfl).symm
def SeenOK (s : Nat → Int) (many : Int) : Prop := (0 ≤ many ∧ many ≤ 6) ∧ ∀ q : Nat, (q : Int) < many → (0 ≤ s (3 * q + 0) ∧ s (3 * q + 0) ≤ 20) ∧ (0 ≤ s (3 * q + 1) ∧ s (3 * q + 1) ≤ 4) ∧ 0 ≤ s (3 * q + 2) ∧ s (3 * q + 2) ≤ 99
/-- a day's positions against what was seen -/
def snD (F s : Nat → Int) (d r : Int) : Nat → Int
  | 0 => r
  | q + 1 => if snD F s d r q = 0 then 0 else if s (3 * q + 0) ≠ d then 1 else if F (2 * (s (3 * q + 1)).toNat + 1) = s (3 * q + 2) then 1 else 0
def snS (F s : Nat → Int) (many : Nat) : Nat → Int
  | 0 => 1
  | d + 1 => snD (daysS F d) s (d : Int) (snS F s many d) many
theorem snD_in (F s : Nat → Int) (d : Int) {r : Int} (hr : r = 0 ∨ r = 1) : ∀ q : Nat, snD F s d r q = 0 ∨ snD F s d r q = 1
  | 0 => hr
  | q + 1 => by
    simp only [snD]
    (repeat' split) <;> omega
theorem snS_in (F s : Nat → Int) (many : Nat) : ∀ d : Nat, snS F s many d = 0 ∨ snS F s many d = 1
  | 0 => Or.inr rfl
  | d + 1 => snD_in _ _ _ (snS_in F s many d) _
def bkF (F B : Nat → Int) (k m d i x : Nat) : Int := if 105 * k ≤ x ∧ x < 105 * k + 105 ∧ (x - 105 * k) % 5 < m ∧ (x - 105 * k < 5 * d ∨ ((x - 105 * k) / 5 = d ∧ (x - 105 * k) % 5 < i)) then daysS F ((x - 105 * k) / 5) (2 * ((x - 105 * k) % 5) + 1) else B x
theorem bkF_0 (F B : Nat → Int) (k m : Nat) : bkF F B k m 0 0 = B := by
  funext x
  exact if_neg (by omega)
theorem bkF_s {F B : Nat → Int} {k m d i : Nat} (hi : i < m) (hm : m ≤ 5) (hd : d ≤ 20) : up (bkF F B k m d i) (105 * k + ((5 * d) + i)) (daysS F d (2 * i + 1)) = bkF F B k m d (i + 1) := by
  funext x
  by_cases e : x = 105 * k + ((5 * d) + i)
  · subst e
    rw [up_s]
    unfold bkF
    rw [if_pos (by omega), show (105 * k + ((5 * d) + i) - 105 * k) / 5 = d by omega, show (105 * k + ((5 * d) + i) - 105 * k) % 5 = i by omega]
  · rw [up_n _ _ e]
    unfold bkF
    by_cases c : 105 * k ≤ x ∧ x < 105 * k + 105 ∧ (x - 105 * k) % 5 < m ∧ (x - 105 * k < 5 * d ∨ ((x - 105 * k) / 5 = d ∧ (x - 105 * k) % 5 < i))
    · rw [if_pos c, if_pos (by omega)]
    · rw [if_neg c, if_neg (by omega)]
theorem bkF_r {F B : Nat → Int} {k m d : Nat} (hm : m ≤ 5) : bkF F B k m d m = bkF F B k m (d + 1) 0 := by
  funext x
  unfold bkF
  by_cases c : 105 * k ≤ x ∧ x < 105 * k + 105 ∧ (x - 105 * k) % 5 < m ∧ (x - 105 * k < 5 * d ∨ ((x - 105 * k) / 5 = d ∧ (x - 105 * k) % 5 < m))
  · rw [if_pos c, if_pos (by omega)]
  · rw [if_neg c, if_neg (by omega)]
theorem bkF_at {F B : Nat → Int} {k m d i : Nat} (hi : i < m) (hm : m ≤ 5) (hd : d ≤ 20) : bkF F B k m 21 0 (105 * k + (5 * d + i)) = daysS F d (2 * i + 1) := by
  unfold bkF
  rw [if_pos (by omega), show (105 * k + (5 * d + i) - 105 * k) / 5 = d by omega, show (105 * k + (5 * d + i) - 105 * k) % 5 = i by omega]
theorem bkF_o {F B : Nat → Int} {k m n : Nat} {k' c : Nat} (hk : k' ≠ k) (hc : c < 105) : bkF F B k m n 0 (105 * k' + c) = B (105 * k' + c) := if_neg (by omega)
/-- all four kinds tried -/
def kbS (F B : Nat → Int) (i : Nat) : Nat → (Nat → Int)
  | 0 => B
  | k + 1 => bkF (up F (2 * i + 0) (k : Int)) (kbS F B i k) k (up F (2 * i + 0) (k : Int) 76).toNat 21 0
def kdS (F s : Nat → Int) (many i : Nat) : Nat → Int
  | 0 => 0
  | k + 1 => orZ (kdS F s many i k) (if snS (up F (2 * i + 0) (k : Int)) s many 21 = 1 then ((pw2 k : Nat) : Int) else 0)
theorem pw2_4 : ∀ k : Fin 4, 1 ≤ pw2 k.val ∧ pw2 k.val ≤ 8 := by decide +kernel
theorem pw2_3 {k : Nat} (h : k < 4) : 1 ≤ pw2 k ∧ pw2 k ≤ 8 := pw2_4 ⟨k, h⟩
theorem kdS_in (F s : Nat → Int) (many i : Nat) : ∀ k : Nat, k ≤ 4 → 0 ≤ kdS F s many i k ∧ kdS F s many i k < 16
  | 0, _ => by simp [kdS]
  | k + 1, hk => by
    have ih := kdS_in F s many i k (by omega)
    have hp := pw2_3 (show k < 4 by omega)
    simp only [kdS]
    split
    · exact orZ_in ih (by omega)
    · exact orZ_in ih (by omega)
theorem kbS_at {F B : Nat → Int} {i0 : Nat} (hF : WF F) (h5 : i0 < 5) {k d i : Nat} (hi : (i : Int) < F 76) (hd : d ≤ 20) : ∀ n : Nat, k < n → kbS F B i0 n (105 * k + (5 * d + i)) = daysS (up F (2 * i0 + 0) (k : Int)) d (2 * i + 1)
  | 0, h => absurd h (Nat.not_lt_zero _)
  | n + 1, h => by
    have hn := hF.n
    simp only [kbS]
    by_cases e : k = n
    · subst e
      exact bkF_at (by rw [up_n _ _ (by omega)]; omega) (by rw [up_n _ _ (by omega)]; omega) hd
    · rw [bkF_o e (by omega)]
      exact kbS_at hF h5 hi hd n (by omega)
def suS (F s : Nat → Int) (many x : Nat) : Nat → Int
  | 0 => 0
  | v + 1 => orZ (suS F s many x v) (if snS (up F x (v : Int)) s many 21 = 1 then ((pw2 v : Nat) : Int) else 0)
theorem suS_in (F s : Nat → Int) (many x : Nat) : ∀ k : Nat, k ≤ 4 → 0 ≤ suS F s many x k ∧ suS F s many x k < 16
  | 0, _ => by simp [suS]
  | k + 1, hk => by
    have ih := suS_in F s many x k (by omega)
    have hp := pw2_3 (show k < 4 by omega)
    simp only [suS]
    split
    · exact orZ_in ih (by omega)
    · exact orZ_in ih (by omega)
def kindsA (F s : Nat → Int) (many : Nat) (i : Int) : Int := if okI F i then kdS F s many i.toNat 4 else -1
def sulksA (F s : Nat → Int) (many : Nat) (i j : Int) : Int := if ok2 F i j then suS F s many (10 + 5 * i.toNat + j.toNat) 4 else -1
/-- how many kinds are left at the worst -/
def woI (B : Nat → Int) (r : Int) (c k : Nat) : Nat → Int
  | 0 => 0
  | j + 1 => woI B r c k j + (if bitS r (j : Int) ∧ B (105 * k + c) = B (105 * j + c) then 1 else 0)
def woO (B : Nat → Int) (r : Int) (c : Nat) : Nat → Int
  | 0 => 0
  | k + 1 => max (woO B r c k) (if bitS r (k : Int) then woI B r c k 4 else 0)
theorem woI_in (B : Nat → Int) (r : Int) (c k : Nat) : ∀ j : Nat, 0 ≤ woI B r c k j ∧ woI B r c k j ≤ (j : Int)
  | 0 => by simp [woI]
  | j + 1 => by
    have ih := woI_in B r c k j
    simp only [woI]
    split <;> omega
theorem woO_in (B : Nat → Int) (r : Int) (c : Nat) : ∀ k : Nat, 0 ≤ woO B r c k ∧ woO B r c k ≤ 4
  | 0 => by simp [woO]
  | k + 1 => by
    have ih := woO_in B r c k
    have h := woI_in B r c k 4
    simp only [woO]
    split <;> omega
def bcS (z : Int) : Int := z % 2 + z / 2 % 2 + z / 4 % 2 + z / 8 % 2
def akI (B : Nat → Int) (r : Int) (d : Nat) : Nat → Int × Int → Int × Int
  | 0, p => p
  | i + 1, p => jd (akI B r d i p) (10 * (d : Int) + (i : Int)) (woO B r (5 * d + i) 4)
def akO (B : Nat → Int) (r : Int) (m : Nat) : Nat → Int × Int
  | 0 => (-4, bcS r)
  | d + 1 => akI B r d m (akO B r m d)
def askA (F s B : Nat → Int) (many : Nat) (i what : Int) : Int := if ¬ (okI F i ∧ 0 ≤ what ∧ what ≤ 1) then -1 else jdA (akO (kbS F B i.toNat 4) (kdS F s many i.toNat 4) (F 76).toNat 21) what
/-! the drift: a row of numbers -/
def sdN (x : Int32) : Nat → Int32
  | 0 => x
  | t + 1 => sdN x t * iI 1103515245 + iI 12345
def rdN (x : Int32) : Int := ((x >>> (iI 16 &&& 31)) &&& iI 32767).toInt
theorem sdN_s (x : Int32) (t : Nat) : sdN x t * iI 1103515245 + iI 12345 = sdN x (t + 1) := by simp only [sdN]
theorem rdN_i (x : Int32) : ((x >>> (iI 16 &&& 31)) &&& iI 32767) = iI (rdN x) := (iI_of _).2.symm
theorem and_in (y : Int32) : 0 ≤ (y &&& iI 32767).toInt ∧ (y &&& iI 32767).toInt < 32768 := by
  have h1 : (y &&& iI 32767).toBitVec.toNat ≤ 32767 := by
    rw [Int32.toBitVec_and, BitVec.toNat_and]
    exact Nat.le_trans Nat.and_le_right (by decide)
  have h2 : (y &&& iI 32767).toInt = ((y &&& iI 32767).toBitVec.toNat : Int) := BitVec.toInt_eq_toNat_of_lt (by omega)
  omega
theorem rdN_in (x : Int32) : 0 ≤ rdN x ∧ rdN x < 32768 := and_in _
def dfC (F : Nat → Int) (z : Int) : Nat → Int := up F (10 + 5 * (z % F 76).toNat + (z / 8 % F 76).toNat) (if (z % F 76).toNat = (z / 8 % F 76).toNat then 0 else z / 64 % 4)
def dfS (F : Nat → Int) (x : Int32) : Nat → (Nat → Int)
  | 0 => F
  | t + 1 => dayS (dfC (dfS F x t) (rdN (sdN x (t + 1))))
theorem md_in {z m : Int} (hm : 0 < m) : 0 ≤ z % m ∧ z % m < m := ⟨Int.emod_nonneg _ (by omega), Int.emod_lt_of_pos _ hm⟩
theorem dfC_wf {F : Nat → Int} (h : WF F) (hn : F 76 ≠ 0) {z : Int} (hz : 0 ≤ z) : WF (dfC F z) := by
  have hn2 := h.n
  have h1 := md_in (z := z) (m := F 76) (by omega)
  have h2 := md_in (z := z / 8) (m := F 76) (by omega)
  have h3 := md_in (z := z / 64) (m := 4) (by omega)
  unfold dfC
  refine h.setC (by omega) (by omega) ?_
  split <;> omega
theorem dfC_o {F : Nat → Int} (h : WF F) (hn : F 76 ≠ 0) {z : Int} {x : Nat} (hx : x < 10 ∨ 35 ≤ x) : dfC F z x = F x := by
  have hn2 := h.n
  have h1 := md_in (z := z) (m := F 76) (by omega)
  have h2 := md_in (z := z / 8) (m := F 76) (by omega)
  unfold dfC
  exact up_n _ _ (by omega)
theorem dfS_wf {F : Nat → Int} (h : WF F) (hn : F 76 ≠ 0) (x : Int32) : ∀ t : Nat, F 54 + (t : Int) ≤ 100000 → WF (dfS F x t) ∧ dfS F x t 54 = F 54 + (t : Int) ∧ dfS F x t 76 = F 76 ∧ F 56 ≤ dfS F x t 56 ∧ dfS F x t 56 ≤ F 56 + 5 * (t : Int)
  | 0, _ => ⟨h, by simp [dfS], rfl, by simp [dfS], by simp [dfS]⟩
  | t + 1, ht => by
    obtain ⟨i1, i2, i3, i4, i5⟩ := dfS_wf h hn x t (by omega)
    have hz := rdN_in (sdN x (t + 1))
    have hc := dfC_wf i1 (by rw [i3]; exact hn) hz.1
    have o : ∀ y : Nat, y < 10 ∨ 35 ≤ y → dfC (dfS F x t) (rdN (sdN x (t + 1))) y = dfS F x t y := fun y hy => dfC_o i1 (by rw [i3]; exact hn) hy
    have hb := dayS_56 hc
    rw [o 56 (by omega)] at hb
    simp only [dfS]
    refine ⟨dayS_wf hc (by rw [o 54 (by omega)]; omega), ?_, ?_, by omega, by omega⟩
    · rw [dayS_day hc, o 54 (by omega)]; omega
    · rw [dayS_same hc (by omega) (by omega) (by omega), o 76 (by omega), i3]
def driftA (F : Nat → Int) (x : Int32) (n what : Int) : Int := if ¬ ((1 ≤ n ∧ n ≤ 60) ∧ 0 ≤ what ∧ what ≤ 1) then -1 else if F 76 = 0 then -2 else if what = 0 then spS (dfS F x n.toNat) else dfS F x n.toNat 56 - F 56
