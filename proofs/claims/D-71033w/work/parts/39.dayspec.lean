/-! DAYS TRIED: what the component answers, over its numbers -/
def daysS (F : Nat → Int) : Nat → (Nat → Int)
  | 0 => F
  | k + 1 => dayS (daysS F k)
theorem daysS_day {F : Nat → Int} (h : WF F) : ∀ k : Nat, F 54 + (k : Int) ≤ 100000 → WF (daysS F k) ∧ daysS F k 54 = F 54 + (k : Int)
  | 0, _ => ⟨h, by simp [daysS]⟩
  | k + 1, hk => by
    have ih := daysS_day h k (by omega)
    refine ⟨dayS_wf ih.1 (by omega), ?_⟩
    show dayS (daysS F k) 54 = _
    rw [dayS_day ih.1]
    omega
theorem daysS_wf {F : Nat → Int} (h : WF F) (k : Nat) (hk : F 54 + (k : Int) ≤ 100000) : WF (daysS F k) := (daysS_day h k hk).1
theorem daysS_same {F : Nat → Int} (h : WF F) {x : Nat} (h2 : x ≠ 56) (h3 : 10 ≤ x) (h4 : x ≠ 54) : ∀ k : Nat, F 54 + (k : Int) ≤ 100000 → daysS F k x = F x
  | 0, _ => rfl
  | k + 1, hk => by
    show dayS (daysS F k) x = _
    rw [dayS_same (daysS_wf h k (by omega)) h2 h3 h4, daysS_same h h2 h3 h4 k (by omega)]
theorem spS_in {F : Nat → Int} (h : WF F) : 0 ≤ spS F ∧ spS F ≤ 99 := by
  have hn := h.n
  have h1 := lowS_in h (F 76).toNat (by omega)
  have h2 := highS_in h (F 76).toNat (by omega)
  unfold spS
  omega
theorem walkS_56 {i : Nat} (by1 : Int) : ∀ (k : Nat) (F : Nat → Int), F 56 ≤ walkS i by1 k F 56 ∧ walkS i by1 k F 56 ≤ F 56 + 1 ∨ i ≥ 5
  | 0, F => by
    left
    simp only [walkS]
    omega
  | k + 1, F => by
    by_cases h5 : i ≥ 5
    · exact Or.inr h5
    left
    simp only [walkS]
    split
    · omega
    · split
      · rw [up_s]; omega
      · have ih := walkS_56 by1 k (up F (2 * i + 1) (F (2 * i + 1) + by1)) (i := i)
        rw [up_n _ _ (show (56 : Nat) ≠ 2 * i + 1 by omega)] at ih
        rcases ih with ih | ih
        · exact ih
        · omega
theorem goS_56 (F : Nat → Int) : ∀ i : Nat, i ≤ 5 → F 56 ≤ goS F i 56 ∧ goS F i 56 ≤ F 56 + (i : Int)
  | 0, _ => by simp [goS]
  | i + 1, hi => by
    have ih := goS_56 F i (by omega)
    simp only [goS]
    split
    · rw [comeS_same _ (show (56 : Nat) ≠ 2 * i + 1 by omega)]
      omega
    · have h := walkS_56 (i := i) (sgS (sulkS (goS F i) i (goS F i 76).toNat)) (fathS (goS F i (2 * i + 0)) (az (sulkS (goS F i) i (goS F i 76).toNat))).toNat (goS F i)
      unfold drS
      omega
theorem dayS_56 {F : Nat → Int} (h : WF F) : F 56 ≤ dayS F 56 ∧ dayS F 56 ≤ F 56 + 5 := by
  have hn := h.n
  have h1 := goS_56 F (F 76).toNat (by omega)
  unfold dayS
  rw [up_n _ _ (by omega)]
  omega
theorem daysS_56 {F : Nat → Int} (h : WF F) : ∀ k : Nat, F 54 + (k : Int) ≤ 100000 → F 56 ≤ daysS F k 56 ∧ daysS F k 56 ≤ F 56 + 5 * (k : Int)
  | 0, _ => by simp [daysS]
  | k + 1, hk => by
    have ih := daysS_56 h k (by omega)
    have h2 := dayS_56 (daysS_wf h k (by omega))
    show F 56 ≤ dayS (daysS F k) 56 ∧ _ ≤ _
    simp only [daysS]
    omega
/-! in bounds still -/
theorem WF.setC {F : Nat → Int} (h : WF F) {i j : Nat} (hi : i < 5) (hj : j < 5) {v : Int} (hv : 0 ≤ v ∧ v ≤ 3) : WF (up F (10 + 5 * i + j) v) := by
  obtain ⟨h1, h2, h3, h4, h5, h6, h7, h8⟩ := h
  have n : ∀ k : Nat, k ≠ 10 + 5 * i + j → up F (10 + 5 * i + j) v k = F k := fun k hk => up_n F v hk
  refine ⟨by rw [n _ (by omega)]; exact h1, by rw [n _ (by omega)]; exact h2, by rw [n _ (by omega)]; exact h3, by rw [n _ (by omega)]; exact h4, fun a ha => by rw [n _ (by omega)]; exact h5 a ha, fun a ha => by rw [n _ (by omega)]; exact h6 a ha, fun a b ha hb => ?_, fun k hk => by rw [n _ (by omega), n _ (by omega), n _ (by omega)]; exact h8 k hk⟩
  by_cases e : 10 + 5 * a + b = 10 + 5 * i + j
  · rw [e, up_s]; exact hv
  · rw [n _ e]; exact h7 a b ha hb
theorem WF.setK {F : Nat → Int} (h : WF F) {i : Nat} (hi : i < 5) {v : Int} (hv : 0 ≤ v ∧ v ≤ 3) : WF (up F (2 * i + 0) v) := by
  obtain ⟨h1, h2, h3, h4, h5, h6, h7, h8⟩ := h
  have n : ∀ k : Nat, k ≠ 2 * i + 0 → up F (2 * i + 0) v k = F k := fun k hk => up_n F v hk
  refine ⟨by rw [n _ (by omega)]; exact h1, by rw [n _ (by omega)]; exact h2, by rw [n _ (by omega)]; exact h3, by rw [n _ (by omega)]; exact h4, fun a ha => ?_, fun a ha => by rw [n _ (by omega)]; exact h6 a ha, fun a b ha hb => by rw [n _ (by omega)]; exact h7 a b ha hb, fun k hk => by rw [n _ (by omega), n _ (by omega), n _ (by omega)]; exact h8 k hk⟩
  by_cases e : a = i
  · subst e; rw [up_s]; exact hv
  · rw [n _ (by omega)]; exact h5 a ha
theorem WF.setFe {F : Nat → Int} (h : WF F) {v : Int} (hv : 0 ≤ v ∧ v ≤ 6) : WF (up F 55 v) := by
  obtain ⟨h1, h2, h3, h4, h5, h6, h7, h8⟩ := h
  have n : ∀ k : Nat, k ≠ 55 → up F 55 v k = F k := fun k hk => up_n F v hk
  exact ⟨by rw [n _ (by omega)]; exact h1, by rw [n _ (by omega)]; exact h2, by rw [n _ (by omega)]; exact h3, by rw [up_s]; exact hv, fun a ha => by rw [n _ (by omega)]; exact h5 a ha, fun a ha => by rw [n _ (by omega)]; exact h6 a ha, fun a b ha hb => by rw [n _ (by omega)]; exact h7 a b ha hb, fun k hk => by rw [n _ (by omega), n _ (by omega), n _ (by omega)]; exact h8 k hk⟩
theorem WF.setRm {F : Nat → Int} (h : WF F) {v : Int} (hv : 0 ≤ v ∧ v ≤ 6) : WF (up F 53 v) := by
  obtain ⟨h1, h2, h3, h4, h5, h6, h7, h8⟩ := h
  have n : ∀ k : Nat, k ≠ 53 → up F 53 v k = F k := fun k hk => up_n F v hk
  exact ⟨by rw [n _ (by omega)]; exact h1, by rw [up_s]; exact hv, by rw [n _ (by omega)]; exact h3, by rw [n _ (by omega)]; exact h4, fun a ha => by rw [n _ (by omega)]; exact h5 a ha, fun a ha => by rw [n _ (by omega)]; exact h6 a ha, fun a b ha hb => by rw [n _ (by omega)]; exact h7 a b ha hb, fun k hk => by rw [n _ (by omega), n _ (by omega), n _ (by omega)]; exact h8 k hk⟩
theorem WF.setDay {F : Nat → Int} (h : WF F) {v : Int} (hv : 0 ≤ v ∧ v ≤ 100000) : WF (up F 54 v) := by
  obtain ⟨h1, h2, h3, h4, h5, h6, h7, h8⟩ := h
  have n : ∀ k : Nat, k ≠ 54 → up F 54 v k = F k := fun k hk => up_n F v hk
  exact ⟨by rw [n _ (by omega)]; exact h1, by rw [n _ (by omega)]; exact h2, by rw [up_s]; exact hv, by rw [n _ (by omega)]; exact h4, fun a ha => by rw [n _ (by omega)]; exact h5 a ha, fun a ha => by rw [n _ (by omega)]; exact h6 a ha, fun a b ha hb => by rw [n _ (by omega)]; exact h7 a b ha hb, fun k hk => by rw [n _ (by omega), n _ (by omega), n _ (by omega)]; exact h8 k hk⟩
theorem WF.setRp {F : Nat → Int} (h : WF F) {k c : Nat} (hk : k < 6) (hc : c < 3) {v : Int} (hv : 0 ≤ v ∧ (v ≤ 4 ∨ (c = 2 ∧ v ≤ 30))) : WF (up F (35 + 3 * k + c) v) := by
  obtain ⟨h1, h2, h3, h4, h5, h6, h7, h8⟩ := h
  have n : ∀ x : Nat, x ≠ 35 + 3 * k + c → up F (35 + 3 * k + c) v x = F x := fun x hx => up_n F v hx
  refine ⟨by rw [n _ (by omega)]; exact h1, by rw [n _ (by omega)]; exact h2, by rw [n _ (by omega)]; exact h3, by rw [n _ (by omega)]; exact h4, fun a ha => by rw [n _ (by omega)]; exact h5 a ha, fun a ha => by rw [n _ (by omega)]; exact h6 a ha, fun a b ha hb => by rw [n _ (by omega)]; exact h7 a b ha hb, fun x hx => ?_⟩
  obtain ⟨g0, g1, g2⟩ := h8 x hx
  refine ⟨?_, ?_, ?_⟩
  · by_cases e : 35 + 3 * x + 0 = 35 + 3 * k + c
    · rw [e, up_s]; omega
    · rw [n _ e]; exact g0
  · by_cases e : 35 + 3 * x + 1 = 35 + 3 * k + c
    · rw [e, up_s]; omega
    · rw [n _ e]; exact g1
  · by_cases e : 35 + 3 * x + 2 = 35 + 3 * k + c
    · rw [e, up_s]; omega
    · rw [n _ e]; exact g2
theorem WF.wed {F : Nat → Int} (h : WF F) (h6 : F 53 < 6) {i j n : Int} (hi : 0 ≤ i ∧ i ≤ 4) (hj : 0 ≤ j ∧ j ≤ 4) (hn : 0 ≤ n ∧ n ≤ 30) : WF (wedS F i j n) := by
  have hr := h.rm
  unfold wedS
  exact (((h.setRp (by omega) (by omega) (by omega)).setRp (by omega) (by omega) (by omega)).setRp (by omega) (by omega) (by omega)).setRm (by omega)
/-- the ropes behind k, one ahead, as far as q -/
def shS (F : Nat → Int) (k : Nat) (q x : Nat) : Int := if 35 + 3 * k ≤ x ∧ x + 3 < 35 + 3 * q then F (x + 3) else F x
def frayF (F : Nat → Int) (k : Nat) : Nat → Int := up (shS F k (F 53).toNat) 53 (F 53 - 1)
theorem shS_wf {F : Nat → Int} (h : WF F) (k q : Nat) (hq : q ≤ 6) : WF (shS F k q) := by
  obtain ⟨h1, h2, h3, h4, h5, h6, h7, h8⟩ := h
  have n : ∀ x : Nat, (x < 35 ∨ 50 ≤ x) → shS F k q x = F x := fun x hx => if_neg (by omega)
  refine ⟨by rw [n _ (by omega)]; exact h1, by rw [n _ (by omega)]; exact h2, by rw [n _ (by omega)]; exact h3, by rw [n _ (by omega)]; exact h4, fun a ha => by rw [n _ (by omega)]; exact h5 a ha, fun a ha => by rw [n _ (by omega)]; exact h6 a ha, fun a b ha hb => by rw [n _ (by omega)]; exact h7 a b ha hb, fun x hx => ?_⟩
  unfold shS
  by_cases e : k ≤ x ∧ x + 1 < q
  · rw [if_pos (by omega), if_pos (by omega), if_pos (by omega), show 35 + 3 * x + 0 + 3 = 35 + 3 * (x + 1) + 0 by omega, show 35 + 3 * x + 1 + 3 = 35 + 3 * (x + 1) + 1 by omega, show 35 + 3 * x + 2 + 3 = 35 + 3 * (x + 1) + 2 by omega]
    exact h8 (x + 1) (by omega)
  · rw [if_neg (by omega), if_neg (by omega), if_neg (by omega)]
    exact h8 x hx
theorem frayF_wf {F : Nat → Int} (h : WF F) (k : Nat) (hk : (k : Int) < F 53) : WF (frayF F k) := by
  have hr := h.rm
  exact (shS_wf h k _ (by omega)).setRm (by omega)
/-! what is best -/
/-- less is better: which, how much -/
def jd (p : Int × Int) (code v : Int) : Int × Int := if v < p.2 then (code, v) else p
def jdA (p : Int × Int) (what : Int) : Int := if p.1 = -4 ∨ what = 0 then p.1 else p.2
theorem jd_1 (p : Int × Int) (code v : Int) : (jd p code v).1 = if v < p.2 then code else p.1 := by unfold jd; split <;> rfl
theorem jd_2 (p : Int × Int) (code v : Int) : (jd p code v).2 = min p.2 v := by unfold jd; split <;> (try dsimp only) <;> omega
def spd (F : Nat → Int) (n : Nat) : Int := spS (daysS F n)
def mtI (F : Nat → Int) (len : Int) (i : Nat) : Nat → Int × Int → Int × Int
  | 0, p => p
  | c + 1, p => jd (mtI F len i c p) (10 * (i : Int) + ((i : Int) + 1 + (c : Int))) (spd (wedS F (i : Int) ((i : Int) + 1 + (c : Int)) len) 30)
def mtO (F : Nat → Int) (len : Int) : Nat → Int × Int
  | 0 => (-4, spd F 30)
  | i + 1 => mtI F len i ((F 76).toNat - (i + 1)) (mtO F len i)
def matchA (F : Nat → Int) (len what : Int) : Int := if ¬ ((1 ≤ len ∧ len ≤ 30) ∧ 0 ≤ what ∧ what ≤ 1) then -1 else if F 53 = 6 then -3 else jdA (mtO F len (F 76).toNat) what
def bmp (F0 F : Nat → Int) : Int := daysS F 30 56 - F0 56
def frO (F : Nat → Int) : Nat → Int × Int
  | 0 => (-4, bmp F F)
  | k + 1 => jd (frO F k) (k : Int) (bmp F (frayF F k))
def frayA (F : Nat → Int) (what : Int) : Int := if ¬ (0 ≤ what ∧ what ≤ 1) then -1 else jdA (frO F (F 53).toNat) what
def soI (F : Nat → Int) (i : Nat) : Nat → Int × Int → Int × Int
  | 0, p => p
  | j + 1, p => if 0 < F (10 + 5 * i + j) then jd (soI F i j p) (10 * (i : Int) + (j : Int)) (spd (up F (10 + 5 * i + j) 0) 30) else soI F i j p
def soO (F : Nat → Int) : Nat → Int × Int
  | 0 => (-4, spd F 30)
  | i + 1 => soI F i (F 76).toNat (soO F i)
def sootheA (F : Nat → Int) (what : Int) : Int := if ¬ (0 ≤ what ∧ what ≤ 1) then -1 else jdA (soO F (F 76).toNat) what
def hoO (F : Nat → Int) (n : Nat) : Nat → Int × Int
  | 0 => (0, 1000000)
  | v + 1 => jd (hoO F n v) (v : Int) (spd (up F 55 (v : Int)) n)
def holyA (F : Nat → Int) (n what : Int) : Int := if ¬ ((0 ≤ n ∧ n ≤ 60) ∧ 0 ≤ what ∧ what ≤ 1) then -1 else if what = 0 then (hoO F n.toNat 7).1 else (hoO F n.toNat 7).2
def kiO (F : Nat → Int) (i n : Nat) : Nat → Int × Int
  | 0 => (0, 1000000)
  | v + 1 => jd (kiO F i n v) (v : Int) (spd (up F (2 * i + 0) (v : Int)) n)
def kindA (F : Nat → Int) (i n what : Int) : Int := if ¬ (okI F i ∧ (0 ≤ n ∧ n ≤ 60) ∧ 0 ≤ what ∧ what ≤ 1) then -1 else if what = 0 then (kiO F i.toNat n.toNat 4).1 else (kiO F i.toNat n.toNat 4).2
def slO (F : Nat → Int) (k n : Nat) (v : Int) : Nat → Int
  | 0 => -4
  | L + 1 => if spd (up F (35 + 3 * k + 2) ((L : Int) + 1)) n ≤ v then (L : Int) + 1 else slO F k n v L
def slackA (F : Nat → Int) (k n v : Int) : Int := if ¬ (okR F k ∧ (0 ≤ n ∧ n ≤ 60) ∧ 0 ≤ v ∧ v ≤ 99) then -1 else slO F k.toNat n.toNat v 30
def daysA (F : Nat → Int) (n : Int) : Int := if ¬ (0 ≤ n ∧ n ≤ 30) then -1 else if F 54 + n > 999 then -3 else daysS F n.toNat 56 - F 56
def daysF (F : Nat → Int) (n : Int) : Nat → Int := if ¬ (0 ≤ n ∧ n ≤ 30) ∨ F 54 + n > 999 then F else daysS F n.toNat
def rlS (F : Nat → Int) : Nat → Int
  | 0 => spS F
  | t + 1 => min (rlS F t) (spd F (t + 1))
def runsA (F : Nat → Int) (n what : Int) : Int := if ¬ ((0 ≤ n ∧ n ≤ 60) ∧ 0 ≤ what ∧ what ≤ 3) then -1 else if what = 0 then spd F n.toNat else if what = 1 then daysS F n.toNat 56 - F 56 else if what = 2 then rlS F n.toNat else movS F (daysS F n.toNat) (F 76).toNat
def aheadA (F : Nat → Int) (i n : Int) : Int := if ¬ (okI F i ∧ 0 ≤ n ∧ n ≤ 60) then -1 else daysS F n.toNat (2 * i.toNat + 1)
def wiS (F : Nat → Int) (v : Int) : Nat → Nat → Int
  | 0, _ => -4
  | f + 1, t => if spd F t ≤ v then (t : Int) else wiS F v f (t + 1)
def withinA (F : Nat → Int) (v : Int) : Int := if ¬ (0 ≤ v ∧ v ≤ 99) then -1 else wiS F v 61 0
theorem spd_in {F : Nat → Int} (h : WF F) (n : Nat) (hn : F 54 + (n : Int) ≤ 100000) : 0 ≤ spd F n ∧ spd F n ≤ 99 := spS_in (daysS_wf h n hn)
theorem rlS_in {F : Nat → Int} (h : WF F) : ∀ n : Nat, F 54 + (n : Int) ≤ 100000 → 0 ≤ rlS F n ∧ rlS F n ≤ 99
  | 0, _ => spS_in h
  | n + 1, hn => by
    have ih := rlS_in h n (by omega)
    have h2 := spd_in h (n + 1) hn
    simp only [rlS]
    omega
/-- the numbers that the outside sees are the same -/
def SameR (S S' : Sta) : Prop := (∀ a : Nat, a ≠ 0 → a ≠ 3 → a ≠ 21 → a ≠ 22 → a ≠ 23 → S' a = S a) ∧ ∀ j : Nat, j ≠ 2 → j ≠ 5 → j ≠ 6 → S' 0 j = S 0 j
def CWx (G : GG) (A : Nat → Nat) (S : Sta) (R : Nat → Option Nat) (H : Heap) : Prop := ∃ S' : Sta, SameR S S' ∧ CW G A S' R H
theorem CW.x {G : GG} {A : Nat → Nat} {S S' : Sta} {R : Nat → Option Nat} {H : Heap} (h : CW G A S' R H) (e1 : ∀ a : Nat, a ≠ 0 → a ≠ 3 → a ≠ 21 → a ≠ 22 → a ≠ 23 → S' a = S a) (e2 : ∀ j : Nat, j ≠ 2 → j ≠ 5 → j ≠ 6 → S' 0 j = S 0 j) : CWx G A S R H := ⟨S', ⟨e1, e2⟩, h⟩
