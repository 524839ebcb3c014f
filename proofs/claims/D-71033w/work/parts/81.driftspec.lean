/-! THE MODEL: the drift, what is kept -/
theorem dfC_d {F : Nat → Int} (hF : WF F) (hD : Dia F) (hn : F 76 ≠ 0) {z : Int} (h : (z % F 76).toNat = (z / 8 % F 76).toNat) : dfC F z = F := by
  have hn2 := hF.n
  have h1 := md_in (z := z) (m := F 76) (by omega)
  unfold dfC
  rw [if_pos h, ← h]
  have e := hD (z % F 76).toNat (by omega)
  exact (congrArg (up F (10 + 5 * (z % F 76).toNat + (z % F 76).toNat)) e.symm).trans (up_id F _)
theorem dfC_dia {F : Nat → Int} (hF : WF F) (hD : Dia F) (hn : F 76 ≠ 0) (z : Int) : Dia (dfC F z) := fun a ha => by
  have hn2 := hF.n
  have h1 := md_in (z := z) (m := F 76) (by omega)
  have h2 := md_in (z := z / 8) (m := F 76) (by omega)
  by_cases h : (z % F 76).toNat = (z / 8 % F 76).toNat
  · rw [dfC_d hF hD hn h]; exact hD a ha
  · unfold dfC
    rw [up_n _ _ (by omega)]; exact hD a ha
theorem dfS_dia {F : Nat → Int} (h : WF F) (hD : Dia F) (hn : F 76 ≠ 0) (x : Int32) : ∀ t : Nat, F 54 + (t : Int) ≤ 100000 → Dia (dfS F x t)
  | 0, _ => hD
  | t + 1, ht => by
    obtain ⟨i1, i2, i3, i4, i5⟩ := dfS_wf h hn x t (by omega)
    have ih := dfS_dia h hD hn x t (by omega)
    have hz := rdN_in (sdN x (t + 1))
    simp only [dfS]
    exact (dfC_dia i1 ih (by rw [i3]; exact hn) _).day (dfC_wf i1 (by rw [i3]; exact hn) hz.1)
theorem dfC_m {G : Nat → Int} {n z i j : Int} (e : G 76 = n) (ei : z % n = i) (ej : z / 8 % n = j) (h : ¬ i.toNat = j.toNat) : up G (10 + 5 * i.toNat + j.toNat) (z / 64 % 4) = dfC G z := by
  subst ei ej
  unfold dfC
  rw [e, if_neg h]
theorem stF_0 (T : Sta) {k : Nat} (h : k < 76) : stF T (0 + k) = T 1 k := by rw [Nat.zero_add]; exact if_pos h
theorem stF_1 (T : Sta) {k : Nat} (h : k < 76) : stF T (76 + k) = T 12 k := by
  unfold stF
  rw [if_neg (by omega), if_pos (by omega), show 76 + k - 76 = k by omega]
theorem stF_2 (T : Sta) {k : Nat} (h : k < 76) : stF T (152 + k) = T 13 k := by
  unfold stF
  rw [if_neg (by omega), if_neg (by omega), show 152 + k - 152 = k by omega]
section MWK
variable {G : GG} {B : Nat → Nat} {T T' S' : Sta} {H H1 : Heap} {s0 : State}
theorem MW.setK1 (h : MW G B T H) (hI : Own s0 B 12) {k : Nat} (hk : k < 76) {v : Int} (oq : ∀ q : Nat, q ≠ B 1 → H1[q]? = H[q]?) (ha : IA G 0 (B 1) 228 (up (stF T) (76 + k) v) H1) : MW G B (up T 12 (up (T 12) k v)) H1 := by
  have hq := MW.oq hI (show 1 < 12 by omega) oq
  refine ⟨?_, ?_, fun i hi2 hi => ?_⟩
  · have h0 := h.1.kept (hq 0 (by omega) (by omega))
    rw [up_n _ _ (by omega), up_n _ _ (by omega), up_n _ _ (by omega)]
    exact h0
  · refine ha.to (fun x _ => ?_)
    by_cases e : x = 76 + k
    · subst e
      rw [up_s, stF_1 _ hk, up_s, up_s]
    · rw [up_n _ _ e]
      unfold stF
      by_cases h1 : x < 76
      · rw [if_pos h1, if_pos h1, up_n _ _ (by omega)]
      · rw [if_neg h1, if_neg h1, up_s, up_n _ _ (by omega : (13 : Nat) ≠ 12)]
        by_cases h2 : x < 152
        · rw [if_pos h2, if_pos h2, up_n _ _ (by omega)]
        · rw [if_neg h2, if_neg h2]
  · rw [up_n _ _ (by omega)]
    exact (h.2.2 i hi2 hi).kept (hq i hi (by omega))
theorem MW.setK2 (h : MW G B T H) (hI : Own s0 B 12) {k : Nat} (hk : k < 76) {v : Int} (oq : ∀ q : Nat, q ≠ B 1 → H1[q]? = H[q]?) (ha : IA G 0 (B 1) 228 (up (stF T) (152 + k) v) H1) : MW G B (up T 13 (up (T 13) k v)) H1 := by
  have hq := MW.oq hI (show 1 < 12 by omega) oq
  refine ⟨?_, ?_, fun i hi2 hi => ?_⟩
  · have h0 := h.1.kept (hq 0 (by omega) (by omega))
    rw [up_n _ _ (by omega), up_n _ _ (by omega), up_n _ _ (by omega)]
    exact h0
  · refine ha.to (fun x hx => ?_)
    by_cases e : x = 152 + k
    · subst e
      rw [up_s, stF_2 _ hk, up_s, up_s]
    · rw [up_n _ _ e]
      unfold stF
      by_cases h1 : x < 76
      · rw [if_pos h1, if_pos h1, up_n _ _ (by omega)]
      · rw [if_neg h1, if_neg h1, up_s, up_n _ _ (by omega : (12 : Nat) ≠ 13)]
        by_cases h2 : x < 152
        · rw [if_pos h2, if_pos h2]
        · rw [if_neg h2, if_neg h2, up_n _ _ (by omega)]
  · rw [up_n _ _ (by omega)]
    exact (h.2.2 i hi2 hi).kept (hq i hi (by omega))
end MWK
def mkeepA (T : Sta) (i : Int) : Int := if ¬ (0 ≤ i ∧ i ≤ 1) then -1 else if i = 0 then T 3 0 else T 3 1
def mkeepT (T : Sta) (i : Int) : Sta := if ¬ (0 ≤ i ∧ i ≤ 1) then T else if i = 0 then up (up T 3 (up (T 3) 0 1)) 12 (cpS (T 1) (T 12) 76) else up (up T 3 (up (T 3) 1 1)) 13 (cpS (T 1) (T 13) 76)
def mbackA (T : Sta) (i : Int) : Int := if ¬ (0 ≤ i ∧ i ≤ 1) then -1 else if i = 0 then (if T 3 0 = 0 then -2 else T 12 54) else (if T 3 1 = 0 then -2 else T 13 54)
def mbackT (T : Sta) (i : Int) : Sta := if ¬ (0 ≤ i ∧ i ≤ 1) then T else if i = 0 then (if T 3 0 = 0 then T else up T 1 (cpS (T 12) (T 1) 76)) else (if T 3 1 = 0 then T else up T 1 (cpS (T 13) (T 1) 76))
