/-! THE MODEL: sulks read from a sheet -/
theorem sulkF_wf {F : Nat → Int} (h : WF F) (i j v : Int) : WF (sulkF F i j v) := by
  have hn := h.n
  unfold sulkF
  by_cases q : ok2 F i j ∧ 0 ≤ v ∧ v ≤ 3
  · rw [if_pos q]
    have h1 : (0 ≤ i ∧ i ≤ F 76 - 1) ∧ (0 ≤ j ∧ j ≤ F 76 - 1) ∧ i ≠ j := q.1
    exact h.setC (by omega) (by omega) q.2
  · rw [if_neg q]
    exact h
theorem sulkF_same {F : Nat → Int} (h : WF F) (i j v : Int) {x : Nat} (hx : x < 10 ∨ 35 ≤ x) : sulkF F i j v x = F x := by
  have hn := h.n
  unfold sulkF
  by_cases q : ok2 F i j ∧ 0 ≤ v ∧ v ≤ 3
  · rw [if_pos q]
    have h1 : (0 ≤ i ∧ i ≤ F 76 - 1) ∧ (0 ≤ j ∧ j ≤ F 76 - 1) ∧ i ≠ j := q.1
    exact up_n _ _ (by omega)
  · rw [if_neg q]
/-- why a record can't be read: the first a numbers of record i -/
def rs1 (ln sz lane f : Int) (i a : Nat) : Int := if ln = -4 then 1 else if ln ≠ lane then 3 else if f + 3 * (i : Int) + (a : Int) < 0 ∨ sz ≤ f + 3 * (i : Int) + (a : Int) then 2 else 0
def rsC (ln sz lane f : Int) (i : Nat) : Nat → Int
  | 0 => 0
  | a + 1 => if rsC ln sz lane f i a = 0 then rs1 ln sz lane f i a else rsC ln sz lane f i a
theorem rs1_in (ln sz lane f : Int) (i a : Nat) : 0 ≤ rs1 ln sz lane f i a ∧ rs1 ln sz lane f i a ≤ 3 := by
  unfold rs1
  (repeat' split) <;> omega
theorem rsC_in (ln sz lane f : Int) (i : Nat) : ∀ a : Nat, 0 ≤ rsC ln sz lane f i a ∧ rsC ln sz lane f i a ≤ 3
  | 0 => by simp [rsC]
  | a + 1 => by
    have h1 := rs1_in ln sz lane f i a
    have ih := rsC_in ln sz lane f i a
    simp only [rsC]
    split <;> omega
theorem rsC_st {ln sz lane f : Int} {i a : Nat} (h : rsC ln sz lane f i a ≠ 0) : ∀ b : Nat, rsC ln sz lane f i (a + b) = rsC ln sz lane f i a
  | 0 => rfl
  | b + 1 => by
    have ih := rsC_st h b
    show rsC ln sz lane f i ((a + b) + 1) = _
    simp only [rsC]
    rw [if_neg (by omega), ih]
/-- the first i records are read -/
def rdF (C F : Nat → Int) (p0 : Nat) : Nat → (Nat → Int)
  | 0 => F
  | i + 1 => sulkF (rdF C F p0 i) (C (p0 + 3 * i)) (C (p0 + 3 * i + 1)) (C (p0 + 3 * i + 2))
def rdN1 (C F : Nat → Int) (p0 i : Nat) : Int := sulkA (rdF C F p0 i) (C (p0 + 3 * i)) (C (p0 + 3 * i + 1)) (C (p0 + 3 * i + 2))
theorem rdF_wf {C F : Nat → Int} (h : WF F) (p0 : Nat) : ∀ i : Nat, WF (rdF C F p0 i) ∧ ∀ x : Nat, (x < 10 ∨ 35 ≤ x) → rdF C F p0 i x = F x
  | 0 => ⟨h, fun _ _ => rfl⟩
  | i + 1 => by
    have ih := rdF_wf h p0 i (C := C)
    exact ⟨sulkF_wf ih.1 _ _ _, fun x hx => (sulkF_same ih.1 _ _ _ hx).trans (ih.2 x hx)⟩
/-- how many are read; why it ends: 0 all, -1 refused -/
def rdE (C F : Nat → Int) (p0 : Nat) (ln sz lane f : Int) : Nat → Nat → Nat × Int
  | 0, i => (i, 0)
  | k + 1, i => if rsC ln sz lane f i 3 ≠ 0 then (i, rsC ln sz lane f i 3) else if rdN1 C F p0 i < 0 then (i, -1) else rdE C F p0 ln sz lane f k (i + 1)
abbrev rdM (T : Sta) (k lane f n : Int) : Nat × Int := rdE (T 10) (T 1) (40 * k.toNat + f.toNat) (T 8 k.toNat) (T 9 k.toNat) lane f n.toNat 0
def mreadA (T : Sta) (k lane f n : Int) : Int := if ¬ (okSh k lane ∧ 0 ≤ n ∧ n ≤ 13) then -1 else if (rdM T k lane f n).2 = -1 then -20 - ((rdM T k lane f n).1 : Int) else ((rdM T k lane f n).1 : Int)
def mreadT (T : Sta) (k lane f n : Int) : Sta := if ¬ (okSh k lane ∧ 0 ≤ n ∧ n ≤ 13) ∨ (rdM T k lane f n).2 = -1 then T else up (up T 0 (up (T 0) 27 (rdM T k lane f n).2)) 1 (rdF (T 10) (T 1) (40 * k.toNat + f.toNat) (rdM T k lane f n).1)
/-- where reading is -/
def RdSt (C F : Nat → Int) (p0 : Nat) (ln sz lane f : Int) (n i : Nat) (rs wh : Int) (F1 : Nat → Int) : Prop :=
  (rs = 0 ∧ wh = (i : Int) ∧ F1 = rdF C F p0 i ∧ rdE C F p0 ln sz lane f n 0 = rdE C F p0 ln sz lane f (n - i) i) ∨
  (0 < rs ∧ ∃ j : Nat, j < n ∧ wh = (j : Int) ∧ F1 = rdF C F p0 j ∧ rdE C F p0 ln sz lane f n 0 = (j, rs))
theorem RdSt.z (C F : Nat → Int) (p0 : Nat) (ln sz lane f : Int) (n : Nat) : RdSt C F p0 ln sz lane f n 0 0 0 F := Or.inl ⟨rfl, rfl, rfl, rfl⟩
section RD
variable {C F F1 : Nat → Int} {p0 : Nat} {ln sz lane f : Int} {n i : Nat} {rs wh : Int}
theorem RdSt.at0 (h : RdSt C F p0 ln sz lane f n i 0 wh F1) : wh = (i : Int) ∧ F1 = rdF C F p0 i ∧ rdE C F p0 ln sz lane f n 0 = rdE C F p0 ln sz lane f (n - i) i := by
  rcases h with h | ⟨h, _⟩
  · exact h.2
  · omega
theorem RdSt.stop (h : RdSt C F p0 ln sz lane f n i 0 wh F1) (hi : i < n) {a : Nat} (ha : a ≤ 3) (hr : rsC ln sz lane f i a ≠ 0) : RdSt C F p0 ln sz lane f n (i + 1) (rsC ln sz lane f i a) wh F1 := by
  obtain ⟨h1, h2, h3⟩ := h.at0
  have hb := rsC_in ln sz lane f i a
  have e : rsC ln sz lane f i 3 = rsC ln sz lane f i a := by
    have := rsC_st hr (3 - a)
    rw [show a + (3 - a) = 3 by omega] at this
    exact this
  refine Or.inr ⟨by omega, i, hi, h1, h2, ?_⟩
  rw [h3, show n - i = (n - i - 1) + 1 by omega]
  simp only [rdE]
  rw [if_pos (by omega), e]
theorem RdSt.go (h : RdSt C F p0 ln sz lane f n i 0 wh F1) (hi : i < n) (hr : rsC ln sz lane f i 3 = 0) (hs : 0 ≤ rdN1 C F p0 i) : RdSt C F p0 ln sz lane f n (i + 1) 0 (wh + 1) (sulkF F1 (C (p0 + 3 * i)) (C (p0 + 3 * i + 1)) (C (p0 + 3 * i + 2))) := by
  obtain ⟨h1, h2, h3⟩ := h.at0
  refine Or.inl ⟨rfl, by omega, ?_, ?_⟩
  · rw [h2]; rfl
  · rw [h3, show n - i = (n - (i + 1)) + 1 by omega]
    simp only [rdE]
    rw [if_neg (by omega), if_neg (by omega)]
theorem RdSt.no (h : RdSt C F p0 ln sz lane f n i 0 wh F1) (hi : i < n) (hr : rsC ln sz lane f i 3 = 0) (hs : rdN1 C F p0 i < 0) : rdE C F p0 ln sz lane f n 0 = (i, -1) := by
  obtain ⟨h1, h2, h3⟩ := h.at0
  rw [h3, show n - i = (n - (i + 1)) + 1 by omega]
  simp only [rdE]
  rw [if_neg (by omega), if_pos hs]
theorem RdSt.fin (h : RdSt C F p0 ln sz lane f n i rs wh F1) (hi : n ≤ i ∨ rs ≠ 0) (hn : i ≤ n) : ∃ j : Nat, wh = (j : Int) ∧ F1 = rdF C F p0 j ∧ rdE C F p0 ln sz lane f n 0 = (j, rs) ∧ 0 ≤ rs := by
  rcases h with ⟨h1, h2, h3, h4⟩ | ⟨h1, j, _, h2, h3, h4⟩
  · refine ⟨i, h2, h3, ?_, by omega⟩
    rw [h4, show n - i = 0 by omega, h1]
    rfl
  · exact ⟨j, h2, h3, h4, by omega⟩
end RD
theorem kp_eq {A B F1 : Nat → Int} (h : F1 76 = A 76) : ∀ x : Nat, x < 77 → cpS (cpS A B 76) F1 76 x = A x := fun x hx => by
  unfold cpS
  by_cases q : x < 76
  · rw [if_pos q, if_pos q]
  · rw [if_neg q, show x = 76 by omega]
    exact h
theorem upc (T : Sta) (g A : Nat → Int) : up (up T 1 g) 11 A = up (up T 11 A) 1 g := by
  funext a
  by_cases h1 : a = 1
  · subst h1; rfl
  · by_cases h2 : a = 11
    · subst h2; rfl
    · simp only [up, if_neg h1, if_neg h2]
theorem MW.back1 {G : GG} {B : Nat → Nat} {T : Sta} {H : Heap} {g A : Nat → Int} (h : MW G B (up (up T 1 g) 11 A) H) (e : ∀ x : Nat, x < 77 → g x = T 1 x) : MWx G B T H := by
  have h2 := (h.eqS (upc T g A)).re1 (f := T 1) e
  exact h2.x (fun a h0 h2 h6 h7 h11 => by
    by_cases q : a = 1
    · subst q; rfl
    · simp only [up, if_neg q, if_neg h11]) (fun j h1 h2 h3 h4 h5 => rfl)
theorem rd_62 (T : Sta) (A : Nat → Int) : up T 11 A = up (up T 1 (T 1)) 11 A := by rw [show up T 1 (T 1) = T from up_id T 1]
theorem rsC_ok {ln sz lane f : Int} {i : Nat} (h : rsC ln sz lane f i 3 = 0) : ln ≠ -4 ∧ ln = lane ∧ 0 ≤ f + 3 * (i : Int) ∧ f + 3 * (i : Int) + 2 < sz := by
  have h2 : rsC ln sz lane f i 2 = 0 := Decidable.byContradiction fun q => by have e : rsC ln sz lane f i 3 = rsC ln sz lane f i 2 := rsC_st q 1; omega
  have h1 : rsC ln sz lane f i 1 = 0 := Decidable.byContradiction fun q => by have e : rsC ln sz lane f i 3 = rsC ln sz lane f i 1 := rsC_st q 2; omega
  have e0 : rs1 ln sz lane f i 0 = 0 := by
    have : rsC ln sz lane f i 1 = rs1 ln sz lane f i 0 := if_pos rfl
    omega
  have e2 : rs1 ln sz lane f i 2 = 0 := by
    have : rsC ln sz lane f i 3 = rs1 ln sz lane f i 2 := if_pos h2
    omega
  unfold rs1 at e0 e2
  by_cases q1 : ln = -4
  · rw [if_pos q1] at e0; omega
  · by_cases q2 : ln = lane
    · rw [if_neg q1, if_neg (by omega)] at e0 e2
      refine ⟨q1, q2, ?_, ?_⟩
      · by_cases q3 : f + 3 * (i : Int) + ((0 : Nat) : Int) < 0 ∨ sz ≤ f + 3 * (i : Int) + ((0 : Nat) : Int)
        · rw [if_pos q3] at e0; omega
        · omega
      · by_cases q3 : f + 3 * (i : Int) + ((2 : Nat) : Int) < 0 ∨ sz ≤ f + 3 * (i : Int) + ((2 : Nat) : Int)
        · rw [if_pos q3] at e2; omega
        · omega
    · rw [if_neg q1, if_pos q2] at e0; omega
theorem RdSt.go2 {C F F1 : Nat → Int} {p0 : Nat} {ln sz lane f : Int} {n i : Nat} {wh : Int} (h : RdSt C F p0 ln sz lane f n i 0 wh F1) (hi : i < n) (hr : rsC ln sz lane f i 3 = 0) (hs : 0 ≤ rdN1 C F p0 i) : RdSt C F p0 ln sz lane f n (i + 1) (rsC ln sz lane f i 3) (wh + 1) (sulkF F1 (C (p0 + 3 * i)) (C (p0 + 3 * i + 1)) (C (p0 + 3 * i + 2))) := by
  rw [hr]
  exact h.go hi hr hs
theorem sulkA_in {F : Nat → Int} (h : WF F) (i j v : Int) : -1 ≤ sulkA F i j v ∧ sulkA F i j v ≤ 3 := by
  have hn := h.n
  unfold sulkA
  by_cases q : ok2 F i j ∧ 0 ≤ v ∧ v ≤ 3
  · rw [if_pos q]
    have h1 : (0 ≤ i ∧ i ≤ F 76 - 1) ∧ (0 ≤ j ∧ j ≤ F 76 - 1) ∧ i ≠ j := q.1
    have := h.cr i.toNat j.toNat (by omega) (by omega)
    omega
  · rw [if_neg q]
    omega
