/-! A day looks at the used ropes alone -/
def Ag (F F' : Nat → Int) : Prop := ∀ x : Nat, (x < 35 ∨ 53 ≤ x ∨ x < 35 + 3 * (F 53).toNat) → F x = F' x
theorem Ag.up {F F' : Nat → Int} (h : Ag F F') {k : Nat} (hk : k ≠ 53) (v : Int) : Ag (up F k v) (up F' k v) := by
  intro x hx
  rw [up_n F v (Ne.symm hk)] at hx
  by_cases e : x = k
  · subst e; rw [up_s, up_s]
  · rw [up_n _ _ e, up_n _ _ e]
    exact h x hx
theorem Ag.lo {F F' : Nat → Int} (h : Ag F F') {x : Nat} (hx : x < 35 ∨ 53 ≤ x) : F x = F' x := h x (by omega)
theorem Ag.sulk {F F' : Nat → Int} (h : Ag F F') {i : Nat} (hi : i < 5) : ∀ j : Nat, j ≤ 5 → sulkS F i j = sulkS F' i j
  | 0, _ => rfl
  | j + 1, hj => by
    simp only [sulkS]
    rw [h.sulk hi j (by omega), h.lo (x := 2 * j + 1) (by omega), h.lo (x := 2 * i + 1) (by omega), h.lo (x := 10 + 5 * i + j) (by omega)]
theorem Ag.ap {F F' : Nat → Int} (h : Ag F F') {i j : Nat} (hi : i < 5) (hj : j < 5) : apS F i j = apS F' i j := by
  unfold apS
  rw [h.lo (x := 2 * j + 1) (by omega), h.lo (x := 2 * i + 1) (by omega)]
theorem Ag.near {F F' : Nat → Int} (h : Ag F F') {i : Nat} (hi : i < 5) : ∀ j : Nat, j ≤ 5 → nearS F i j = nearS F' i j
  | 0, _ => rfl
  | j + 1, hj => by
    have ih := h.near hi j (by omega)
    have hb := nearS_in F' i j
    simp only [nearS]
    rw [ih, h.ap hi (show j < 5 by omega)]
    by_cases e : nearS F' i j = -4
    · simp only [e, true_or, and_true]
    · rw [h.ap hi (show (nearS F' i j).toNat < 5 by omega)]
theorem Ag.who {F F' : Nat → Int} (h : Ag F F') (v : Int) : ∀ n i : Nat, i + n ≤ 5 → whoS F v n i = whoS F' v n i
  | 0, _, _ => rfl
  | n + 1, i, hi => by
    simp only [whoS]
    rw [h.who v n (i + 1) (by omega), h.lo (x := 2 * i + 1) (by omega)]
theorem Ag.held {F F' : Nat → Int} (h : Ag F F') (hF : WF F) {i : Nat} (hi : i < 5) (to : Int) : ∀ k : Nat, (k : Int) ≤ F 53 → heldS F i to k = heldS F' i to k
  | 0, _ => rfl
  | k + 1, hk => by
    have hr := hF.rm
    have r0 := hF.r0 k (by omega)
    have r1 := hF.r1 k (by omega)
    have e0 := h (35 + 3 * k + 0) (by omega)
    have e1 := h (35 + 3 * k + 1) (by omega)
    have e2 := h (35 + 3 * k + 2) (by omega)
    have ee : endS F i k = endS F' i k := by unfold endS; rw [e0, e1]
    have eb : endS F i k ≤ 8 := by unfold endS; omega
    have ep := h.lo (x := 2 * endS F i k + 1) (by omega)
    have ei := h.lo (x := 2 * i + 1) (by omega)
    simp only [heldS]
    unfold apS
    rw [h.held hF hi to k (by omega), ← e0, ← e1, ← e2, ← ee, ep, ei]
theorem walkS_ag {i : Nat} (hi : i < 5) (by1 : Int) : ∀ (k : Nat) (F F' : Nat → Int), Ag F F' → WF F → Ag (walkS i by1 k F) (walkS i by1 k F')
  | 0, _, _, h, _ => h
  | k + 1, F, F', h, hF => by
    have hr := hF.rm
    have hn := hF.n
    have ei := h.lo (x := 2 * i + 1) (by omega)
    have e53 := h.lo (x := 53) (by omega)
    have e76 := h.lo (x := 76) (by omega)
    have e56 := h.lo (x := 56) (by omega)
    simp only [walkS]
    rw [← ei, ← e53, ← e76, ← h.held hF hi _ (F 53).toNat (by omega), ← h.who _ (F 76).toNat 0 (by omega), ← e56]
    by_cases c : ¬ (0 ≤ F (2 * i + 1) + by1 ∧ F (2 * i + 1) + by1 ≤ 99) ∨ heldS F i (F (2 * i + 1) + by1) (F 53).toNat = true
    · rw [if_pos c, if_pos c]
      exact h
    · rw [if_neg c, if_neg c]
      by_cases d : whoS F (F (2 * i + 1) + by1) (F 76).toNat 0 ≠ -4
      · rw [if_pos d, if_pos d]
        exact h.up (by omega) _
      · rw [if_neg d, if_neg d]
        exact walkS_ag hi by1 k _ _ (h.up (by omega) _) (hF.move hi (by omega))
theorem drS_ag {F F' : Nat → Int} (h : Ag F F') (hF : WF F) {i : Nat} (hi : i < 5) : Ag (drS F i) (drS F' i) := by
  have hn := hF.n
  have e76 := h.lo (x := 76) (by omega)
  unfold drS
  rw [← e76, ← h.sulk hi (F 76).toNat (by omega), ← h.lo (x := 2 * i + 0) (by omega)]
  exact walkS_ag hi _ _ _ _ h hF
theorem comeS_ag {F F' : Nat → Int} (h : Ag F F') (hF : WF F) {i : Nat} (hi : i < 5) : Ag (comeS F i) (comeS F' i) := by
  have hn := hF.n
  have hr := hF.rm
  have e76 := h.lo (x := 76) (by omega)
  have e53 := h.lo (x := 53) (by omega)
  have ei := h.lo (x := 2 * i + 1) (by omega)
  have en := h.near hi (F 76).toNat (by omega)
  have hb := nearS_in F i (F 76).toNat
  have et : feastTo F i = feastTo F' i := by
    unfold feastTo
    rw [← e76, ← en, ← ei]
    by_cases c : nearS F i (F 76).toNat = -4
    · rw [c, h.lo (x := 2 * (-4 : Int).toNat + 1) (by decide)]
    · rw [h.lo (x := 2 * (nearS F i (F 76).toNat).toNat + 1) (by omega)]
  unfold comeS
  rw [← e76, ← en, ← et, ← e53, ← h.held hF hi _ (F 53).toNat (by omega), ← ei]
  by_cases c : nearS F i (F 76).toNat = -4
  · rw [if_pos (Or.inl c), if_pos (Or.inl c)]
    exact h
  · rw [← h.ap hi (show (nearS F i (F 76).toNat).toNat < 5 by omega)]
    by_cases d : nearS F i (F 76).toNat = -4 ∨ apS F i (nearS F i (F 76).toNat).toNat ≤ 1
    · rw [if_pos d, if_pos d]; exact h
    · rw [if_neg d, if_neg d]
      by_cases g : heldS F i (feastTo F i) (F 53).toNat = true
      · rw [if_pos g, if_pos g]; exact h.up (by omega) _
      · rw [if_neg g, if_neg g]; exact h.up (by omega) _
theorem goS_ag {F F' : Nat → Int} (h : Ag F F') (hF : WF F) : ∀ i : Nat, i ≤ 5 → Ag (goS F i) (goS F' i) ∧ WF (goS F i)
  | 0, _ => ⟨h, hF⟩
  | i + 1, hi => by
    have ih := goS_ag h hF i (by omega)
    simp only [goS]
    rw [← h.lo (x := 54) (by omega), ← h.lo (x := 55) (by omega)]
    by_cases c : F 54 % 7 = F 55
    · rw [if_pos c, if_pos c]
      exact ⟨comeS_ag ih.1 ih.2 (by omega), comeS_wf ih.2 (by omega)⟩
    · rw [if_neg c, if_neg c]
      exact ⟨drS_ag ih.1 ih.2 (by omega), drS_wf ih.2 (by omega)⟩
theorem dayS_ag {F F' : Nat → Int} (h : Ag F F') (hF : WF F) : Ag (dayS F) (dayS F') := by
  have hn := hF.n
  have hg := (goS_ag h hF (F 76).toNat (by omega)).1
  unfold dayS
  rw [← h.lo (x := 76) (by omega), ← hg.lo (x := 54) (by omega)]
  exact hg.up (by omega) _
theorem daysS_ag {F F' : Nat → Int} (h : Ag F F') (hF : WF F) : ∀ k : Nat, F 54 + (k : Int) ≤ 100000 → Ag (daysS F k) (daysS F' k)
  | 0, _ => h
  | k + 1, hk => by
    simp only [daysS]
    exact dayS_ag (daysS_ag h hF k (by omega)) (daysS_wf hF k (by omega))
/-- the model's shift: all that lies behind -/
def msS (F : Nat → Int) (k x : Nat) : Int := if 35 + 3 * k ≤ x ∧ x < 50 then F (x + 3) else F x
def mfF (F : Nat → Int) (k : Nat) : Nat → Int := up (msS F k) 53 (F 53 - 1)
theorem mf_ag {F : Nat → Int} (hF : WF F) {k : Nat} (hk : (k : Int) < F 53) : Ag (frayF F k) (mfF F k) := by
  have hr := hF.rm
  intro x hx
  unfold frayF mfF at *
  rw [up_s] at hx
  by_cases e : x = 53
  · subst e; rw [up_s, up_s]
  · rw [up_n _ _ e, up_n _ _ e]
    unfold shS msS
    by_cases c : 35 + 3 * k ≤ x ∧ x + 3 < 35 + 3 * (F 53).toNat
    · rw [if_pos c, if_pos (by omega)]
    · rw [if_neg c, if_neg (by omega)]
theorem bmp_mf {F : Nat → Int} (hF : WF F) {k : Nat} (hk : (k : Int) < F 53) (hd : F 54 ≤ 2000) : daysS (mfF F k) 30 56 - F 56 = bmp F (frayF F k) := by
  have h1 := daysS_ag (mf_ag hF hk) (frayF_wf hF k hk) 30 (by rw [frayF_same hF k (by omega) (by omega)]; omega)
  unfold bmp
  rw [h1.lo (x := 56) (by omega)]
