/-! THE MODEL'S PICTURE: 12 cells B 0 .. B 11: the object, then the arrays in the fields' order; numbers T: row 0 the lone ones by the field's place, row j array j; row 1 is st's first 76 with 1:76 the field isles, rows 12 and 13 the two kept 76s; 4:76 the field dIsles -/
abbrev modF (B : Nat → Nat) (t : Nat → Int) (n dn : Int) : List Value := [.ref (B 1), .ref (B 2), .ref (B 3), .int (iI n), .ref (B 4), .int (iI dn), .int (iI (t 6)), .int (iI (t 7)), .int (iI (t 8)), .ref (B 5), .int (iI (t 10)), .int (iI (t 11)), .int (iI (t 12)), .int (iI (t 13)), .int (iI (t 14)), .int (iI (t 15)), .int (iI (t 16)), .int (iI (t 17)), .int (iI (t 18)), .long (lI (t 19)), .long (lI (t 20)), .long (lI (t 21)), .ref (B 6), .ref (B 7), .ref (B 8), .ref (B 9), .ref (B 10), .int (iI (t 27)), .ref (B 11)]
def stF (T : Sta) (x : Nat) : Int := if x < 76 then T 1 x else if x < 152 then T 12 (x - 76) else T 13 (x - 152)
/-- array j: type, length -/
def mty (j : Nat) : Nat := if j = 3 then 4 else 0
def mln (j : Nat) : Nat := if j = 2 then 76 else if j = 3 then 2 else if j = 4 then 76 else if j = 5 then 160 else if j = 6 then 105 else if j = 7 then 420 else if j = 8 then 4 else if j = 9 then 4 else if j = 10 then 160 else 76
def MW (G : GG) (B : Nat → Nat) (T : Sta) (H : Heap) : Prop :=
  OBJ G 4 (B 0) (modF B (T 0) (T 1 76) (T 4 76)) H ∧ IA G 0 (B 1) 228 (stF T) H ∧ ∀ j : Nat, 2 ≤ j → j < 12 → IA G (mty j) (B j) (mln j) (T j) H
section MWS
variable {G : GG} {B : Nat → Nat} {T T' S' : Sta} {H H1 : Heap} {s0 : State}
theorem MW.eqS (h : MW G B T H) (e : T = S') : MW G B S' H := e ▸ h
theorem MW.obj (h : MW G B T H) : OBJ G 4 (B 0) (modF B (T 0) (T 1 76) (T 4 76)) H := h.1
theorem MW.st (h : MW G B T H) : IA G 0 (B 1) 228 (stF T) H := h.2.1
theorem MW.now (h : MW G B T H) : IA G 0 (B 2) 76 (T 2) H := h.2.2 2 (by omega) (by omega)
theorem MW.isKept (h : MW G B T H) : IA G 4 (B 3) 2 (T 3) H := h.2.2 3 (by omega) (by omega)
theorem MW.draft (h : MW G B T H) : IA G 0 (B 4) 76 (T 4) H := h.2.2 4 (by omega) (by omega)
theorem MW.tape (h : MW G B T H) : IA G 0 (B 5) 160 (T 5) H := h.2.2 5 (by omega) (by omega)
theorem MW.were (h : MW G B T H) : IA G 0 (B 6) 105 (T 6) H := h.2.2 6 (by omega) (by omega)
theorem MW.byKind (h : MW G B T H) : IA G 0 (B 7) 420 (T 7) H := h.2.2 7 (by omega) (by omega)
theorem MW.lanes (h : MW G B T H) : IA G 0 (B 8) 4 (T 8) H := h.2.2 8 (by omega) (by omega)
theorem MW.sizes (h : MW G B T H) : IA G 0 (B 9) 4 (T 9) H := h.2.2 9 (by omega) (by omega)
theorem MW.cells (h : MW G B T H) : IA G 0 (B 10) 160 (T 10) H := h.2.2 10 (by omega) (by omega)
theorem MW.before (h : MW G B T H) : IA G 0 (B 11) 76 (T 11) H := h.2.2 11 (by omega) (by omega)
theorem MW.oq {N : Nat} (hI : Own s0 B N) {c : Nat} (hc : c < N) (oq : ∀ q : Nat, q ≠ B c → H1[q]? = H[q]?) : ∀ k : Nat, k < N → ¬ k = c → H1[B k]? = H[B k]? := fun k hk hne => oq _ (fun e => hne (hI.1 k c hk hc e))
theorem MW.kept (h : MW G B T H) (hq : ∀ k : Nat, k < 12 → H1[B k]? = H[B k]?) : MW G B T H1 :=
  ⟨h.1.kept (hq 0 (by omega)), h.2.1.kept (hq 1 (by omega)), fun j h2 hj => (h.2.2 j h2 hj).kept (hq j hj)⟩
/-- a lone number -/
theorem MW.setO (h : MW G B T H) (hI : Own s0 B 12) {k : Nat} {v : Int} (oq : ∀ q : Nat, q ≠ B 0 → H1[q]? = H[q]?) (ho : OBJ G 4 (B 0) (modF B (up (T 0) k v) (T 1 76) (T 4 76)) H1) : MW G B (up T 0 (up (T 0) k v)) H1 := by
  have hq := MW.oq hI (show 0 < 12 by omega) oq
  refine ⟨ho, ?_, fun j h2 hj => ?_⟩
  · exact h.2.1.kept (hq 1 (by omega) (by omega))
  · rw [up_n _ _ (by omega)]
    exact (h.2.2 j h2 hj).kept (hq j hj (by omega))
/-- how many isles there are -/
theorem MW.setN (h : MW G B T H) (hI : Own s0 B 12) {v : Int} (oq : ∀ q : Nat, q ≠ B 0 → H1[q]? = H[q]?) (ho : OBJ G 4 (B 0) (modF B (T 0) v (T 4 76)) H1) : MW G B (up T 1 (up (T 1) 76 v)) H1 := by
  have hq := MW.oq hI (show 0 < 12 by omega) oq
  refine ⟨ho, ?_, fun j h2 hj => ?_⟩
  · refine (h.2.1.kept (hq 1 (by omega) (by omega))).to (fun x _ => ?_)
    unfold stF
    by_cases h1 : x < 76
    · rw [if_pos h1, if_pos h1, up_s, up_n _ _ (by omega)]
    · rw [if_neg h1, if_neg h1, up_n _ _ (by omega), up_n _ _ (by omega)]
  · rw [up_n _ _ (by omega)]
    exact (h.2.2 j h2 hj).kept (hq j hj (by omega))
theorem MW.setDN (h : MW G B T H) (hI : Own s0 B 12) {v : Int} (oq : ∀ q : Nat, q ≠ B 0 → H1[q]? = H[q]?) (ho : OBJ G 4 (B 0) (modF B (T 0) (T 1 76) v) H1) : MW G B (up T 4 (up (T 4) 76 v)) H1 := by
  have hq := MW.oq hI (show 0 < 12 by omega) oq
  refine ⟨ho, ?_, fun j h2 hj => ?_⟩
  · refine (h.2.1.kept (hq 1 (by omega) (by omega))).to (fun x _ => ?_)
    unfold stF
    rw [up_n _ _ (by omega), up_n _ _ (by omega), up_n _ _ (by omega)]
  · by_cases e : j = 4
    · subst e
      rw [up_s]
      exact ((h.2.2 4 h2 hj).kept (hq 4 hj (by omega))).to (fun x hx => by
        have : x < 76 := hx
        rw [up_n _ _ (by omega)])
    · rw [up_n _ _ e]
      exact (h.2.2 j h2 hj).kept (hq j hj (by omega))
/-- an array, not st -/
theorem MW.setA (h : MW G B T H) (hI : Own s0 B 12) {j : Nat} (h2 : 2 ≤ j) (hj : j < 12) {g : Nat → Int} (h4 : j = 4 → g 76 = T 4 76) (oq : ∀ q : Nat, q ≠ B j → H1[q]? = H[q]?) (ha : IA G (mty j) (B j) (mln j) g H1) : MW G B (up T j g) H1 := by
  have hq := MW.oq hI hj oq
  refine ⟨?_, ?_, fun i hi2 hi => ?_⟩
  · have h0 := h.1.kept (hq 0 (by omega) (by omega))
    rw [up_n _ _ (by omega), up_n _ _ (by omega)]
    by_cases e : j = 4
    · subst e
      rw [up_s, h4 rfl]
      exact h0
    · rw [up_n _ _ (by omega)]
      exact h0
  · refine (h.2.1.kept (hq 1 (by omega) (by omega))).to (fun x _ => ?_)
    unfold stF
    rw [up_n _ _ (by omega), up_n _ _ (by omega), up_n _ _ (by omega)]
  · by_cases e : i = j
    · subst e; rw [up_s]; exact ha
    · rw [up_n _ _ e]
      exact (h.2.2 i hi2 hi).kept (hq i hi e)
/-- st's first part -/
theorem MW.setS (h : MW G B T H) (hI : Own s0 B 12) {k : Nat} (hk : k < 76) {v : Int} (oq : ∀ q : Nat, q ≠ B 1 → H1[q]? = H[q]?) (ha : IA G 0 (B 1) 228 (up (stF T) k v) H1) : MW G B (up T 1 (up (T 1) k v)) H1 := by
  have hq := MW.oq hI (show 1 < 12 by omega) oq
  refine ⟨?_, ?_, fun i hi2 hi => ?_⟩
  · have h0 := h.1.kept (hq 0 (by omega) (by omega))
    rw [up_n _ _ (by omega), up_s, up_n _ _ (by omega), up_n _ _ (by omega)]
    exact h0
  · refine ha.to (fun x _ => ?_)
    by_cases e : x = k
    · subst e
      rw [up_s]
      unfold stF
      rw [if_pos hk, up_s, up_s]
    · rw [up_n _ _ e]
      unfold stF
      by_cases h1 : x < 76
      · rw [if_pos h1, if_pos h1, up_s, up_n _ _ e]
      · rw [if_neg h1, if_neg h1, up_n _ _ (by omega), up_n _ _ (by omega)]
  · rw [up_n _ _ (by omega)]
    exact (h.2.2 i hi2 hi).kept (hq i hi (by omega))
theorem stF_lo (T : Sta) {k : Nat} (h : k < 76) : stF T k = T 1 k := if_pos h
end MWS
