/-! THE FIRTH'S PICTURE: 20 cells ad 0 .. ad 19 hold the numbers F (0..9 isles by twos, 10..34 crosses by fives, 35..52 ropes by threes, 53 how many ropes, 54 the day, 55 the feast, 56 bumps, 76 how many isles) -/
def FW (G : GG) (ad : Nat → Nat) (F : Nat → Int) (H : Heap) : Prop :=
  OBJ G 1 (ad 0) [.ref (ad 1), .ref (ad 7), .ref (ad 13), .int (iI (F 76)), .int (iI (F 53)), .int (iI (F 55)), .int (iI (F 54)), .int (iI (F 56))] H ∧
  QA G 1 (ad 1) 5 (fun i => some (ad (2 + i))) H ∧ (∀ i : Nat, i < 5 → IA G 0 (ad (2 + i)) 2 (fun j => F (2 * i + j)) H) ∧
  QA G 1 (ad 7) 5 (fun i => some (ad (8 + i))) H ∧ (∀ i : Nat, i < 5 → IA G 0 (ad (8 + i)) 5 (fun j => F (10 + 5 * i + j)) H) ∧
  QA G 1 (ad 13) 6 (fun i => some (ad (14 + i))) H ∧ (∀ i : Nat, i < 6 → IA G 0 (ad (14 + i)) 3 (fun j => F (35 + 3 * i + j)) H)
theorem FW.kept {G : GG} {ad : Nat → Nat} {F : Nat → Int} {H H1 : Heap} (h : FW G ad F H) (hq : ∀ k : Nat, k < 20 → H1[ad k]? = H[ad k]?) : FW G ad F H1 := by
  obtain ⟨h1, h2, h3, h4, h5, h6, h7⟩ := h
  exact ⟨h1.kept (hq 0 (by omega)), h2.kept (hq 1 (by omega)), fun i hi => (h3 i hi).kept (hq _ (by omega)), h4.kept (hq 7 (by omega)), fun i hi => (h5 i hi).kept (hq _ (by omega)), h6.kept (hq 13 (by omega)), fun i hi => (h7 i hi).kept (hq _ (by omega))⟩
theorem FW.lt {G : GG} {ad : Nat → Nat} {F : Nat → Int} {H : Heap} (h : FW G ad F H) : ∀ k : Nat, k < 20 → ad k < H.size := by
  obtain ⟨h1, h2, h3, h4, h5, h6, h7⟩ := h
  intro k hk
  by_cases e0 : k = 0
  · subst e0; exact h1.lt
  by_cases e1 : k = 1
  · subst e1; exact h2.lt
  by_cases e2 : k < 7
  · have := (h3 (k - 2) (by omega)).lt
    rwa [show 2 + (k - 2) = k by omega] at this
  by_cases e3 : k = 7
  · subst e3; exact h4.lt
  by_cases e4 : k < 13
  · have := (h5 (k - 8) (by omega)).lt
    rwa [show 8 + (k - 8) = k by omega] at this
  by_cases e5 : k = 13
  · subst e5; exact h6.lt
  · have := (h7 (k - 14) (by omega)).lt
    rwa [show 14 + (k - 14) = k by omega] at this
theorem FW.to {G : GG} {ad : Nat → Nat} {F F' : Nat → Int} {H : Heap} (h : FW G ad F H) (e : ∀ k : Nat, k < 57 ∨ k = 76 → F k = F' k) : FW G ad F' H := by
  obtain ⟨h1, h2, h3, h4, h5, h6, h7⟩ := h
  refine ⟨?_, h2, fun i hi => (h3 i hi).to (fun j hj => e _ (by omega)), h4, fun i hi => (h5 i hi).to (fun j hj => e _ (by omega)), h6, fun i hi => (h7 i hi).to (fun j hj => e _ (by omega))⟩
  rw [← e 76 (by omega), ← e 53 (by omega), ← e 54 (by omega), ← e 55 (by omega), ← e 56 (by omega)]
  exact h1
section FWS
variable {G : GG} {ad : Nat → Nat} {F : Nat → Int} {H H1 : Heap} {s0 : State}
theorem FW.oq (hI : Own s0 ad 20) {c : Nat} (hc : c < 20) (oq : ∀ q : Nat, q ≠ ad c → H1[q]? = H[q]?) : ∀ k : Nat, k < 20 → k ≠ c → H1[ad k]? = H[ad k]? := fun k hk hne => oq _ (fun e => hne (hI.1 k c hk hc e))
theorem FW.setI (h : FW G ad F H) (hI : Own s0 ad 20) {i c : Nat} (hi : i < 5) (hc : c < 2) {v : Int} (oq : ∀ q : Nat, q ≠ ad (2 + i) → H1[q]? = H[q]?) (ha : IA G 0 (ad (2 + i)) 2 (up (fun j => F (2 * i + j)) c v) H1) : FW G ad (up F (2 * i + c) v) H1 := by
  have o := FW.oq hI (c := 2 + i) (by omega) oq
  obtain ⟨h1, h2, h3, h4, h5, h6, h7⟩ := h
  have n : ∀ k : Nat, k ≠ 2 * i + c → up F (2 * i + c) v k = F k := fun k hk => up_n F v hk
  refine ⟨?_, h2.kept (o 1 (by omega) (by omega)), fun x hx => ?_, h4.kept (o 7 (by omega) (by omega)), fun x hx => ((h5 x hx).kept (o _ (by omega) (by omega))).to (fun j hj => (n _ (by omega)).symm), h6.kept (o 13 (by omega) (by omega)), fun x hx => ((h7 x hx).kept (o _ (by omega) (by omega))).to (fun j hj => (n _ (by omega)).symm)⟩
  · rw [n 76 (by omega), n 53 (by omega), n 54 (by omega), n 55 (by omega), n 56 (by omega)]
    exact h1.kept (o 0 (by omega) (by omega))
  · by_cases e : x = i
    · subst e
      refine ha.to (fun j hj => ?_)
      by_cases e2 : j = c
      · subst e2; rw [up_s, up_s]
      · rw [up_n _ _ e2, n _ (by omega)]
    · exact ((h3 x hx).kept (o _ (by omega) (by omega))).to (fun j hj => (n _ (by omega)).symm)
theorem FW.setC (h : FW G ad F H) (hI : Own s0 ad 20) {i c : Nat} (hi : i < 5) (hc : c < 5) {v : Int} (oq : ∀ q : Nat, q ≠ ad (8 + i) → H1[q]? = H[q]?) (ha : IA G 0 (ad (8 + i)) 5 (up (fun j => F (10 + 5 * i + j)) c v) H1) : FW G ad (up F (10 + 5 * i + c) v) H1 := by
  have o := FW.oq hI (c := 8 + i) (by omega) oq
  obtain ⟨h1, h2, h3, h4, h5, h6, h7⟩ := h
  have n : ∀ k : Nat, k ≠ 10 + 5 * i + c → up F (10 + 5 * i + c) v k = F k := fun k hk => up_n F v hk
  refine ⟨?_, h2.kept (o 1 (by omega) (by omega)), fun x hx => ((h3 x hx).kept (o _ (by omega) (by omega))).to (fun j hj => (n _ (by omega)).symm), h4.kept (o 7 (by omega) (by omega)), fun x hx => ?_, h6.kept (o 13 (by omega) (by omega)), fun x hx => ((h7 x hx).kept (o _ (by omega) (by omega))).to (fun j hj => (n _ (by omega)).symm)⟩
  · rw [n 76 (by omega), n 53 (by omega), n 54 (by omega), n 55 (by omega), n 56 (by omega)]
    exact h1.kept (o 0 (by omega) (by omega))
  · by_cases e : x = i
    · subst e
      refine ha.to (fun j hj => ?_)
      by_cases e2 : j = c
      · subst e2; rw [up_s, up_s]
      · rw [up_n _ _ e2, n _ (by omega)]
    · exact ((h5 x hx).kept (o _ (by omega) (by omega))).to (fun j hj => (n _ (by omega)).symm)
theorem FW.setR (h : FW G ad F H) (hI : Own s0 ad 20) {i c : Nat} (hi : i < 6) (hc : c < 3) {v : Int} (oq : ∀ q : Nat, q ≠ ad (14 + i) → H1[q]? = H[q]?) (ha : IA G 0 (ad (14 + i)) 3 (up (fun j => F (35 + 3 * i + j)) c v) H1) : FW G ad (up F (35 + 3 * i + c) v) H1 := by
  have o := FW.oq hI (c := 14 + i) (by omega) oq
  obtain ⟨h1, h2, h3, h4, h5, h6, h7⟩ := h
  have n : ∀ k : Nat, k ≠ 35 + 3 * i + c → up F (35 + 3 * i + c) v k = F k := fun k hk => up_n F v hk
  refine ⟨?_, h2.kept (o 1 (by omega) (by omega)), fun x hx => ((h3 x hx).kept (o _ (by omega) (by omega))).to (fun j hj => (n _ (by omega)).symm), h4.kept (o 7 (by omega) (by omega)), fun x hx => ((h5 x hx).kept (o _ (by omega) (by omega))).to (fun j hj => (n _ (by omega)).symm), h6.kept (o 13 (by omega) (by omega)), fun x hx => ?_⟩
  · rw [n 76 (by omega), n 53 (by omega), n 54 (by omega), n 55 (by omega), n 56 (by omega)]
    exact h1.kept (o 0 (by omega) (by omega))
  · by_cases e : x = i
    · subst e
      refine ha.to (fun j hj => ?_)
      by_cases e2 : j = c
      · subst e2; rw [up_s, up_s]
      · rw [up_n _ _ e2, n _ (by omega)]
    · exact ((h7 x hx).kept (o _ (by omega) (by omega))).to (fun j hj => (n _ (by omega)).symm)
/-- one of the five numbers that stand in the object -/
theorem FW.setO (h : FW G ad F H) (hI : Own s0 ad 20) {k : Nat} {v : Int} (hk : 53 ≤ k) (oq : ∀ q : Nat, q ≠ ad 0 → H1[q]? = H[q]?) (ho : OBJ G 1 (ad 0) [.ref (ad 1), .ref (ad 7), .ref (ad 13), .int (iI (up F k v 76)), .int (iI (up F k v 53)), .int (iI (up F k v 55)), .int (iI (up F k v 54)), .int (iI (up F k v 56))] H1) : FW G ad (up F k v) H1 := by
  have o := FW.oq hI (c := 0) (by omega) oq
  obtain ⟨h1, h2, h3, h4, h5, h6, h7⟩ := h
  have n : ∀ j : Nat, j < 53 → up F k v j = F j := fun j hj => up_n F v (by omega)
  exact ⟨ho, h2.kept (o 1 (by omega) (by omega)), fun x hx => ((h3 x hx).kept (o _ (by omega) (by omega))).to (fun j hj => (n _ (by omega)).symm), h4.kept (o 7 (by omega) (by omega)), fun x hx => ((h5 x hx).kept (o _ (by omega) (by omega))).to (fun j hj => (n _ (by omega)).symm), h6.kept (o 13 (by omega) (by omega)), fun x hx => ((h7 x hx).kept (o _ (by omega) (by omega))).to (fun j hj => (n _ (by omega)).symm)⟩
end FWS
/-- the numbers are in their bounds -/
def WF (F : Nat → Int) : Prop := (0 ≤ F 76 ∧ F 76 ≤ 5) ∧ (0 ≤ F 53 ∧ F 53 ≤ 6) ∧ (0 ≤ F 54 ∧ F 54 ≤ 100000) ∧ (0 ≤ F 55 ∧ F 55 ≤ 6) ∧
  (∀ i : Nat, i < 5 → 0 ≤ F (2 * i + 0) ∧ F (2 * i + 0) ≤ 3) ∧ (∀ i : Nat, i < 5 → 0 ≤ F (2 * i + 1) ∧ F (2 * i + 1) ≤ 99) ∧
  (∀ i j : Nat, i < 5 → j < 5 → 0 ≤ F (10 + 5 * i + j) ∧ F (10 + 5 * i + j) ≤ 3) ∧
  (∀ k : Nat, k < 6 → (0 ≤ F (35 + 3 * k + 0) ∧ F (35 + 3 * k + 0) ≤ 4) ∧ (0 ≤ F (35 + 3 * k + 1) ∧ F (35 + 3 * k + 1) ≤ 4) ∧ (0 ≤ F (35 + 3 * k + 2) ∧ F (35 + 3 * k + 2) ≤ 30))
theorem WF.n {F : Nat → Int} (h : WF F) : 0 ≤ F 76 ∧ F 76 ≤ 5 := h.1
theorem WF.rm {F : Nat → Int} (h : WF F) : 0 ≤ F 53 ∧ F 53 ≤ 6 := h.2.1
theorem WF.day {F : Nat → Int} (h : WF F) : 0 ≤ F 54 ∧ F 54 ≤ 100000 := h.2.2.1
theorem WF.fe {F : Nat → Int} (h : WF F) : 0 ≤ F 55 ∧ F 55 ≤ 6 := h.2.2.2.1
theorem WF.kd {F : Nat → Int} (h : WF F) (i : Nat) (hi : i < 5) : 0 ≤ F (2 * i + 0) ∧ F (2 * i + 0) ≤ 3 := h.2.2.2.2.1 i hi
theorem WF.pl {F : Nat → Int} (h : WF F) (i : Nat) (hi : i < 5) : 0 ≤ F (2 * i + 1) ∧ F (2 * i + 1) ≤ 99 := h.2.2.2.2.2.1 i hi
theorem WF.cr {F : Nat → Int} (h : WF F) (i j : Nat) (hi : i < 5) (hj : j < 5) : 0 ≤ F (10 + 5 * i + j) ∧ F (10 + 5 * i + j) ≤ 3 := h.2.2.2.2.2.2.1 i j hi hj
theorem WF.r0 {F : Nat → Int} (h : WF F) (k : Nat) (hk : k < 6) : 0 ≤ F (35 + 3 * k + 0) ∧ F (35 + 3 * k + 0) ≤ 4 := (h.2.2.2.2.2.2.2 k hk).1
theorem WF.r1 {F : Nat → Int} (h : WF F) (k : Nat) (hk : k < 6) : 0 ≤ F (35 + 3 * k + 1) ∧ F (35 + 3 * k + 1) ≤ 4 := (h.2.2.2.2.2.2.2 k hk).2.1
theorem WF.r2 {F : Nat → Int} (h : WF F) (k : Nat) (hk : k < 6) : 0 ≤ F (35 + 3 * k + 2) ∧ F (35 + 3 * k + 2) ≤ 30 := (h.2.2.2.2.2.2.2 k hk).2.2
theorem az_in (z : Int) : 0 ≤ az z ∧ (az z = z ∨ az z = -z) := by unfold az; split <;> omega
