/-! THE COMPONENT'S PICTURE: 156 cells A 0 .. A 155; numbers S: row 0 the lone ones (0 taped, 1 fault, 2 least, 3 seenMany, 4 torn, 5 cameMany, 6 refused, 7+k an image's seenMany, 9+k its isKept, 11+k a sheet's size), 1 the tape, 2 seen, 3 byKind, 4+k an image's seen, 20+f the firths (0 now, 1 work, 2 home, 3 aside, 4+k an image's); R k: where sheet k's row lies -/
abbrev fa (A : Nat → Nat) (f : Nat) : Nat → Nat := fun c => A (36 + 20 * f + c)
abbrev compF (A : Nat → Nat) (t : Nat → Int) : List Value := [.ref (A 1), .int (iI (t 0)), .int (iI (t 1)), .ref (A 36), .ref (A 56), .ref (A 76), .int (iI (t 2)), .ref (A 2), .int (iI (t 3)), .ref (A 9), .ref (A 14), .ref (A 96), .ref (A 31), .int (iI (t 4)), .int (iI (t 5)), .int (iI (t 6))]
abbrev imgF (A : Nat → Nat) (k : Nat) (t : Nat → Int) : List Value := [.ref (A (36 + 20 * (4 + k))), .ref (A (17 + 7 * k)), .int (iI (t (7 + k))), .int (iI (t (9 + k))), .ref (A 0)]
abbrev shF (R : Nat → Option Nat) (k : Nat) (t : Nat → Int) : List Value := [va_rf (R k), .int (iI (t (11 + k)))]
def CW (G : GG) (A : Nat → Nat) (S : Sta) (R : Nat → Option Nat) (H : Heap) : Prop :=
  OBJ G 0 (A 0) (compF A (S 0)) H ∧ IA G 2 (A 1) 160 (S 1) H ∧
  (QA G 1 (A 2) 6 (fun k => some (A (3 + k))) H ∧ ∀ k : Nat, k < 6 → IA G 0 (A (3 + k)) 3 (fun c => S 2 (3 * k + c)) H) ∧
  (QA G 1 (A 9) 4 (fun k => some (A (10 + k))) H ∧ ∀ k : Nat, k < 4 → IA G 0 (A (10 + k)) 105 (fun c => S 3 (105 * k + c)) H) ∧
  (QA G 5 (A 14) 2 (fun k => some (A (15 + k))) H ∧ ∀ k : Nat, k < 2 → OBJ G 2 (A (15 + k)) (imgF A k (S 0)) H) ∧
  (∀ k : Nat, k < 2 → QA G 1 (A (17 + 7 * k)) 6 (fun j => some (A (18 + 7 * k + j))) H ∧ ∀ j : Nat, j < 6 → IA G 0 (A (18 + 7 * k + j)) 3 (fun c => S (4 + k) (3 * j + c)) H) ∧
  (QA G 6 (A 31) 4 (fun k => some (A (32 + k))) H ∧ ∀ k : Nat, k < 4 → OBJ G 3 (A (32 + k)) (shF R k (S 0)) H) ∧
  ∀ f : Nat, f < 6 → FW G (fa A f) (S (20 + f)) H
section CWS
variable {G : GG} {A : Nat → Nat} {S S' : Sta} {R R' : Nat → Option Nat} {H H1 : Heap} {s0 : State}
theorem CW.obj (h : CW G A S R H) : OBJ G 0 (A 0) (compF A (S 0)) H := h.1
theorem CW.tape (h : CW G A S R H) : IA G 2 (A 1) 160 (S 1) H := h.2.1
theorem CW.seen (h : CW G A S R H) : QA G 1 (A 2) 6 (fun k => some (A (3 + k))) H := h.2.2.1.1
theorem CW.seenR (h : CW G A S R H) : ∀ k : Nat, k < 6 → IA G 0 (A (3 + k)) 3 (fun c => S 2 (3 * k + c)) H := h.2.2.1.2
theorem CW.by (h : CW G A S R H) : QA G 1 (A 9) 4 (fun k => some (A (10 + k))) H := h.2.2.2.1.1
theorem CW.byR (h : CW G A S R H) : ∀ k : Nat, k < 4 → IA G 0 (A (10 + k)) 105 (fun c => S 3 (105 * k + c)) H := h.2.2.2.1.2
theorem CW.img (h : CW G A S R H) : QA G 5 (A 14) 2 (fun k => some (A (15 + k))) H := h.2.2.2.2.1.1
theorem CW.imgO (h : CW G A S R H) : ∀ k : Nat, k < 2 → OBJ G 2 (A (15 + k)) (imgF A k (S 0)) H := h.2.2.2.2.1.2
theorem CW.imgS (h : CW G A S R H) : ∀ k : Nat, k < 2 → QA G 1 (A (17 + 7 * k)) 6 (fun j => some (A (18 + 7 * k + j))) H := fun k hk => (h.2.2.2.2.2.1 k hk).1
theorem CW.imgR (h : CW G A S R H) : ∀ k j : Nat, k < 2 → j < 6 → IA G 0 (A (18 + 7 * k + j)) 3 (fun c => S (4 + k) (3 * j + c)) H := fun k j hk hj => (h.2.2.2.2.2.1 k hk).2 j hj
theorem CW.sh (h : CW G A S R H) : QA G 6 (A 31) 4 (fun k => some (A (32 + k))) H := h.2.2.2.2.2.2.1.1
theorem CW.shO (h : CW G A S R H) : ∀ k : Nat, k < 4 → OBJ G 3 (A (32 + k)) (shF R k (S 0)) H := h.2.2.2.2.2.2.1.2
theorem CW.fw (h : CW G A S R H) {f : Nat} (hf : f < 6) {F : Nat → Int} (e : S (20 + f) = F) : FW G (fa A f) F H := e ▸ h.2.2.2.2.2.2.2 f hf
/-- the picture behind a change of the cells T -/
theorem CW.change (h : CW G A S R H) (T : Nat → Prop) (hq : ∀ k : Nat, k < 156 → ¬ T k → H1[A k]? = H[A k]?)
    (t0 : ¬ T 2 ∧ ¬ T 9 ∧ ¬ T 14 ∧ ¬ T 17 ∧ ¬ T 24 ∧ ¬ T 31)
    (p1 : OBJ G 0 (A 0) (compF A (S' 0)) H1 ∨ (¬ T 0 ∧ ∀ j : Nat, j < 7 → S' 0 j = S 0 j))
    (p2 : IA G 2 (A 1) 160 (S' 1) H1 ∨ (¬ T 1 ∧ ∀ j : Nat, j < 160 → S' 1 j = S 1 j))
    (p3 : ∀ k : Nat, k < 6 → IA G 0 (A (3 + k)) 3 (fun c => S' 2 (3 * k + c)) H1 ∨ (¬ T (3 + k) ∧ ∀ c : Nat, c < 3 → S' 2 (3 * k + c) = S 2 (3 * k + c)))
    (p4 : ∀ k : Nat, k < 4 → IA G 0 (A (10 + k)) 105 (fun c => S' 3 (105 * k + c)) H1 ∨ (¬ T (10 + k) ∧ ∀ c : Nat, c < 105 → S' 3 (105 * k + c) = S 3 (105 * k + c)))
    (p5 : ∀ k : Nat, k < 2 → OBJ G 2 (A (15 + k)) (imgF A k (S' 0)) H1 ∨ (¬ T (15 + k) ∧ S' 0 (7 + k) = S 0 (7 + k) ∧ S' 0 (9 + k) = S 0 (9 + k)))
    (p6 : ∀ k j : Nat, k < 2 → j < 6 → IA G 0 (A (18 + 7 * k + j)) 3 (fun c => S' (4 + k) (3 * j + c)) H1 ∨ (¬ T (18 + 7 * k + j) ∧ ∀ c : Nat, c < 3 → S' (4 + k) (3 * j + c) = S (4 + k) (3 * j + c)))
    (p7 : ∀ k : Nat, k < 4 → OBJ G 3 (A (32 + k)) (shF R' k (S' 0)) H1 ∨ (¬ T (32 + k) ∧ R' k = R k ∧ S' 0 (11 + k) = S 0 (11 + k)))
    (p8 : ∀ f : Nat, f < 6 → FW G (fa A f) (S' (20 + f)) H1 ∨ ((∀ c : Nat, c < 20 → ¬ T (36 + 20 * f + c)) ∧ S' (20 + f) = S (20 + f))) : CW G A S' R' H1 := by
  obtain ⟨t2, t9, t14, t17, t24, t31⟩ := t0
  refine ⟨?_, ?_, ⟨h.seen.kept (hq _ (by omega) t2), fun k hk => ?_⟩, ⟨h.by.kept (hq _ (by omega) t9), fun k hk => ?_⟩, ⟨h.img.kept (hq _ (by omega) t14), fun k hk => ?_⟩, fun k hk => ⟨?_, fun j hj => ?_⟩, ⟨h.sh.kept (hq _ (by omega) t31), fun k hk => ?_⟩, fun f hf => ?_⟩
  · rcases p1 with q | ⟨q, e⟩
    · exact q
    · have := h.obj.kept (hq 0 (by omega) q)
      unfold compF at this ⊢
      rw [e 0 (by omega), e 1 (by omega), e 2 (by omega), e 3 (by omega), e 4 (by omega), e 5 (by omega), e 6 (by omega)]
      exact this
  · rcases p2 with q | ⟨q, e⟩
    · exact q
    · exact (h.tape.kept (hq 1 (by omega) q)).to (fun j hj => (e j hj).symm)
  · rcases p3 k hk with q | ⟨q, e⟩
    · exact q
    · exact ((h.seenR k hk).kept (hq _ (by omega) q)).to (fun j hj => (e j hj).symm)
  · rcases p4 k hk with q | ⟨q, e⟩
    · exact q
    · exact ((h.byR k hk).kept (hq _ (by omega) q)).to (fun j hj => (e j hj).symm)
  · rcases p5 k hk with q | ⟨q, e1, e2⟩
    · exact q
    · have := (h.imgO k hk).kept (hq _ (by omega) q)
      unfold imgF at this ⊢
      rw [e1, e2]
      exact this
  · refine (h.imgS k hk).kept (hq _ (by omega) ?_)
    rcases (show k = 0 ∨ k = 1 by omega) with rfl | rfl
    · exact t17
    · exact t24
  · rcases p6 k j hk hj with q | ⟨q, e⟩
    · exact q
    · exact ((h.imgR k j hk hj).kept (hq _ (by omega) q)).to (fun j hj => (e j hj).symm)
  · rcases p7 k hk with q | ⟨q, e1, e2⟩
    · exact q
    · have := (h.shO k hk).kept (hq _ (by omega) q)
      unfold shF at this ⊢
      rw [e1, e2]
      exact this
  · rcases p8 f hf with q | ⟨q, e⟩
    · exact q
    · rw [e]
      exact (h.fw hf rfl).kept (fun c hc => hq _ (by omega) (q c hc))
theorem CW.oq {N : Nat} (hI : Own s0 A N) {c : Nat} (hc : c < N) (oq : ∀ q : Nat, q ≠ A c → H1[q]? = H[q]?) : ∀ k : Nat, k < N → ¬ k = c → H1[A k]? = H[A k]? := fun k hk hne => oq _ (fun e => hne (hI.1 k c hk hc e))
/-- a lone number of the component's -/
theorem CW.setO (h : CW G A S R H) (hI : Own s0 A 156) {k : Nat} {v : Int} (hk : k < 7) (oq : ∀ q : Nat, q ≠ A 0 → H1[q]? = H[q]?) (ho : OBJ G 0 (A 0) (compF A (up (S 0) k v)) H1) : CW G A (up S 0 (up (S 0) k v)) R H1 := by
  have n : ∀ j : Nat, j ≠ k → up S 0 (up (S 0) k v) 0 j = S 0 j := fun j hj => by rw [up_s, up_n _ _ hj]
  have n2 : ∀ a : Nat, a ≠ 0 → up S 0 (up (S 0) k v) a = S a := fun a ha => up_n _ _ ha
  refine h.change (fun c => c = 0) (CW.oq hI (by omega) oq) ⟨by omega, by omega, by omega, by omega, by omega, by omega⟩ (Or.inl (by rw [up_s]; exact ho)) (Or.inr ⟨by omega, fun j _ => by rw [n2 _ (by omega)]⟩) (fun x hx => Or.inr ⟨by omega, fun j _ => by rw [n2 _ (by omega)]⟩) (fun x hx => Or.inr ⟨by omega, fun j _ => by rw [n2 _ (by omega)]⟩) (fun x hx => Or.inr ⟨by omega, n _ (by omega), n _ (by omega)⟩) (fun x y hx hy => Or.inr ⟨by omega, fun j _ => by rw [n2 _ (by omega)]⟩) (fun x hx => Or.inr ⟨by omega, rfl, n _ (by omega)⟩) (fun x hx => Or.inr ⟨fun c _ => by omega, n2 _ (by omega)⟩)
theorem CW.setT (h : CW G A S R H) (hI : Own s0 A 156) {g : Nat → Int} (oq : ∀ q : Nat, q ≠ A 1 → H1[q]? = H[q]?) (ha : IA G 2 (A 1) 160 g H1) : CW G A (up S 1 g) R H1 := by
  have n2 : ∀ a : Nat, a ≠ 1 → up S 1 g a = S a := fun a ha => up_n _ _ ha
  refine h.change (fun c => c = 1) (CW.oq hI (by omega) oq) ⟨by omega, by omega, by omega, by omega, by omega, by omega⟩ (Or.inr ⟨by omega, fun j _ => by rw [n2 _ (by omega)]⟩) (Or.inl (by rw [up_s]; exact ha)) (fun x hx => Or.inr ⟨by omega, fun j _ => by rw [n2 _ (by omega)]⟩) (fun x hx => Or.inr ⟨by omega, fun j _ => by rw [n2 _ (by omega)]⟩) (fun x hx => Or.inr ⟨by omega, by rw [n2 _ (by omega)], by rw [n2 _ (by omega)]⟩) (fun x y hx hy => Or.inr ⟨by omega, fun j _ => by rw [n2 _ (by omega)]⟩) (fun x hx => Or.inr ⟨by omega, rfl, by rw [n2 _ (by omega)]⟩) (fun x hx => Or.inr ⟨fun c _ => by omega, n2 _ (by omega)⟩)
/-- a row of seen: g is the new one, s2 all -/
theorem CW.setSeen (h : CW G A S R H) (hI : Own s0 A 156) {i : Nat} (hi : i < 6) {g s2 : Nat → Int} (oq : ∀ q : Nat, q ≠ A (3 + i) → H1[q]? = H[q]?) (ha : IA G 0 (A (3 + i)) 3 g H1) (e1 : ∀ c : Nat, c < 3 → s2 (3 * i + c) = g c) (e2 : ∀ k : Nat, k < 3 * i ∨ 3 * i + 3 ≤ k → s2 k = S 2 k) : CW G A (up S 2 s2) R H1 := by
  have n2 : ∀ a : Nat, a ≠ 2 → up S 2 s2 a = S a := fun a ha => up_n _ _ ha
  refine h.change (fun c => c = 3 + i) (CW.oq hI (by omega) oq) ⟨by omega, by omega, by omega, by omega, by omega, by omega⟩ (Or.inr ⟨by omega, fun j _ => by rw [n2 _ (by omega)]⟩) (Or.inr ⟨by omega, fun j _ => by rw [n2 _ (by omega)]⟩) (fun x hx => ?_) (fun x hx => Or.inr ⟨by omega, fun j _ => by rw [n2 _ (by omega)]⟩) (fun x hx => Or.inr ⟨by omega, by rw [n2 _ (by omega)], by rw [n2 _ (by omega)]⟩) (fun x y hx hy => Or.inr ⟨by omega, fun j _ => by rw [n2 _ (by omega)]⟩) (fun x hx => Or.inr ⟨by omega, rfl, by rw [n2 _ (by omega)]⟩) (fun x hx => Or.inr ⟨fun c _ => by omega, n2 _ (by omega)⟩)
  by_cases e : x = i
  · subst e
    exact Or.inl (ha.to (fun c hc => by rw [up_s]; exact (e1 c hc).symm))
  · exact Or.inr ⟨by omega, fun c hc => by rw [up_s]; exact e2 _ (by omega)⟩
theorem CW.setBy (h : CW G A S R H) (hI : Own s0 A 156) {i c : Nat} (hi : i < 4) (hc : c < 105) {v : Int} (oq : ∀ q : Nat, q ≠ A (10 + i) → H1[q]? = H[q]?) (ha : IA G 0 (A (10 + i)) 105 (up (fun j => S 3 (105 * i + j)) c v) H1) : CW G A (up S 3 (up (S 3) (105 * i + c) v)) R H1 := by
  have n2 : ∀ a : Nat, a ≠ 3 → up S 3 (up (S 3) (105 * i + c) v) a = S a := fun a ha => up_n _ _ ha
  refine h.change (fun c => c = 10 + i) (CW.oq hI (by omega) oq) ⟨by omega, by omega, by omega, by omega, by omega, by omega⟩ (Or.inr ⟨by omega, fun j _ => by rw [n2 _ (by omega)]⟩) (Or.inr ⟨by omega, fun j _ => by rw [n2 _ (by omega)]⟩) (fun x hx => Or.inr ⟨by omega, fun j _ => by rw [n2 _ (by omega)]⟩) (fun x hx => ?_) (fun x hx => Or.inr ⟨by omega, by rw [n2 _ (by omega)], by rw [n2 _ (by omega)]⟩) (fun x y hx hy => Or.inr ⟨by omega, fun j _ => by rw [n2 _ (by omega)]⟩) (fun x hx => Or.inr ⟨by omega, rfl, by rw [n2 _ (by omega)]⟩) (fun x hx => Or.inr ⟨fun c _ => by omega, n2 _ (by omega)⟩)
  by_cases e : x = i
  · subst e
    refine Or.inl (ha.to (fun j hj => ?_))
    rw [up_s]
    by_cases e2 : j = c
    · subst e2; rw [up_s, up_s]
    · rw [up_n _ _ e2, up_n _ _ (by omega)]
  · exact Or.inr ⟨by omega, fun j hj => by rw [up_s, up_n _ _ (by omega)]⟩
/-- an image's own number (7 + k: how many were seen; 9 + k: whether it is kept) -/
theorem CW.setImg (h : CW G A S R H) (hI : Own s0 A 156) {i j : Nat} (hi : i < 2) {v : Int} (hj : j = 7 + i ∨ j = 9 + i) (oq : ∀ q : Nat, q ≠ A (15 + i) → H1[q]? = H[q]?) (ho : OBJ G 2 (A (15 + i)) (imgF A i (up (S 0) j v)) H1) : CW G A (up S 0 (up (S 0) j v)) R H1 := by
  have n : ∀ x : Nat, x ≠ j → up S 0 (up (S 0) j v) 0 x = S 0 x := fun x hx => by rw [up_s, up_n _ _ hx]
  have n2 : ∀ a : Nat, a ≠ 0 → up S 0 (up (S 0) j v) a = S a := fun a ha => up_n _ _ ha
  refine h.change (fun c => c = 15 + i) (CW.oq hI (by omega) oq) ⟨by omega, by omega, by omega, by omega, by omega, by omega⟩ (Or.inr ⟨by omega, fun x _ => n _ (by omega)⟩) (Or.inr ⟨by omega, fun j _ => by rw [n2 _ (by omega)]⟩) (fun x hx => Or.inr ⟨by omega, fun j _ => by rw [n2 _ (by omega)]⟩) (fun x hx => Or.inr ⟨by omega, fun j _ => by rw [n2 _ (by omega)]⟩) (fun x hx => ?_) (fun x y hx hy => Or.inr ⟨by omega, fun j _ => by rw [n2 _ (by omega)]⟩) (fun x hx => Or.inr ⟨by omega, rfl, n _ (by omega)⟩) (fun x hx => Or.inr ⟨fun c _ => by omega, n2 _ (by omega)⟩)
  by_cases e : x = i
  · subst e
    exact Or.inl (by rw [up_s]; exact ho)
  · exact Or.inr ⟨by omega, n _ (by omega), n _ (by omega)⟩
/-- a row of an image's seen -/
theorem CW.setImgS (h : CW G A S R H) (hI : Own s0 A 156) {k i : Nat} (hk : k < 2) (hi : i < 6) {g s2 : Nat → Int} (oq : ∀ q : Nat, q ≠ A (18 + 7 * k + i) → H1[q]? = H[q]?) (ha : IA G 0 (A (18 + 7 * k + i)) 3 g H1) (e1 : ∀ c : Nat, c < 3 → s2 (3 * i + c) = g c) (e2 : ∀ x : Nat, x < 3 * i ∨ 3 * i + 3 ≤ x → s2 x = S (4 + k) x) : CW G A (up S (4 + k) s2) R H1 := by
  have n2 : ∀ a : Nat, a ≠ 4 + k → up S (4 + k) s2 a = S a := fun a ha => up_n _ _ ha
  refine h.change (fun c => c = 18 + 7 * k + i) (CW.oq hI (by omega) oq) ⟨by omega, by omega, by omega, by omega, by omega, by omega⟩ (Or.inr ⟨by omega, fun j _ => by rw [n2 _ (by omega)]⟩) (Or.inr ⟨by omega, fun j _ => by rw [n2 _ (by omega)]⟩) (fun x hx => Or.inr ⟨by omega, fun j _ => by rw [n2 _ (by omega)]⟩) (fun x hx => Or.inr ⟨by omega, fun j _ => by rw [n2 _ (by omega)]⟩) (fun x hx => Or.inr ⟨by omega, by rw [n2 _ (by omega)], by rw [n2 _ (by omega)]⟩) (fun x y hx hy => ?_) (fun x hx => Or.inr ⟨by omega, rfl, by rw [n2 _ (by omega)]⟩) (fun x hx => Or.inr ⟨fun c _ => by omega, n2 _ (by omega)⟩)
  by_cases e0 : x = k
  · subst e0
    by_cases e : y = i
    · subst e
      exact Or.inl (ha.to (fun c hc => by rw [up_s]; exact (e1 c hc).symm))
    · exact Or.inr ⟨by omega, fun c hc => by rw [up_s]; exact e2 _ (by omega)⟩
  · exact Or.inr ⟨by omega, fun j _ => by rw [n2 _ (by omega)]⟩
/-- a sheet: its row, or its size -/
theorem CW.setSh (h : CW G A S R H) (hI : Own s0 A 156) {i : Nat} (hi : i < 4) {v : Int} {r : Option Nat} (oq : ∀ q : Nat, q ≠ A (32 + i) → H1[q]? = H[q]?) (ho : OBJ G 3 (A (32 + i)) [va_rf r, .int (iI v)] H1) : CW G A (up S 0 (up (S 0) (11 + i) v)) (up R i r) H1 := by
  have n : ∀ x : Nat, x ≠ 11 + i → up S 0 (up (S 0) (11 + i) v) 0 x = S 0 x := fun x hx => by rw [up_s, up_n _ _ hx]
  have n2 : ∀ a : Nat, a ≠ 0 → up S 0 (up (S 0) (11 + i) v) a = S a := fun a ha => up_n _ _ ha
  refine h.change (fun c => c = 32 + i) (CW.oq hI (by omega) oq) ⟨by omega, by omega, by omega, by omega, by omega, by omega⟩ (Or.inr ⟨by omega, fun x _ => n _ (by omega)⟩) (Or.inr ⟨by omega, fun j _ => by rw [n2 _ (by omega)]⟩) (fun x hx => Or.inr ⟨by omega, fun j _ => by rw [n2 _ (by omega)]⟩) (fun x hx => Or.inr ⟨by omega, fun j _ => by rw [n2 _ (by omega)]⟩) (fun x hx => Or.inr ⟨by omega, n _ (by omega), n _ (by omega)⟩) (fun x y hx hy => Or.inr ⟨by omega, fun j _ => by rw [n2 _ (by omega)]⟩) (fun x hx => ?_) (fun x hx => Or.inr ⟨fun c _ => by omega, n2 _ (by omega)⟩)
  by_cases e : x = i
  · subst e
    refine Or.inl ?_
    unfold shF
    rw [up_s, up_s, up_s]
    exact ho
  · exact Or.inr ⟨by omega, up_n _ _ e, n _ (by omega)⟩
/-- a firth -/
theorem CW.setF (h : CW G A S R H) {f : Nat} (hf : f < 6) {F : Nat → Int} (hq : ∀ k : Nat, k < 156 → ¬ (36 + 20 * f ≤ k ∧ k < 36 + 20 * f + 20) → H1[A k]? = H[A k]?) (hF : FW G (fa A f) F H1) : CW G A (up S (20 + f) F) R H1 := by
  have n2 : ∀ a : Nat, a ≠ 20 + f → up S (20 + f) F a = S a := fun a ha => up_n _ _ ha
  refine h.change (fun c => 36 + 20 * f ≤ c ∧ c < 36 + 20 * f + 20) hq ⟨by omega, by omega, by omega, by omega, by omega, by omega⟩ (Or.inr ⟨by omega, fun j _ => by rw [n2 _ (by omega)]⟩) (Or.inr ⟨by omega, fun j _ => by rw [n2 _ (by omega)]⟩) (fun x hx => Or.inr ⟨by omega, fun j _ => by rw [n2 _ (by omega)]⟩) (fun x hx => Or.inr ⟨by omega, fun j _ => by rw [n2 _ (by omega)]⟩) (fun x hx => Or.inr ⟨by omega, by rw [n2 _ (by omega)], by rw [n2 _ (by omega)]⟩) (fun x y hx hy => Or.inr ⟨by omega, fun j _ => by rw [n2 _ (by omega)]⟩) (fun x hx => Or.inr ⟨by omega, rfl, by rw [n2 _ (by omega)]⟩) (fun x hx => ?_)
  by_cases e : x = f
  · subst e
    exact Or.inl (by rw [up_s]; exact hF)
  · exact Or.inr ⟨fun c hc => by omega, n2 _ (by omega)⟩
/-- a firth's cells among the component's -/
theorem Own.fa (hI : Own s0 A 156) {f : Nat} (hf : f < 6) : Own s0 (fa A f) 20 := ⟨fun i j hi hj e => by have := hI.1 _ _ (by omega) (by omega) e; omega, fun k hk => hI.2 _ (by omega)⟩
theorem fa_apart (hI : Own s0 A 156) {f g : Nat} (hf : f < 6) (hg : g < 6) (h : f ≠ g) : ∀ i j : Nat, i < 20 → j < 20 → fa A f i ≠ fa A g j := fun i j hi hj e => by have := hI.1 _ _ (by omega) (by omega) e; omega
theorem AA.fa {f : Nat} (hf : f < 6) {a b : Nat} (h : a ≤ b) : ∀ q, AA (fa A f) 20 b q → AA A 156 a q := by
  rintro q (⟨k, hk, rfl⟩ | z)
  · exact Or.inl ⟨36 + 20 * f + k, by omega, rfl⟩
  · exact Or.inr (Nat.le_trans h z)
/-- all cells stand below the heap's end -/
theorem CW.lt (h : CW G A S R H) : ∀ k : Nat, k < 156 → A k < H.size := by
  intro k hk
  by_cases e : 36 ≤ k
  · have this : A (36 + 20 * ((k - 36) / 20) + (k - 36) % 20) < H.size := (h.fw (f := (k - 36) / 20) (by omega) rfl).lt ((k - 36) % 20) (by omega)
    rwa [show (36 + 20 * ((k - 36) / 20) + (k - 36) % 20) = k by omega] at this
  by_cases e0 : k = 0
  · subst e0; exact h.obj.lt
  by_cases e1 : k = 1
  · subst e1; exact h.tape.lt
  by_cases e2 : k = 2
  · subst e2; exact h.seen.lt
  by_cases e3 : k < 9
  · have := (h.seenR (k - 3) (by omega)).lt
    rwa [show 3 + (k - 3) = k by omega] at this
  by_cases e4 : k = 9
  · subst e4; exact h.by.lt
  by_cases e5 : k < 14
  · have := (h.byR (k - 10) (by omega)).lt
    rwa [show 10 + (k - 10) = k by omega] at this
  by_cases e6 : k = 14
  · subst e6; exact h.img.lt
  by_cases e7 : k < 17
  · have := (h.imgO (k - 15) (by omega)).lt
    rwa [show 15 + (k - 15) = k by omega] at this
  by_cases e8 : k = 17
  · subst e8; exact (h.imgS 0 (by omega)).lt
  by_cases e9 : k < 24
  · have := (h.imgR 0 (k - 18) (by omega) (by omega)).lt
    rwa [show 18 + 7 * 0 + (k - 18) = k by omega] at this
  by_cases e10 : k = 24
  · subst e10; exact (h.imgS 1 (by omega)).lt
  by_cases e11 : k < 31
  · have := (h.imgR 1 (k - 25) (by omega) (by omega)).lt
    rwa [show 18 + 7 * 1 + (k - 25) = k by omega] at this
  by_cases e12 : k = 31
  · subst e12; exact h.sh.lt
  · have := (h.shO (k - 32) (by omega)).lt
    rwa [show 32 + (k - 32) = k by omega] at this
/-- behind a call that wrote one firth: the rest stands -/
theorem CW.joinF (h : CW G A S R H) (hI : Own s0 A 156) {f : Nat} (hf : f < 6) {F : Nat → Int} (hk : ∀ q : Nat, q < H.size → ¬ AA (fa A f) 20 H.size q → H1[q]? = H[q]?) (hF : FW G (fa A f) F H1) : CW G A (up S (20 + f) F) R H1 := by
  refine h.setF hf (fun k hk2 hne => hk _ (h.lt k hk2) ?_) hF
  rintro (⟨c, hc, e⟩ | z)
  · have := hI.1 _ _ (by omega) (by omega) e
    omega
  · have := h.lt k hk2
    omega
end CWS
theorem CW.eqS {G : GG} {A : Nat → Nat} {S S' : Sta} {R : Nat → Option Nat} {H : Heap} (h : CW G A S R H) (e : S = S') : CW G A S' R H := e ▸ h
theorem CW.storeF {G : GG} {A : Nat → Nat} {S : Sta} {R : Nat → Option Nat} {H H1 : Heap} {s0 : State} (h : CW G A S R H) (hI : Own s0 A 156) {f c : Nat} (hf : f < 6) (hc : c < 20) {F : Nat → Int} (oq : ∀ q : Nat, q ≠ fa A f c → H1[q]? = H[q]?) (hF : FW G (fa A f) F H1) : CW G A (up S (20 + f) F) R H1 :=
  h.setF hf (fun k hk hne => oq _ (fun e => hne (by have := hI.1 _ _ hk (by omega) e; omega))) hF
theorem up_up {α : Type} (f : Nat → α) (k : Nat) (v w : α) : up (up f k v) k w = up f k w := by
  funext j
  by_cases h : j = k <;> simp [up, h]
theorem up_comm {α : Type} (f : Nat → α) {j k : Nat} (h : j ≠ k) (v w : α) : up (up f j v) k w = up (up f k w) j v := by
  funext x
  by_cases h1 : x = k
  · subst h1; simp [up, Ne.symm h]
  · by_cases h2 : x = j
    · subst h2; simp [up, h]
    · simp [up, h1, h2]
theorem up_id {α : Type} (f : Nat → α) (k : Nat) : up f k (f k) = f := by
  funext x
  by_cases h : x = k
  · subst h; simp [up]
  · simp [up, h]
