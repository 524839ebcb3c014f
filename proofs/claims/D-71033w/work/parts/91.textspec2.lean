/-! BITS (rows pasted from the kit starting text BITS) -/
def bt (x : Int32) (i : Nat) : Bool := x.toBitVec.getLsbD i
theorem b_ext {x y : Int32} (h : ∀ i, i < 32 → bt x i = bt y i) : x = y := Int32.toBitVec_inj.mp (BitVec.eq_of_getLsbD_eq (fun i hi => h i hi))
theorem b_or (x y : Int32) (i : Nat) : bt (x ||| y) i = (bt x i || bt y i) := by unfold bt; rw [Int32.toBitVec_or, BitVec.getLsbD_or]
theorem b_and (x y : Int32) (i : Nat) : bt (x &&& y) i = (bt x i && bt y i) := by unfold bt; rw [Int32.toBitVec_and, BitVec.getLsbD_and]
theorem s_l : ∀ n, n < 32 → ((nI n &&& 31).toBitVec.smod 32).toNat = n := by decide +kernel
theorem b_sshr (n : Nat) (hn : n < 32) (x : Int32) {i : Nat} (hi : i < 32) : bt (x >>> (nI n &&& 31)) i = if n + i < 32 then bt x (n + i) else bt x 31 := by
  unfold bt
  rw [Int32.toBitVec_shiftRight]
  show (x.toBitVec.sshiftRight ((nI n &&& 31).toBitVec.smod 32).toNat).getLsbD i = _
  rw [s_l n hn, BitVec.getLsbD_sshiftRight, BitVec.msb_eq_getLsbD_last]
  simp [hi]
theorem iI_nI (n : Nat) : iI ((n : Nat) : Int) = nI n := rfl
theorem bit1 (y : Int32) : y &&& iI 1 = iI (b2 (bt y 0 = true)) := by
  refine b_ext (fun i hi => ?_)
  rw [b_and]
  by_cases h : bt y 0 = true
  · rw [b2_t h]
    by_cases e : i = 0
    · subst e; rw [h]; rfl
    · have : bt (iI 1) i = false := by
        have q : ∀ i : Fin 32, i.val ≠ 0 → bt (iI 1) i.val = false := by decide +kernel
        exact q ⟨i, hi⟩ e
      rw [this, Bool.and_false]
  · rw [b2_f h]
    have h0 : bt (iI 0) i = false := BitVec.getLsbD_zero
    rw [h0]
    by_cases e : i = 0
    · subst e
      rw [Bool.not_eq_true] at h
      rw [h, Bool.false_and]
    · have : bt (iI 1) i = false := by
        have q : ∀ i : Fin 32, i.val ≠ 0 → bt (iI 1) i.val = false := by decide +kernel
        exact q ⟨i, hi⟩ e
      rw [this, Bool.and_false]
theorem bitN {k : Int} (hk : 0 ≤ k ∧ k < 32) (x : Int32) : (x >>> (iI k &&& 31)) &&& iI 1 = iI (b2 (bt x k.toNat = true)) := by
  have e : iI k = nI k.toNat := by
    rw [← iI_nI]
    congr 1
    omega
  have h := b_sshr k.toNat (by omega) x (i := 0) (by omega)
  rw [if_pos (by omega), Nat.add_zero] at h
  rw [bit1, e, h]
/-- a bit more -/
def tcS (a : Int) (k : Nat) : Int := (iI a ||| iI ((pw2 k : Nat) : Int)).toInt
theorem tcS_i (a : Int) (k : Nat) : iI a ||| iI ((pw2 k : Nat) : Int) = iI (tcS a k) := (iI_of _).2.symm
theorem pw2_bt : ∀ k j : Fin 25, bt (iI ((pw2 k.val : Nat) : Int)) j.val = decide (j.val = k.val) := by decide +kernel
theorem tcS_bt (a : Int) {k j : Nat} (hk : k < 25) (hj : j < 25) : bt (iI (tcS a k)) j = (bt (iI a) j || decide (j = k)) := by
  rw [← tcS_i, b_or, pw2_bt ⟨k, hk⟩ ⟨j, hj⟩]
section FT
variable {p : Program} {l : Launch} {e : Env} {R : Room} {s : State} {m : MethodId} {args : Array Value} {below : List Frame} {meth : Method} {c : Code} {H : Heap} {locs : List Loc} {cells slots : Nat} {Q : State → Prop} {cc : ByteArray} {pc : Nat} {ls : Array Slot} {st : List Value} {G : GG} {s0 : State} {b0 : Nat}
theorem ii_bit (hx : p.tables.exec = Jvm.exec) (hb : c.code = cc) {a b : Int} (hb2 : 0 ≤ b ∧ b < 32) (d : decode cc pc = .ok (.ishr, 1)) (d2 : decode cc (pc + 1) = .ok (.iconst 1, 1)) (d3 : decode cc (pc + 2) = .ok (.iand, 1)) (k : W p l e R s m args below meth c H locs cells slots Q (F0 m (pc + 3) ls (.int (iI (b2 (bt (iI a) b.toNat = true))) :: st))) : W p l e R s m args below meth c H locs cells slots Q (F0 m (pc) ls (.int (iI b) :: .int (iI a) :: st)) :=
  lv_ishr hx hb d (ii_const hx hb d2 (lv_iand hx hb d3 (by rw [bitN hb2]; exact k)))
theorem ii_or2 (hx : p.tables.exec = Jvm.exec) (hb : c.code = cc) {a : Int} {b : Nat} (d : decode cc pc = .ok (.ior, 1)) (k : W p l e R s m args below meth c H locs cells slots Q (F0 m (pc + 1) ls (.int (iI (tcS a b)) :: st))) : W p l e R s m args below meth c H locs cells slots Q (F0 m (pc) ls (.int (iI ((pw2 b : Nat) : Int)) :: .int (iI a) :: st)) := lv_ior hx hb d (by rw [tcS_i]; exact k)
end FT
/-! words -/
abbrev isW (t : Nat → Int) (n p g k a b c d : Int) : Prop := p - g = k ∧ byA t n g = a ∧ byA t n (g + 1) = b ∧ byA t n (g + 2) = c ∧ byA t n (g + 3) = d
def lnV (t : Nat → Int) (n p g : Int) : Int :=
  if isW t n p g 5 112 108 97 105 ∧ byA t n (g + 4) = 110 then 0
  else if isW t n p g 5 112 114 111 117 ∧ byA t n (g + 4) = 100 then 1
  else if isW t n p g 4 102 111 110 100 then 2
  else if isW t n p g 5 119 105 100 111 ∧ byA t n (g + 4) = 119 then 3
  else if isW t n p g 5 99 114 111 115 ∧ byA t n (g + 4) = 115 then 4
  else if isW t n p g 4 114 111 112 101 then 5
  else if isW t n p g 5 102 101 97 115 ∧ byA t n (g + 4) = 116 then 6 else -4
/-! needs -/
theorem ndS_1 (P : Nat → Int) {g code : Int} (h : g ≠ 0) : ndS P g code = P := if_pos (Or.inl h)
theorem ndS_st {P : Nat → Int} (h : P 15 ≠ 0) (g code : Int) : ndS P g code = P := if_pos (Or.inr h)
theorem ndS_f (P : Nat → Int) (g code : Int) : (P 15 ≠ 0 → ndS P g code 15 = P 15) ∧ (P 15 = 0 → g = 0 → ndS P g code 15 = code) ∧ (g ≠ 0 → ndS P g code 15 = P 15) := by
  rw [ndS_15]
  refine ⟨fun h => if_pos (Or.inr h), fun h1 h2 => if_neg (by omega), fun h => if_pos (Or.inl h)⟩
/-- a number looked at: what it leaves, what it is -/
def lkP (P : Nat → Int) (lo hi : Int) : Nat → Int := ndS (ndS P (b2 (P 13 = 2)) 2) (b2 (lo ≤ P 14 ∧ P 14 ≤ hi)) 3
def lkV (P : Nat → Int) (lo hi : Int) : Int := if lkP P lo hi 15 = 0 then P 14 else 0
theorem lkP_pi {P : Nat → Int} (h : PI P) (lo hi : Int) : PI (lkP P lo hi) := ndS_pi (ndS_pi h (by omega)) (by omega)
theorem lkP_o (P : Nat → Int) (lo hi : Int) {x : Nat} (h5 : x ≠ 15) (h6 : x ≠ 16) : lkP P lo hi x = P x := by
  unfold lkP
  rw [ndS_o h5 h6, ndS_o h5 h6]
theorem lkP_0 {P : Nat → Int} {lo hi : Int} (h : lkP P lo hi 15 = 0) : P 15 = 0 ∧ P 13 = 2 ∧ (lo ≤ P 14 ∧ P 14 ≤ hi) ∧ lkP P lo hi = P := by
  unfold lkP at h ⊢
  have h1 := ndS_f P (b2 (P 13 = 2)) 2
  have h2 := ndS_f (ndS P (b2 (P 13 = 2)) 2) (b2 (lo ≤ P 14 ∧ P 14 ≤ hi)) 3
  have b1 := b2_in (P 13 = 2)
  have b3 := b2_in (lo ≤ P 14 ∧ P 14 ≤ hi)
  have e0 : P 15 = 0 := Decidable.byContradiction fun q => by
    have := h1.1 q; have := h2.1 (by omega); omega
  have e1 : P 13 = 2 := Decidable.byContradiction fun q => by
    rw [b2_f q] at *; have := h1.2.1 e0 rfl; have := h2.1 (by omega); omega
  have e2 : ndS P (b2 (P 13 = 2)) 2 = P := ndS_1 P (by rw [b2_t e1]; omega)
  rw [e2] at h h2 ⊢
  have e3 : lo ≤ P 14 ∧ P 14 ≤ hi := Decidable.byContradiction fun q => by
    rw [b2_f q] at *; have := h2.2.1 e0 rfl; omega
  exact ⟨e0, e1, e3, ndS_1 P (by rw [b2_t e3]; omega)⟩
theorem lk_in {P : Nat → Int} {lo hi : Int} (h0 : 0 ≤ lo ∧ lo ≤ hi) : 0 ≤ lkV P lo hi ∧ lkV P lo hi ≤ hi := by
  unfold lkV
  by_cases c : lkP P lo hi 15 = 0
  · rw [if_pos c]
    have := lkP_0 c
    omega
  · rw [if_neg c]; omega
def rnP (t P : Nat → Int) (lo hi : Int) : Nat → Int := tkP t (lkP P lo hi)
def nhP (P : Nat → Int) (i : Int) : Nat → Int := up P 8 (if P 8 < i then i else P 8)
theorem nhP_pi {P : Nat → Int} (h : PI P) (i : Int) : PI (nhP P i) := by
  unfold nhP
  simp only [PI, up, Nat.reduceEqDiff, if_false, if_true, ite_false, ite_true, reduceIte]
  exact h
/-- an isle told -/
def riN (D : Nat → Int) (v : Int) : Nat → (Nat → Int) → (Nat → Int)
  | 0, P => P
  | i + 1, P => ndS (riN D v i P) (b2 (D (2 * i + 1) ≠ v)) 4
theorem riN_pi (D : Nat → Int) (v : Int) : ∀ (i : Nat) (P : Nat → Int), PI P → PI (riN D v i P)
  | 0, _, h => h
  | i + 1, P, h => ndS_pi (riN_pi D v i P h) (by omega)
def riP (t P D : Nat → Int) : Nat → Int := tkP t (riN D (lkV P 0 99) (D 76).toNat (lkP P 0 99))
def riD (P D : Nat → Int) (kd : Int) : Nat → Int := up (up (up D (2 * (D 76).toNat + 0) kd) (2 * (D 76).toNat + 1) (lkV P 0 99)) 76 (D 76 + 1)
theorem WF.set76 {F : Nat → Int} (h : WF F) {v : Int} (hv : 0 ≤ v ∧ v ≤ 5) : WF (up F 76 v) := by
  obtain ⟨h1, h2, h3, h4, h5, h6, h7, h8⟩ := h
  have n : ∀ k : Nat, k ≠ 76 → up F 76 v k = F k := fun k hk => up_n F v hk
  exact ⟨by rw [up_s]; exact hv, by rw [n _ (by omega)]; exact h2, by rw [n _ (by omega)]; exact h3, by rw [n _ (by omega)]; exact h4, fun a ha => by rw [n _ (by omega)]; exact h5 a ha, fun a ha => by rw [n _ (by omega)]; exact h6 a ha, fun a b ha hb => by rw [n _ (by omega)]; exact h7 a b ha hb, fun k hk => by rw [n _ (by omega), n _ (by omega), n _ (by omega)]; exact h8 k hk⟩
theorem riD_wf {P D : Nat → Int} (h : WF D) (h5 : D 76 < 5) {kd : Int} (hk : 0 ≤ kd ∧ kd ≤ 3) : WF (riD P D kd) := by
  have hn := h.n
  have hv := lk_in (P := P) (lo := 0) (hi := 99) (by omega)
  unfold riD
  exact ((h.setK (by omega) hk).move (by omega) hv).set76 (by omega)
def draft0 (D : Nat → Int) : Nat → Int := up (cpS (fun _ => 0) D 76) 76 0
def first0 (P : Nat → Int) : Nat → Int := up (up (up P 6 0) 7 0) 8 (-4)
theorem lnV_in (t : Nat → Int) (n p g : Int) : -4 ≤ lnV t n p g ∧ lnV t n p g ≤ 6 := by
  unfold lnV
  (repeat' split) <;> omega
