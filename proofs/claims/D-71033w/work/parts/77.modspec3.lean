/-! THE MODEL: what was seen -/
theorem shl0_dec : ∀ n : Fin 31, (Int32.ofInt 0 <<< (Int32.ofInt ((n.val : Nat) : Int) &&& 31)) = Int32.ofInt 0 := by decide +kernel
theorem shb_of (P : Prop) [Decidable P] {b : Int} (hb : 0 ≤ b ∧ b < 31) : iI (b2 P) <<< (iI b &&& 31) = iI (if P then ((pw2 b.toNat : Nat) : Int) else 0) := by
  by_cases h : P
  · rw [b2_t h, if_pos h]
    exact shl_of hb
  · rw [b2_f h, if_neg h]
    have h2 := shl0_dec ⟨b.toNat, by omega⟩
    dsimp only at h2
    rw [show ((b.toNat : Nat) : Int) = b by omega] at h2
    exact h2
section FC
variable {p : Program} {l : Launch} {e : Env} {R : Room} {s : State} {m : MethodId} {args : Array Value} {below : List Frame} {meth : Method} {c : Code} {H : Heap} {locs : List Loc} {cells slots : Nat} {Q : State → Prop} {cc : ByteArray} {pc : Nat} {ls : Array Slot} {st : List Value} {G : GG} {s0 : State} {b0 : Nat}
theorem ii_shlb (hx : p.tables.exec = Jvm.exec) (hb : c.code = cc) {P : Prop} [Decidable P] {b : Int} (hb2 : 0 ≤ b ∧ b < 31) (d : decode cc pc = .ok (.ishl, 1)) (k : W p l e R s m args below meth c H locs cells slots Q (F0 m (pc + 1) ls (.int (iI (if P then ((pw2 b.toNat : Nat) : Int) else 0)) :: st))) : W p l e R s m args below meth c H locs cells slots Q (F0 m (pc) ls (.int (iI b) :: .int (iI (b2 P)) :: st)) := lv_ishl hx hb d (by rw [shb_of P hb2]; exact k)
end FC
def mseeA (F : Nat → Int) (n i v : Int) : Int := if ¬ okSee F n i v then -1 else if F 57 = 6 then -3 else F 57 + 1
def mseeF (F : Nat → Int) (n i v : Int) : Nat → Int := if ¬ okSee F n i v ∨ F 57 = 6 then F else up (up (up (up F (58 + 3 * (F 57).toNat) n) (58 + 3 * (F 57).toNat + 1) i) (58 + 3 * (F 57).toNat + 2) v) 57 (F 57 + 1)
def mforgetA (F : Nat → Int) (n : Int) : Int := if 0 ≤ n ∧ n ≤ F 57 then F 57 else -1
def mforgetF (F : Nat → Int) (n : Int) : Nat → Int := if 0 ≤ n ∧ n ≤ F 57 then up F 57 n else F
def SeenM (F : Nat → Int) : Prop := (0 ≤ F 57 ∧ F 57 ≤ 6) ∧ ∀ q : Nat, (q : Int) < F 57 → (0 ≤ F (58 + 3 * q) ∧ F (58 + 3 * q) ≤ 20) ∧ (0 ≤ F (58 + 3 * q + 1) ∧ F (58 + 3 * q + 1) < F 76) ∧ 0 ≤ F (58 + 3 * q + 2) ∧ F (58 + 3 * q + 2) ≤ 99
/-- what was seen, by threes -/
def sawF (F : Nat → Int) (x : Nat) : Int := F (58 + x)
/-- the first q of what was seen against what were -/
def msQ (W F : Nat → Int) : Nat → Int
  | 0 => 1
  | q + 1 => if msQ W F q = 0 then 0 else if W (5 * F (58 + 3 * q) + F (58 + 3 * q + 1)).toNat = F (58 + 3 * q + 2) then 1 else 0
theorem msQ_in (W F : Nat → Int) : ∀ q : Nat, msQ W F q = 0 ∨ msQ W F q = 1
  | 0 => Or.inr rfl
  | q + 1 => by
    simp only [msQ]
    (repeat' split) <;> omega
theorem msQ_iff (W F : Nat → Int) : ∀ n : Nat, msQ W F n = 1 ↔ ∀ q : Nat, q < n → W (5 * F (58 + 3 * q) + F (58 + 3 * q + 1)).toNat = F (58 + 3 * q + 2)
  | 0 => ⟨fun _ q h => absurd h (Nat.not_lt_zero _), fun _ => rfl⟩
  | n + 1 => by
    have ih := msQ_iff W F n
    have h01 := msQ_in W F n
    simp only [msQ]
    constructor
    · intro h q hq
      by_cases e : msQ W F n = 0
      · rw [if_pos e] at h; omega
      · rw [if_neg e] at h
        by_cases c : W (5 * F (58 + 3 * n) + F (58 + 3 * n + 1)).toNat = F (58 + 3 * n + 2)
        · rcases Nat.lt_or_ge q n with g | g
          · exact ih.mp (by omega) q g
          · have : q = n := by omega
            subst this; exact c
        · rw [if_neg c] at h; omega
    · intro h
      have h1 := ih.mpr (fun q hq => h q (by omega))
      rw [if_neg (by omega), if_pos (h n (by omega))]
theorem snD_iff (F s : Nat → Int) (d r : Int) (hr : r = 0 ∨ r = 1) : ∀ n : Nat, snD F s d r n = 1 ↔ r = 1 ∧ ∀ q : Nat, q < n → s (3 * q + 0) = d → F (2 * (s (3 * q + 1)).toNat + 1) = s (3 * q + 2)
  | 0 => ⟨fun h => ⟨h, fun q h => absurd h (Nat.not_lt_zero _)⟩, fun h => h.1⟩
  | n + 1 => by
    have ih := snD_iff F s d r hr n
    have h01 := snD_in F s d hr n
    simp only [snD]
    constructor
    · intro h
      by_cases e : snD F s d r n = 0
      · rw [if_pos e] at h; omega
      · rw [if_neg e] at h
        have h1 := ih.mp (by omega)
        refine ⟨h1.1, fun q hq hs => ?_⟩
        rcases Nat.lt_or_ge q n with g | g
        · exact h1.2 q g hs
        · have : q = n := by omega
          subst this
          rw [if_neg (fun h => h hs)] at h
          by_cases c : F (2 * (s (3 * q + 1)).toNat + 1) = s (3 * q + 2)
          · exact c
          · rw [if_neg c] at h; omega
    · intro h
      have h1 := ih.mpr ⟨h.1, fun q hq => h.2 q (by omega)⟩
      rw [if_neg (by omega)]
      by_cases c : s (3 * n + 0) = d
      · rw [if_neg (fun h => h c), if_pos (h.2 n (by omega) c)]
      · rw [if_pos c]
theorem snS_iff (F s : Nat → Int) (many : Nat) : ∀ n : Nat, snS F s many n = 1 ↔ ∀ d : Nat, d < n → ∀ q : Nat, q < many → s (3 * q + 0) = (d : Int) → daysS F d (2 * (s (3 * q + 1)).toNat + 1) = s (3 * q + 2)
  | 0 => ⟨fun _ d h => absurd h (Nat.not_lt_zero _), fun _ => rfl⟩
  | n + 1 => by
    have ih := snS_iff F s many n
    simp only [snS]
    rw [snD_iff _ _ _ _ (snS_in F s many n) many, ih]
    constructor
    · intro h d hd
      rcases Nat.lt_or_ge d n with g | g
      · exact h.1 d g
      · have : d = n := by omega
        subst this; exact h.2
    · exact fun h => ⟨fun d hd => h d (by omega), h n (by omega)⟩
theorem wrF_s {F B : Nat → Int} {m d i : Nat} (hi : i < m) (hm : m ≤ 5) (hd : d ≤ 20) : up (bkF F B 0 m d i) ((5 * d) + i) (daysS F d (2 * i + 1)) = bkF F B 0 m d (i + 1) := by
  have h := bkF_s (F := F) (B := B) (k := 0) hi hm hd
  rw [show 105 * 0 + ((5 * d) + i) = (5 * d) + i by omega] at h
  exact h
theorem wr_at {F G B : Nat → Int} (h5 : 0 ≤ F 76 ∧ F 76 ≤ 5) (h : SeenM F) {q : Nat} (hq : (q : Int) < F 57) : bkF G B 0 (F 76).toNat 21 0 (5 * F (58 + 3 * q) + F (58 + 3 * q + 1)).toNat = daysS G (F (58 + 3 * q)).toNat (2 * (F (58 + 3 * q + 1)).toNat + 1) := by
  obtain ⟨h1, h2, h3⟩ := h.2 q hq
  have e := bkF_at (F := G) (B := B) (k := 0) (m := (F 76).toNat) (d := (F (58 + 3 * q)).toNat) (i := (F (58 + 3 * q + 1)).toNat) (by omega) (by omega) (by omega)
  rw [show 105 * 0 + (5 * (F (58 + 3 * q)).toNat + (F (58 + 3 * q + 1)).toNat) = (5 * F (58 + 3 * q) + F (58 + 3 * q + 1)).toNat by omega] at e
  exact e
theorem wr_in {F G B : Nat → Int} (h5 : 0 ≤ F 76 ∧ F 76 ≤ 5) (h : SeenM F) (hG : WF G) (hd : G 54 ≤ 2000) {q : Nat} (hq : (q : Int) < F 57) : 0 ≤ bkF G B 0 (F 76).toNat 21 0 (5 * F (58 + 3 * q) + F (58 + 3 * q + 1)).toNat ∧ bkF G B 0 (F 76).toNat 21 0 (5 * F (58 + 3 * q) + F (58 + 3 * q + 1)).toNat ≤ 99 := by
  rw [wr_at h5 h hq]
  obtain ⟨h1, h2, h3⟩ := h.2 q hq
  exact (daysS_wf hG _ (by omega)).pl _ (by omega)
theorem so_eq {F G B : Nat → Int} (h5 : 0 ≤ F 76 ∧ F 76 ≤ 5) (h : SeenM F) : msQ (bkF G B 0 (F 76).toNat 21 0) F (F 57).toNat = 1 ↔ snS G (sawF F) (F 57).toNat 21 = 1 := by
  rw [msQ_iff, snS_iff]
  constructor
  · intro h1 d hd q hq hs
    have hs2 : F (58 + 3 * q) = (d : Int) := hs
    have e := h1 q hq
    rw [wr_at h5 h (by omega), hs2] at e
    exact e
  · intro h1 q hq
    obtain ⟨h2, h3, h4⟩ := h.2 q (by omega)
    rw [wr_at h5 h (by omega)]
    exact h1 (F (58 + 3 * q)).toNat (by omega) q hq (show F (58 + 3 * q) = _ by omega)
theorem su_kd (F s : Nat → Int) (many i : Nat) : ∀ n : Nat, suS F s many (2 * i + 0) n = kdS F s many i n
  | 0 => rfl
  | n + 1 => by
    simp only [suS, kdS]
    rw [su_kd F s many i n]
