/-! STORMS: what the component answers; rows for longs, for shifts -/
theorem lI_div {a b : Int} (ha : 0 ≤ a) (hb : 0 < b) (ha2 : a < 9223372036854775808) (hb2 : b < 9223372036854775808) : lI a / lI b = lI (a / b) := by
  apply Int64.toInt_inj.mp
  have h1 : 0 ≤ a / b := Int.ediv_nonneg ha (by omega)
  have h2 : a / b ≤ a := Int.ediv_le_self b ha
  rw [Int64.toInt_div_of_ne_right _ _ (by
    intro e
    have e2 := congrArg Int64.toInt e
    rw [lI_toInt ⟨by omega, by omega⟩] at e2
    have : (-1 : Int64).toInt = -1 := by decide
    omega), lI_toInt ⟨by omega, by omega⟩, lI_toInt ⟨by omega, by omega⟩, lI_toInt ⟨by omega, by omega⟩, Int.tdiv_eq_ediv_of_nonneg ha]
theorem lI_rem {a b : Int} (ha : 0 ≤ a) (hb : 0 < b) (ha2 : a < 9223372036854775808) (hb2 : b < 9223372036854775808) : lI a - lI a / lI b * lI b = lI (a % b) := by
  rw [lI_div ha hb ha2 hb2, lI_mul, lI_sub]
  congr 1
  have := Int.mul_ediv_add_emod a b
  rw [Int.mul_comm] at this
  omega
theorem lI_0 : lI 0 = 0 := rfl
theorem shl_dec : ∀ n : Fin 31, (Int32.ofInt 1 <<< (Int32.ofInt ((n.val : Nat) : Int) &&& 31)) = Int32.ofInt ((2 ^ n.val : Nat) : Int) := by decide +kernel
def pw2 (n : Nat) : Nat := 2 ^ n
theorem pw2_8 : ∀ n : Fin 9, 1 ≤ pw2 n.val ∧ pw2 n.val ≤ 256 := by decide +kernel
theorem pw2_in {n : Nat} (h : n ≤ 8) : 1 ≤ pw2 n ∧ pw2 n ≤ 256 := pw2_8 ⟨n, by omega⟩
theorem shl_of {b : Int} (hb : 0 ≤ b ∧ b < 31) : iI 1 <<< (iI b &&& 31) = iI ((pw2 b.toNat : Nat) : Int) := by
  have h := shl_dec ⟨b.toNat, by omega⟩
  dsimp only at h
  rw [show ((b.toNat : Nat) : Int) = b by omega] at h
  exact h
def orZ (a b : Int) : Int := ((a.toNat ||| b.toNat : Nat) : Int)
theorem orZ_dec : ∀ a b : Fin 16, (Int32.ofInt ((a.val : Nat) : Int) ||| Int32.ofInt ((b.val : Nat) : Int)) = Int32.ofInt ((a.val ||| b.val : Nat) : Int) := by decide +kernel
theorem orZ_of {a b : Int} (ha : 0 ≤ a ∧ a < 16) (hb : 0 ≤ b ∧ b < 16) : iI a ||| iI b = iI (orZ a b) := by
  have h := orZ_dec ⟨a.toNat, by omega⟩ ⟨b.toNat, by omega⟩
  dsimp only at h
  rw [show ((a.toNat : Nat) : Int) = a by omega, show ((b.toNat : Nat) : Int) = b by omega] at h
  exact h
theorem orZ_in {a b : Int} (ha : 0 ≤ a ∧ a < 16) (hb : 0 ≤ b ∧ b < 16) : 0 ≤ orZ a b ∧ orZ a b < 16 := by
  have h : a.toNat ||| b.toNat < 2 ^ 4 := Nat.or_lt_two_pow (by omega) (by omega)
  unfold orZ
  omega
section FB
variable {p : Program} {l : Launch} {e : Env} {R : Room} {s : State} {m : MethodId} {args : Array Value} {below : List Frame} {meth : Method} {c : Code} {H : Heap} {locs : List Loc} {cells slots : Nat} {Q : State → Prop} {cc : ByteArray} {pc : Nat} {ls : Array Slot} {st : List Value} {G : GG} {s0 : State} {b0 : Nat}
theorem ll_div (hx : p.tables.exec = Jvm.exec) (hb : c.code = cc) {a b : Int} (ha : 0 ≤ a ∧ a < 9223372036854775808) (hb2 : 0 < b ∧ b < 9223372036854775808) (d : decode cc pc = .ok (.ldiv, 1)) (k : W p l e R s m args below meth c H locs cells slots Q (F0 m (pc + 1) ls (.long (lI (a / b)) :: st))) : W p l e R s m args below meth c H locs cells slots Q (F0 m (pc) ls (.long (lI b) :: .long (lI a) :: st)) := lv_ldiv hx hb d (fun h => by rw [← lI_0, lI_inj ⟨by omega, by omega⟩ ⟨by omega, by omega⟩] at h; omega) (by rw [lI_div ha.1 hb2.1 ha.2 hb2.2]; exact k)
theorem ll_rem (hx : p.tables.exec = Jvm.exec) (hb : c.code = cc) {a b : Int} (ha : 0 ≤ a ∧ a < 9223372036854775808) (hb2 : 0 < b ∧ b < 9223372036854775808) (d : decode cc pc = .ok (.lrem, 1)) (k : W p l e R s m args below meth c H locs cells slots Q (F0 m (pc + 1) ls (.long (lI (a % b)) :: st))) : W p l e R s m args below meth c H locs cells slots Q (F0 m (pc) ls (.long (lI b) :: .long (lI a) :: st)) := lv_lrem hx hb d (fun h => by rw [← lI_0, lI_inj ⟨by omega, by omega⟩ ⟨by omega, by omega⟩] at h; omega) (by rw [lI_rem ha.1 hb2.1 ha.2 hb2.2]; exact k)
theorem ii_shl1 (hx : p.tables.exec = Jvm.exec) (hb : c.code = cc) {b : Int} (hb2 : 0 ≤ b ∧ b < 31) (d : decode cc pc = .ok (.ishl, 1)) (k : W p l e R s m args below meth c H locs cells slots Q (F0 m (pc + 1) ls (.int (iI ((pw2 b.toNat : Nat) : Int)) :: st))) : W p l e R s m args below meth c H locs cells slots Q (F0 m (pc) ls (.int (iI b) :: .int (iI 1) :: st)) := lv_ishl hx hb d (by rw [shl_of hb2]; exact k)
theorem ii_or (hx : p.tables.exec = Jvm.exec) (hb : c.code = cc) {a b : Int} (ha : 0 ≤ a ∧ a < 16) (hb2 : 0 ≤ b ∧ b < 16) (d : decode cc pc = .ok (.ior, 1)) (k : W p l e R s m args below meth c H locs cells slots Q (F0 m (pc + 1) ls (.int (iI (orZ a b)) :: st))) : W p l e R s m args below meth c H locs cells slots Q (F0 m (pc) ls (.int (iI b) :: .int (iI a) :: st)) := lv_ior hx hb d (by rw [orZ_of ha hb2]; exact k)
end FB
/-! the greatest common divisor; how deep the calls go -/
def dvS (a b : Int) : Int := ((Nat.gcd b.toNat a.toNat : Nat) : Int)
theorem dvS_0 {a b : Int} (ha : 0 ≤ a) (hb : b = 0) : dvS a b = a := by
  subst hb
  unfold dvS
  rw [show (0 : Int).toNat = 0 from rfl, Nat.gcd_zero_left]
  omega
theorem dvS_s {a b : Int} (ha : 0 ≤ a) (hb : 0 < b) : dvS b (a % b) = dvS a b := by
  unfold dvS
  rw [Nat.gcd_rec b.toNat a.toNat, show (a % b).toNat = a.toNat % b.toNat from Int.toNat_emod ha (by omega)]
theorem dvS_in {a b : Int} (ha : 0 ≤ a) (hb : 0 < b) : 0 < dvS a b ∧ dvS a b ≤ b := by
  have h1 := Nat.gcd_pos_of_pos_left a.toNat (show 0 < b.toNat by omega)
  have h2 := Nat.gcd_le_left a.toNat (show 0 < b.toNat by omega)
  unfold dvS
  omega
def Deep (n : Nat) (a b : Int) : Prop := b = 0 ∨ (b ≤ a ∧ a * b < 2 ^ n) ∨ (∃ q : Nat, n = q + 1 ∧ a < b ∧ a * b < 2 ^ q)
theorem Deep.z {a b : Int} (ha : 0 ≤ a) (hb : 0 ≤ b) (h : Deep 0 a b) : b = 0 := by
  rcases h with h | ⟨h1, h2⟩ | ⟨q, h, _⟩
  · exact h
  · rcases Int.lt_or_le 0 b with hp | hp
    · have : 1 * 1 ≤ a * b := Int.mul_le_mul (by omega) (by omega) (by omega) (by omega)
      omega
    · omega
  · omega
theorem Deep.s {n : Nat} {a b : Int} (ha : 0 ≤ a) (hb : 0 < b) (h : Deep (n + 1) a b) : Deep n b (a % b) := by
  have hm := Int.emod_nonneg a (show b ≠ 0 by omega)
  have hm2 := Int.emod_lt_of_pos a hb
  rcases h with h | ⟨h1, h2⟩ | ⟨q, h, h1, h2⟩
  · omega
  · have hd := Int.mul_ediv_add_emod a b
    have h3 : 1 ≤ a / b := by
      rw [Int.le_ediv_iff_mul_le hb]; omega
    have h4 : b * 1 ≤ b * (a / b) := Int.mul_le_mul_of_nonneg_left h3 (by omega)
    have h5 : b * (a % b + a % b) ≤ b * a := Int.mul_le_mul_of_nonneg_left (by omega) (by omega)
    refine Or.inr (Or.inl ⟨by omega, ?_⟩)
    rw [Int.mul_add, Int.mul_comm b a] at h5
    rw [Int.pow_succ] at h2
    omega
  · have e : a % b = a := Int.emod_eq_of_lt ha h1
    have : q = n := by omega
    subst this
    rw [e]
    refine Or.inr (Or.inl ⟨by omega, ?_⟩)
    rw [Int.mul_comm]
    exact h2
theorem Deep.of {a b : Int} (ha : 0 ≤ a ∧ a ≤ 1000000000000000) (hb : 0 ≤ b ∧ b ≤ 1000000000000000) : Deep 101 a b := by
  have h : a * b ≤ 1000000000000000 * 1000000000000000 := Int.mul_le_mul ha.2 hb.2 hb.1 (by decide)
  have h2 : (1000000000000000 * 1000000000000000 : Int) < 2 ^ 100 := by decide
  have h3 : (2 : Int) ^ 100 < 2 ^ 101 := by decide
  rcases Int.lt_or_le a b with q | q
  · exact Or.inr (Or.inr ⟨100, rfl, q, by omega⟩)
  · exact Or.inr (Or.inl ⟨q, by omega⟩)
def loS (a b w : Int) : Int := (if w = 0 then a else b) / dvS a b
/-! storms -/
def tnS : Nat → Int
  | 0 => 1
  | d + 1 => tnS d * 10
def wtS (a : Int) (m : Nat) : Nat → Int
  | 0 => 1
  | d + 1 => wtS a m d * (if bitS (m : Int) (d : Int) then a else 10 - a)
def stS (F : Nat → Int) (m : Nat) : Nat → (Nat → Int)
  | 0 => F
  | d + 1 => if bitS (m : Int) (d : Int) then up (stS F m d) 54 (stS F m d 54 + 1) else dayS (stS F m d)
def vsS (F : Nat → Int) (v : Int) : Int := if v = -4 then spS F else if spS F ≤ v then 1 else 0
def ttS (F : Nat → Int) (a : Int) (n : Nat) (v : Int) : Nat → Int
  | 0 => 0
  | m + 1 => ttS F a n v m + wtS a m n * vsS (stS F m n) v
def bySS (F : Nat → Int) (a n v w : Int) : Int := loS (ttS F a n.toNat v (pw2 n.toNat)) (tnS n.toNat) w
def luckA (F : Nat → Int) (a n v w : Int) : Int := if (0 ≤ a ∧ a ≤ 10) ∧ (0 ≤ n ∧ n ≤ 8) ∧ (0 ≤ v ∧ v ≤ 99) ∧ 0 ≤ w ∧ w ≤ 1 then bySS F a n v w else -1
def meanA (F : Nat → Int) (a n w : Int) : Int := if (0 ≤ a ∧ a ≤ 10) ∧ (0 ≤ n ∧ n ≤ 8) ∧ 0 ≤ w ∧ w ≤ 1 then bySS F a n (-4) w else -1
theorem tnS_9 : ∀ d : Fin 9, 1 ≤ tnS d.val ∧ tnS d.val ≤ 100000000 := by decide +kernel
theorem tnS_in {d : Nat} (h : d ≤ 8) : 1 ≤ tnS d ∧ tnS d ≤ 100000000 := tnS_9 ⟨d, by omega⟩
theorem wtS_in {a : Int} (ha : 0 ≤ a ∧ a ≤ 10) (m : Nat) : ∀ d : Nat, 0 ≤ wtS a m d ∧ wtS a m d ≤ tnS d
  | 0 => by simp [wtS, tnS]
  | d + 1 => by
    have ih := wtS_in ha m d
    simp only [wtS, tnS]
    split
    · exact ⟨Int.mul_nonneg ih.1 ha.1, Int.mul_le_mul ih.2 ha.2 ha.1 (by omega)⟩
    · exact ⟨Int.mul_nonneg ih.1 (by omega), Int.mul_le_mul ih.2 (by omega) (by omega) (by omega)⟩
theorem stS_wf {F : Nat → Int} (h : WF F) (hd : F 54 ≤ 2000) (m : Nat) : ∀ d : Nat, d ≤ 8 → WF (stS F m d) ∧ stS F m d 54 = F 54 + (d : Int)
  | 0, _ => ⟨h, by simp [stS]⟩
  | d + 1, hh => by
    have ih := stS_wf h hd m d (by omega)
    have h0 := ih.1.day
    simp only [stS]
    split
    · exact ⟨ih.1.setDay (by omega), by rw [up_s]; omega⟩
    · exact ⟨dayS_wf ih.1 (by omega), by rw [dayS_day ih.1]; omega⟩
theorem vsS_in {F : Nat → Int} (h : WF F) (v : Int) : 0 ≤ vsS F v ∧ vsS F v ≤ 99 := by
  have := spS_in h
  unfold vsS
  split
  · exact this
  · split <;> omega
theorem ttS_in {F : Nat → Int} (h : WF F) (hd : F 54 ≤ 2000) {a : Int} (ha : 0 ≤ a ∧ a ≤ 10) {n : Nat} (hn : n ≤ 8) (v : Int) : ∀ m : Nat, 0 ≤ ttS F a n v m ∧ ttS F a n v m ≤ 9900000000 * (m : Int)
  | 0 => by simp [ttS]
  | m + 1 => by
    have ih := ttS_in h hd ha hn v m
    have hw := wtS_in ha m n
    have ht := tnS_in hn
    have hv := vsS_in (stS_wf h hd m n hn).1 v
    have h1 := Int.mul_nonneg hw.1 hv.1
    have h2 : wtS a m n * vsS (stS F m n) v ≤ 100000000 * 99 := Int.mul_le_mul (by omega) hv.2 hv.1 (by decide)
    simp only [ttS]
    omega
