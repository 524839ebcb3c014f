/-! THE MODEL: sheets, count, the tape -/
def by8 (v : Int) : Int := ((iI v).toInt8.toInt32).toInt
def sh16 (v : Int) : Int := ((iI v).toInt16.toInt32).toInt
theorem by8_i (v : Int) : (iI v).toInt8.toInt32 = iI (by8 v) := (iI_of _).2.symm
theorem sh16_i (v : Int) : (iI v).toInt16.toInt32 = iI (sh16 v) := (iI_of _).2.symm
theorem by8_in (v : Int) : inR (by8 v) := (iI_of _).1
theorem sh16_in (v : Int) : inR (sh16 v) := (iI_of _).1
section FS
variable {p : Program} {l : Launch} {e : Env} {R : Room} {s : State} {m : MethodId} {args : Array Value} {below : List Frame} {meth : Method} {c : Code} {H : Heap} {locs : List Loc} {cells slots : Nat} {Q : State → Prop} {cc : ByteArray} {pc : Nat} {ls : Array Slot} {st : List Value} {G : GG} {s0 : State} {b0 : Nat}
theorem ii_by8 (hx : p.tables.exec = Jvm.exec) (hb : c.code = cc) {a : Int} (d : decode cc pc = .ok (.i2b, 1)) (k : W p l e R s m args below meth c H locs cells slots Q (F0 m (pc + 1) ls (.int (iI (by8 a)) :: st))) : W p l e R s m args below meth c H locs cells slots Q (F0 m (pc) ls (.int (iI a) :: st)) := lv_i2b hx hb d (by8_i a) k
theorem ii_sh16 (hx : p.tables.exec = Jvm.exec) (hb : c.code = cc) {a : Int} (d : decode cc pc = .ok (.i2s, 1)) (k : W p l e R s m args below meth c H locs cells slots Q (F0 m (pc + 1) ls (.int (iI (sh16 a)) :: st))) : W p l e R s m args below meth c H locs cells slots Q (F0 m (pc) ls (.int (iI a) :: st)) := lv_i2s hx hb d (sh16_i a) k
end FS
abbrev okSh (k lane : Int) : Prop := (0 ≤ k ∧ k ≤ 3) ∧ 0 ≤ lane ∧ lane ≤ 2
def clS (C : Nat → Int) (k n x : Nat) : Int := if 40 * k ≤ x ∧ x < 40 * k + n then 0 else C x
theorem clS_0 (C : Nat → Int) (k : Nat) : clS C k 0 = C := by
  funext x
  exact if_neg (by omega)
theorem clS_s {C : Nat → Int} {k n : Nat} : up (clS C k n) ((40 * k) + n) 0 = clS C k (n + 1) := by
  funext x
  by_cases e : x = 40 * k + n
  · subst e
    rw [up_s]
    exact (if_pos (by omega)).symm
  · rw [up_n _ _ e]
    unfold clS
    by_cases h : 40 * k ≤ x ∧ x < 40 * k + n
    · rw [if_pos h, if_pos (by omega)]
    · rw [if_neg h, if_neg (by omega)]
def msheetA (k lane n : Int) : Int := if ¬ okSh k lane ∨ 40 < n then -1 else if n < 0 then -14 else 1
def msheetT (T : Sta) (k lane n : Int) : Sta := if ¬ okSh k lane ∨ 40 < n ∨ n < 0 then T else up (up (up T 8 (up (T 8) k.toNat lane)) 9 (up (T 9) k.toNat n)) 10 (clS (T 10) k.toNat 40)
def SheetOK (T : Sta) : Prop := ∀ k : Nat, k < 4 → (T 8 k = -4 ∨ (0 ≤ T 8 k ∧ T 8 k ≤ 2)) ∧ 0 ≤ T 9 k ∧ T 9 k ≤ 40
def layV (lane v : Int) : Int := if lane = 0 then by8 v else if lane = 1 then sh16 v else v
def mlayA (T : Sta) (k i : Int) : Int := if ¬ (0 ≤ k ∧ k ≤ 3) then -1 else if T 8 k.toNat = -4 then -11 else if ¬ (0 ≤ i ∧ i ≤ T 9 k.toNat - 1) then -12 else 1
def mlayT (T : Sta) (k i v : Int) : Sta := if ¬ (0 ≤ k ∧ k ≤ 3) then T else if T 8 k.toNat = -4 then T else if ¬ (0 ≤ i ∧ i ≤ T 9 k.toNat - 1) then T else up T 10 (up (T 10) (40 * k.toNat + i.toNat) (layV (T 8 k.toNat) v))
def c25 (F : Nat → Int) : Nat → Int
  | 0 => 0
  | x + 1 => c25 F x + F (10 + x)
def mcountA (T : Sta) (what : Int) : Int :=
  if what = 0 then T 1 57 else if what = 1 then T 3 0 + T 3 1 else if what = 2 then T 0 10 else if what = 3 then (if T 8 0 = -4 then -4 else T 9 0) else if what = 4 then lenS (T 1) (T 1 53).toNat else if what = 5 then c25 (T 1) 25 else -1
def mfeedA (T : Sta) (v : Int) : Int := if ¬ (0 ≤ v ∧ v ≤ 127) then -1 else if T 0 10 = 160 then -3 else T 0 10 + 1
def mfeedT (T : Sta) (v : Int) : Sta := if ¬ (0 ≤ v ∧ v ≤ 127) ∨ T 0 10 = 160 then T else up (up T 0 (up (T 0) 10 (T 0 10 + 1))) 5 (up (T 5) (T 0 10).toNat v)
def mendA (T : Sta) (n : Int) : Int := if ¬ (0 ≤ n ∧ n ≤ T 0 10) then -1 else T 0 10
def mendT (T : Sta) (n : Int) : Sta := if ¬ (0 ≤ n ∧ n ≤ T 0 10) then T else up T 0 (up (T 0) 10 n)
