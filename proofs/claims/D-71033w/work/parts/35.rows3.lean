/-! rows for bytes and booleans, bits -/
theorem b2_fit (P : Prop) [Decidable P] : fits .boolean (.int (iI (b2 P))) = true := by unfold b2; split <;> rfl
theorem iI_8 {v : Int} (h : -128 ≤ v ∧ v < 128) : (iI v).toInt8.toInt32 = iI v := by
  apply Int32.toInt_inj.mp
  rw [Int8.toInt_toInt32, Int32.toInt_toInt8, iI_toInt ⟨by omega, by omega⟩]
  rw [Int.bmod_eq_of_le (by omega) (by omega)]
theorem iI_16 {v : Int} (h : -32768 ≤ v ∧ v < 32768) : (iI v).toInt16.toInt32 = iI v := by
  apply Int32.toInt_inj.mp
  rw [Int16.toInt_toInt32, Int32.toInt_toInt16, iI_toInt ⟨by omega, by omega⟩]
  rw [Int.bmod_eq_of_le (by omega) (by omega)]
theorem nar_b {v : Int} (h : -128 ≤ v ∧ v < 128) : narrow .byte (.int (iI v)) = .int (iI v) := congrArg Value.int (iI_8 h)
theorem nar_s {v : Int} (h : -32768 ≤ v ∧ v < 32768) : narrow .short (.int (iI v)) = .int (iI v) := congrArg Value.int (iI_16 h)
theorem up_row {f : Nat → Int} {b c0 n : Nat} {v : Int} : ∀ c : Nat, c < n → up f (b + c0) v (b + c) = up (fun j => f (b + j)) c0 v c := by
  intro c _
  by_cases h : c = c0
  · subst h; rw [up_s, up_s]
  · rw [up_n _ _ (by omega), up_n _ _ h]
theorem up_rowo {f : Nat → Int} {b c0 n : Nat} {v : Int} (h : c0 < n) : ∀ k : Nat, (k < b ∨ b + n ≤ k) → up f (b + c0) v k = f k := fun k hk => up_n _ _ (by omega)
theorem imgF_m {G : GG} {A : Nat → Nat} {i a : Nat} {t : Nat → Int} {v : Int} {H : Heap} (h : OBJ G 2 a ((imgF A i t).set 2 (.int (iI v))) H) : OBJ G 2 a (imgF A i (up t (7 + i) v)) H := by
  unfold imgF
  rw [up_s, up_n _ _ (by omega)]
  exact h
theorem imgF_k {G : GG} {A : Nat → Nat} {i a : Nat} {t : Nat → Int} {v : Int} {H : Heap} (h : OBJ G 2 a ((imgF A i t).set 3 (.int (iI v))) H) : OBJ G 2 a (imgF A i (up t (9 + i) v)) H := by
  unfold imgF
  rw [up_s, up_n _ _ (by omega)]
  exact h
theorem bit_dec : ∀ n : Fin 256, ∀ k : Fin 8, ((Int32.ofInt ((n.val : Nat) : Int) >>> (Int32.ofInt ((k.val : Nat) : Int) &&& 31)) &&& Int32.ofInt 1) = Int32.ofInt (((n.val / 2 ^ k.val % 2 : Nat)) : Int) := by decide +kernel
theorem bit_of {a b : Int} (ha : 0 ≤ a ∧ a < 256) (hb : 0 ≤ b ∧ b < 8) : ((iI a >>> (iI b &&& 31)) &&& iI 1) = iI ((a.toNat / 2 ^ b.toNat % 2 : Nat) : Int) := by
  have h := bit_dec ⟨a.toNat, by omega⟩ ⟨b.toNat, by omega⟩
  dsimp only at h
  rw [show ((a.toNat : Nat) : Int) = a by omega, show ((b.toNat : Nat) : Int) = b by omega] at h
  exact h
/-- whether bit k is among some -/
abbrev bitS (a b : Int) : Prop := a.toNat / 2 ^ b.toNat % 2 = 1
section FB
variable {p : Program} {l : Launch} {e : Env} {R : Room} {s : State} {m : MethodId} {args : Array Value} {below : List Frame} {meth : Method} {c : Code} {H : Heap} {locs : List Loc} {cells slots : Nat} {Q : State → Prop} {cc : ByteArray} {pc : Nat} {ls : Array Slot} {st : List Value} {G : GG} {s0 : State} {b0 : Nat}
theorem r_bast (Z : ZZ l G s0 b0) (hB : Born s0 s) (hx : p.tables.exec = Jvm.exec) (hb : c.code = cc) {a n k : Nat} {f : Nat → Int} {z v : Int} {A : Nat → Prop} {H0 : Heap} (hI : IA G 2 a n f H) (hS : va_S A H0 H locs) (hAa : A a) (hz : z = (k : Int)) (hk : k < n) (hn : n < 2147483648) (hnar : narrow .byte (.int (iI v)) = .int (iI v)) (d : decode cc pc = .ok (.bastore, 1)) (PW : Heap → Prop) (hw : ∀ H1 : Heap, H1.size = H.size → (∀ q : Nat, q ≠ a → H1[q]? = H[q]?) → IA G 2 a n (up f k v) H1 → PW H1) (kk : ∀ (H1 : Heap) (locs1 : List Loc), PW H1 → va_S A H0 H1 locs1 → W p l e R s m args below meth c H1 locs1 cells slots Q (F0 m (pc + 1) ls (st))) : W p l e R s m args below meth c H locs cells slots Q (F0 m (pc) ls (.int (iI v) :: .int (iI z) :: .ref a :: st)) := by
  have hi := iI_in hz hk hn
  refine W.bast hx hb hI (((hB.K Z).2 2 _ rfl).1 n (fun j => .int (iI (f j)))) (fun q => by cases q) (by show ¬ (_ ∨ (arrV _ _ _).slots.size ≤ _); rw [arrV_size]; exact hi) rfl rfl d fun H1 e z oq => ?_
  refine kk H1 _ (hw H1 z oq ?_) (hS.put z oq hAa)
  unfold IA
  rw [e, hnar, vp_cell_i, vp_cell_i, arrV_store, iI_cl hz (by omega)]
  congr 2
  funext q
  by_cases hq : q = k
  · subst hq
    simp [updV, up]
  · simp [updV, up, hq]
theorem r_zast (Z : ZZ l G s0 b0) (hB : Born s0 s) (hx : p.tables.exec = Jvm.exec) (hb : c.code = cc) {a n k : Nat} {f : Nat → Int} {z v : Int} {A : Nat → Prop} {H0 : Heap} (hI : IA G 4 a n f H) (hS : va_S A H0 H locs) (hAa : A a) (hz : z = (k : Int)) (hk : k < n) (hn : n < 2147483648) (hnar : narrow .boolean (.int (iI v)) = .int (iI v)) (d : decode cc pc = .ok (.bastore, 1)) (PW : Heap → Prop) (hw : ∀ H1 : Heap, H1.size = H.size → (∀ q : Nat, q ≠ a → H1[q]? = H[q]?) → IA G 4 a n (up f k v) H1 → PW H1) (kk : ∀ (H1 : Heap) (locs1 : List Loc), PW H1 → va_S A H0 H1 locs1 → W p l e R s m args below meth c H1 locs1 cells slots Q (F0 m (pc + 1) ls (st))) : W p l e R s m args below meth c H locs cells slots Q (F0 m (pc) ls (.int (iI v) :: .int (iI z) :: .ref a :: st)) := by
  have hi := iI_in hz hk hn
  refine W.zast hx hb hI (((hB.K Z).2 4 _ rfl).1 n (fun j => .int (iI (f j)))) (fun q => by cases q) (by show ¬ (_ ∨ (arrV _ _ _).slots.size ≤ _); rw [arrV_size]; exact hi) rfl rfl d fun H1 e z oq => ?_
  refine kk H1 _ (hw H1 z oq ?_) (hS.put z oq hAa)
  unfold IA
  rw [e, hnar, vp_cell_i, vp_cell_i, arrV_store, iI_cl hz (by omega)]
  congr 2
  funext q
  by_cases hq : q = k
  · subst hq
    simp [updV, up]
  · simp [updV, up, hq]
theorem ii_i2b (hx : p.tables.exec = Jvm.exec) (hb : c.code = cc) {a : Int} (ha : -128 ≤ a ∧ a < 128) (d : decode cc pc = .ok (.i2b, 1)) (k : W p l e R s m args below meth c H locs cells slots Q (F0 m (pc + 1) ls (.int (iI a) :: st))) : W p l e R s m args below meth c H locs cells slots Q (F0 m (pc) ls (.int (iI a) :: st)) := lv_i2b hx hb d (iI_8 ha) k
theorem ii_shand (hx : p.tables.exec = Jvm.exec) (hb : c.code = cc) {a b : Int} (ha : 0 ≤ a ∧ a < 256) (hb2 : 0 ≤ b ∧ b < 8) (d : decode cc pc = .ok (.ishr, 1)) (d2 : decode cc (pc + 1) = .ok (.iconst 1, 1)) (d3 : decode cc (pc + 2) = .ok (.iand, 1)) (k : W p l e R s m args below meth c H locs cells slots Q (F0 m (pc + 3) ls (.int (iI ((a.toNat / 2 ^ b.toNat % 2 : Nat) : Int)) :: st))) : W p l e R s m args below meth c H locs cells slots Q (F0 m (pc) ls (.int (iI b) :: .int (iI a) :: st)) :=
  lv_ishr hx hb d (ii_const hx hb d2 (lv_iand hx hb d3 (by rw [bit_of ha hb2]; exact k)))
end FB
