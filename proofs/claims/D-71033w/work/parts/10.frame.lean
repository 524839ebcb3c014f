/-! FRAME: machine ints as mathematical integers; the picture's pieces; rows over them -/
def iI (z : Int) : Int32 := Int32.ofInt z
def lI (z : Int) : Int64 := Int64.ofInt z
abbrev inR (z : Int) : Prop := -2147483648 ≤ z ∧ z < 2147483648
abbrev inL (z : Int) : Prop := -9223372036854775808 ≤ z ∧ z < 9223372036854775808
theorem iI_toInt {z : Int} (h : inR z) : (iI z).toInt = z := Int32.toInt_ofInt_of_le (by have := h.1; omega) (by have := h.2; omega)
theorem lI_toInt {z : Int} (h : inL z) : (lI z).toInt = z := Int64.toInt_ofInt_of_le (by have := h.1; omega) (by have := h.2; omega)
theorem iI_add (a b : Int) : iI a + iI b = iI (a + b) := (Int32.ofInt_add a b).symm
theorem iI_sub (a b : Int) : iI a - iI b = iI (a - b) := (Int32.ofInt_sub a b).symm
theorem iI_mul (a b : Int) : iI a * iI b = iI (a * b) := (Int32.ofInt_mul a b).symm
theorem iI_neg (a : Int) : - iI a = iI (-a) := (Int32.ofInt_neg a).symm
theorem lI_add (a b : Int) : lI a + lI b = lI (a + b) := (Int64.ofInt_add a b).symm
theorem lI_sub (a b : Int) : lI a - lI b = lI (a - b) := (Int64.ofInt_sub a b).symm
theorem lI_mul (a b : Int) : lI a * lI b = lI (a * b) := (Int64.ofInt_mul a b).symm
theorem lI_neg (a : Int) : - lI a = lI (-a) := (Int64.ofInt_neg a).symm
theorem iI_of (x : Int32) : inR x.toInt ∧ iI x.toInt = x := ⟨⟨Int32.le_toInt x, Int32.toInt_lt x⟩, Int32.ofInt_toInt x⟩
theorem iI_inj {a b : Int} (ha : inR a) (hb : inR b) : iI a = iI b ↔ a = b := by
  rw [← Int32.toInt_inj, iI_toInt ha, iI_toInt hb]
theorem iI_lt {a b : Int} (ha : inR a) (hb : inR b) : iI a < iI b ↔ a < b := by
  rw [Int32.lt_iff_toInt_lt, iI_toInt ha, iI_toInt hb]
theorem iI_le {a b : Int} (ha : inR a) (hb : inR b) : iI a ≤ iI b ↔ a ≤ b := by
  rw [Int32.le_iff_toInt_le, iI_toInt ha, iI_toInt hb]
theorem lI_inj {a b : Int} (ha : inL a) (hb : inL b) : lI a = lI b ↔ a = b := by
  rw [← Int64.toInt_inj, lI_toInt ha, lI_toInt hb]
theorem lI_lt {a b : Int} (ha : inL a) (hb : inL b) : lI a < lI b ↔ a < b := by
  rw [Int64.lt_iff_toInt_lt, lI_toInt ha, lI_toInt hb]
theorem iI_0 : iI 0 = 0 := rfl
theorem iI_nat (n : Nat) : iI (n : Int) = Int32.ofNat n := Int32.ofInt_eq_ofNat
theorem iI_cl {z : Int} {k : Nat} (h : z = (k : Int)) (hk : k < 2147483648) : (iI z).toNatClampNeg = k := by
  subst h
  show (iI (k : Int)).toInt.toNat = k
  rw [iI_toInt ⟨by omega, by omega⟩]
  rfl
theorem iI_in {z : Int} {k n : Nat} (h : z = (k : Int)) (hk : k < n) (hn : n < 2147483648) : vp_in (iI z) n := by
  rw [vp_in_iff, iI_toInt ⟨by omega, by omega⟩]
  omega
theorem iI_div {a b : Int} (ha : 0 ≤ a) (hb : 0 < b) (ha2 : a < 2147483648) (hb2 : b < 2147483648) : iI a / iI b = iI (a / b) := by
  apply Int32.toInt_inj.mp
  have h1 : 0 ≤ a / b := Int.ediv_nonneg ha (by omega)
  have h2 : a / b ≤ a := Int.ediv_le_self b ha
  rw [Int32.toInt_div_of_ne_right _ _ (by
    intro e
    have e2 := congrArg Int32.toInt e
    rw [iI_toInt ⟨by omega, by omega⟩] at e2
    have : (-1 : Int32).toInt = -1 := by decide
    omega), iI_toInt ⟨by omega, by omega⟩, iI_toInt ⟨by omega, by omega⟩, iI_toInt ⟨by omega, by omega⟩, Int.tdiv_eq_ediv_of_nonneg ha]
theorem iI_rem {a b : Int} (ha : 0 ≤ a) (hb : 0 < b) (ha2 : a < 2147483648) (hb2 : b < 2147483648) : iI a - iI a / iI b * iI b = iI (a % b) := by
  rw [iI_div ha hb ha2 hb2, iI_mul, iI_sub]
  congr 1
  have := Int.mul_ediv_add_emod a b
  rw [Int.mul_comm] at this
  omega
def cmpZ (a b : Int) : Int := if b < a then 1 else if a = b then 0 else -1
theorem cmpZ_lt {a b : Int} : cmpZ a b < 0 ↔ a < b := by unfold cmpZ; split <;> (try split) <;> omega
theorem cmpZ_gt {a b : Int} : 0 < cmpZ a b ↔ b < a := by unfold cmpZ; split <;> (try split) <;> omega
theorem cmpZ_le {a b : Int} : cmpZ a b ≤ 0 ↔ a ≤ b := by unfold cmpZ; split <;> (try split) <;> omega
theorem cmpZ_ge {a b : Int} : 0 ≤ cmpZ a b ↔ b ≤ a := by unfold cmpZ; split <;> (try split) <;> omega
theorem cmpZ_eq {a b : Int} : cmpZ a b = 0 ↔ a = b := by unfold cmpZ; split <;> (try split) <;> omega
theorem cmpZ_in (a b : Int) : -1 ≤ cmpZ a b ∧ cmpZ a b ≤ 1 := by unfold cmpZ; split <;> (try split) <;> omega
theorem lI_cmp {a b : Int} (ha : inL a) (hb : inL b) : lg_cmp (lI a) (lI b) = iI (cmpZ a b) := by
  unfold lg_cmp cmpZ
  by_cases h : b < a
  · rw [if_pos h, if_pos (show lI a > lI b from (lI_lt hb ha).mpr h)]; rfl
  · rw [if_neg h, if_neg (fun q : lI a > lI b => h ((lI_lt hb ha).mp q))]
    by_cases h2 : a = b
    · rw [if_pos h2, if_pos ((lI_inj ha hb).mpr h2)]; rfl
    · rw [if_neg h2, if_neg (fun q => h2 ((lI_inj ha hb).mp q))]; rfl
theorem iI_toL {z : Int} (h : inR z) : (iI z).toInt64 = lI z := by
  apply Int64.toInt_inj.mp
  rw [Int32.toInt_toInt64, iI_toInt h, lI_toInt ⟨by omega, by omega⟩]
/-- a truth value as the machine has it -/
def b2 (P : Prop) [Decidable P] : Int := if P then 1 else 0
theorem b2_t {P : Prop} [Decidable P] (h : P) : b2 P = 1 := if_pos h
theorem b2_f {P : Prop} [Decidable P] (h : ¬ P) : b2 P = 0 := if_neg h
theorem b2_in (P : Prop) [Decidable P] : 0 ≤ b2 P ∧ b2 P ≤ 1 := by unfold b2; split <;> omega
theorem b2_nar (P : Prop) [Decidable P] : narrow .boolean (.int (iI (b2 P))) = .int (iI (b2 P)) := by unfold b2; split <;> rfl
theorem b2_iff {P Q : Prop} [Decidable P] [Decidable Q] (h : P ↔ Q) : b2 P = b2 Q := by
  by_cases hp : P
  · rw [b2_t hp, b2_t (h.mp hp)]
  · rw [b2_f hp, b2_f (fun q => hp (h.mpr q))]
/-- a function with one value changed -/
def up {α : Type} (f : Nat → α) (k : Nat) (v : α) : Nat → α := fun j => if j = k then v else f j
theorem up_s {α : Type} (f : Nat → α) (k : Nat) (v : α) : up f k v k = v := if_pos rfl
theorem up_n {α : Type} (f : Nat → α) {k j : Nat} (v : α) (h : j ≠ k) : up f k v j = f j := if_neg h
abbrev Sta : Type := Nat → Nat → Int
/-- a state with one number changed -/
def up2 (S : Sta) (a k : Nat) (v : Int) : Sta := up S a (up (S a) k v)
theorem up2_s (S : Sta) (a k : Nat) (v : Int) : up2 S a k v a k = v := by simp [up2, up]
theorem up2_n (S : Sta) {a k b j : Nat} (v : Int) (h : ¬ (b = a ∧ j = k)) : up2 S a k v b j = S b j := by
  by_cases e : b = a
  · subst e
    have : j ≠ k := fun z => h ⟨rfl, z⟩
    simp [up2, up, this]
  · simp [up2, up, e]
theorem up2_row (S : Sta) (a k : Nat) (v : Int) : up2 S a k v a = up (S a) k v := by simp [up2, up]
theorem up2_other (S : Sta) {a b : Nat} (k : Nat) (v : Int) (h : b ≠ a) : up2 S a k v b = S b := by simp [up2, up, h]
theorem iI_upd (f : Nat → Int) (k : Nat) (v : Int) : upd (fun j => iI (f j)) k (iI v) = fun j => iI (up f k v j) := by
  funext j
  by_cases h : j = k <;> simp [upd, up, h]

/-! the classes and array classes of the worlds -/
abbrev cls9 : List vw_C := [(RX0, TX0, 16), (RX1, TX1, 8), (RX2, TX2, 5), (RX3, TX3, 2), (RX4, TX4, 29), (RX5, TX5, 10), (RX6, TX6, 8)]
abbrev GG : Type := va_G × (Nat → ClassId)
abbrev tysG (dA : Nat → ClassId) : List (ClassId × FieldType) := [(dA 0, .int), (dA 1, .array .int), (dA 2, .byte), (dA 3, .short), (dA 4, .boolean), (dA 5, .object "TemperIsles$Image"), (dA 6, .object "TemperIsles$Sheet")]
/-- the start: what the law's entry gives, for good -/
def ZZ (l : Launch) (G : GG) (s0 : State) (b0 : Nat) : Prop := l.flags = flags0 ∧ (∀ w ∈ lw_tbl, w.before #[Value.ref b0] s0 = true) ∧ (Jvm.Cond.and given_1 narrow_1).before #[Value.ref b0] s0 = true ∧ modulesRight_1 s0 = true ∧ va_K G.1 cls9 (tysG G.2) s0
/-- a state that came out of the start: its old cells stand as they stood -/
def BornH (s0 s : State) (H : Heap) : Prop := s0.WarmedH s.vm ∧ s0.heap.size ≤ H.size ∧ ∀ q : Nat, q < s0.heap.size → H[q]? = s0.heap[q]?
def Born (s0 U : State) : Prop := BornH s0 U U.heap
theorem Born.K {l : Launch} {G : GG} {s0 : State} {b0 : Nat} (Z : ZZ l G s0 b0) {U : State} (h : Born s0 U) : va_K G.1 cls9 (tysG G.2) U := va_K.moved h.1.alike Z.2.2.2.2
theorem BornH.S {s0 s : State} {A : Nat → Prop} {H : Heap} {locs : List Loc} (h : Born s0 s) (hN : ∀ q, A q → s0.heap.size ≤ q) (hS : va_S A s.heap H locs) : BornH s0 s H :=
  ⟨h.1, Nat.le_trans h.2.1 hS.1, fun q hq => (hS.2.1 q (Nat.lt_of_lt_of_le hq h.2.1) (fun z => absurd (hN q z) (Nat.not_le.mpr hq))).trans (h.2.2 q hq)⟩
theorem BornH.to {s0 s U : State} {H : Heap} (h : BornH s0 s H) (hU : U.heap = H) (hW : s.WarmedH U.vm) : Born s0 U := ⟨State.WarmedH.trans h.1 hW, by rw [hU]; exact h.2.1, fun q hq => by rw [hU]; exact h.2.2 q hq⟩
theorem Born.calling {s0 U : State} (h : Born s0 U) (g : JFrame) (mk : MethodId) (a : Array Value) : Born s0 (U.calling g mk a) := h
/-- a method's own cells: apart, and none of the start's -/
def Own (s0 : State) (ad : Nat → Nat) (N : Nat) : Prop := (∀ i j : Nat, i < N → j < N → ad i = ad j → i = j) ∧ ∀ k : Nat, k < N → s0.heap.size ≤ ad k
/-- what a method may change: its cells, and those that it makes -/
def AA (ad : Nat → Nat) (N sz : Nat) : Nat → Prop := fun q => (∃ k : Nat, k < N ∧ q = ad k) ∨ sz ≤ q
theorem AA.me {ad : Nat → Nat} {N sz k : Nat} (h : k < N) : AA ad N sz (ad k) := Or.inl ⟨k, h, rfl⟩
theorem AA.new {ad : Nat → Nat} {N sz : Nat} {q : Nat} (h : sz ≤ q) : AA ad N sz q := Or.inr h
theorem AA.old {s0 s : State} {ad : Nat → Nat} {N : Nat} (hO : Own s0 ad N) (hB : Born s0 s) : ∀ q, AA ad N s.heap.size q → s0.heap.size ≤ q := by
  intro q h
  rcases h with ⟨k, hk, rfl⟩ | h
  · exact hO.2 k hk
  · exact Nat.le_trans hB.2.1 h
/-- pieces of a picture: an object, an array of ints (bytes, booleans), an array of references -/
def OBJ (G : GG) (ci a : Nat) (fs : List Value) (H : Heap) : Prop := va_at G.1 cls9 (a, .inr (ci, fs)) H
def IA (G : GG) (t a n : Nat) (f : Nat → Int) (H : Heap) : Prop := H[a]? = some (vp_cell (G.2 t) (n, .inl (fun j => iI (f j))))
def QA (G : GG) (t a n : Nat) (f : Nat → Option Nat) (H : Heap) : Prop := H[a]? = some (vp_cell (G.2 t) (n, .inr (.inr (.inr (.inr f)))))
theorem OBJ.lt {G : GG} {ci a : Nat} {fs : List Value} {H : Heap} (h : OBJ G ci a fs H) : a < H.size := va_at.lt (q := (a, .inr (ci, fs))) h
theorem IA.lt {G : GG} {t a n : Nat} {f : Nat → Int} {H : Heap} (h : IA G t a n f H) : a < H.size := (Array.getElem?_eq_some_iff.mp h).1
theorem QA.lt {G : GG} {t a n : Nat} {f : Nat → Option Nat} {H : Heap} (h : QA G t a n f H) : a < H.size := (Array.getElem?_eq_some_iff.mp h).1
theorem OBJ.kept {G : GG} {ci a : Nat} {fs : List Value} {H H1 : Heap} (h : OBJ G ci a fs H) (hq : H1[a]? = H[a]?) : OBJ G ci a fs H1 := va_at.kept (q := (a, .inr (ci, fs))) h hq
theorem IA.kept {G : GG} {t a n : Nat} {f : Nat → Int} {H H1 : Heap} (h : IA G t a n f H) (hq : H1[a]? = H[a]?) : IA G t a n f H1 := hq.trans h
theorem QA.kept {G : GG} {t a n : Nat} {f : Nat → Option Nat} {H H1 : Heap} (h : QA G t a n f H) (hq : H1[a]? = H[a]?) : QA G t a n f H1 := hq.trans h
theorem arrV_congr {cA : ClassId} {n : Nat} {f g : Nat → Value} (h : ∀ j, j < n → f j = g j) : arrV cA n f = arrV cA n g := by
  unfold arrV
  congr 1
  apply Array.ext
  · simp
  · intro i h1 h2
    simp at h1 ⊢
    exact h i h1
theorem IA.to {G : GG} {t a n : Nat} {f g : Nat → Int} {H : Heap} (h : IA G t a n f H) (e : ∀ j, j < n → f j = g j) : IA G t a n g H := by
  unfold IA at h ⊢
  rw [h, vp_cell_i, vp_cell_i, arrV_congr (fun j hj => by rw [e j hj])]
theorem OBJ.recv {l : Launch} {G : GG} {s0 : State} {b0 : Nat} (Z : ZZ l G s0 b0) {s : State} (hB : Born s0 s) {H : Heap} {ci a : Nat} {fs : List Value} (h : OBJ G ci a fs H) {q : vw_C} (hc : cls9[ci]? = some q) : ∃ cell : Cell, H[a]? = some cell ∧ cell.vm.isStatics = false ∧ s.vm.findClass q.1 = some cell.cls :=
  va_recv (ws := [(a, .inr (ci, fs))]) (q0 := 0) (hB.K Z) (fun k q hk => by
    have hz : k < 1 := (List.getElem?_eq_some_iff.mp hk).1
    rw [show k = 0 by omega] at hk
    cases hk
    exact h) hc rfl
theorem va1 {D : va_G} {cl : List vw_C} {q : Nat × va_E} {H : Heap} (h : va_at D cl q H) : va_P D cl [q] H := fun k x hk => by
  have hz : k < 1 := (List.getElem?_eq_some_iff.mp hk).1
  rw [show k = 0 by omega] at hk
  cases hk
  exact h
section FR
variable {p : Program} {l : Launch} {e : Env} {R : Room} {s : State} {m : MethodId} {args : Array Value} {below : List Frame} {meth : Method} {c : Code} {H : Heap} {locs : List Loc} {cells slots : Nat} {Q : State → Prop} {cc : ByteArray} {pc : Nat} {ls : Array Slot} {st : List Value}
theorem ii_const (hx : p.tables.exec = Jvm.exec) (hb : c.code = cc) {n : Int} (d : decode cc pc = .ok (.iconst n, 1)) (k : W p l e R s m args below meth c H locs cells slots Q (F0 m (pc + 1) ls (.int (iI n) :: st))) : W p l e R s m args below meth c H locs cells slots Q (F0 m (pc) ls (st)) := lv_iconst hx hb d rfl k
theorem ii_bipush (hx : p.tables.exec = Jvm.exec) (hb : c.code = cc) {n : Int} (d : decode cc pc = .ok (.bipush n, 2)) (h : (Int8.ofInt n).toInt32 = iI n) (k : W p l e R s m args below meth c H locs cells slots Q (F0 m (pc + 2) ls (.int (iI n) :: st))) : W p l e R s m args below meth c H locs cells slots Q (F0 m (pc) ls (st)) := lv_bipush hx hb d h k
theorem ii_sipush (hx : p.tables.exec = Jvm.exec) (hb : c.code = cc) {n : Int} (d : decode cc pc = .ok (.sipush n, 3)) (h : (Int16.ofInt n).toInt32 = iI n) (k : W p l e R s m args below meth c H locs cells slots Q (F0 m (pc + 3) ls (.int (iI n) :: st))) : W p l e R s m args below meth c H locs cells slots Q (F0 m (pc) ls (st)) := lv_sipush hx hb d h k
theorem ii_lconst (hx : p.tables.exec = Jvm.exec) (hb : c.code = cc) {n : Fin 2} {z : Int} (d : decode cc pc = .ok (.lconst n, 1)) (h : Int64.ofNat (n : Nat) = lI z) (k : W p l e R s m args below meth c H locs cells slots Q (F0 m (pc + 1) ls (.long (lI z) :: st))) : W p l e R s m args below meth c H locs cells slots Q (F0 m (pc) ls (st)) := lv_lconst hx hb d h k
theorem ii_ldc (hx : p.tables.exec = Jvm.exec) (hb : c.code = cc) {own : String} {index : Nat} {v : Int32} {z : Int} (hts : ∀ w ∈ lw_all, w.before args s = true) (hown : s.vm.findClass own = some m.cls) (q : Jvm.Cond.constant own index v ∈ lw_all) (d : decode cc pc = .ok (.ldc index, 2)) (h : v = iI z) (k : W p l e R s m args below meth c H locs cells slots Q (F0 m (pc + 2) ls (.int (iI z) :: st))) : W p l e R s m args below meth c H locs cells slots Q (F0 m (pc) ls (st)) := lv_ldc hx hb hown (hts _ q) d (by rw [h]; exact k)
theorem ii_ldcw (hx : p.tables.exec = Jvm.exec) (hb : c.code = cc) {own : String} {index : Nat} {v : Int32} {z : Int} (hts : ∀ w ∈ lw_all, w.before args s = true) (hown : s.vm.findClass own = some m.cls) (q : Jvm.Cond.constant own index v ∈ lw_all) (d : decode cc pc = .ok (.ldc_w index, 3)) (h : v = iI z) (k : W p l e R s m args below meth c H locs cells slots Q (F0 m (pc + 3) ls (.int (iI z) :: st))) : W p l e R s m args below meth c H locs cells slots Q (F0 m (pc) ls (st)) := lv_ldcw hx hb hown (hts _ q) d (by rw [h]; exact k)
theorem ii_ldc2 (hx : p.tables.exec = Jvm.exec) (hb : c.code = cc) {own : String} {index : Nat} {v : Int64} {z : Int} (hts : ∀ w ∈ lw_all, w.before args s = true) (hown : s.vm.findClass own = some m.cls) (q : Jvm.Cond.constantLong own index v ∈ lw_all) (d : decode cc pc = .ok (.ldc2_w index, 3)) (h : v = lI z) (k : W p l e R s m args below meth c H locs cells slots Q (F0 m (pc + 3) ls (.long (lI z) :: st))) : W p l e R s m args below meth c H locs cells slots Q (F0 m (pc) ls (st)) := lv_ldc2 hx hb hown (hts _ q) d (by rw [h]; exact k)
theorem ii_add (hx : p.tables.exec = Jvm.exec) (hb : c.code = cc) {a b : Int} (d : decode cc pc = .ok (.iadd, 1)) (k : W p l e R s m args below meth c H locs cells slots Q (F0 m (pc + 1) ls (.int (iI (a + b)) :: st))) : W p l e R s m args below meth c H locs cells slots Q (F0 m (pc) ls (.int (iI b) :: .int (iI a) :: st)) := lv_iadd hx hb d (by rw [iI_add]; exact k)
theorem ii_sub (hx : p.tables.exec = Jvm.exec) (hb : c.code = cc) {a b : Int} (d : decode cc pc = .ok (.isub, 1)) (k : W p l e R s m args below meth c H locs cells slots Q (F0 m (pc + 1) ls (.int (iI (a - b)) :: st))) : W p l e R s m args below meth c H locs cells slots Q (F0 m (pc) ls (.int (iI b) :: .int (iI a) :: st)) := lv_isub hx hb d (by rw [iI_sub]; exact k)
theorem ii_mul (hx : p.tables.exec = Jvm.exec) (hb : c.code = cc) {a b : Int} (d : decode cc pc = .ok (.imul, 1)) (k : W p l e R s m args below meth c H locs cells slots Q (F0 m (pc + 1) ls (.int (iI (a * b)) :: st))) : W p l e R s m args below meth c H locs cells slots Q (F0 m (pc) ls (.int (iI b) :: .int (iI a) :: st)) := lv_imul hx hb d (by rw [iI_mul]; exact k)
theorem ii_neg (hx : p.tables.exec = Jvm.exec) (hb : c.code = cc) {a : Int} (d : decode cc pc = .ok (.ineg, 1)) (k : W p l e R s m args below meth c H locs cells slots Q (F0 m (pc + 1) ls (.int (iI (-a)) :: st))) : W p l e R s m args below meth c H locs cells slots Q (F0 m (pc) ls (.int (iI a) :: st)) := lv_ineg hx hb d (by rw [iI_neg]; exact k)
theorem ii_div (hx : p.tables.exec = Jvm.exec) (hb : c.code = cc) {a b : Int} (ha : 0 ≤ a ∧ a < 2147483648) (hb2 : 0 < b ∧ b < 2147483648) (d : decode cc pc = .ok (.idiv, 1)) (k : W p l e R s m args below meth c H locs cells slots Q (F0 m (pc + 1) ls (.int (iI (a / b)) :: st))) : W p l e R s m args below meth c H locs cells slots Q (F0 m (pc) ls (.int (iI b) :: .int (iI a) :: st)) := lv_idiv hx hb d (fun h => by rw [← iI_0, iI_inj ⟨by omega, by omega⟩ ⟨by omega, by omega⟩] at h; omega) (by rw [iI_div ha.1 hb2.1 ha.2 hb2.2]; exact k)
theorem ii_rem (hx : p.tables.exec = Jvm.exec) (hb : c.code = cc) {a b : Int} (ha : 0 ≤ a ∧ a < 2147483648) (hb2 : 0 < b ∧ b < 2147483648) (d : decode cc pc = .ok (.irem, 1)) (k : W p l e R s m args below meth c H locs cells slots Q (F0 m (pc + 1) ls (.int (iI (a % b)) :: st))) : W p l e R s m args below meth c H locs cells slots Q (F0 m (pc) ls (.int (iI b) :: .int (iI a) :: st)) := lv_irem hx hb d (fun h => by rw [← iI_0, iI_inj ⟨by omega, by omega⟩ ⟨by omega, by omega⟩] at h; omega) (by rw [iI_rem ha.1 hb2.1 ha.2 hb2.2]; exact k)
theorem ll_add (hx : p.tables.exec = Jvm.exec) (hb : c.code = cc) {a b : Int} (d : decode cc pc = .ok (.ladd, 1)) (k : W p l e R s m args below meth c H locs cells slots Q (F0 m (pc + 1) ls (.long (lI (a + b)) :: st))) : W p l e R s m args below meth c H locs cells slots Q (F0 m (pc) ls (.long (lI b) :: .long (lI a) :: st)) := lv_ladd hx hb d (by rw [lI_add]; exact k)
theorem ll_mul (hx : p.tables.exec = Jvm.exec) (hb : c.code = cc) {a b : Int} (d : decode cc pc = .ok (.lmul, 1)) (k : W p l e R s m args below meth c H locs cells slots Q (F0 m (pc + 1) ls (.long (lI (a * b)) :: st))) : W p l e R s m args below meth c H locs cells slots Q (F0 m (pc) ls (.long (lI b) :: .long (lI a) :: st)) := lv_lmul hx hb d (by rw [lI_mul]; exact k)
theorem ii_i2l (hx : p.tables.exec = Jvm.exec) (hb : c.code = cc) {a : Int} (ha : inR a) (d : decode cc pc = .ok (.i2l, 1)) (k : W p l e R s m args below meth c H locs cells slots Q (F0 m (pc + 1) ls (.long (lI a) :: st))) : W p l e R s m args below meth c H locs cells slots Q (F0 m (pc) ls (.int (iI a) :: st)) := lv_i2l hx hb d (iI_toL ha) k
theorem ll_cmp (hx : p.tables.exec = Jvm.exec) (hb : c.code = cc) {a b : Int} (ha : inL a) (hb2 : inL b) (d : decode cc pc = .ok (.lcmp, 1)) (k : W p l e R s m args below meth c H locs cells slots Q (F0 m (pc + 1) ls (.int (iI (cmpZ a b)) :: st))) : W p l e R s m args below meth c H locs cells slots Q (F0 m (pc) ls (.long (lI b) :: .long (lI a) :: st)) := W.lcmp hx hb d (by rw [lI_cmp ha hb2]; exact k)
theorem ii_icmp_lt (hx : p.tables.exec = Jvm.exec) (hb : c.code = cc) {a b : Int} {off : Int} {tgt : Nat} (d : decode cc pc = .ok (.if_icmp .lt off, 3)) (ht : (pc : Int) + off = (tgt : Int)) (ha : inR a) (hb2 : inR b) (kt : a < b → W p l e R s m args below meth c H locs cells slots Q (F0 m (tgt) ls (st))) (kf : b ≤ a → W p l e R s m args below meth c H locs cells slots Q (F0 m (pc + 3) ls (st))) : W p l e R s m args below meth c H locs cells slots Q (F0 m (pc) ls (.int (iI b) :: .int (iI a) :: st)) := lv_icmp_lt hx hb d ht (fun h => kt ((iI_lt ha hb2).mp h)) (fun h => kf (by rw [iI_lt ha hb2] at h; omega))
theorem ii_icmp_ge (hx : p.tables.exec = Jvm.exec) (hb : c.code = cc) {a b : Int} {off : Int} {tgt : Nat} (d : decode cc pc = .ok (.if_icmp .ge off, 3)) (ht : (pc : Int) + off = (tgt : Int)) (ha : inR a) (hb2 : inR b) (kt : b ≤ a → W p l e R s m args below meth c H locs cells slots Q (F0 m (tgt) ls (st))) (kf : a < b → W p l e R s m args below meth c H locs cells slots Q (F0 m (pc + 3) ls (st))) : W p l e R s m args below meth c H locs cells slots Q (F0 m (pc) ls (.int (iI b) :: .int (iI a) :: st)) := lv_icmp_ge hx hb d ht (fun h => kt ((iI_le hb2 ha).mp h)) (fun h => kf (by have h2 := mt (iI_le hb2 ha).mpr h; omega))
theorem ii_icmp_gt (hx : p.tables.exec = Jvm.exec) (hb : c.code = cc) {a b : Int} {off : Int} {tgt : Nat} (d : decode cc pc = .ok (.if_icmp .gt off, 3)) (ht : (pc : Int) + off = (tgt : Int)) (ha : inR a) (hb2 : inR b) (kt : b < a → W p l e R s m args below meth c H locs cells slots Q (F0 m (tgt) ls (st))) (kf : a ≤ b → W p l e R s m args below meth c H locs cells slots Q (F0 m (pc + 3) ls (st))) : W p l e R s m args below meth c H locs cells slots Q (F0 m (pc) ls (.int (iI b) :: .int (iI a) :: st)) := lv_icmp_gt hx hb d ht (fun h => kt ((iI_lt hb2 ha).mp h)) (fun h => kf (by have h2 := mt (iI_lt hb2 ha).mpr h; omega))
theorem ii_icmp_le (hx : p.tables.exec = Jvm.exec) (hb : c.code = cc) {a b : Int} {off : Int} {tgt : Nat} (d : decode cc pc = .ok (.if_icmp .le off, 3)) (ht : (pc : Int) + off = (tgt : Int)) (ha : inR a) (hb2 : inR b) (kt : a ≤ b → W p l e R s m args below meth c H locs cells slots Q (F0 m (tgt) ls (st))) (kf : b < a → W p l e R s m args below meth c H locs cells slots Q (F0 m (pc + 3) ls (st))) : W p l e R s m args below meth c H locs cells slots Q (F0 m (pc) ls (.int (iI b) :: .int (iI a) :: st)) := lv_icmp_le hx hb d ht (fun h => kt ((iI_le ha hb2).mp h)) (fun h => kf (by have h2 := mt (iI_le ha hb2).mpr h; omega))
theorem ii_icmp_eq (hx : p.tables.exec = Jvm.exec) (hb : c.code = cc) {a b : Int} {off : Int} {tgt : Nat} (d : decode cc pc = .ok (.if_icmp .eq off, 3)) (ht : (pc : Int) + off = (tgt : Int)) (ha : inR a) (hb2 : inR b) (kt : a = b → W p l e R s m args below meth c H locs cells slots Q (F0 m (tgt) ls (st))) (kf : a ≠ b → W p l e R s m args below meth c H locs cells slots Q (F0 m (pc + 3) ls (st))) : W p l e R s m args below meth c H locs cells slots Q (F0 m (pc) ls (.int (iI b) :: .int (iI a) :: st)) := lv_icmp_eq hx hb d ht (fun h => kt ((iI_inj ha hb2).mp h)) (fun h => kf (mt (iI_inj ha hb2).mpr h))
theorem ii_icmp_ne (hx : p.tables.exec = Jvm.exec) (hb : c.code = cc) {a b : Int} {off : Int} {tgt : Nat} (d : decode cc pc = .ok (.if_icmp .ne off, 3)) (ht : (pc : Int) + off = (tgt : Int)) (ha : inR a) (hb2 : inR b) (kt : a ≠ b → W p l e R s m args below meth c H locs cells slots Q (F0 m (tgt) ls (st))) (kf : a = b → W p l e R s m args below meth c H locs cells slots Q (F0 m (pc + 3) ls (st))) : W p l e R s m args below meth c H locs cells slots Q (F0 m (pc) ls (.int (iI b) :: .int (iI a) :: st)) := lv_icmp_ne hx hb d ht (fun h => kt (mt (iI_inj ha hb2).mpr h)) (fun h => kf ((iI_inj ha hb2).mp h))
theorem inR_0 : inR 0 := ⟨by decide, by decide⟩
theorem ii_if_lt (hx : p.tables.exec = Jvm.exec) (hb : c.code = cc) {a : Int} {off : Int} {tgt : Nat} (d : decode cc pc = .ok (.ifCond .lt off, 3)) (ht : (pc : Int) + off = (tgt : Int)) (ha : inR a) (kt : a < 0 → W p l e R s m args below meth c H locs cells slots Q (F0 m (tgt) ls (st))) (kf : 0 ≤ a → W p l e R s m args below meth c H locs cells slots Q (F0 m (pc + 3) ls (st))) : W p l e R s m args below meth c H locs cells slots Q (F0 m (pc) ls (.int (iI a) :: st)) := lv_if_lt hx hb d ht (fun h => kt ((iI_lt ha inR_0).mp h)) (fun h => kf (by have h2 := mt (iI_lt ha inR_0).mpr h; omega))
theorem ii_if_ge (hx : p.tables.exec = Jvm.exec) (hb : c.code = cc) {a : Int} {off : Int} {tgt : Nat} (d : decode cc pc = .ok (.ifCond .ge off, 3)) (ht : (pc : Int) + off = (tgt : Int)) (ha : inR a) (kt : 0 ≤ a → W p l e R s m args below meth c H locs cells slots Q (F0 m (tgt) ls (st))) (kf : a < 0 → W p l e R s m args below meth c H locs cells slots Q (F0 m (pc + 3) ls (st))) : W p l e R s m args below meth c H locs cells slots Q (F0 m (pc) ls (.int (iI a) :: st)) := lv_if_ge hx hb d ht (fun h => kt ((iI_le inR_0 ha).mp h)) (fun h => kf (by have h2 := mt (iI_le inR_0 ha).mpr h; omega))
theorem ii_if_gt (hx : p.tables.exec = Jvm.exec) (hb : c.code = cc) {a : Int} {off : Int} {tgt : Nat} (d : decode cc pc = .ok (.ifCond .gt off, 3)) (ht : (pc : Int) + off = (tgt : Int)) (ha : inR a) (kt : 0 < a → W p l e R s m args below meth c H locs cells slots Q (F0 m (tgt) ls (st))) (kf : a ≤ 0 → W p l e R s m args below meth c H locs cells slots Q (F0 m (pc + 3) ls (st))) : W p l e R s m args below meth c H locs cells slots Q (F0 m (pc) ls (.int (iI a) :: st)) := lv_if_gt hx hb d ht (fun h => kt ((iI_lt inR_0 ha).mp h)) (fun h => kf (by have h2 := mt (iI_lt inR_0 ha).mpr h; omega))
theorem ii_if_le (hx : p.tables.exec = Jvm.exec) (hb : c.code = cc) {a : Int} {off : Int} {tgt : Nat} (d : decode cc pc = .ok (.ifCond .le off, 3)) (ht : (pc : Int) + off = (tgt : Int)) (ha : inR a) (kt : a ≤ 0 → W p l e R s m args below meth c H locs cells slots Q (F0 m (tgt) ls (st))) (kf : 0 < a → W p l e R s m args below meth c H locs cells slots Q (F0 m (pc + 3) ls (st))) : W p l e R s m args below meth c H locs cells slots Q (F0 m (pc) ls (.int (iI a) :: st)) := lv_if_le hx hb d ht (fun h => kt ((iI_le ha inR_0).mp h)) (fun h => kf (by have h2 := mt (iI_le ha inR_0).mpr h; omega))
theorem ii_if_eq (hx : p.tables.exec = Jvm.exec) (hb : c.code = cc) {a : Int} {off : Int} {tgt : Nat} (d : decode cc pc = .ok (.ifCond .eq off, 3)) (ht : (pc : Int) + off = (tgt : Int)) (ha : inR a) (kt : a = 0 → W p l e R s m args below meth c H locs cells slots Q (F0 m (tgt) ls (st))) (kf : a ≠ 0 → W p l e R s m args below meth c H locs cells slots Q (F0 m (pc + 3) ls (st))) : W p l e R s m args below meth c H locs cells slots Q (F0 m (pc) ls (.int (iI a) :: st)) := lv_if_eq hx hb d ht (fun h => kt ((iI_inj ha inR_0).mp h)) (fun h => kf (mt (iI_inj ha inR_0).mpr h))
theorem ii_if_ne (hx : p.tables.exec = Jvm.exec) (hb : c.code = cc) {a : Int} {off : Int} {tgt : Nat} (d : decode cc pc = .ok (.ifCond .ne off, 3)) (ht : (pc : Int) + off = (tgt : Int)) (ha : inR a) (kt : a ≠ 0 → W p l e R s m args below meth c H locs cells slots Q (F0 m (tgt) ls (st))) (kf : a = 0 → W p l e R s m args below meth c H locs cells slots Q (F0 m (pc + 3) ls (st))) : W p l e R s m args below meth c H locs cells slots Q (F0 m (pc) ls (.int (iI a) :: st)) := lv_if_ne hx hb d ht (fun h => kt (mt (iI_inj ha inR_0).mpr h)) (fun h => kf ((iI_inj ha inR_0).mp h))
theorem bb_if_eq (hx : p.tables.exec = Jvm.exec) (hb : c.code = cc) {P : Prop} [Decidable P] {off : Int} {tgt : Nat} (d : decode cc pc = .ok (.ifCond .eq off, 3)) (ht : (pc : Int) + off = (tgt : Int)) (kt : ¬ P → W p l e R s m args below meth c H locs cells slots Q (F0 m (tgt) ls (st))) (kf : P → W p l e R s m args below meth c H locs cells slots Q (F0 m (pc + 3) ls (st))) : W p l e R s m args below meth c H locs cells slots Q (F0 m (pc) ls (.int (iI (b2 P)) :: st)) := ii_if_eq hx hb d ht ⟨by have := b2_in P; omega, by have := b2_in P; omega⟩ (fun h => kt (fun q => by rw [b2_t q] at h; omega)) (fun h => kf (Decidable.byContradiction fun q => h (b2_f q)))
theorem bb_if_ne (hx : p.tables.exec = Jvm.exec) (hb : c.code = cc) {P : Prop} [Decidable P] {off : Int} {tgt : Nat} (d : decode cc pc = .ok (.ifCond .ne off, 3)) (ht : (pc : Int) + off = (tgt : Int)) (kt : P → W p l e R s m args below meth c H locs cells slots Q (F0 m (tgt) ls (st))) (kf : ¬ P → W p l e R s m args below meth c H locs cells slots Q (F0 m (pc + 3) ls (st))) : W p l e R s m args below meth c H locs cells slots Q (F0 m (pc) ls (.int (iI (b2 P)) :: st)) := ii_if_ne hx hb d ht ⟨by have := b2_in P; omega, by have := b2_in P; omega⟩ (fun h => kt (Decidable.byContradiction fun q => h (b2_f q))) (fun h => kf (fun q => by rw [b2_t q] at h; omega))
theorem ii_iinc (hx : p.tables.exec = Jvm.exec) (hb : c.code = cc) {i nL k : Nat} {n z : Int} {lv lv' : List (Nat × Value)} (d : decode cc pc = .ok (.iinc i n, 3)) (h : lv_has ls nL lv) (hk : lv[k]? = some (i, .int (iI z))) (hn : i < nL) (hl : (i, Value.int (iI (z + n))) :: lv.filter (fun q => !(q.1 == i) && !(q.1 + 1 == i && q.2.category == 2)) = lv')
    (kk : ∀ ls' : Array Slot, lv_has ls' nL lv' → W p l e R s m args below meth c H locs cells slots Q (F0 m (pc + 3) ls' (st))) : W p l e R s m args below meth c H locs cells slots Q (F0 m (pc) ls (st)) := lv_iinc hx hb d h hk (iI_add z n) hn hl kk
theorem inR_min {a b : Int} (ha : inR a) (hb : inR b) : (if iI b < iI a then iI b else iI a) = iI (min a b) := by
  by_cases h : b < a
  · rw [if_pos ((iI_lt hb ha).mpr h), Int.min_eq_right (by omega)]
  · rw [if_neg (mt (iI_lt hb ha).mp h), Int.min_eq_left (by omega)]
theorem inR_max {a b : Int} (ha : inR a) (hb : inR b) : (if iI a < iI b then iI b else iI a) = iI (max a b) := by
  by_cases h : a < b
  · rw [if_pos ((iI_lt ha hb).mpr h), Int.max_eq_right (by omega)]
  · rw [if_neg (mt (iI_lt ha hb).mp h), Int.max_eq_left (by omega)]
/-- the size of an int -/
def az (z : Int) : Int := if 0 ≤ z then z else -z
theorem ii_min (hx : p.tables.exec = Jvm.exec) (hb : c.code = cc) (hml : c.maxLocals = ls.size) {own : String} {index : Nat} (hts : ∀ w ∈ lw_all, w.before args s = true) (hown : s.vm.findClass own = some m.cls) (q : Cond.methodLink own index Lib.Math.min.name ∈ lw_all) (hf : 1 ≤ R.frames) (hlo : (st.map fun v => v.category).sum + 13 ≤ R.locals) (hc : cells ≤ R.cells) (hs : slots ≤ R.slots) {a b : Int} (ha : inR a) (hb2 : inR b) (d : decode cc pc = .ok (.invokestatic index, 3)) (k : W p l e R s m args below meth c H locs cells slots Q (F0 m (pc + 3) ls (.int (iI (min a b)) :: st))) : W p l e R s m args below meth c H locs cells slots Q (F0 m (pc) ls (.int (iI b) :: .int (iI a) :: st)) := va_mmin hx hb hml hown (hts _ q) (hts _ q442) (hts _ q94) (hts _ q443) hf hlo hc hs d (by rw [inR_min ha hb2]; exact k)
theorem ii_max (hx : p.tables.exec = Jvm.exec) (hb : c.code = cc) (hml : c.maxLocals = ls.size) {own : String} {index : Nat} (hts : ∀ w ∈ lw_all, w.before args s = true) (hown : s.vm.findClass own = some m.cls) (q : Cond.methodLink own index Lib.Math.max.name ∈ lw_all) (hf : 1 ≤ R.frames) (hlo : (st.map fun v => v.category).sum + 13 ≤ R.locals) (hc : cells ≤ R.cells) (hs : slots ≤ R.slots) {a b : Int} (ha : inR a) (hb2 : inR b) (d : decode cc pc = .ok (.invokestatic index, 3)) (k : W p l e R s m args below meth c H locs cells slots Q (F0 m (pc + 3) ls (.int (iI (max a b)) :: st))) : W p l e R s m args below meth c H locs cells slots Q (F0 m (pc) ls (.int (iI b) :: .int (iI a) :: st)) := va_mmax hx hb hml hown (hts _ q) (hts _ q406) (hts _ q94) (hts _ q407) hf hlo hc hs d (by rw [inR_max ha hb2]; exact k)
theorem ii_abs (hx : p.tables.exec = Jvm.exec) (hb : c.code = cc) (hml : c.maxLocals = ls.size) {own : String} {index : Nat} (hts : ∀ w ∈ lw_all, w.before args s = true) (hown : s.vm.findClass own = some m.cls) (q : Cond.methodLink own index Lib.Math.abs.name ∈ lw_all) (hf : 1 ≤ R.frames) (hlo : (st.map fun v => v.category).sum + 13 ≤ R.locals) (hc : cells ≤ R.cells) (hs : slots ≤ R.slots) {a : Int} (ha : inR a) (d : decode cc pc = .ok (.invokestatic index, 3)) (k : W p l e R s m args below meth c H locs cells slots Q (F0 m (pc + 3) ls (.int (iI (az a)) :: st))) : W p l e R s m args below meth c H locs cells slots Q (F0 m (pc) ls (.int (iI a) :: st)) := va_mabs hx hb hml hown (hts _ q) (hts _ q469) (hts _ q94) (hts _ q470) hf hlo hc hs d (by
    have e : (if 0 ≤ iI a then iI a else 0 - iI a) = iI (az a) := by
      unfold az
      by_cases h : 0 ≤ a
      · rw [if_pos h, if_pos (show (0 : Int32) ≤ iI a from (iI_le inR_0 ha).mpr h)]
      · rw [if_neg h, if_neg (show ¬ (0 : Int32) ≤ iI a from mt (iI_le inR_0 ha).mp h), ← iI_0, iI_sub]; congr 1; omega
    rw [e]; exact k)
variable {G : GG} {s0 : State} {b0 : Nat}
/-- a field is read (own class; a nest mate's below) -/
theorem r_get (Z : ZZ l G s0 b0) (hB : Born s0 s) (hx : p.tables.exec = Jvm.exec) (hb : c.code = cc) (hts : ∀ w ∈ lw_all, w.before args s = true) {own C : String} {T : u_T} {N ci index k a : Nat} {fs : List Value} {v : Value} (hown : s.vm.findClass own = some m.cls) (hc : cls9[ci]? = some (C, T, N)) (hin : ∀ w ∈ u_ws C T N, w ∈ lw_all) (hO : OBJ G ci a fs H) (hk : k < N) (q : Cond.fieldLink own index (T k).1 (T k).2.1 (T k).2.2.1 ∈ lw_all) (hv : fs[k]? = some v) (d : decode cc pc = .ok (.getfield index, 3)) (kk : W p l e R s m args below meth c H locs cells slots Q (F0 m (pc + 3) ls (v :: st))) : W p l e R s m args below meth c H locs cells slots Q (F0 m (pc) ls (.ref a :: st)) :=
  va_get (ws := [(a, .inr (ci, fs))]) hx hb hts hin hown (hB.K Z) (va1 hO) 0 rfl hc k hk (hts _ q) (fun _ h => h) hv d kk
theorem nwF (Z : ZZ l G s0 b0) (hB : Born s0 s) {a : String} {i : Nat} {b n d h : String} (q : Cond.fieldLinkNest a i b n d h ∈ lw_tbl) : (Cond.fieldLinkNest a i b n d h).before args s = true := va_Nw.use rfl (va_Nw.warmF hB.1 (va_Nw.of rfl (Z.2.1 _ q)))
theorem nwM (Z : ZZ l G s0 b0) (hB : Born s0 s) {a : String} {i : Nat} {x : MethodName} {h : String} (q : Cond.methodLinkNest a i x h ∈ lw_tbl) : va_Nw (.methodLinkNest a i x h) s := va_Nw.warmM hB.1 (va_Nw.of rfl (Z.2.1 _ q))
theorem r_getN (Z : ZZ l G s0 b0) (hB : Born s0 s) (hx : p.tables.exec = Jvm.exec) (hb : c.code = cc) (hts : ∀ w ∈ lw_all, w.before args s = true) {own C host : String} {T : u_T} {N ci index k a : Nat} {fs : List Value} {v : Value} (hown : s.vm.findClass own = some m.cls) (hc : cls9[ci]? = some (C, T, N)) (hin : ∀ w ∈ u_ws C T N, w ∈ lw_all) (hO : OBJ G ci a fs H) (hk : k < N) (q : Cond.fieldLinkNest own index (T k).1 (T k).2.1 (T k).2.2.1 host ∈ lw_tbl) (hv : fs[k]? = some v) (d : decode cc pc = .ok (.getfield index, 3)) (kk : W p l e R s m args below meth c H locs cells slots Q (F0 m (pc + 3) ls (v :: st))) : W p l e R s m args below meth c H locs cells slots Q (F0 m (pc) ls (.ref a :: st)) :=
  va_getN (ws := [(a, .inr (ci, fs))]) hx hb hts hin hown (hB.K Z) (va1 hO) 0 rfl hc k hk (nwF Z hB q) (fun _ h => h) hv d kk
/-- a field is written: what the heap is then; 'PW' is the new picture -/
theorem r_put (Z : ZZ l G s0 b0) (hB : Born s0 s) (hx : p.tables.exec = Jvm.exec) (hb : c.code = cc) (hts : ∀ w ∈ lw_all, w.before args s = true) {own C : String} {T : u_T} {N ci index k a : Nat} {fs : List Value} {v : Value} {ty : FieldType} {A : Nat → Prop} {H0 : Heap} (hown : s.vm.findClass own = some m.cls) (hc : cls9[ci]? = some (C, T, N)) (hin : ∀ w ∈ u_ws C T N, w ∈ lw_all) (ty0 : Nat → FieldType) (hty : ∀ k, k < N → parseFieldDescriptor (T k).2.2.1 = some (ty0 k)) (hnm : ∀ a, a < N → ∀ b, b < N → a ≠ b → (T a).2.1 ≠ (T b).2.1) (hO : OBJ G ci a fs H) (hS : va_S A H0 H locs) (hAa : A a) (hk : k < N) (q : Cond.fieldLink own index (T k).1 (T k).2.1 (T k).2.2.1 ∈ lw_all) (hfin : (T k).2.2.2 = false) (hd : parseFieldDescriptor (T k).2.2.1 = some ty) (hn : narrow ty v = v) (hfit : fits ty v = true) (hl : k < fs.length) (d : decode cc pc = .ok (.putfield index, 3)) (PW : Heap → Prop) (hw : ∀ H1 : Heap, H1.size = H.size → (∀ q : Nat, q ≠ a → H1[q]? = H[q]?) → OBJ G ci a (fs.set k v) H1 → PW H1) (kk : ∀ (H1 : Heap) (locs1 : List Loc), PW H1 → va_S A H0 H1 locs1 → W p l e R s m args below meth c H1 locs1 cells slots Q (F0 m (pc + 3) ls (st))) : W p l e R s m args below meth c H locs cells slots Q (F0 m (pc) ls (v :: .ref a :: st)) := by
  have hap := va_apart (own := own) hts hin ty0 hty hnm (hB.K Z) hc
  obtain ⟨r, h1, cell, q1, q2, q3, q4⟩ := id hO
  have hr : r = (C, T, N) := Option.some.inj (h1.symm.trans hc)
  subst hr
  obtain ⟨hSl, hfc, kC, hkC, hkind⟩ := (hB.K Z).1 ci _ hc
  obtain ⟨cf, kf, fi, f, hi, hsl⟩ := hSl k hk
  have hlay := hts _ (hin _ (u_in_lay hk))
  unfold u_lay at hlay
  rw [if_neg (by rw [hfin]; decide)] at hlay
  have hst := (u_facts hfc hkC (u_lays hts hin hk) hi).1
  have h6 := u_store hfc hkC hkind hlay hi hd hn hfit
  refine W.putK hx hb (f := f) ⟨hown, hts _ q, ⟨_, _, _, hi⟩, hst⟩ (by rw [q2]; exact h6) q1 q3 (by rw [hsl]; exact k2_hasslot (q4 k hk)) rfl rfl d fun H' e1 e2 e3 => ?_
  rw [hsl] at e1 ⊢
  exact kk H' _ (hw H' e2 e3 ⟨_, hc, t_OB.to (V := updV (vp_V fs) k v) ⟨_, e1, q2, q3, t_set q4 hap hk v⟩ (fun j _ => vp_updV_set hl v j)⟩) (hS.put e2 e3 hAa)
theorem r_putN (Z : ZZ l G s0 b0) (hB : Born s0 s) (hx : p.tables.exec = Jvm.exec) (hb : c.code = cc) (hts : ∀ w ∈ lw_all, w.before args s = true) {own C host : String} {T : u_T} {N ci index k a : Nat} {fs : List Value} {v : Value} {ty : FieldType} {A : Nat → Prop} {H0 : Heap} (hown : s.vm.findClass own = some m.cls) (hc : cls9[ci]? = some (C, T, N)) (hin : ∀ w ∈ u_ws C T N, w ∈ lw_all) (ty0 : Nat → FieldType) (hty : ∀ k, k < N → parseFieldDescriptor (T k).2.2.1 = some (ty0 k)) (hnm : ∀ a, a < N → ∀ b, b < N → a ≠ b → (T a).2.1 ≠ (T b).2.1) (hO : OBJ G ci a fs H) (hS : va_S A H0 H locs) (hAa : A a) (hk : k < N) (q : Cond.fieldLinkNest own index (T k).1 (T k).2.1 (T k).2.2.1 host ∈ lw_tbl) (hfin : (T k).2.2.2 = false) (hd : parseFieldDescriptor (T k).2.2.1 = some ty) (hn : narrow ty v = v) (hfit : fits ty v = true) (hl : k < fs.length) (d : decode cc pc = .ok (.putfield index, 3)) (PW : Heap → Prop) (hw : ∀ H1 : Heap, H1.size = H.size → (∀ q : Nat, q ≠ a → H1[q]? = H[q]?) → OBJ G ci a (fs.set k v) H1 → PW H1) (kk : ∀ (H1 : Heap) (locs1 : List Loc), PW H1 → va_S A H0 H1 locs1 → W p l e R s m args below meth c H1 locs1 cells slots Q (F0 m (pc + 3) ls (st))) : W p l e R s m args below meth c H locs cells slots Q (F0 m (pc) ls (v :: .ref a :: st)) := by
  have hap := va_apart (own := own) hts hin ty0 hty hnm (hB.K Z) hc
  obtain ⟨r, h1, cell, q1, q2, q3, q4⟩ := id hO
  have hr : r = (C, T, N) := Option.some.inj (h1.symm.trans hc)
  subst hr
  obtain ⟨hSl, hfc, kC, hkC, hkind⟩ := (hB.K Z).1 ci _ hc
  obtain ⟨cf, kf, fi, f, hi, hsl⟩ := hSl k hk
  have hlay := hts _ (hin _ (u_in_lay hk))
  unfold u_lay at hlay
  rw [if_neg (by rw [hfin]; decide)] at hlay
  have hst := (u_facts hfc hkC (u_lays hts hin hk) hi).1
  have h6 := u_store hfc hkC hkind hlay hi hd hn hfit
  refine va_WputK hx hb (f := f) hown (nwF Z hB q) hi hst (by rw [q2]; exact h6) q1 q3 (by rw [hsl]; exact k2_hasslot (q4 k hk)) rfl rfl d fun H' e1 e2 e3 => ?_
  rw [hsl] at e1 ⊢
  exact kk H' _ (hw H' e2 e3 ⟨_, hc, t_OB.to (V := updV (vp_V fs) k v) ⟨_, e1, q2, q3, t_set q4 hap hk v⟩ (fun j _ => vp_updV_set hl v j)⟩) (hS.put e2 e3 hAa)
theorem r_putF (Z : ZZ l G s0 b0) (hB : Born s0 s) (hx : p.tables.exec = Jvm.exec) (hb : c.code = cc) (hts : ∀ w ∈ lw_all, w.before args s = true) {own C : String} {T : u_T} {N ci index k a : Nat} {fs : List Value} {v : Value} {ty : FieldType} {A : Nat → Prop} {H0 : Heap} (hown : s.vm.findClass own = some m.cls) (hc : cls9[ci]? = some (C, T, N)) (hin : ∀ w ∈ u_ws C T N, w ∈ lw_all) (ty0 : Nat → FieldType) (hty : ∀ k, k < N → parseFieldDescriptor (T k).2.2.1 = some (ty0 k)) (hnm : ∀ a, a < N → ∀ b, b < N → a ≠ b → (T a).2.1 ≠ (T b).2.1) (hO : OBJ G ci a fs H) (hS : va_S A H0 H locs) (hAa : A a) (hk : k < N) (q : Cond.fieldLink own index (T k).1 (T k).2.1 (T k).2.2.1 ∈ lw_all) (hfin : (T k).2.2.2 = true) (hin2 : meth.name = "<init>") (hdecl : (T k).1 = own) (hd : parseFieldDescriptor (T k).2.2.1 = some ty) (hn : narrow ty v = v) (hfit : fits ty v = true) (hl : k < fs.length) (d : decode cc pc = .ok (.putfield index, 3)) (PW : Heap → Prop) (hw : ∀ H1 : Heap, H1.size = H.size → (∀ q : Nat, q ≠ a → H1[q]? = H[q]?) → OBJ G ci a (fs.set k v) H1 → PW H1) (kk : ∀ (H1 : Heap) (locs1 : List Loc), PW H1 → va_S A H0 H1 locs1 → W p l e R s m args below meth c H1 locs1 cells slots Q (F0 m (pc + 3) ls (st))) : W p l e R s m args below meth c H locs cells slots Q (F0 m (pc) ls (v :: .ref a :: st)) := by
  have hap := va_apart (own := own) hts hin ty0 hty hnm (hB.K Z) hc
  obtain ⟨r, h1, cell, q1, q2, q3, q4⟩ := id hO
  have hr : r = (C, T, N) := Option.some.inj (h1.symm.trans hc)
  subst hr
  obtain ⟨hSl, hfc, kC, hkC, hkind⟩ := (hB.K Z).1 ci _ hc
  obtain ⟨cf, kf, fi, f, hi, hsl⟩ := hSl k hk
  have hlay := hts _ (hin _ (u_in_lay hk))
  unfold u_lay at hlay
  rw [if_pos hfin] at hlay
  have hst := (u_facts hfc hkC (u_lays hts hin hk) hi).1
  have hcf : m.cls = cf := by
    obtain ⟨_, _, c', _, _, _, -, -, hf', -, -, -, hown2, -⟩ := Cond.laysFinal_spec hlay
    have e1 : c' = cf := by have := hi.symm.trans hf'; simp at this; exact this.1.symm
    rw [hdecl] at hown2
    rw [← e1]; exact Option.some.inj (hown.symm.trans hown2)
  have h6 := u_fits hfc hkC hkind (Or.inr hlay) hi hd hn hfit
  refine W.putFinK hx hb hown (hts _ q) hi hst hcf hin2 (by rw [q2]; exact h6) q1 q3 (by rw [hsl]; exact k2_hasslot (q4 k hk)) rfl rfl d fun H' e1 e2 e3 => ?_
  rw [hsl] at e1 ⊢
  exact kk H' _ (hw H' e2 e3 ⟨_, hc, t_OB.to (V := updV (vp_V fs) k v) ⟨_, e1, q2, q3, t_set q4 hap hk v⟩ (fun j _ => vp_updV_set hl v j)⟩) (hS.put e2 e3 hAa)
/-- an int out of an array -/
theorem r_iald (Z : ZZ l G s0 b0) (hB : Born s0 s) (hx : p.tables.exec = Jvm.exec) (hb : c.code = cc) {a n k : Nat} {f : Nat → Int} {z : Int} (hI : IA G 0 a n f H) (hz : z = (k : Int)) (hk : k < n) (hn : n < 2147483648) (d : decode cc pc = .ok (.iaload, 1)) (kk : W p l e R s m args below meth c H locs cells slots Q (F0 m (pc + 1) ls (.int (iI (f k)) :: st))) : W p l e R s m args below meth c H locs cells slots Q (F0 m (pc) ls (.int (iI z) :: .ref a :: st)) :=
  va_iald (ws := [(a, .inl (G.2 0, n, .inl (fun j => iI (f j))))]) hx hb (hB.K Z) (va1 hI) 0 0 rfl rfl (iI_in hz hk hn) d (by rw [iI_cl hz (by omega)]; exact kk)
theorem r_bald (Z : ZZ l G s0 b0) (hB : Born s0 s) (hx : p.tables.exec = Jvm.exec) (hb : c.code = cc) {a n k : Nat} {f : Nat → Int} {z : Int} (hI : IA G 2 a n f H) (hz : z = (k : Int)) (hk : k < n) (hn : n < 2147483648) (d : decode cc pc = .ok (.baload, 1)) (kk : W p l e R s m args below meth c H locs cells slots Q (F0 m (pc + 1) ls (.int (iI (f k)) :: st))) : W p l e R s m args below meth c H locs cells slots Q (F0 m (pc) ls (.int (iI z) :: .ref a :: st)) :=
  va_bald (ws := [(a, .inl (G.2 2, n, .inl (fun j => iI (f j))))]) hx hb (hB.K Z) (va1 hI) 0 2 rfl rfl (iI_in hz hk hn) d (by rw [iI_cl hz (by omega)]; exact kk)
theorem r_zald (Z : ZZ l G s0 b0) (hB : Born s0 s) (hx : p.tables.exec = Jvm.exec) (hb : c.code = cc) {a n k : Nat} {f : Nat → Int} {z : Int} (hI : IA G 4 a n f H) (hz : z = (k : Int)) (hk : k < n) (hn : n < 2147483648) (d : decode cc pc = .ok (.baload, 1)) (kk : W p l e R s m args below meth c H locs cells slots Q (F0 m (pc + 1) ls (.int (iI (f k)) :: st))) : W p l e R s m args below meth c H locs cells slots Q (F0 m (pc) ls (.int (iI z) :: .ref a :: st)) :=
  va_zald (ws := [(a, .inl (G.2 4, n, .inl (fun j => iI (f j))))]) hx hb (hB.K Z) (va1 hI) 0 4 rfl rfl (iI_in hz hk hn) d (by rw [iI_cl hz (by omega)]; exact kk)
/-- an int into an array -/
theorem r_iast (Z : ZZ l G s0 b0) (hB : Born s0 s) (hx : p.tables.exec = Jvm.exec) (hb : c.code = cc) {a n k : Nat} {f : Nat → Int} {z v : Int} {A : Nat → Prop} {H0 : Heap} (hI : IA G 0 a n f H) (hS : va_S A H0 H locs) (hAa : A a) (hz : z = (k : Int)) (hk : k < n) (hn : n < 2147483648) (d : decode cc pc = .ok (.iastore, 1)) (PW : Heap → Prop) (hw : ∀ H1 : Heap, H1.size = H.size → (∀ q : Nat, q ≠ a → H1[q]? = H[q]?) → IA G 0 a n (up f k v) H1 → PW H1) (kk : ∀ (H1 : Heap) (locs1 : List Loc), PW H1 → va_S A H0 H1 locs1 → W p l e R s m args below meth c H1 locs1 cells slots Q (F0 m (pc + 1) ls (st))) : W p l e R s m args below meth c H locs cells slots Q (F0 m (pc) ls (.int (iI v) :: .int (iI z) :: .ref a :: st)) := by
  have hi := iI_in hz hk hn
  refine W.iast hx hb hI (((hB.K Z).2 0 _ rfl).1 n (fun j => .int (iI (f j)))) (fun q => by cases q) (by show ¬ (_ ∨ (arrV _ _ _).slots.size ≤ _); rw [arrV_size]; exact hi) rfl rfl d fun H1 e z oq => ?_
  refine kk H1 _ (hw H1 z oq ?_) (hS.put z oq hAa)
  unfold IA
  rw [e, vp_cell_i, vp_cell_i, arrV_store, iI_cl hz (by omega)]
  congr 2
  funext q
  by_cases hq : q = k
  · subst hq
    simp [updV, up]
  · simp [updV, up, hq]
/-- a reference out of an array -/
theorem r_aald (Z : ZZ l G s0 b0) (hB : Born s0 s) (hx : p.tables.exec = Jvm.exec) (hb : c.code = cc) {t a n k y : Nat} {ty : FieldType} {f : Nat → Option Nat} {z : Int} (ht : (tysG G.2)[t]? = some (G.2 t, ty)) (hty : ty.isReference = true) (hI : QA G t a n f H) (hz : z = (k : Int)) (hk : k < n) (hn : n < 2147483648) (hy : f k = some y) (d : decode cc pc = .ok (.aaload, 1)) (kk : W p l e R s m args below meth c H locs cells slots Q (F0 m (pc + 1) ls (.ref y :: st))) : W p l e R s m args below meth c H locs cells slots Q (F0 m (pc) ls (.int (iI z) :: .ref a :: st)) := by
  have hi := iI_in hz hk hn
  refine W.aald (v := .ref y) (ty := ty) hx hb hI (((hB.K Z).2 t _ ht).1 n (fun j => va_rf (f j))) hty (fun q => by cases q) (by show ¬ (_ ∨ (arrV _ _ _).slots.size ≤ _); rw [arrV_size]; exact hi) (by show (arrV _ _ _).slots[_]? = _; rw [iI_cl hz (by omega), arrV_read _ _ hk, hy]; rfl) rfl rfl d kk
theorem r_alen (Z : ZZ l G s0 b0) (hB : Born s0 s) (hx : p.tables.exec = Jvm.exec) (hb : c.code = cc) {t a n : Nat} {ty : FieldType} {f : Nat → Int} (ht : (tysG G.2)[t]? = some (G.2 t, ty)) (hI : IA G t a n f H) (d : decode cc pc = .ok (.arraylength, 1)) (kk : W p l e R s m args below meth c H locs cells slots Q (F0 m (pc + 1) ls (.int (iI (n : Int)) :: st))) : W p l e R s m args below meth c H locs cells slots Q (F0 m (pc) ls (.ref a :: st)) :=
  va_alen (ws := [(a, .inl (G.2 t, n, .inl (fun j => iI (f j))))]) hx hb (hB.K Z) (va1 hI) 0 t rfl ht (iI_nat n).symm d kk
theorem r_alenq (Z : ZZ l G s0 b0) (hB : Born s0 s) (hx : p.tables.exec = Jvm.exec) (hb : c.code = cc) {t a n : Nat} {ty : FieldType} {f : Nat → Option Nat} (ht : (tysG G.2)[t]? = some (G.2 t, ty)) (hI : QA G t a n f H) (d : decode cc pc = .ok (.arraylength, 1)) (kk : W p l e R s m args below meth c H locs cells slots Q (F0 m (pc + 1) ls (.int (iI (n : Int)) :: st))) : W p l e R s m args below meth c H locs cells slots Q (F0 m (pc) ls (.ref a :: st)) :=
  va_alen (ws := [(a, .inl (G.2 t, n, .inr (.inr (.inr (.inr f)))))]) hx hb (hB.K Z) (va1 hI) 0 t rfl ht (iI_nat n).symm d kk
end FR
/-! calls -/
abbrev pcR (s0 : State) (PH : Heap → Prop) (As : List Value) : Array Value → State → Prop := va_Pc As (fun U => PH U.heap ∧ Born s0 U)
abbrev pcM (s0 : State) (sz : Nat) (PH : Heap → Prop) (As : List Value) : Array Value → State → Prop := va_Pc As (fun U => U.heap.size = sz ∧ PH U.heap ∧ Born s0 U)
theorem fbR {s0 : State} {PH : Heap → Prop} {As : List Value} : FrameBlind (pcR s0 PH As) := fun _ _ _ _ h => h
theorem fbM {s0 : State} {sz : Nat} {PH : Heap → Prop} {As : List Value} : FrameBlind (pcM s0 sz PH As) := fun _ _ _ _ h => h
theorem pvR {s0 s : State} {H : Heap} {PH : Heap → Prop} {As : List Value} {C : String} {b : Nat} (hB : BornH s0 s H) (hr : ∃ cell : Cell, H[b]? = some cell ∧ cell.vm.isStatics = false ∧ s.vm.findClass C = some cell.cls) (hP : PH H) : PreV s H C b (pcR s0 PH (.ref b :: As)) As := ⟨fbR, hr, fun U hU hW => ⟨rfl, by rw [hU]; exact hP, hB.to hU hW⟩⟩
theorem pvM {s0 s : State} {H : Heap} {PH : Heap → Prop} {As : List Value} {C : String} {b : Nat} (hB : BornH s0 s H) (hr : ∃ cell : Cell, H[b]? = some cell ∧ cell.vm.isStatics = false ∧ s.vm.findClass C = some cell.cls) (hP : PH H) : PreV s H C b (pcM s0 H.size PH (.ref b :: As)) As := ⟨fbM, hr, fun U hU hW => ⟨rfl, by rw [hU], by rw [hU]; exact hP, hB.to hU hW⟩⟩
theorem psR {s0 s : State} {H : Heap} {PH : Heap → Prop} {As : List Value} (hB : BornH s0 s H) (hP : PH H) : PreS s H (pcR s0 PH As) As := ⟨fbR, fun U hU hW => ⟨rfl, by rw [hU]; exact hP, hB.to hU hW⟩⟩
theorem psM {s0 s : State} {H : Heap} {PH : Heap → Prop} {As : List Value} (hB : BornH s0 s H) (hP : PH H) : PreS s H (pcM s0 H.size PH As) As := ⟨fbM, fun U hU hW => ⟨rfl, by rw [hU], by rw [hU]; exact hP, hB.to hU hW⟩⟩
/-- ends: an int, a long, nothing, with the heap as it was; or with a new picture -/
abbrev qI (z : Int) : Array Value → State → Outcome → State → Prop := vp_Si (fun r => r = iI z)
abbrev qL (z : Int) : Array Value → State → Outcome → State → Prop := vp_Sl (fun r => r = lI z)
abbrev mI (z : Int) (PW : Heap → Prop) (A : Nat → Prop) : Array Value → State → Outcome → State → Prop := va_Qi (fun r (_ : Unit) => r = iI z) (fun _ t => PW t.heap) A
abbrev mL (z : Int) (PW : Heap → Prop) (A : Nat → Prop) : Array Value → State → Outcome → State → Prop := va_Ql (fun r (_ : Unit) => r = lI z) (fun _ t => PW t.heap) A
abbrev mV (PW : Heap → Prop) (A : Nat → Prop) : Array Value → State → Outcome → State → Prop := va_Qv (fun (_ : Unit) => True) (fun _ t => PW t.heap) A
section FC
variable {p : Program} {l : Launch} {e : Env} {R : Room} {s : State} {m : MethodId} {args : Array Value} {below : List Frame} {meth : Method} {c : Code} {H : Heap} {locs : List Loc} {cells slots : Nat} {Q : State → Prop} {pc : Nat} {ls : Array Slot} {st rest : List Value} {a : Array Value}
theorem cqI {z : Int} (hr : va_Run p l e R s m args below meth c H locs cells slots 0 0 (F0 m pc ls st) rest (qI z a) (fun _ => False)) (kk : W p l e R s m args below meth c H locs cells slots Q (F0 m (pc + 3) ls (.int (iI z) :: rest))) : W p l e R s m args below meth c H locs cells slots Q (F0 m (pc) ls (st)) := by
  intro T hT X
  obtain ⟨v, st₀, t, T', L, h0, X', hL, e1, e2, ⟨r, hv, hp, hh⟩, stp⟩ := hr T hT X
  cases hv
  subst hp
  obtain ⟨t2, a1, b1⟩ := kk T' (by rw [e1, hh, h0]) (Stand.forget X' (fun q h => (hL q h).elim))
  exact ⟨t2, stp t2 a1, b1⟩
theorem cqL {z : Int} (hr : va_Run p l e R s m args below meth c H locs cells slots 0 0 (F0 m pc ls st) rest (qL z a) (fun _ => False)) (kk : W p l e R s m args below meth c H locs cells slots Q (F0 m (pc + 3) ls (.long (lI z) :: rest))) : W p l e R s m args below meth c H locs cells slots Q (F0 m (pc) ls (st)) := by
  intro T hT X
  obtain ⟨v, st₀, t, T', L, h0, X', hL, e1, e2, ⟨r, hv, hp, hh⟩, stp⟩ := hr T hT X
  cases hv
  subst hp
  obtain ⟨t2, a1, b1⟩ := kk T' (by rw [e1, hh, h0]) (Stand.forget X' (fun q h => (hL q h).elim))
  exact ⟨t2, stp t2 a1, b1⟩
variable {A A1 : Nat → Prop} {H0 : Heap} {mc ms : Nat} {PW : Heap → Prop}
theorem cmI {z : Int} (hr : va_Run p l e R s m args below meth c H locs cells slots mc ms (F0 m pc ls st) rest (mI z PW A1 a) A1) (hS : va_S A H0 H locs) (hA : ∀ q, A1 q → A q) (kk : ∀ (H1 : Heap) (locs1 : List Loc), PW H1 → H.size ≤ H1.size → (∀ q : Nat, q < H.size → ¬ A1 q → H1[q]? = H[q]?) → va_S A H0 H1 locs1 → W p l e R s m args below meth c H1 locs1 (cells+mc) (slots+ms) Q (F0 m (pc + 3) ls (.int (iI z) :: rest))) : W p l e R s m args below meth c H locs cells slots Q (F0 m (pc) ls (st)) :=
  va_calli hr hS (fun q _ h => hA q h) hA (fun r u t H1 locs1 ht _ hp hb h1 h2 h3 => by subst hp; exact kk H1 locs1 (by rw [← ht]; exact hb) h1 h2 h3)
theorem cmL {z : Int} (hr : va_Run p l e R s m args below meth c H locs cells slots mc ms (F0 m pc ls st) rest (mL z PW A1 a) A1) (hS : va_S A H0 H locs) (hA : ∀ q, A1 q → A q) (kk : ∀ (H1 : Heap) (locs1 : List Loc), PW H1 → H.size ≤ H1.size → (∀ q : Nat, q < H.size → ¬ A1 q → H1[q]? = H[q]?) → va_S A H0 H1 locs1 → W p l e R s m args below meth c H1 locs1 (cells+mc) (slots+ms) Q (F0 m (pc + 3) ls (.long (lI z) :: rest))) : W p l e R s m args below meth c H locs cells slots Q (F0 m (pc) ls (st)) :=
  va_calll hr hS (fun q _ h => hA q h) hA (fun r u t H1 locs1 ht _ hp hb h1 h2 h3 => by subst hp; exact kk H1 locs1 (by rw [← ht]; exact hb) h1 h2 h3)
theorem cmV (hr : va_Run p l e R s m args below meth c H locs cells slots mc ms (F0 m pc ls st) rest (mV PW A1 a) A1) (hS : va_S A H0 H locs) (hA : ∀ q, A1 q → A q) (kk : ∀ (H1 : Heap) (locs1 : List Loc), PW H1 → H.size ≤ H1.size → (∀ q : Nat, q < H.size → ¬ A1 q → H1[q]? = H[q]?) → va_S A H0 H1 locs1 → W p l e R s m args below meth c H1 locs1 (cells+mc) (slots+ms) Q (F0 m (pc + 3) ls (rest))) : W p l e R s m args below meth c H locs cells slots Q (F0 m (pc) ls (st)) :=
  va_callv hr hS (fun q _ h => hA q h) hA (fun u t H1 locs1 ht _ hp hb h1 h2 h3 => kk H1 locs1 (by rw [← ht]; exact hb) h1 h2 h3)
end FC
