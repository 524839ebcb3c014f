/-! COMPONENT: storms (written by gen/comp5.py) -/
set_option maxRecDepth 100000
set_option maxHeartbeats 1000000 in
set_option maxRecDepth 100000 in
theorem mX0_divisor_z {l : Launch} {G : GG} {s0 : State} {b0 : Nat} (Z : ZZ l G s0 b0) (a b : Int) (ha : 0 ≤ a ∧ a < 9223372036854775808) (hb0 : 0 ≤ b ∧ b < 9223372036854775808) (hD : Deep 0 a b) : Met l yX0_divisor (ws_ yX0_divisor cX0_divisor 4 (some .long)) ({ frames := 0, cells := 0, slots := 0, locals := 40 * (0) } : Room) (pcR s0 (fun _ => True) [.long (lI a), .long (lI b)]) (qL (dvS a b)) 0 0 (fun _ => False) := by
  refine Met.ofW (cc := cX0_divisor) (maxL := 4) (ret := (some .long)) (by decide) rfl ?_
  intro p e s m args below meth c s₁ B hml hv
  obtain ⟨rfl, hW, hB⟩ := hv
  have hx := B.exec
  have hb := B.bytes
  have hr := B.returns
  have hts := atoms_spec (ws := (ws_ yX0_divisor cX0_divisor 4 (some .long))) B.pre
  have hts : ∀ w ∈ lw_all, w.before _ s = true := fun w h => hts w (List.mem_cons_of_mem _ h)
  have hown : s.vm.findClass RX0 = some m.cls := findClass_of_methodNamed B.named
  have hlocks := B.notSynchronized
  have hl := lv_entry ([.long (lI a), .long (lI b)]) (n := 4) (Nat.le_of_ble_eq_true rfl)
  rw [lg_entry_eq]
  generalize (lg_sl ([.long (lI a), .long (lI b)]) ++ List.replicate (4 - (lg_sl ([.long (lI a), .long (lI b)])).length) Slot.unset).toArray = ls at hl ⊢
  have hl : lv_has ls 4 [(0, .long (lI a)), (2, .long (lI b))] := hl
  have hz0 := Deep.z ha.1 hb0.1 hD
  refine lv_lload_n hx hb dX0_divisor_0 rfl (lv_at hl 1 rfl) ?_
  refine ii_lconst (z := 0) hx hb dX0_divisor_1 rfl ?_
  refine ll_cmp hx hb (by omega) (by omega) dX0_divisor_2 ?_
  refine ii_if_ne (tgt := 10) hx hb dX0_divisor_3 (by decide) (by have := cmpZ_in b 0; omega) (fun c_1 => ?_) (fun c_1 => ?_)
  · -- 3 -> 10
    have c_1 := mt cmpZ_eq.mpr c_1
    exact absurd c_1 (by omega)
  · -- 3 -> 6
    have c_1 := cmpZ_eq.mp c_1
    refine lv_lload_n hx hb dX0_divisor_6 rfl (lv_at hl 0 rfl) ?_
    refine lv_goto (tgt := 17) hx hb dX0_divisor_7 (by decide) ?_
    have he9 : a = (dvS a b) := (dvS_0 ha.1 hz0).symm
    exact W.lret hx hb hr (fun t ht hW9 => ⟨_, rfl, congrArg lI he9, ht⟩) (fun q hq => by cases hq) dX0_divisor_17

set_option maxHeartbeats 1000000 in
set_option maxRecDepth 100000 in
theorem mX0_divisor_s {l : Launch} {G : GG} {s0 : State} {b0 : Nat} (Z : ZZ l G s0 b0) (n : Nat) (IH : ∀ (a b : Int), (0 ≤ a ∧ a < 9223372036854775808) → (0 ≤ b ∧ b < 9223372036854775808) → Deep n a b → Met l yX0_divisor (ws_ yX0_divisor cX0_divisor 4 (some .long)) ({ frames := n, cells := 0, slots := 0, locals := 40 * (n) } : Room) (pcR s0 (fun _ => True) [.long (lI a), .long (lI b)]) (qL (dvS a b)) 0 0 (fun _ => False)) (a b : Int) (ha : 0 ≤ a ∧ a < 9223372036854775808) (hb0 : 0 ≤ b ∧ b < 9223372036854775808) (hD : Deep (n + 1) a b) : Met l yX0_divisor (ws_ yX0_divisor cX0_divisor 4 (some .long)) ({ frames := n + 1, cells := 0, slots := 0, locals := 40 * (n + 1) } : Room) (pcR s0 (fun _ => True) [.long (lI a), .long (lI b)]) (qL (dvS a b)) 0 0 (fun _ => False) := by
  refine Met.ofW (cc := cX0_divisor) (maxL := 4) (ret := (some .long)) (by decide) rfl ?_
  intro p e s m args below meth c s₁ B hml hv
  obtain ⟨rfl, hW, hB⟩ := hv
  have hx := B.exec
  have hb := B.bytes
  have hr := B.returns
  have hts := atoms_spec (ws := (ws_ yX0_divisor cX0_divisor 4 (some .long))) B.pre
  have hts : ∀ w ∈ lw_all, w.before _ s = true := fun w h => hts w (List.mem_cons_of_mem _ h)
  have hown : s.vm.findClass RX0 = some m.cls := findClass_of_methodNamed B.named
  have hlocks := B.notSynchronized
  have hl := lv_entry ([.long (lI a), .long (lI b)]) (n := 4) (Nat.le_of_ble_eq_true rfl)
  rw [lg_entry_eq]
  generalize (lg_sl ([.long (lI a), .long (lI b)]) ++ List.replicate (4 - (lg_sl ([.long (lI a), .long (lI b)])).length) Slot.unset).toArray = ls at hl ⊢
  have hl : lv_has ls 4 [(0, .long (lI a)), (2, .long (lI b))] := hl
  refine lv_lload_n hx hb dX0_divisor_0 rfl (lv_at hl 1 rfl) ?_
  refine ii_lconst (z := 0) hx hb dX0_divisor_1 rfl ?_
  refine ll_cmp hx hb (by omega) (by omega) dX0_divisor_2 ?_
  refine ii_if_ne (tgt := 10) hx hb dX0_divisor_3 (by decide) (by have := cmpZ_in b 0; omega) (fun c_1 => ?_) (fun c_1 => ?_)
  · -- 3 -> 10
    have c_1 := mt cmpZ_eq.mpr c_1
    refine lv_lload_n hx hb dX0_divisor_10 rfl (lv_at hl 1 rfl) ?_
    refine lv_lload_n hx hb dX0_divisor_11 rfl (lv_at hl 0 rfl) ?_
    refine lv_lload_n hx hb dX0_divisor_12 rfl (lv_at hl 1 rfl) ?_
    refine ll_rem hx hb (by omega) (by omega) dX0_divisor_13 ?_
    have hm0 := Int.emod_nonneg a (show b ≠ 0 by omega)
    have hm1 := Int.emod_lt_of_pos a (show 0 < b by omega)
    refine cqL (va_runS (As := [.long (lI b), .long (lI (a % b))]) (rest := []) ⟨hx, hb, hml, hown, hts⟩ (IH b (a % b) (by omega) (by omega) (Deep.s ha.1 (by omega) hD)) (va_cwS 2 hts (lw_S q671 q672 q79 q673) rfl rfl rfl (by decide +kernel) ⟨Nat.le_refl (n + 1), (by show 8 + (4 + 11) + 40 * n ≤ 40 * (n + 1); omega)⟩) (psR hB trivial) rfl rfl hl.1 rfl (lv_room (Nat.le_of_ble_eq_true rfl)) dX0_divisor_14 ⟨Nat.zero_le _, Nat.zero_le _⟩) ?_
    have he9 : (dvS b (a % b)) = (dvS a b) := dvS_s ha.1 (by omega)
    exact W.lret hx hb hr (fun t ht hW9 => ⟨_, rfl, congrArg lI he9, ht⟩) (fun q hq => by cases hq) dX0_divisor_17
  · -- 3 -> 6
    have c_1 := cmpZ_eq.mp c_1
    refine lv_lload_n hx hb dX0_divisor_6 rfl (lv_at hl 0 rfl) ?_
    refine lv_goto (tgt := 17) hx hb dX0_divisor_7 (by decide) ?_
    have he9 : a = (dvS a b) := (dvS_0 ha.1 (by omega)).symm
    exact W.lret hx hb hr (fun t ht hW9 => ⟨_, rfl, congrArg lI he9, ht⟩) (fun q hq => by cases hq) dX0_divisor_17

theorem mX0_divisor {l : Launch} {G : GG} {s0 : State} {b0 : Nat} (Z : ZZ l G s0 b0) (n : Nat) : ∀ (a b : Int), (0 ≤ a ∧ a < 9223372036854775808) → (0 ≤ b ∧ b < 9223372036854775808) → Deep n a b → Met l yX0_divisor (ws_ yX0_divisor cX0_divisor 4 (some .long)) ({ frames := n, cells := 0, slots := 0, locals := 40 * (n) } : Room) (pcR s0 (fun _ => True) [.long (lI a), .long (lI b)]) (qL (dvS a b)) 0 0 (fun _ => False) := by
  induction n with
  | zero => exact fun a b ha hb hD => mX0_divisor_z Z a b ha hb hD
  | succ n ih => exact fun a b ha hb hD => mX0_divisor_s Z n ih a b ha hb hD

set_option maxHeartbeats 1000000 in
set_option maxRecDepth 100000 in
theorem mX0_lowest {l : Launch} {G : GG} {s0 : State} {b0 : Nat} (Z : ZZ l G s0 b0) (a b z : Int) (ha : 0 ≤ a ∧ a ≤ 1000000000000000) (hb1 : 0 < b ∧ b ≤ 1000000000000000) (hz : inR z) : Met l yX0_lowest (ws_ yX0_lowest cX0_lowest 5 (some .long)) ({ frames := 102, cells := 0, slots := 0, locals := 4063 } : Room) (pcR s0 (fun _ => True) [.long (lI a), .long (lI b), .int (iI z)]) (qL (loS a b z)) 0 0 (fun _ => False) := by
  refine Met.ofW (cc := cX0_lowest) (maxL := 5) (ret := (some .long)) (by decide) rfl ?_
  intro p e s m args below meth c s₁ B hml hv
  obtain ⟨rfl, hW, hB⟩ := hv
  have hx := B.exec
  have hb := B.bytes
  have hr := B.returns
  have hts := atoms_spec (ws := (ws_ yX0_lowest cX0_lowest 5 (some .long))) B.pre
  have hts : ∀ w ∈ lw_all, w.before _ s = true := fun w h => hts w (List.mem_cons_of_mem _ h)
  have hown : s.vm.findClass RX0 = some m.cls := findClass_of_methodNamed B.named
  have hlocks := B.notSynchronized
  have hl := lv_entry ([.long (lI a), .long (lI b), .int (iI z)]) (n := 5) (Nat.le_of_ble_eq_true rfl)
  rw [lg_entry_eq]
  generalize (lg_sl ([.long (lI a), .long (lI b), .int (iI z)]) ++ List.replicate (5 - (lg_sl ([.long (lI a), .long (lI b), .int (iI z)])).length) Slot.unset).toArray = ls at hl ⊢
  have hl : lv_has ls 5 [(0, .long (lI a)), (2, .long (lI b)), (4, .int (iI z))] := hl
  refine lv_iload hx hb dX0_lowest_0 (lv_at hl 2 rfl) ?_
  refine ii_if_ne (tgt := 9) hx hb dX0_lowest_2 (by decide) (by omega) (fun c_1 => ?_) (fun c_1 => ?_)
  · -- 2 -> 9
    refine lv_lload_n hx hb dX0_lowest_9 rfl (lv_at hl 1 rfl) ?_
    refine lv_lload_n hx hb dX0_lowest_10 rfl (lv_at hl 0 rfl) ?_
    refine lv_lload_n hx hb dX0_lowest_11 rfl (lv_at hl 1 rfl) ?_
    refine cqL (va_runS (As := [.long (lI a), .long (lI b)]) (rest := [.long (lI b)]) ⟨hx, hb, hml, hown, hts⟩ (mX0_divisor Z 101 a b (by omega) (by omega) (Deep.of (by omega) (by omega))) (va_cwS 2 hts (lw_S q671 q672 q79 q673) rfl rfl rfl (by decide +kernel) ⟨Nat.le_of_ble_eq_true rfl, Nat.le_of_ble_eq_true rfl⟩) (psR hB trivial) rfl rfl hl.1 rfl (lv_room (Nat.le_of_ble_eq_true rfl)) dX0_lowest_12 ⟨Nat.zero_le _, Nat.zero_le _⟩) ?_
    have b_681 := dvS_in (a := a) (b := b) (by omega) (by omega)
    refine ll_div hx hb (by omega) (by omega) dX0_lowest_15 ?_
    have he9 : (b / (dvS a b)) = (loS a b z) := by unfold loS; first | rw [if_pos (by omega)] | rw [if_neg (by omega)]
    exact W.lret hx hb hr (fun t ht hW9 => ⟨_, rfl, congrArg lI he9, ht⟩) (fun q hq => by cases hq) dX0_lowest_16
  · -- 2 -> 5
    refine lv_lload_n hx hb dX0_lowest_5 rfl (lv_at hl 0 rfl) ?_
    refine lv_goto (tgt := 10) hx hb dX0_lowest_6 (by decide) ?_
    refine lv_lload_n hx hb dX0_lowest_10 rfl (lv_at hl 0 rfl) ?_
    refine lv_lload_n hx hb dX0_lowest_11 rfl (lv_at hl 1 rfl) ?_
    refine cqL (va_runS (As := [.long (lI a), .long (lI b)]) (rest := [.long (lI a)]) ⟨hx, hb, hml, hown, hts⟩ (mX0_divisor Z 101 a b (by omega) (by omega) (Deep.of (by omega) (by omega))) (va_cwS 2 hts (lw_S q671 q672 q79 q673) rfl rfl rfl (by decide +kernel) ⟨Nat.le_of_ble_eq_true rfl, Nat.le_of_ble_eq_true rfl⟩) (psR hB trivial) rfl rfl hl.1 rfl (lv_room (Nat.le_of_ble_eq_true rfl)) dX0_lowest_12 ⟨Nat.zero_le _, Nat.zero_le _⟩) ?_
    have b_682 := dvS_in (a := a) (b := b) (by omega) (by omega)
    refine ll_div hx hb (by omega) (by omega) dX0_lowest_15 ?_
    have he9 : (a / (dvS a b)) = (loS a b z) := by unfold loS; first | rw [if_pos (by omega)] | rw [if_neg (by omega)]
    exact W.lret hx hb hr (fun t ht hW9 => ⟨_, rfl, congrArg lI he9, ht⟩) (fun q hq => by cases hq) dX0_lowest_16

set_option maxHeartbeats 1000000 in
set_option maxRecDepth 100000 in
theorem mX0_byStorms {l : Launch} {G : GG} {s0 : State} {b0 : Nat} (Z : ZZ l G s0 b0) (A : Nat → Nat) (hI : Own s0 A 156) (S : Sta) (R : Nat → Option Nat) (hF0 : WF (S 20)) (hd : S 20 54 ≤ 2000) (a n v z : Int) (ha : 0 ≤ a ∧ a ≤ 10) (hn : 0 ≤ n ∧ n ≤ 8) (hv9 : v = -4 ∨ (0 ≤ v ∧ v ≤ 99)) (hz9 : inR z) (sz : Nat) : Met l yX0_byStorms (ws_ yX0_byStorms cX0_byStorms 13 (some .long)) ({ frames := 103, cells := 0, slots := 0, locals := 4087 } : Room) (pcM s0 sz (CW G A S R) [.ref (A 0), .int (iI a), .int (iI n), .int (iI v), .int (iI z)]) (mL (bySS (S 20) a n v z) (CWx G A S R) (AA A 156 sz)) 0 0 (AA A 156 sz) := by
  refine Met.ofW (cc := cX0_byStorms) (maxL := 13) (ret := (some .long)) (by decide) rfl ?_
  intro p e s m args below meth c s₁ B hml hv
  obtain ⟨rfl, hsz, hW, hB⟩ := hv
  subst hsz
  have hx := B.exec
  have hb := B.bytes
  have hr := B.returns
  have hts := atoms_spec (ws := (ws_ yX0_byStorms cX0_byStorms 13 (some .long))) B.pre
  have hts : ∀ w ∈ lw_all, w.before _ s = true := fun w h => hts w (List.mem_cons_of_mem _ h)
  have hown : s.vm.findClass RX0 = some m.cls := findClass_of_methodNamed B.named
  have hlocks := B.notSynchronized
  have hN := AA.old hI hB
  have hS : va_S (AA A 156 s.heap.size) s.heap s.heap [] := va_S.rf
  have hl := lv_entry ([.ref (A 0), .int (iI a), .int (iI n), .int (iI v), .int (iI z)]) (n := 13) (Nat.le_of_ble_eq_true rfl)
  rw [lg_entry_eq]
  generalize (lg_sl ([.ref (A 0), .int (iI a), .int (iI n), .int (iI v), .int (iI z)]) ++ List.replicate (13 - (lg_sl ([.ref (A 0), .int (iI a), .int (iI n), .int (iI v), .int (iI z)])).length) Slot.unset).toArray = ls at hl ⊢
  have hl : lv_has ls 13 [(0, .ref (A 0)), (1, .int (iI a)), (2, .int (iI n)), (3, .int (iI v)), (4, .int (iI z))] := hl
  have hp2 := pw2_in (show n.toNat ≤ 8 by omega)
  have htn := tnS_in (show n.toNat ≤ 8 by omega)
  have htt := ttS_in hF0 hd ha (show n.toNat ≤ 8 by omega) v (pw2 n.toNat)
  refine ii_lconst (z := 0) hx hb dX0_byStorms_0 rfl ?_
  refine lv_lstore (lv' := [(5, .long (lI 0)), (0, .ref (A 0)), (1, .int (iI a)), (2, .int (iI n)), (3, .int (iI v)), (4, .int (iI z))]) hx hb dX0_byStorms_1 hl (by decide) rfl (fun ls hl => ?_)
  refine ii_lconst (z := 1) hx hb dX0_byStorms_3 rfl ?_
  refine lv_lstore (lv' := [(7, .long (lI 1)), (5, .long (lI 0)), (0, .ref (A 0)), (1, .int (iI a)), (2, .int (iI n)), (3, .int (iI v)), (4, .int (iI z))]) hx hb dX0_byStorms_4 hl (by decide) rfl (fun ls hl => ?_)
  refine ii_const hx hb dX0_byStorms_6 ?_
  refine lv_istore (lv' := [(9, .int (iI 0)), (7, .long (lI 1)), (5, .long (lI 0)), (0, .ref (A 0)), (1, .int (iI a)), (2, .int (iI n)), (3, .int (iI v)), (4, .int (iI z))]) hx hb dX0_byStorms_7 hl (by decide) rfl (fun ls hl => ?_)
  have loop_9 : ∀ (fu : Nat) (i : Nat) (zi : Int), (zi = (i : Int)) → (i ≤ n.toNat) → (9 - i) < fu → ∀ (H : Heap) (locs : List Loc), (CW G A S R) H → va_S (AA A 156 s.heap.size) s.heap H locs → ∀ (ls : Array Slot), lv_has ls 13 [(9, .int (iI zi)), (7, .long (lI (tnS i))), (5, .long (lI 0)), (0, .ref (A 0)), (1, .int (iI a)), (2, .int (iI n)), (3, .int (iI v)), (4, .int (iI z))] → W p l e (headSpec (ws_ yX0_byStorms cX0_byStorms 13 (some .long)) ({ frames := 103, cells := 0, slots := 0, locals := 4087 } : Room)).room s m ([.ref (A 0), .int (iI a), .int (iI n), .int (iI v), .int (iI z)] : List Value).toArray below meth c H locs 0 0 (MQ below (mL (bySS (S 20) a n v z) (CWx G A S R) (AA A 156 s.heap.size)) ([.ref (A 0), .int (iI a), .int (iI n), .int (iI v), .int (iI z)] : List Value).toArray s 0 0 (AA A 156 s.heap.size)) (F0 m 9 ls []) := by
    intro fu
    induction fu with
    | zero => intro i zi ezi hi hmu; exact absurd hmu (Nat.not_lt_zero _)
    | succ fu ih9 =>
      intro i zi ezi hi hmu H locs hW hS ls hl
      refine lv_iload hx hb dX0_byStorms_9 (lv_at hl 0 rfl) ?_
      refine lv_iload_n hx hb dX0_byStorms_11 rfl (lv_at hl 5 rfl) ?_
      refine ii_icmp_ge (tgt := 29) hx hb dX0_byStorms_12 (by decide) (by omega) (by omega) (fun c_1 => ?_) (fun c_1 => ?_)
      · -- 12 -> 29
        have ex_i : n.toNat = i := by omega
        subst ex_i
        refine ii_const hx hb dX0_byStorms_29 ?_
        refine lv_istore (lv' := [(9, .int (iI 0)), (7, .long (lI (tnS n.toNat))), (5, .long (lI 0)), (0, .ref (A 0)), (1, .int (iI a)), (2, .int (iI n)), (3, .int (iI v)), (4, .int (iI z))]) hx hb dX0_byStorms_30 hl (by decide) rfl (fun ls hl => ?_)
        have loop_32 : ∀ (fu : Nat) (m9 : Nat) (zm : Int) (F1 : Nat → Int), (zm = (m9 : Int)) → (m9 ≤ pw2 n.toNat) → (257 - m9) < fu → ∀ (H : Heap) (locs : List Loc), (CW G A (up S 21 F1) R) H → va_S (AA A 156 s.heap.size) s.heap H locs → ∀ (ls : Array Slot), lv_has ls 13 [(9, .int (iI zm)), (7, .long (lI (tnS n.toNat))), (5, .long (lI (ttS (S 20) a n.toNat v m9))), (0, .ref (A 0)), (1, .int (iI a)), (2, .int (iI n)), (3, .int (iI v)), (4, .int (iI z))] → W p l e (headSpec (ws_ yX0_byStorms cX0_byStorms 13 (some .long)) ({ frames := 103, cells := 0, slots := 0, locals := 4087 } : Room)).room s m ([.ref (A 0), .int (iI a), .int (iI n), .int (iI v), .int (iI z)] : List Value).toArray below meth c H locs 0 0 (MQ below (mL (bySS (S 20) a n v z) (CWx G A S R) (AA A 156 s.heap.size)) ([.ref (A 0), .int (iI a), .int (iI n), .int (iI v), .int (iI z)] : List Value).toArray s 0 0 (AA A 156 s.heap.size)) (F0 m 32 ls []) := by
          intro fu
          induction fu with
          | zero => intro m9 zm F1 ezm hm9 hmu; exact absurd hmu (Nat.not_lt_zero _)
          | succ fu ih32 =>
            intro m9 zm F1 ezm hm9 hmu H locs hW hS ls hl
            refine lv_iload hx hb dX0_byStorms_32 (lv_at hl 0 rfl) ?_
            refine ii_const hx hb dX0_byStorms_34 ?_
            refine lv_iload_n hx hb dX0_byStorms_35 rfl (lv_at hl 5 rfl) ?_
            refine ii_shl1 hx hb (by omega) dX0_byStorms_36 ?_
            refine ii_icmp_ge (tgt := 166) hx hb dX0_byStorms_37 (by decide) (by omega) (by omega) (fun c_2 => ?_) (fun c_2 => ?_)
            · -- 37 -> 166
              have ex_m9 : (pw2 n.toNat) = m9 := by omega
              subst ex_m9
              refine lv_lload hx hb dX0_byStorms_166 (lv_at hl 2 rfl) ?_
              refine lv_lload hx hb dX0_byStorms_168 (lv_at hl 1 rfl) ?_
              refine lv_iload hx hb dX0_byStorms_170 (lv_at hl 7 rfl) ?_
              refine cqL (va_runS (As := [.long (lI (ttS (S 20) a n.toNat v (pw2 n.toNat))), .long (lI (tnS n.toNat)), .int (iI z)]) (rest := []) ⟨hx, hb, hml, hown, hts⟩ (mX0_lowest Z (ttS (S 20) a n.toNat v (pw2 n.toNat)) (tnS n.toNat) z (by omega) (by omega) (by omega)) (va_cwS 3 hts (lw_S q668 q669 q79 q670) rfl rfl rfl (by decide +kernel) ⟨Nat.le_of_ble_eq_true rfl, Nat.le_of_ble_eq_true rfl⟩) (psR (BornH.S hB hN hS) trivial) rfl rfl hl.1 rfl (lv_room (Nat.le_of_ble_eq_true rfl)) dX0_byStorms_172 ⟨Nat.zero_le _, Nat.zero_le _⟩) ?_
              have hpw9 : (CWx G A S R) H := (hW.x (fun a h0 h3 h1 h2 h4 => by first | rfl | simp only [up, if_neg h0, if_neg h3, if_neg h1, if_neg h2, if_neg h4]) (fun j h2 h5 h6 => by first | rfl | simp [up, h2]))
              have he9 : (loS (ttS (S 20) a n.toNat v (pw2 n.toNat)) (tnS n.toNat) z) = (bySS (S 20) a n v z) := rfl
              exact W.lret hx hb hr (fun t ht hW9 => ⟨⟨_, (), rfl, congrArg lI he9, by show (CWx G A S R) t.heap; rw [ht]; exact hpw9⟩, hS.F ht⟩) hS.2.2 dX0_byStorms_175
            · -- 37 -> 40
              refine ii_lconst (z := 1) hx hb dX0_byStorms_40 rfl ?_
              refine lv_lstore (lv' := [(10, .long (lI 1)), (9, .int (iI zm)), (7, .long (lI (tnS n.toNat))), (5, .long (lI (ttS (S 20) a n.toNat v m9))), (0, .ref (A 0)), (1, .int (iI a)), (2, .int (iI n)), (3, .int (iI v)), (4, .int (iI z))]) hx hb dX0_byStorms_41 hl (by decide) rfl (fun ls hl => ?_)
              refine lv_aload_n hx hb dX0_byStorms_43 rfl (lv_at hl 4 rfl) ?_
              refine r_get (ci := 0) (k := 4) (v := .ref (A 56)) (C := RX0) (T := TX0) (N := 16) Z hB hx hb hts hown rfl in_X0 hW.obj (by decide) q797 rfl dX0_byStorms_44 ?_
              refine lv_aload_n hx hb dX0_byStorms_47 rfl (lv_at hl 4 rfl) ?_
              refine r_get (ci := 0) (k := 3) (v := .ref (A 36)) (C := RX0) (T := TX0) (N := 16) Z hB hx hb hts hown rfl in_X0 hW.obj (by decide) q796 rfl dX0_byStorms_48 ?_
              refine cmV (va_runV (As := [.ref (A 36)]) (rest := []) ⟨hx, hb, hml, hown, hts⟩ (mX1_takes Z (fa A 1) (hI.fa (by omega)) F1 (fa A 0) (S 20) (fa_apart hI (f := 1) (g := 0) (by omega) (by omega) (by omega)) H.size) (cwV 1 hts (lw_V q424 q425 q426 q80 q427) rfl rfl rfl (by decide +kernel) ⟨Nat.le_of_ble_eq_true rfl, Nat.le_of_ble_eq_true rfl⟩) (pvM (BornH.S hB hN hS) (OBJ.recv Z hB ((hW.fw (f := 1) (by omega) (F := F1) (up_s _ _ _))).1 (q := (RX1, TX1, 8)) rfl) (⟨(hW.fw (f := 1) (by omega) (F := F1) (up_s _ _ _)), (hW.fw (f := 0) (by omega) (F := (S 20)) rfl)⟩)) rfl rfl hl.1 rfl (lv_room (Nat.le_of_ble_eq_true rfl)) dX0_byStorms_51 ⟨Nat.zero_le _, Nat.zero_le _⟩) hS (AA.fa (by omega) hS.1) (fun H1 locs hW1 hz1 hk1 hS => ?_)
              have hW := hW.joinF hI (f := 1) (by omega) hk1 hW1
              clear hW1 hk1 hz1
              generalize H1 = H at hW hS ⊢
              have hW := hW.eqS (S' := (up S 21 (S 20))) (by
                  funext a
                  by_cases h21 : a = 21
                  · subst h21; rfl
                  simp only [up, if_neg h21])
              refine ii_const hx hb dX0_byStorms_54 ?_
              refine lv_istore (lv' := [(12, .int (iI 0)), (10, .long (lI 1)), (9, .int (iI zm)), (7, .long (lI (tnS n.toNat))), (5, .long (lI (ttS (S 20) a n.toNat v m9))), (0, .ref (A 0)), (1, .int (iI a)), (2, .int (iI n)), (3, .int (iI v)), (4, .int (iI z))]) hx hb dX0_byStorms_55 hl (by decide) rfl (fun ls hl => ?_)
              have loop_57 : ∀ (fu : Nat) (dd : Nat) (zd : Int), (zd = (dd : Int)) → (dd ≤ n.toNat) → (9 - dd) < fu → ∀ (H : Heap) (locs : List Loc), (CW G A (up S 21 (stS (S 20) m9 dd)) R) H → va_S (AA A 156 s.heap.size) s.heap H locs → ∀ (ls : Array Slot), lv_has ls 13 [(12, .int (iI zd)), (10, .long (lI (wtS a m9 dd))), (9, .int (iI zm)), (7, .long (lI (tnS n.toNat))), (5, .long (lI (ttS (S 20) a n.toNat v m9))), (0, .ref (A 0)), (1, .int (iI a)), (2, .int (iI n)), (3, .int (iI v)), (4, .int (iI z))] → W p l e (headSpec (ws_ yX0_byStorms cX0_byStorms 13 (some .long)) ({ frames := 103, cells := 0, slots := 0, locals := 4087 } : Room)).room s m ([.ref (A 0), .int (iI a), .int (iI n), .int (iI v), .int (iI z)] : List Value).toArray below meth c H locs 0 0 (MQ below (mL (bySS (S 20) a n v z) (CWx G A S R) (AA A 156 s.heap.size)) ([.ref (A 0), .int (iI a), .int (iI n), .int (iI v), .int (iI z)] : List Value).toArray s 0 0 (AA A 156 s.heap.size)) (F0 m 57 ls []) := by
                intro fu
                induction fu with
                | zero => intro dd zd ezd hdd hmu; exact absurd hmu (Nat.not_lt_zero _)
                | succ fu ih57 =>
                  intro dd zd ezd hdd hmu H locs hW hS ls hl
                  have hwd := stS_wf hF0 hd m9 dd (by omega)
                  have hwt := hwd.1.day
                  refine lv_iload hx hb dX0_byStorms_57 (lv_at hl 0 rfl) ?_
                  refine lv_iload_n hx hb dX0_byStorms_59 rfl (lv_at hl 7 rfl) ?_
                  refine ii_icmp_ge (tgt := 119) hx hb dX0_byStorms_60 (by decide) (by omega) (by omega) (fun c_3 => ?_) (fun c_3 => ?_)
                  · -- 60 -> 119
                    have ex_dd : n.toNat = dd := by omega
                    subst ex_dd
                    refine lv_lload hx hb dX0_byStorms_119 (lv_at hl 4 rfl) ?_
                    refine lv_lload hx hb dX0_byStorms_121 (lv_at hl 1 rfl) ?_
                    refine lv_iload_n hx hb dX0_byStorms_123 rfl (lv_at hl 8 rfl) ?_
                    refine ii_bipush hx hb dX0_byStorms_124 (by decide) ?_
                    refine ii_icmp_ne (tgt := 139) hx hb dX0_byStorms_126 (by decide) (by omega) (by omega) (fun c_4 => ?_) (fun c_4 => ?_)
                    · -- 126 -> 139
                      refine lv_aload_n hx hb dX0_byStorms_139 rfl (lv_at hl 5 rfl) ?_
                      refine r_get (ci := 0) (k := 4) (v := .ref (A 56)) (C := RX0) (T := TX0) (N := 16) Z hB hx hb hts hown rfl in_X0 hW.obj (by decide) q797 rfl dX0_byStorms_140 ?_
                      refine cqI (va_runV (As := []) (rest := [.long (lI (wtS a m9 n.toNat)), .long (lI (ttS (S 20) a n.toNat v m9))]) ⟨hx, hb, hml, hown, hts⟩ (mX1_spread Z (fa A 1) (stS (S 20) m9 n.toNat) hwd.1 ) (cwV 0 hts (lw_V q437 q438 q439 q80 q440) rfl rfl rfl (by decide +kernel) ⟨Nat.le_of_ble_eq_true rfl, Nat.le_of_ble_eq_true rfl⟩) (pvR (BornH.S hB hN hS) (OBJ.recv Z hB (((hW.fw (f := 1) (by omega) (F := (stS (S 20) m9 n.toNat)) (up_s _ _ _))).1) (q := (RX1, TX1, 8)) rfl) (hW.fw (f := 1) (by omega) (F := (stS (S 20) m9 n.toNat)) (up_s _ _ _))) rfl rfl hl.1 rfl (lv_room (Nat.le_of_ble_eq_true rfl)) dX0_byStorms_143 ⟨Nat.zero_le _, Nat.zero_le _⟩) ?_
                      have b_687 := lowS_in hwd.1 ((stS (S 20) m9 n.toNat) 76).toNat (by have := hwd.1.n; omega)
                      have b_688 := highS_in hwd.1 ((stS (S 20) m9 n.toNat) 76).toNat (by have := hwd.1.n; omega)
                      refine lv_iload_n hx hb dX0_byStorms_146 rfl (lv_at hl 8 rfl) ?_
                      refine ii_icmp_gt (tgt := 154) hx hb dX0_byStorms_147 (by decide) (by omega) (by omega) (fun c_5 => ?_) (fun c_5 => ?_)
                      · -- 147 -> 154
                        refine ii_const hx hb dX0_byStorms_154 ?_
                        refine ii_i2l hx hb (by omega) dX0_byStorms_155 ?_
                        refine ll_mul hx hb dX0_byStorms_156 ?_
                        refine ll_add hx hb dX0_byStorms_157 ?_
                        refine lv_lstore (lv' := [(5, .long (lI ((ttS (S 20) a n.toNat v m9) + ((wtS a m9 n.toNat) * 0)))), (12, .int (iI zd)), (10, .long (lI (wtS a m9 n.toNat))), (9, .int (iI zm)), (7, .long (lI (tnS n.toNat))), (0, .ref (A 0)), (1, .int (iI a)), (2, .int (iI n)), (3, .int (iI v)), (4, .int (iI z))]) hx hb dX0_byStorms_158 hl (by decide) rfl (fun ls hl => ?_)
                        refine ii_iinc (k := 3) (lv' := [(9, .int (iI (zm + 1))), (5, .long (lI ((ttS (S 20) a n.toNat v m9) + ((wtS a m9 n.toNat) * 0)))), (12, .int (iI zd)), (10, .long (lI (wtS a m9 n.toNat))), (7, .long (lI (tnS n.toNat))), (0, .ref (A 0)), (1, .int (iI a)), (2, .int (iI n)), (3, .int (iI v)), (4, .int (iI z))]) hx hb dX0_byStorms_160 hl rfl (by decide) rfl (fun ls hl => ?_)
                        refine lv_goto (tgt := 32) hx hb dX0_byStorms_163 (by decide) ?_
                        have e_6 : (ttS (S 20) a n.toNat v (m9 + 1)) = ((ttS (S 20) a n.toNat v m9) + ((wtS a m9 n.toNat) * 0)) := by simp only [ttS]; congr 1; congr 1; unfold vsS spS; (repeat' split) <;> first | rfl | omega
                        exact ih32 (m9 + 1) (zm + 1) (stS (S 20) m9 n.toNat) (by omega) (by omega) (by omega) _ _ hW hS ls (by rw [e_6]; exact lv_sub hl [0, 4, 1, 5, 6, 7, 8, 9] rfl)
                      · -- 147 -> 150
                        refine ii_const hx hb dX0_byStorms_150 ?_
                        refine lv_goto (tgt := 155) hx hb dX0_byStorms_151 (by decide) ?_
                        refine ii_i2l hx hb (by omega) dX0_byStorms_155 ?_
                        refine ll_mul hx hb dX0_byStorms_156 ?_
                        refine ll_add hx hb dX0_byStorms_157 ?_
                        refine lv_lstore (lv' := [(5, .long (lI ((ttS (S 20) a n.toNat v m9) + ((wtS a m9 n.toNat) * 1)))), (12, .int (iI zd)), (10, .long (lI (wtS a m9 n.toNat))), (9, .int (iI zm)), (7, .long (lI (tnS n.toNat))), (0, .ref (A 0)), (1, .int (iI a)), (2, .int (iI n)), (3, .int (iI v)), (4, .int (iI z))]) hx hb dX0_byStorms_158 hl (by decide) rfl (fun ls hl => ?_)
                        refine ii_iinc (k := 3) (lv' := [(9, .int (iI (zm + 1))), (5, .long (lI ((ttS (S 20) a n.toNat v m9) + ((wtS a m9 n.toNat) * 1)))), (12, .int (iI zd)), (10, .long (lI (wtS a m9 n.toNat))), (7, .long (lI (tnS n.toNat))), (0, .ref (A 0)), (1, .int (iI a)), (2, .int (iI n)), (3, .int (iI v)), (4, .int (iI z))]) hx hb dX0_byStorms_160 hl rfl (by decide) rfl (fun ls hl => ?_)
                        refine lv_goto (tgt := 32) hx hb dX0_byStorms_163 (by decide) ?_
                        have e_7 : (ttS (S 20) a n.toNat v (m9 + 1)) = ((ttS (S 20) a n.toNat v m9) + ((wtS a m9 n.toNat) * 1)) := by simp only [ttS]; congr 1; congr 1; unfold vsS spS; (repeat' split) <;> first | rfl | omega
                        exact ih32 (m9 + 1) (zm + 1) (stS (S 20) m9 n.toNat) (by omega) (by omega) (by omega) _ _ hW hS ls (by rw [e_7]; exact lv_sub hl [0, 4, 1, 5, 6, 7, 8, 9] rfl)
                    · -- 126 -> 129
                      refine lv_aload_n hx hb dX0_byStorms_129 rfl (lv_at hl 5 rfl) ?_
                      refine r_get (ci := 0) (k := 4) (v := .ref (A 56)) (C := RX0) (T := TX0) (N := 16) Z hB hx hb hts hown rfl in_X0 hW.obj (by decide) q797 rfl dX0_byStorms_130 ?_
                      refine cqI (va_runV (As := []) (rest := [.long (lI (wtS a m9 n.toNat)), .long (lI (ttS (S 20) a n.toNat v m9))]) ⟨hx, hb, hml, hown, hts⟩ (mX1_spread Z (fa A 1) (stS (S 20) m9 n.toNat) hwd.1 ) (cwV 0 hts (lw_V q437 q438 q439 q80 q440) rfl rfl rfl (by decide +kernel) ⟨Nat.le_of_ble_eq_true rfl, Nat.le_of_ble_eq_true rfl⟩) (pvR (BornH.S hB hN hS) (OBJ.recv Z hB (((hW.fw (f := 1) (by omega) (F := (stS (S 20) m9 n.toNat)) (up_s _ _ _))).1) (q := (RX1, TX1, 8)) rfl) (hW.fw (f := 1) (by omega) (F := (stS (S 20) m9 n.toNat)) (up_s _ _ _))) rfl rfl hl.1 rfl (lv_room (Nat.le_of_ble_eq_true rfl)) dX0_byStorms_133 ⟨Nat.zero_le _, Nat.zero_le _⟩) ?_
                      have b_693 := lowS_in hwd.1 ((stS (S 20) m9 n.toNat) 76).toNat (by have := hwd.1.n; omega)
                      have b_694 := highS_in hwd.1 ((stS (S 20) m9 n.toNat) 76).toNat (by have := hwd.1.n; omega)
                      refine lv_goto (tgt := 155) hx hb dX0_byStorms_136 (by decide) ?_
                      refine ii_i2l hx hb (by omega) dX0_byStorms_155 ?_
                      refine ll_mul hx hb dX0_byStorms_156 ?_
                      refine ll_add hx hb dX0_byStorms_157 ?_
                      refine lv_lstore (lv' := [(5, .long (lI ((ttS (S 20) a n.toNat v m9) + ((wtS a m9 n.toNat) * (max 0 (highS (stS (S 20) m9 n.toNat) ((stS (S 20) m9 n.toNat) 76).toNat - lowS (stS (S 20) m9 n.toNat) ((stS (S 20) m9 n.toNat) 76).toNat)))))), (12, .int (iI zd)), (10, .long (lI (wtS a m9 n.toNat))), (9, .int (iI zm)), (7, .long (lI (tnS n.toNat))), (0, .ref (A 0)), (1, .int (iI a)), (2, .int (iI n)), (3, .int (iI v)), (4, .int (iI z))]) hx hb dX0_byStorms_158 hl (by decide) rfl (fun ls hl => ?_)
                      refine ii_iinc (k := 3) (lv' := [(9, .int (iI (zm + 1))), (5, .long (lI ((ttS (S 20) a n.toNat v m9) + ((wtS a m9 n.toNat) * (max 0 (highS (stS (S 20) m9 n.toNat) ((stS (S 20) m9 n.toNat) 76).toNat - lowS (stS (S 20) m9 n.toNat) ((stS (S 20) m9 n.toNat) 76).toNat)))))), (12, .int (iI zd)), (10, .long (lI (wtS a m9 n.toNat))), (7, .long (lI (tnS n.toNat))), (0, .ref (A 0)), (1, .int (iI a)), (2, .int (iI n)), (3, .int (iI v)), (4, .int (iI z))]) hx hb dX0_byStorms_160 hl rfl (by decide) rfl (fun ls hl => ?_)
                      refine lv_goto (tgt := 32) hx hb dX0_byStorms_163 (by decide) ?_
                      have e_8 : (ttS (S 20) a n.toNat v (m9 + 1)) = ((ttS (S 20) a n.toNat v m9) + ((wtS a m9 n.toNat) * (max 0 (highS (stS (S 20) m9 n.toNat) ((stS (S 20) m9 n.toNat) 76).toNat - lowS (stS (S 20) m9 n.toNat) ((stS (S 20) m9 n.toNat) 76).toNat)))) := by simp only [ttS]; congr 1; congr 1; unfold vsS spS; (repeat' split) <;> first | rfl | omega
                      exact ih32 (m9 + 1) (zm + 1) (stS (S 20) m9 n.toNat) (by omega) (by omega) (by omega) _ _ hW hS ls (by rw [e_8]; exact lv_sub hl [0, 4, 1, 5, 6, 7, 8, 9] rfl)
                  · -- 60 -> 63
                    refine lv_iload hx hb dX0_byStorms_63 (lv_at hl 2 rfl) ?_
                    refine lv_iload hx hb dX0_byStorms_65 (lv_at hl 0 rfl) ?_
                    refine cqI (va_runS (As := [.int (iI zm), .int (iI zd)]) (rest := []) ⟨hx, hb, hml, hown, hts⟩ (mX0_has Z zm (by omega) zd (by omega)) (va_cwS 2 hts (lw_S q667 q403 q79 q404) rfl rfl rfl (by decide +kernel) ⟨Nat.le_of_ble_eq_true rfl, Nat.le_of_ble_eq_true rfl⟩) (psR (BornH.S hB hN hS) trivial) rfl rfl hl.1 rfl (lv_room (Nat.le_of_ble_eq_true rfl)) dX0_byStorms_67 ⟨Nat.zero_le _, Nat.zero_le _⟩) ?_
                    refine bb_if_eq (P := bitS zm zd) (tgt := 96) hx hb dX0_byStorms_70 (by decide) (fun c_9 => ?_) (fun c_9 => ?_)
                    · -- 70 -> 96
                      refine lv_lload hx hb dX0_byStorms_96 (lv_at hl 1 rfl) ?_
                      refine ii_bipush hx hb dX0_byStorms_98 (by decide) ?_
                      refine lv_iload_n hx hb dX0_byStorms_100 rfl (lv_at hl 6 rfl) ?_
                      refine ii_sub hx hb dX0_byStorms_101 ?_
                      refine ii_i2l hx hb (by omega) dX0_byStorms_102 ?_
                      refine ll_mul hx hb dX0_byStorms_103 ?_
                      refine lv_lstore (lv' := [(10, .long (lI ((wtS a m9 dd) * (10 - a)))), (12, .int (iI zd)), (9, .int (iI zm)), (7, .long (lI (tnS n.toNat))), (5, .long (lI (ttS (S 20) a n.toNat v m9))), (0, .ref (A 0)), (1, .int (iI a)), (2, .int (iI n)), (3, .int (iI v)), (4, .int (iI z))]) hx hb dX0_byStorms_104 hl (by decide) rfl (fun ls hl => ?_)
                      refine lv_aload_n hx hb dX0_byStorms_106 rfl (lv_at hl 5 rfl) ?_
                      refine r_get (ci := 0) (k := 4) (v := .ref (A 56)) (C := RX0) (T := TX0) (N := 16) Z hB hx hb hts hown rfl in_X0 hW.obj (by decide) q797 rfl dX0_byStorms_107 ?_
                      refine cmV (va_runV (As := []) (rest := []) ⟨hx, hb, hml, hown, hts⟩ (mX1_dayGoes Z (fa A 1) (hI.fa (by omega)) (stS (S 20) m9 dd) hwd.1  H.size) (cwV 0 hts (lw_V q564 q565 q566 q80 q567) rfl rfl rfl (by decide +kernel) ⟨Nat.le_of_ble_eq_true rfl, Nat.le_of_ble_eq_true rfl⟩) (pvM (BornH.S hB hN hS) (OBJ.recv Z hB ((hW.fw (f := 1) (by omega) (F := (stS (S 20) m9 dd)) (up_s _ _ _))).1 (q := (RX1, TX1, 8)) rfl) (hW.fw (f := 1) (by omega) (F := (stS (S 20) m9 dd)) (up_s _ _ _))) rfl rfl hl.1 rfl (lv_room (Nat.le_of_ble_eq_true rfl)) dX0_byStorms_110 ⟨Nat.zero_le _, Nat.zero_le _⟩) hS (AA.fa (by omega) hS.1) (fun H1 locs hW1 hz1 hk1 hS => ?_)
                      have hW := hW.joinF hI (f := 1) (by omega) hk1 hW1
                      clear hW1 hk1 hz1
                      generalize H1 = H at hW hS ⊢
                      have hW := hW.eqS (S' := (up S 21 (dayS (stS (S 20) m9 dd)))) (by
                          funext a
                          by_cases h21 : a = 21
                          · subst h21; rfl
                          simp only [up, if_neg h21])
                      have hwf_10 := dayS_wf hwd.1 (by omega)
                      refine ii_iinc (k := 1) (lv' := [(12, .int (iI (zd + 1))), (10, .long (lI ((wtS a m9 dd) * (10 - a)))), (9, .int (iI zm)), (7, .long (lI (tnS n.toNat))), (5, .long (lI (ttS (S 20) a n.toNat v m9))), (0, .ref (A 0)), (1, .int (iI a)), (2, .int (iI n)), (3, .int (iI v)), (4, .int (iI z))]) hx hb dX0_byStorms_113 hl rfl (by decide) rfl (fun ls hl => ?_)
                      refine lv_goto (tgt := 57) hx hb dX0_byStorms_116 (by decide) ?_
                      have e_11 : (wtS a m9 (dd + 1)) = ((wtS a m9 dd) * (10 - a)) := by simp only [wtS]; rw [← ezd, ← ezm]; first | rw [if_pos (by assumption)] | rw [if_neg (by assumption)]
                      exact ih57 (dd + 1) (zd + 1) (by omega) (by omega) (by omega) _ _ (by rw [show stS (S 20) m9 (dd + 1) = (dayS (stS (S 20) m9 dd)) by simp only [stS]; rw [← ezd, ← ezm]; first | exact if_pos (by assumption) | exact if_neg (by assumption)]; exact hW) hS ls (by rw [e_11]; exact lv_sub hl [0, 1, 2, 3, 4, 5, 6, 7, 8, 9] rfl)
                    · -- 70 -> 73
                      refine lv_lload hx hb dX0_byStorms_73 (lv_at hl 1 rfl) ?_
                      refine lv_iload_n hx hb dX0_byStorms_75 rfl (lv_at hl 6 rfl) ?_
                      refine ii_i2l hx hb (by omega) dX0_byStorms_76 ?_
                      refine ll_mul hx hb dX0_byStorms_77 ?_
                      refine lv_lstore (lv' := [(10, .long (lI ((wtS a m9 dd) * a))), (12, .int (iI zd)), (9, .int (iI zm)), (7, .long (lI (tnS n.toNat))), (5, .long (lI (ttS (S 20) a n.toNat v m9))), (0, .ref (A 0)), (1, .int (iI a)), (2, .int (iI n)), (3, .int (iI v)), (4, .int (iI z))]) hx hb dX0_byStorms_78 hl (by decide) rfl (fun ls hl => ?_)
                      refine lv_aload_n hx hb dX0_byStorms_80 rfl (lv_at hl 5 rfl) ?_
                      refine r_get (ci := 0) (k := 4) (v := .ref (A 56)) (C := RX0) (T := TX0) (N := 16) Z hB hx hb hts hown rfl in_X0 hW.obj (by decide) q797 rfl dX0_byStorms_81 ?_
                      refine lv_dup hx hb dX0_byStorms_84 rfl ?_
                      have b_698 := hwd.1.day 
                      refine r_getN (ci := 1) (k := 6) (v := .int (iI ((stS (S 20) m9 dd) 54))) (C := RX1) (T := TX1) (N := 8) Z hB hx hb hts hown rfl in_X1 (((hW.fw (f := 1) (by omega) (F := (stS (S 20) m9 dd)) (up_s _ _ _))).1) (by decide) q155 rfl dX0_byStorms_85 ?_
                      refine ii_const hx hb dX0_byStorms_88 ?_
                      refine ii_add hx hb dX0_byStorms_89 ?_
                      refine r_putN (ci := 1) (k := 6) (C := RX1) (T := TX1) (N := 8) Z hB hx hb hts hown rfl in_X1 tyX1 tyX1_ok nmX1 (((hW.fw (f := 1) (by omega) (F := (stS (S 20) m9 dd)) (up_s _ _ _))).1) hS (Or.inl ⟨36 + 20 * 1 + (0), by omega, rfl⟩) (by decide) q155 rfl rfl rfl rfl (Nat.le_of_ble_eq_true rfl) dX0_byStorms_90 (CW G A (up (up S 21 (stS (S 20) m9 dd)) 21 (up (stS (S 20) m9 dd) 54 (((stS (S 20) m9 dd) 54) + 1))) R) (fun H1 hz oq ho => hW.storeF hI (f := 1) (c := 0) (by omega) (by omega) oq (FW.setO ((hW.fw (f := 1) (by omega) (F := (stS (S 20) m9 dd)) (up_s _ _ _))) (hI.fa (f := 1) (by omega)) (k := 54) (by omega) oq ho)) (fun H locs hW hS => ?_)
                      have hW := hW.eqS (S' := (up S 21 (up (stS (S 20) m9 dd) 54 (((stS (S 20) m9 dd) 54) + 1)))) (by
                          funext a
                          by_cases h21 : a = 21
                          · subst h21; rfl
                          simp only [up, if_neg h21])
                      refine lv_goto (tgt := 113) hx hb dX0_byStorms_93 (by decide) ?_
                      refine ii_iinc (k := 1) (lv' := [(12, .int (iI (zd + 1))), (10, .long (lI ((wtS a m9 dd) * a))), (9, .int (iI zm)), (7, .long (lI (tnS n.toNat))), (5, .long (lI (ttS (S 20) a n.toNat v m9))), (0, .ref (A 0)), (1, .int (iI a)), (2, .int (iI n)), (3, .int (iI v)), (4, .int (iI z))]) hx hb dX0_byStorms_113 hl rfl (by decide) rfl (fun ls hl => ?_)
                      refine lv_goto (tgt := 57) hx hb dX0_byStorms_116 (by decide) ?_
                      have e_12 : (wtS a m9 (dd + 1)) = ((wtS a m9 dd) * a) := by simp only [wtS]; rw [← ezd, ← ezm]; first | rw [if_pos (by assumption)] | rw [if_neg (by assumption)]
                      exact ih57 (dd + 1) (zd + 1) (by omega) (by omega) (by omega) _ _ (by rw [show stS (S 20) m9 (dd + 1) = (up (stS (S 20) m9 dd) 54 (((stS (S 20) m9 dd) 54) + 1)) by simp only [stS]; rw [← ezd, ← ezm]; first | exact if_pos (by assumption) | exact if_neg (by assumption)]; exact hW) hS ls (by rw [e_12]; exact lv_sub hl [0, 1, 2, 3, 4, 5, 6, 7, 8, 9] rfl)
              have e_13 : (wtS a m9 0) = 1 := rfl
              exact loop_57 _ 0 0 (by omega) (by omega) (Nat.lt_succ_self _) _ _ hW hS ls (by rw [e_13]; exact lv_sub hl [0, 1, 2, 3, 4, 5, 6, 7, 8, 9] rfl)
        have e_14 : (ttS (S 20) a n.toNat v 0) = 0 := rfl
        have hW := hW.eqS (S' := (up S 21 (S 21))) (by
            funext a
            by_cases h21 : a = 21
            · subst h21; rfl
            simp only [up, if_neg h21])
        exact loop_32 _ 0 0 (S 21) (by omega) (by omega) (Nat.lt_succ_self _) _ _ hW hS ls (by rw [e_14]; exact lv_sub hl [0, 1, 2, 3, 4, 5, 6, 7] rfl)
      · -- 12 -> 15
        refine lv_lload hx hb dX0_byStorms_15 (lv_at hl 1 rfl) ?_
        refine ii_ldc2 (z := 10) hx hb hts hown q661 dX0_byStorms_17 (by decide) ?_
        refine ll_mul hx hb dX0_byStorms_20 ?_
        refine lv_lstore (lv' := [(7, .long (lI ((tnS i) * 10))), (9, .int (iI zi)), (5, .long (lI 0)), (0, .ref (A 0)), (1, .int (iI a)), (2, .int (iI n)), (3, .int (iI v)), (4, .int (iI z))]) hx hb dX0_byStorms_21 hl (by decide) rfl (fun ls hl => ?_)
        refine ii_iinc (k := 1) (lv' := [(9, .int (iI (zi + 1))), (7, .long (lI ((tnS i) * 10))), (5, .long (lI 0)), (0, .ref (A 0)), (1, .int (iI a)), (2, .int (iI n)), (3, .int (iI v)), (4, .int (iI z))]) hx hb dX0_byStorms_23 hl rfl (by decide) rfl (fun ls hl => ?_)
        refine lv_goto (tgt := 9) hx hb dX0_byStorms_26 (by decide) ?_
        have e_15 : (tnS (i + 1)) = ((tnS i) * 10) := rfl
        exact ih9 (i + 1) (zi + 1) (by omega) (by omega) (by omega) _ _ hW hS ls (by rw [e_15]; exact lv_sub hl [0, 1, 2, 3, 4, 5, 6, 7] rfl)
  have e_16 : (tnS 0) = 1 := rfl
  exact loop_9 _ 0 0 (by omega) (by omega) (Nat.lt_succ_self _) _ _ hW hS ls (by rw [e_16]; exact lv_sub hl [0, 1, 2, 3, 4, 5, 6, 7] rfl)

set_option maxHeartbeats 1000000 in
set_option maxRecDepth 100000 in
theorem mX0_luck {l : Launch} {G : GG} {s0 : State} {b0 : Nat} (Z : ZZ l G s0 b0) (A : Nat → Nat) (hI : Own s0 A 156) (S : Sta) (R : Nat → Option Nat) (hF0 : WF (S 20)) (hd : S 20 54 ≤ 2000) (a : Int) (ha : inR a) (n : Int) (hn : inR n) (v : Int) (hv : inR v) (z : Int) (hz : inR z) (sz : Nat) : Met l yX0_luck (ws_ yX0_luck cX0_luck 5 (some .long)) ({ frames := 104, cells := 0, slots := 0, locals := 4119 } : Room) (pcM s0 sz (CW G A S R) [.ref (A 0), .int (iI a), .int (iI n), .int (iI v), .int (iI z)]) (mL (luckA (S 20) a n v z) (CWx G A S R) (AA A 156 sz)) 0 0 (AA A 156 sz) := by
  refine Met.ofW (cc := cX0_luck) (maxL := 5) (ret := (some .long)) (by decide) rfl ?_
  intro p e s m args below meth c s₁ B hml hv
  obtain ⟨rfl, hsz, hW, hB⟩ := hv
  subst hsz
  have hx := B.exec
  have hb := B.bytes
  have hr := B.returns
  have hts := atoms_spec (ws := (ws_ yX0_luck cX0_luck 5 (some .long))) B.pre
  have hts : ∀ w ∈ lw_all, w.before _ s = true := fun w h => hts w (List.mem_cons_of_mem _ h)
  have hown : s.vm.findClass RX0 = some m.cls := findClass_of_methodNamed B.named
  have hlocks := B.notSynchronized
  have hN := AA.old hI hB
  have hS : va_S (AA A 156 s.heap.size) s.heap s.heap [] := va_S.rf
  have hl := lv_entry ([.ref (A 0), .int (iI a), .int (iI n), .int (iI v), .int (iI z)]) (n := 5) (Nat.le_of_ble_eq_true rfl)
  rw [lg_entry_eq]
  generalize (lg_sl ([.ref (A 0), .int (iI a), .int (iI n), .int (iI v), .int (iI z)]) ++ List.replicate (5 - (lg_sl ([.ref (A 0), .int (iI a), .int (iI n), .int (iI v), .int (iI z)])).length) Slot.unset).toArray = ls at hl ⊢
  have hl : lv_has ls 5 [(0, .ref (A 0)), (1, .int (iI a)), (2, .int (iI n)), (3, .int (iI v)), (4, .int (iI z))] := hl
  refine lv_iload_n hx hb dX0_luck_0 rfl (lv_at hl 1 rfl) ?_
  refine ii_i2l hx hb (by omega) dX0_luck_1 ?_
  refine ii_lconst (z := 0) hx hb dX0_luck_2 rfl ?_
  refine ii_ldc2 (z := 10) hx hb hts hown q661 dX0_luck_3 (by decide) ?_
  refine cqI (va_runS (As := [.long (lI a), .long (lI 0), .long (lI 10)]) (rest := []) ⟨hx, hb, hml, hown, hts⟩ (mX0_isIn Z a (by omega) 0 (by omega) 10 (by omega)) (va_cwS 3 hts (lw_S q106 q107 q79 q108) rfl rfl rfl (by decide +kernel) ⟨Nat.le_of_ble_eq_true rfl, Nat.le_of_ble_eq_true rfl⟩) (psR (BornH.S hB hN hS) trivial) rfl rfl hl.1 rfl (lv_room (Nat.le_of_ble_eq_true rfl)) dX0_luck_6 ⟨Nat.zero_le _, Nat.zero_le _⟩) ?_
  refine bb_if_eq (P := 0 ≤ a ∧ a ≤ 10) (tgt := 51) hx hb dX0_luck_9 (by decide) (fun c_1 => ?_) (fun c_1 => ?_)
  · -- 9 -> 51
    refine ii_ldc2 (z := (-1)) hx hb hts hown q674 dX0_luck_51 (by decide) ?_
    have hpw9 : (CWx G A S R) s.heap := ⟨S, ⟨fun _ _ _ _ _ _ => rfl, fun _ _ _ _ => rfl⟩, hW⟩
    have he9 : (-1) = (luckA (S 20) a n v z) := by unfold luckA; first | rw [if_pos (by omega)] | rw [if_neg (by omega)]
    exact W.lret hx hb hr (fun t ht hW9 => ⟨⟨_, (), rfl, congrArg lI he9, by show (CWx G A S R) t.heap; rw [ht]; exact hpw9⟩, hS.F ht⟩) hS.2.2 dX0_luck_54
  · -- 9 -> 12
    refine lv_iload_n hx hb dX0_luck_12 rfl (lv_at hl 2 rfl) ?_
    refine ii_i2l hx hb (by omega) dX0_luck_13 ?_
    refine ii_lconst (z := 0) hx hb dX0_luck_14 rfl ?_
    refine ii_ldc2 (z := 8) hx hb hts hown q662 dX0_luck_15 (by decide) ?_
    refine cqI (va_runS (As := [.long (lI n), .long (lI 0), .long (lI 8)]) (rest := []) ⟨hx, hb, hml, hown, hts⟩ (mX0_isIn Z n (by omega) 0 (by omega) 8 (by omega)) (va_cwS 3 hts (lw_S q106 q107 q79 q108) rfl rfl rfl (by decide +kernel) ⟨Nat.le_of_ble_eq_true rfl, Nat.le_of_ble_eq_true rfl⟩) (psR (BornH.S hB hN hS) trivial) rfl rfl hl.1 rfl (lv_room (Nat.le_of_ble_eq_true rfl)) dX0_luck_18 ⟨Nat.zero_le _, Nat.zero_le _⟩) ?_
    refine bb_if_eq (P := 0 ≤ n ∧ n ≤ 8) (tgt := 51) hx hb dX0_luck_21 (by decide) (fun c_2 => ?_) (fun c_2 => ?_)
    · -- 21 -> 51
      refine ii_ldc2 (z := (-1)) hx hb hts hown q674 dX0_luck_51 (by decide) ?_
      have hpw9 : (CWx G A S R) s.heap := ⟨S, ⟨fun _ _ _ _ _ _ => rfl, fun _ _ _ _ => rfl⟩, hW⟩
      have he9 : (-1) = (luckA (S 20) a n v z) := by unfold luckA; first | rw [if_pos (by omega)] | rw [if_neg (by omega)]
      exact W.lret hx hb hr (fun t ht hW9 => ⟨⟨_, (), rfl, congrArg lI he9, by show (CWx G A S R) t.heap; rw [ht]; exact hpw9⟩, hS.F ht⟩) hS.2.2 dX0_luck_54
    · -- 21 -> 24
      refine lv_iload_n hx hb dX0_luck_24 rfl (lv_at hl 3 rfl) ?_
      refine cqI (va_runS (As := [.int (iI v)]) (rest := []) ⟨hx, hb, hml, hown, hts⟩ (mX0_isFathom Z v (by omega)) (va_cwS 1 hts (lw_S q529 q530 q79 q531) rfl rfl rfl (by decide +kernel) ⟨Nat.le_of_ble_eq_true rfl, Nat.le_of_ble_eq_true rfl⟩) (psR (BornH.S hB hN hS) trivial) rfl rfl hl.1 rfl (lv_room (Nat.le_of_ble_eq_true rfl)) dX0_luck_25 ⟨Nat.zero_le _, Nat.zero_le _⟩) ?_
      refine bb_if_eq (P := 0 ≤ v ∧ v ≤ 99) (tgt := 51) hx hb dX0_luck_28 (by decide) (fun c_3 => ?_) (fun c_3 => ?_)
      · -- 28 -> 51
        refine ii_ldc2 (z := (-1)) hx hb hts hown q674 dX0_luck_51 (by decide) ?_
        have hpw9 : (CWx G A S R) s.heap := ⟨S, ⟨fun _ _ _ _ _ _ => rfl, fun _ _ _ _ => rfl⟩, hW⟩
        have he9 : (-1) = (luckA (S 20) a n v z) := by unfold luckA; first | rw [if_pos (by omega)] | rw [if_neg (by omega)]
        exact W.lret hx hb hr (fun t ht hW9 => ⟨⟨_, (), rfl, congrArg lI he9, by show (CWx G A S R) t.heap; rw [ht]; exact hpw9⟩, hS.F ht⟩) hS.2.2 dX0_luck_54
      · -- 28 -> 31
        refine lv_iload hx hb dX0_luck_31 (lv_at hl 4 rfl) ?_
        refine cqI (va_runS (As := [.int (iI z)]) (rest := []) ⟨hx, hb, hml, hown, hts⟩ (mX0_isPart Z z (by omega)) (va_cwS 1 hts (lw_S q617 q618 q79 q619) rfl rfl rfl (by decide +kernel) ⟨Nat.le_of_ble_eq_true rfl, Nat.le_of_ble_eq_true rfl⟩) (psR (BornH.S hB hN hS) trivial) rfl rfl hl.1 rfl (lv_room (Nat.le_of_ble_eq_true rfl)) dX0_luck_33 ⟨Nat.zero_le _, Nat.zero_le _⟩) ?_
        refine bb_if_eq (P := 0 ≤ z ∧ z ≤ 1) (tgt := 51) hx hb dX0_luck_36 (by decide) (fun c_4 => ?_) (fun c_4 => ?_)
        · -- 36 -> 51
          refine ii_ldc2 (z := (-1)) hx hb hts hown q674 dX0_luck_51 (by decide) ?_
          have hpw9 : (CWx G A S R) s.heap := ⟨S, ⟨fun _ _ _ _ _ _ => rfl, fun _ _ _ _ => rfl⟩, hW⟩
          have he9 : (-1) = (luckA (S 20) a n v z) := by unfold luckA; first | rw [if_pos (by omega)] | rw [if_neg (by omega)]
          exact W.lret hx hb hr (fun t ht hW9 => ⟨⟨_, (), rfl, congrArg lI he9, by show (CWx G A S R) t.heap; rw [ht]; exact hpw9⟩, hS.F ht⟩) hS.2.2 dX0_luck_54
        · -- 36 -> 39
          refine lv_aload_n hx hb dX0_luck_39 rfl (lv_at hl 0 rfl) ?_
          refine lv_iload_n hx hb dX0_luck_40 rfl (lv_at hl 1 rfl) ?_
          refine lv_iload_n hx hb dX0_luck_41 rfl (lv_at hl 2 rfl) ?_
          refine lv_iload_n hx hb dX0_luck_42 rfl (lv_at hl 3 rfl) ?_
          refine lv_iload hx hb dX0_luck_43 (lv_at hl 4 rfl) ?_
          refine cmL (va_runV (As := [.int (iI a), .int (iI n), .int (iI v), .int (iI z)]) (rest := []) ⟨hx, hb, hml, hown, hts⟩ (mX0_byStorms Z A hI S R hF0 hd a n v z (by omega) (by omega) (by omega) (by omega) s.heap.size) (cwV 4 hts (lw_V q663 q665 qs27 q79 q666) rfl rfl rfl (by decide +kernel) ⟨Nat.le_of_ble_eq_true rfl, Nat.le_of_ble_eq_true rfl⟩) (pvM (BornH.S hB hN hS) (OBJ.recv Z hB hW.obj (q := (RX0, TX0, 16)) rfl) hW) rfl rfl hl.1 rfl (lv_room (Nat.le_of_ble_eq_true rfl)) dX0_luck_45 ⟨Nat.zero_le _, Nat.zero_le _⟩) hS (AA.le hS.1) (fun H1 locs hW1 hz1 hk1 hS => ?_)
          have hW := hW1
          clear hW1 hk1 hz1
          generalize H1 = H at hW hS ⊢
          refine lv_goto (tgt := 54) hx hb dX0_luck_48 (by decide) ?_
          have hpw9 : (CWx G A S R) H := hW
          have he9 : (bySS (S 20) a n v z) = (luckA (S 20) a n v z) := by unfold luckA; first | rw [if_pos (by omega)] | rw [if_neg (by omega)]
          exact W.lret hx hb hr (fun t ht hW9 => ⟨⟨_, (), rfl, congrArg lI he9, by show (CWx G A S R) t.heap; rw [ht]; exact hpw9⟩, hS.F ht⟩) hS.2.2 dX0_luck_54

set_option maxHeartbeats 1000000 in
set_option maxRecDepth 100000 in
theorem mX0_mean {l : Launch} {G : GG} {s0 : State} {b0 : Nat} (Z : ZZ l G s0 b0) (A : Nat → Nat) (hI : Own s0 A 156) (S : Sta) (R : Nat → Option Nat) (hF0 : WF (S 20)) (hd : S 20 54 ≤ 2000) (a : Int) (ha : inR a) (n : Int) (hn : inR n) (z : Int) (hz : inR z) (sz : Nat) : Met l yX0_mean (ws_ yX0_mean cX0_mean 4 (some .long)) ({ frames := 104, cells := 0, slots := 0, locals := 4119 } : Room) (pcM s0 sz (CW G A S R) [.ref (A 0), .int (iI a), .int (iI n), .int (iI z)]) (mL (meanA (S 20) a n z) (CWx G A S R) (AA A 156 sz)) 0 0 (AA A 156 sz) := by
  refine Met.ofW (cc := cX0_mean) (maxL := 4) (ret := (some .long)) (by decide) rfl ?_
  intro p e s m args below meth c s₁ B hml hv
  obtain ⟨rfl, hsz, hW, hB⟩ := hv
  subst hsz
  have hx := B.exec
  have hb := B.bytes
  have hr := B.returns
  have hts := atoms_spec (ws := (ws_ yX0_mean cX0_mean 4 (some .long))) B.pre
  have hts : ∀ w ∈ lw_all, w.before _ s = true := fun w h => hts w (List.mem_cons_of_mem _ h)
  have hown : s.vm.findClass RX0 = some m.cls := findClass_of_methodNamed B.named
  have hlocks := B.notSynchronized
  have hN := AA.old hI hB
  have hS : va_S (AA A 156 s.heap.size) s.heap s.heap [] := va_S.rf
  have hl := lv_entry ([.ref (A 0), .int (iI a), .int (iI n), .int (iI z)]) (n := 4) (Nat.le_of_ble_eq_true rfl)
  rw [lg_entry_eq]
  generalize (lg_sl ([.ref (A 0), .int (iI a), .int (iI n), .int (iI z)]) ++ List.replicate (4 - (lg_sl ([.ref (A 0), .int (iI a), .int (iI n), .int (iI z)])).length) Slot.unset).toArray = ls at hl ⊢
  have hl : lv_has ls 4 [(0, .ref (A 0)), (1, .int (iI a)), (2, .int (iI n)), (3, .int (iI z))] := hl
  refine lv_iload_n hx hb dX0_mean_0 rfl (lv_at hl 1 rfl) ?_
  refine ii_i2l hx hb (by omega) dX0_mean_1 ?_
  refine ii_lconst (z := 0) hx hb dX0_mean_2 rfl ?_
  refine ii_ldc2 (z := 10) hx hb hts hown q661 dX0_mean_3 (by decide) ?_
  refine cqI (va_runS (As := [.long (lI a), .long (lI 0), .long (lI 10)]) (rest := []) ⟨hx, hb, hml, hown, hts⟩ (mX0_isIn Z a (by omega) 0 (by omega) 10 (by omega)) (va_cwS 3 hts (lw_S q106 q107 q79 q108) rfl rfl rfl (by decide +kernel) ⟨Nat.le_of_ble_eq_true rfl, Nat.le_of_ble_eq_true rfl⟩) (psR (BornH.S hB hN hS) trivial) rfl rfl hl.1 rfl (lv_room (Nat.le_of_ble_eq_true rfl)) dX0_mean_6 ⟨Nat.zero_le _, Nat.zero_le _⟩) ?_
  refine bb_if_eq (P := 0 ≤ a ∧ a ≤ 10) (tgt := 43) hx hb dX0_mean_9 (by decide) (fun c_1 => ?_) (fun c_1 => ?_)
  · -- 9 -> 43
    refine ii_ldc2 (z := (-1)) hx hb hts hown q674 dX0_mean_43 (by decide) ?_
    have hpw9 : (CWx G A S R) s.heap := ⟨S, ⟨fun _ _ _ _ _ _ => rfl, fun _ _ _ _ => rfl⟩, hW⟩
    have he9 : (-1) = (meanA (S 20) a n z) := by unfold meanA; first | rw [if_pos (by omega)] | rw [if_neg (by omega)]
    exact W.lret hx hb hr (fun t ht hW9 => ⟨⟨_, (), rfl, congrArg lI he9, by show (CWx G A S R) t.heap; rw [ht]; exact hpw9⟩, hS.F ht⟩) hS.2.2 dX0_mean_46
  · -- 9 -> 12
    refine lv_iload_n hx hb dX0_mean_12 rfl (lv_at hl 2 rfl) ?_
    refine ii_i2l hx hb (by omega) dX0_mean_13 ?_
    refine ii_lconst (z := 0) hx hb dX0_mean_14 rfl ?_
    refine ii_ldc2 (z := 8) hx hb hts hown q662 dX0_mean_15 (by decide) ?_
    refine cqI (va_runS (As := [.long (lI n), .long (lI 0), .long (lI 8)]) (rest := []) ⟨hx, hb, hml, hown, hts⟩ (mX0_isIn Z n (by omega) 0 (by omega) 8 (by omega)) (va_cwS 3 hts (lw_S q106 q107 q79 q108) rfl rfl rfl (by decide +kernel) ⟨Nat.le_of_ble_eq_true rfl, Nat.le_of_ble_eq_true rfl⟩) (psR (BornH.S hB hN hS) trivial) rfl rfl hl.1 rfl (lv_room (Nat.le_of_ble_eq_true rfl)) dX0_mean_18 ⟨Nat.zero_le _, Nat.zero_le _⟩) ?_
    refine bb_if_eq (P := 0 ≤ n ∧ n ≤ 8) (tgt := 43) hx hb dX0_mean_21 (by decide) (fun c_2 => ?_) (fun c_2 => ?_)
    · -- 21 -> 43
      refine ii_ldc2 (z := (-1)) hx hb hts hown q674 dX0_mean_43 (by decide) ?_
      have hpw9 : (CWx G A S R) s.heap := ⟨S, ⟨fun _ _ _ _ _ _ => rfl, fun _ _ _ _ => rfl⟩, hW⟩
      have he9 : (-1) = (meanA (S 20) a n z) := by unfold meanA; first | rw [if_pos (by omega)] | rw [if_neg (by omega)]
      exact W.lret hx hb hr (fun t ht hW9 => ⟨⟨_, (), rfl, congrArg lI he9, by show (CWx G A S R) t.heap; rw [ht]; exact hpw9⟩, hS.F ht⟩) hS.2.2 dX0_mean_46
    · -- 21 -> 24
      refine lv_iload_n hx hb dX0_mean_24 rfl (lv_at hl 3 rfl) ?_
      refine cqI (va_runS (As := [.int (iI z)]) (rest := []) ⟨hx, hb, hml, hown, hts⟩ (mX0_isPart Z z (by omega)) (va_cwS 1 hts (lw_S q617 q618 q79 q619) rfl rfl rfl (by decide +kernel) ⟨Nat.le_of_ble_eq_true rfl, Nat.le_of_ble_eq_true rfl⟩) (psR (BornH.S hB hN hS) trivial) rfl rfl hl.1 rfl (lv_room (Nat.le_of_ble_eq_true rfl)) dX0_mean_25 ⟨Nat.zero_le _, Nat.zero_le _⟩) ?_
      refine bb_if_eq (P := 0 ≤ z ∧ z ≤ 1) (tgt := 43) hx hb dX0_mean_28 (by decide) (fun c_3 => ?_) (fun c_3 => ?_)
      · -- 28 -> 43
        refine ii_ldc2 (z := (-1)) hx hb hts hown q674 dX0_mean_43 (by decide) ?_
        have hpw9 : (CWx G A S R) s.heap := ⟨S, ⟨fun _ _ _ _ _ _ => rfl, fun _ _ _ _ => rfl⟩, hW⟩
        have he9 : (-1) = (meanA (S 20) a n z) := by unfold meanA; first | rw [if_pos (by omega)] | rw [if_neg (by omega)]
        exact W.lret hx hb hr (fun t ht hW9 => ⟨⟨_, (), rfl, congrArg lI he9, by show (CWx G A S R) t.heap; rw [ht]; exact hpw9⟩, hS.F ht⟩) hS.2.2 dX0_mean_46
      · -- 28 -> 31
        refine lv_aload_n hx hb dX0_mean_31 rfl (lv_at hl 0 rfl) ?_
        refine lv_iload_n hx hb dX0_mean_32 rfl (lv_at hl 1 rfl) ?_
        refine lv_iload_n hx hb dX0_mean_33 rfl (lv_at hl 2 rfl) ?_
        refine ii_bipush hx hb dX0_mean_34 (by decide) ?_
        refine lv_iload_n hx hb dX0_mean_36 rfl (lv_at hl 3 rfl) ?_
        refine cmL (va_runV (As := [.int (iI a), .int (iI n), .int (iI (-4)), .int (iI z)]) (rest := []) ⟨hx, hb, hml, hown, hts⟩ (mX0_byStorms Z A hI S R hF0 hd a n (-4) z (by omega) (by omega) (by omega) (by omega) s.heap.size) (cwV 4 hts (lw_V q663 q665 qs27 q79 q666) rfl rfl rfl (by decide +kernel) ⟨Nat.le_of_ble_eq_true rfl, Nat.le_of_ble_eq_true rfl⟩) (pvM (BornH.S hB hN hS) (OBJ.recv Z hB hW.obj (q := (RX0, TX0, 16)) rfl) hW) rfl rfl hl.1 rfl (lv_room (Nat.le_of_ble_eq_true rfl)) dX0_mean_37 ⟨Nat.zero_le _, Nat.zero_le _⟩) hS (AA.le hS.1) (fun H1 locs hW1 hz1 hk1 hS => ?_)
        have hW := hW1
        clear hW1 hk1 hz1
        generalize H1 = H at hW hS ⊢
        refine lv_goto (tgt := 46) hx hb dX0_mean_40 (by decide) ?_
        have hpw9 : (CWx G A S R) H := hW
        have he9 : (bySS (S 20) a n (-4) z) = (meanA (S 20) a n z) := by unfold meanA; first | rw [if_pos (by omega)] | rw [if_neg (by omega)]
        exact W.lret hx hb hr (fun t ht hW9 => ⟨⟨_, (), rfl, congrArg lI he9, by show (CWx G A S R) t.heap; rw [ht]; exact hpw9⟩, hS.F ht⟩) hS.2.2 dX0_mean_46
