/-! static tests of ranges; a day of a Firth (written by gen/firth.py) -/
set_option maxRecDepth 100000
set_option maxHeartbeats 4000000 in
set_option maxRecDepth 100000 in
theorem mX0_isIn {l : Launch} {G : GG} {s0 : State} {b0 : Nat} (Z : ZZ l G s0 b0) (v : Int) (hv : inL v) (lo : Int) (hlo : inL lo) (hi : Int) (hhi : inL hi) : Met l yX0_isIn (ws_ yX0_isIn cX0_isIn 6 (some .boolean)) ({ frames := 0, cells := 0, slots := 0, locals := 0 } : Room) (pcR s0 (fun _ => True) [.long (lI v), .long (lI lo), .long (lI hi)]) (qI (b2 (lo ≤ v ∧ v ≤ hi))) 0 0 (fun _ => False) := by
  refine Met.ofW (cc := cX0_isIn) (maxL := 6) (ret := (some .boolean)) (by decide) rfl ?_
  intro p e s m args below meth c s₁ B hml hv
  obtain ⟨rfl, hW, hB⟩ := hv
  have hx := B.exec
  have hb := B.bytes
  have hr := B.returns
  have hts := atoms_spec (ws := (ws_ yX0_isIn cX0_isIn 6 (some .boolean))) B.pre
  have hts : ∀ w ∈ lw_all, w.before _ s = true := fun w h => hts w (List.mem_cons_of_mem _ h)
  have hown : s.vm.findClass RX0 = some m.cls := findClass_of_methodNamed B.named
  have hlocks := B.notSynchronized
  have hl := lv_entry ([.long (lI v), .long (lI lo), .long (lI hi)]) (n := 6) (Nat.le_of_ble_eq_true rfl)
  rw [lg_entry_eq]
  generalize (lg_sl ([.long (lI v), .long (lI lo), .long (lI hi)]) ++ List.replicate (6 - (lg_sl ([.long (lI v), .long (lI lo), .long (lI hi)])).length) Slot.unset).toArray = ls at hl ⊢
  have hl : lv_has ls 6 [(0, .long (lI v)), (2, .long (lI lo)), (4, .long (lI hi))] := hl
  refine lv_lload_n hx hb dX0_isIn_0 rfl (lv_at hl 0 rfl) ?_
  refine lv_lload_n hx hb dX0_isIn_1 rfl (lv_at hl 1 rfl) ?_
  refine ll_cmp hx hb (by omega) (by omega) dX0_isIn_2 ?_
  refine ii_if_lt (tgt := 17) hx hb dX0_isIn_3 (by decide) (by have := cmpZ_in v lo; omega) (fun c_1 => ?_) (fun c_1 => ?_)
  · -- 3 -> 17
    have c_1 := cmpZ_lt.mp c_1
    refine ii_const hx hb dX0_isIn_17 ?_
    have he9 : 0 = (b2 (lo ≤ v ∧ v ≤ hi)) := by first | exact (b2_t (by omega)).symm | exact (b2_f (by omega)).symm
    exact W.zret (ty := .boolean) hx hb hr (by first | rfl | exact b2_nar _) (fun t ht hW9 => ⟨_, rfl, congrArg iI he9, ht⟩) (fun q hq => by cases hq) dX0_isIn_18
  · -- 3 -> 6
    have c_1 := cmpZ_ge.mp c_1
    refine lv_lload_n hx hb dX0_isIn_6 rfl (lv_at hl 0 rfl) ?_
    refine lv_lload hx hb dX0_isIn_7 (lv_at hl 2 rfl) ?_
    refine ll_cmp hx hb (by omega) (by omega) dX0_isIn_9 ?_
    refine ii_if_gt (tgt := 17) hx hb dX0_isIn_10 (by decide) (by have := cmpZ_in v hi; omega) (fun c_2 => ?_) (fun c_2 => ?_)
    · -- 10 -> 17
      have c_2 := cmpZ_gt.mp c_2
      refine ii_const hx hb dX0_isIn_17 ?_
      have he9 : 0 = (b2 (lo ≤ v ∧ v ≤ hi)) := by first | exact (b2_t (by omega)).symm | exact (b2_f (by omega)).symm
      exact W.zret (ty := .boolean) hx hb hr (by first | rfl | exact b2_nar _) (fun t ht hW9 => ⟨_, rfl, congrArg iI he9, ht⟩) (fun q hq => by cases hq) dX0_isIn_18
    · -- 10 -> 13
      have c_2 := cmpZ_le.mp c_2
      refine ii_const hx hb dX0_isIn_13 ?_
      refine lv_goto (tgt := 18) hx hb dX0_isIn_14 (by decide) ?_
      have he9 : 1 = (b2 (lo ≤ v ∧ v ≤ hi)) := by first | exact (b2_t (by omega)).symm | exact (b2_f (by omega)).symm
      exact W.zret (ty := .boolean) hx hb hr (by first | rfl | exact b2_nar _) (fun t ht hW9 => ⟨_, rfl, congrArg iI he9, ht⟩) (fun q hq => by cases hq) dX0_isIn_18

set_option maxHeartbeats 4000000 in
set_option maxRecDepth 100000 in
theorem mX4_in {l : Launch} {G : GG} {s0 : State} {b0 : Nat} (Z : ZZ l G s0 b0) (v : Int) (hv : inL v) (lo : Int) (hlo : inL lo) (hi : Int) (hhi : inL hi) : Met l yX4_in (ws_ yX4_in cX4_in 6 (some .boolean)) ({ frames := 0, cells := 0, slots := 0, locals := 0 } : Room) (pcR s0 (fun _ => True) [.long (lI v), .long (lI lo), .long (lI hi)]) (qI (b2 (lo ≤ v ∧ v ≤ hi))) 0 0 (fun _ => False) := by
  refine Met.ofW (cc := cX4_in) (maxL := 6) (ret := (some .boolean)) (by decide) rfl ?_
  intro p e s m args below meth c s₁ B hml hv
  obtain ⟨rfl, hW, hB⟩ := hv
  have hx := B.exec
  have hb := B.bytes
  have hr := B.returns
  have hts := atoms_spec (ws := (ws_ yX4_in cX4_in 6 (some .boolean))) B.pre
  have hts : ∀ w ∈ lw_all, w.before _ s = true := fun w h => hts w (List.mem_cons_of_mem _ h)
  have hown : s.vm.findClass RX4 = some m.cls := findClass_of_methodNamed B.named
  have hlocks := B.notSynchronized
  have hl := lv_entry ([.long (lI v), .long (lI lo), .long (lI hi)]) (n := 6) (Nat.le_of_ble_eq_true rfl)
  rw [lg_entry_eq]
  generalize (lg_sl ([.long (lI v), .long (lI lo), .long (lI hi)]) ++ List.replicate (6 - (lg_sl ([.long (lI v), .long (lI lo), .long (lI hi)])).length) Slot.unset).toArray = ls at hl ⊢
  have hl : lv_has ls 6 [(0, .long (lI v)), (2, .long (lI lo)), (4, .long (lI hi))] := hl
  refine lv_lload_n hx hb dX4_in_0 rfl (lv_at hl 0 rfl) ?_
  refine lv_lload_n hx hb dX4_in_1 rfl (lv_at hl 1 rfl) ?_
  refine ll_cmp hx hb (by omega) (by omega) dX4_in_2 ?_
  refine ii_if_lt (tgt := 17) hx hb dX4_in_3 (by decide) (by have := cmpZ_in v lo; omega) (fun c_1 => ?_) (fun c_1 => ?_)
  · -- 3 -> 17
    have c_1 := cmpZ_lt.mp c_1
    refine ii_const hx hb dX4_in_17 ?_
    have he9 : 0 = (b2 (lo ≤ v ∧ v ≤ hi)) := by first | exact (b2_t (by omega)).symm | exact (b2_f (by omega)).symm
    exact W.zret (ty := .boolean) hx hb hr (by first | rfl | exact b2_nar _) (fun t ht hW9 => ⟨_, rfl, congrArg iI he9, ht⟩) (fun q hq => by cases hq) dX4_in_18
  · -- 3 -> 6
    have c_1 := cmpZ_ge.mp c_1
    refine lv_lload_n hx hb dX4_in_6 rfl (lv_at hl 0 rfl) ?_
    refine lv_lload hx hb dX4_in_7 (lv_at hl 2 rfl) ?_
    refine ll_cmp hx hb (by omega) (by omega) dX4_in_9 ?_
    refine ii_if_gt (tgt := 17) hx hb dX4_in_10 (by decide) (by have := cmpZ_in v hi; omega) (fun c_2 => ?_) (fun c_2 => ?_)
    · -- 10 -> 17
      have c_2 := cmpZ_gt.mp c_2
      refine ii_const hx hb dX4_in_17 ?_
      have he9 : 0 = (b2 (lo ≤ v ∧ v ≤ hi)) := by first | exact (b2_t (by omega)).symm | exact (b2_f (by omega)).symm
      exact W.zret (ty := .boolean) hx hb hr (by first | rfl | exact b2_nar _) (fun t ht hW9 => ⟨_, rfl, congrArg iI he9, ht⟩) (fun q hq => by cases hq) dX4_in_18
    · -- 10 -> 13
      have c_2 := cmpZ_le.mp c_2
      refine ii_const hx hb dX4_in_13 ?_
      refine lv_goto (tgt := 18) hx hb dX4_in_14 (by decide) ?_
      have he9 : 1 = (b2 (lo ≤ v ∧ v ≤ hi)) := by first | exact (b2_t (by omega)).symm | exact (b2_f (by omega)).symm
      exact W.zret (ty := .boolean) hx hb hr (by first | rfl | exact b2_nar _) (fun t ht hW9 => ⟨_, rfl, congrArg iI he9, ht⟩) (fun q hq => by cases hq) dX4_in_18

set_option maxHeartbeats 4000000 in
set_option maxRecDepth 100000 in
theorem mX0_isFathom {l : Launch} {G : GG} {s0 : State} {b0 : Nat} (Z : ZZ l G s0 b0) (v : Int) (hv : inR v) : Met l yX0_isFathom (ws_ yX0_isFathom cX0_isFathom 1 (some .boolean)) ({ frames := 1, cells := 0, slots := 0, locals := 25 } : Room) (pcR s0 (fun _ => True) [.int (iI v)]) (qI (b2 (0 ≤ v ∧ v ≤ 99))) 0 0 (fun _ => False) := by
  refine Met.ofW (cc := cX0_isFathom) (maxL := 1) (ret := (some .boolean)) (by decide) rfl ?_
  intro p e s m args below meth c s₁ B hml hv
  obtain ⟨rfl, hW, hB⟩ := hv
  have hx := B.exec
  have hb := B.bytes
  have hr := B.returns
  have hts := atoms_spec (ws := (ws_ yX0_isFathom cX0_isFathom 1 (some .boolean))) B.pre
  have hts : ∀ w ∈ lw_all, w.before _ s = true := fun w h => hts w (List.mem_cons_of_mem _ h)
  have hown : s.vm.findClass RX0 = some m.cls := findClass_of_methodNamed B.named
  have hlocks := B.notSynchronized
  have hl := lv_entry ([.int (iI v)]) (n := 1) (Nat.le_of_ble_eq_true rfl)
  rw [lg_entry_eq]
  generalize (lg_sl ([.int (iI v)]) ++ List.replicate (1 - (lg_sl ([.int (iI v)])).length) Slot.unset).toArray = ls at hl ⊢
  have hl : lv_has ls 1 [(0, .int (iI v))] := hl
  refine lv_iload_n hx hb dX0_isFathom_0 rfl (lv_at hl 0 rfl) ?_
  refine ii_i2l hx hb (by omega) dX0_isFathom_1 ?_
  refine ii_lconst (z := 0) hx hb dX0_isFathom_2 rfl ?_
  refine ii_ldc2 (z := 99) hx hb hts hown q532 dX0_isFathom_3 (by decide) ?_
  refine cqI (va_runS (As := [.long (lI v), .long (lI 0), .long (lI 99)]) (rest := []) ⟨hx, hb, hml, hown, hts⟩ (mX0_isIn Z v (by omega) 0 (by omega) 99 (by omega)) (va_cwS 3 hts (lw_S q106 q107 q79 q108) rfl rfl rfl (by decide +kernel) ⟨Nat.le_of_ble_eq_true rfl, Nat.le_of_ble_eq_true rfl⟩) (psR hB trivial) rfl rfl hl.1 rfl (lv_room (Nat.le_of_ble_eq_true rfl)) dX0_isFathom_6 ⟨Nat.zero_le _, Nat.zero_le _⟩) ?_
  have he9 : (b2 (0 ≤ v ∧ v ≤ 99)) = (b2 (0 ≤ v ∧ v ≤ 99)) := rfl
  exact W.zret (ty := .boolean) hx hb hr (b2_nar _) (fun t ht hW9 => ⟨_, rfl, congrArg iI he9, ht⟩) (fun q hq => by cases hq) dX0_isFathom_9

set_option maxHeartbeats 4000000 in
set_option maxRecDepth 100000 in
theorem mX0_isLong {l : Launch} {G : GG} {s0 : State} {b0 : Nat} (Z : ZZ l G s0 b0) (v : Int) (hv : inR v) : Met l yX0_isLong (ws_ yX0_isLong cX0_isLong 1 (some .boolean)) ({ frames := 1, cells := 0, slots := 0, locals := 25 } : Room) (pcR s0 (fun _ => True) [.int (iI v)]) (qI (b2 (0 ≤ v ∧ v ≤ 60))) 0 0 (fun _ => False) := by
  refine Met.ofW (cc := cX0_isLong) (maxL := 1) (ret := (some .boolean)) (by decide) rfl ?_
  intro p e s m args below meth c s₁ B hml hv
  obtain ⟨rfl, hW, hB⟩ := hv
  have hx := B.exec
  have hb := B.bytes
  have hr := B.returns
  have hts := atoms_spec (ws := (ws_ yX0_isLong cX0_isLong 1 (some .boolean))) B.pre
  have hts : ∀ w ∈ lw_all, w.before _ s = true := fun w h => hts w (List.mem_cons_of_mem _ h)
  have hown : s.vm.findClass RX0 = some m.cls := findClass_of_methodNamed B.named
  have hlocks := B.notSynchronized
  have hl := lv_entry ([.int (iI v)]) (n := 1) (Nat.le_of_ble_eq_true rfl)
  rw [lg_entry_eq]
  generalize (lg_sl ([.int (iI v)]) ++ List.replicate (1 - (lg_sl ([.int (iI v)])).length) Slot.unset).toArray = ls at hl ⊢
  have hl : lv_has ls 1 [(0, .int (iI v))] := hl
  refine lv_iload_n hx hb dX0_isLong_0 rfl (lv_at hl 0 rfl) ?_
  refine ii_i2l hx hb (by omega) dX0_isLong_1 ?_
  refine ii_lconst (z := 0) hx hb dX0_isLong_2 rfl ?_
  refine ii_ldc2 (z := 60) hx hb hts hown q594 dX0_isLong_3 (by decide) ?_
  refine cqI (va_runS (As := [.long (lI v), .long (lI 0), .long (lI 60)]) (rest := []) ⟨hx, hb, hml, hown, hts⟩ (mX0_isIn Z v (by omega) 0 (by omega) 60 (by omega)) (va_cwS 3 hts (lw_S q106 q107 q79 q108) rfl rfl rfl (by decide +kernel) ⟨Nat.le_of_ble_eq_true rfl, Nat.le_of_ble_eq_true rfl⟩) (psR hB trivial) rfl rfl hl.1 rfl (lv_room (Nat.le_of_ble_eq_true rfl)) dX0_isLong_6 ⟨Nat.zero_le _, Nat.zero_le _⟩) ?_
  have he9 : (b2 (0 ≤ v ∧ v ≤ 60)) = (b2 (0 ≤ v ∧ v ≤ 60)) := rfl
  exact W.zret (ty := .boolean) hx hb hr (b2_nar _) (fun t ht hW9 => ⟨_, rfl, congrArg iI he9, ht⟩) (fun q hq => by cases hq) dX0_isLong_9

set_option maxHeartbeats 4000000 in
set_option maxRecDepth 100000 in
theorem mX0_isPart {l : Launch} {G : GG} {s0 : State} {b0 : Nat} (Z : ZZ l G s0 b0) (v : Int) (hv : inR v) : Met l yX0_isPart (ws_ yX0_isPart cX0_isPart 1 (some .boolean)) ({ frames := 1, cells := 0, slots := 0, locals := 25 } : Room) (pcR s0 (fun _ => True) [.int (iI v)]) (qI (b2 (0 ≤ v ∧ v ≤ 1))) 0 0 (fun _ => False) := by
  refine Met.ofW (cc := cX0_isPart) (maxL := 1) (ret := (some .boolean)) (by decide) rfl ?_
  intro p e s m args below meth c s₁ B hml hv
  obtain ⟨rfl, hW, hB⟩ := hv
  have hx := B.exec
  have hb := B.bytes
  have hr := B.returns
  have hts := atoms_spec (ws := (ws_ yX0_isPart cX0_isPart 1 (some .boolean))) B.pre
  have hts : ∀ w ∈ lw_all, w.before _ s = true := fun w h => hts w (List.mem_cons_of_mem _ h)
  have hown : s.vm.findClass RX0 = some m.cls := findClass_of_methodNamed B.named
  have hlocks := B.notSynchronized
  have hl := lv_entry ([.int (iI v)]) (n := 1) (Nat.le_of_ble_eq_true rfl)
  rw [lg_entry_eq]
  generalize (lg_sl ([.int (iI v)]) ++ List.replicate (1 - (lg_sl ([.int (iI v)])).length) Slot.unset).toArray = ls at hl ⊢
  have hl : lv_has ls 1 [(0, .int (iI v))] := hl
  refine lv_iload_n hx hb dX0_isPart_0 rfl (lv_at hl 0 rfl) ?_
  refine ii_i2l hx hb (by omega) dX0_isPart_1 ?_
  refine ii_lconst (z := 0) hx hb dX0_isPart_2 rfl ?_
  refine ii_lconst (z := 1) hx hb dX0_isPart_3 rfl ?_
  refine cqI (va_runS (As := [.long (lI v), .long (lI 0), .long (lI 1)]) (rest := []) ⟨hx, hb, hml, hown, hts⟩ (mX0_isIn Z v (by omega) 0 (by omega) 1 (by omega)) (va_cwS 3 hts (lw_S q106 q107 q79 q108) rfl rfl rfl (by decide +kernel) ⟨Nat.le_of_ble_eq_true rfl, Nat.le_of_ble_eq_true rfl⟩) (psR hB trivial) rfl rfl hl.1 rfl (lv_room (Nat.le_of_ble_eq_true rfl)) dX0_isPart_4 ⟨Nat.zero_le _, Nat.zero_le _⟩) ?_
  have he9 : (b2 (0 ≤ v ∧ v ≤ 1)) = (b2 (0 ≤ v ∧ v ≤ 1)) := rfl
  exact W.zret (ty := .boolean) hx hb hr (b2_nar _) (fun t ht hW9 => ⟨_, rfl, congrArg iI he9, ht⟩) (fun q hq => by cases hq) dX0_isPart_7

set_option maxHeartbeats 4000000 in
set_option maxRecDepth 100000 in
theorem mX4_isFathom {l : Launch} {G : GG} {s0 : State} {b0 : Nat} (Z : ZZ l G s0 b0) (v : Int) (hv : inR v) : Met l yX4_isFathom (ws_ yX4_isFathom cX4_isFathom 1 (some .boolean)) ({ frames := 1, cells := 0, slots := 0, locals := 25 } : Room) (pcR s0 (fun _ => True) [.int (iI v)]) (qI (b2 (0 ≤ v ∧ v ≤ 99))) 0 0 (fun _ => False) := by
  refine Met.ofW (cc := cX4_isFathom) (maxL := 1) (ret := (some .boolean)) (by decide) rfl ?_
  intro p e s m args below meth c s₁ B hml hv
  obtain ⟨rfl, hW, hB⟩ := hv
  have hx := B.exec
  have hb := B.bytes
  have hr := B.returns
  have hts := atoms_spec (ws := (ws_ yX4_isFathom cX4_isFathom 1 (some .boolean))) B.pre
  have hts : ∀ w ∈ lw_all, w.before _ s = true := fun w h => hts w (List.mem_cons_of_mem _ h)
  have hown : s.vm.findClass RX4 = some m.cls := findClass_of_methodNamed B.named
  have hlocks := B.notSynchronized
  have hl := lv_entry ([.int (iI v)]) (n := 1) (Nat.le_of_ble_eq_true rfl)
  rw [lg_entry_eq]
  generalize (lg_sl ([.int (iI v)]) ++ List.replicate (1 - (lg_sl ([.int (iI v)])).length) Slot.unset).toArray = ls at hl ⊢
  have hl : lv_has ls 1 [(0, .int (iI v))] := hl
  refine lv_iload_n hx hb dX4_isFathom_0 rfl (lv_at hl 0 rfl) ?_
  refine ii_i2l hx hb (by omega) dX4_isFathom_1 ?_
  refine ii_lconst (z := 0) hx hb dX4_isFathom_2 rfl ?_
  refine ii_ldc2 (z := 99) hx hb hts hown q1226 dX4_isFathom_3 (by decide) ?_
  refine cqI (va_runS (As := [.long (lI v), .long (lI 0), .long (lI 99)]) (rest := []) ⟨hx, hb, hml, hown, hts⟩ (mX4_in Z v (by omega) 0 (by omega) 99 (by omega)) (va_cwS 3 hts (lw_S q1072 q1073 q83 q1074) rfl rfl rfl (by decide +kernel) ⟨Nat.le_of_ble_eq_true rfl, Nat.le_of_ble_eq_true rfl⟩) (psR hB trivial) rfl rfl hl.1 rfl (lv_room (Nat.le_of_ble_eq_true rfl)) dX4_isFathom_6 ⟨Nat.zero_le _, Nat.zero_le _⟩) ?_
  have he9 : (b2 (0 ≤ v ∧ v ≤ 99)) = (b2 (0 ≤ v ∧ v ≤ 99)) := rfl
  exact W.zret (ty := .boolean) hx hb hr (b2_nar _) (fun t ht hW9 => ⟨_, rfl, congrArg iI he9, ht⟩) (fun q hq => by cases hq) dX4_isFathom_9

set_option maxHeartbeats 4000000 in
set_option maxRecDepth 100000 in
theorem mX4_isFar {l : Launch} {G : GG} {s0 : State} {b0 : Nat} (Z : ZZ l G s0 b0) (v : Int) (hv : inR v) : Met l yX4_isFar (ws_ yX4_isFar cX4_isFar 1 (some .boolean)) ({ frames := 1, cells := 0, slots := 0, locals := 25 } : Room) (pcR s0 (fun _ => True) [.int (iI v)]) (qI (b2 (0 ≤ v ∧ v ≤ 60))) 0 0 (fun _ => False) := by
  refine Met.ofW (cc := cX4_isFar) (maxL := 1) (ret := (some .boolean)) (by decide) rfl ?_
  intro p e s m args below meth c s₁ B hml hv
  obtain ⟨rfl, hW, hB⟩ := hv
  have hx := B.exec
  have hb := B.bytes
  have hr := B.returns
  have hts := atoms_spec (ws := (ws_ yX4_isFar cX4_isFar 1 (some .boolean))) B.pre
  have hts : ∀ w ∈ lw_all, w.before _ s = true := fun w h => hts w (List.mem_cons_of_mem _ h)
  have hown : s.vm.findClass RX4 = some m.cls := findClass_of_methodNamed B.named
  have hlocks := B.notSynchronized
  have hl := lv_entry ([.int (iI v)]) (n := 1) (Nat.le_of_ble_eq_true rfl)
  rw [lg_entry_eq]
  generalize (lg_sl ([.int (iI v)]) ++ List.replicate (1 - (lg_sl ([.int (iI v)])).length) Slot.unset).toArray = ls at hl ⊢
  have hl : lv_has ls 1 [(0, .int (iI v))] := hl
  refine lv_iload_n hx hb dX4_isFar_0 rfl (lv_at hl 0 rfl) ?_
  refine ii_i2l hx hb (by omega) dX4_isFar_1 ?_
  refine ii_lconst (z := 0) hx hb dX4_isFar_2 rfl ?_
  refine ii_ldc2 (z := 60) hx hb hts hown q1300 dX4_isFar_3 (by decide) ?_
  refine cqI (va_runS (As := [.long (lI v), .long (lI 0), .long (lI 60)]) (rest := []) ⟨hx, hb, hml, hown, hts⟩ (mX4_in Z v (by omega) 0 (by omega) 60 (by omega)) (va_cwS 3 hts (lw_S q1072 q1073 q83 q1074) rfl rfl rfl (by decide +kernel) ⟨Nat.le_of_ble_eq_true rfl, Nat.le_of_ble_eq_true rfl⟩) (psR hB trivial) rfl rfl hl.1 rfl (lv_room (Nat.le_of_ble_eq_true rfl)) dX4_isFar_6 ⟨Nat.zero_le _, Nat.zero_le _⟩) ?_
  have he9 : (b2 (0 ≤ v ∧ v ≤ 60)) = (b2 (0 ≤ v ∧ v ≤ 60)) := rfl
  exact W.zret (ty := .boolean) hx hb hr (b2_nar _) (fun t ht hW9 => ⟨_, rfl, congrArg iI he9, ht⟩) (fun q hq => by cases hq) dX4_isFar_9

set_option maxHeartbeats 4000000 in
set_option maxRecDepth 100000 in
theorem mX4_isPart {l : Launch} {G : GG} {s0 : State} {b0 : Nat} (Z : ZZ l G s0 b0) (v : Int) (hv : inR v) : Met l yX4_isPart (ws_ yX4_isPart cX4_isPart 1 (some .boolean)) ({ frames := 1, cells := 0, slots := 0, locals := 25 } : Room) (pcR s0 (fun _ => True) [.int (iI v)]) (qI (b2 (0 ≤ v ∧ v ≤ 1))) 0 0 (fun _ => False) := by
  refine Met.ofW (cc := cX4_isPart) (maxL := 1) (ret := (some .boolean)) (by decide) rfl ?_
  intro p e s m args below meth c s₁ B hml hv
  obtain ⟨rfl, hW, hB⟩ := hv
  have hx := B.exec
  have hb := B.bytes
  have hr := B.returns
  have hts := atoms_spec (ws := (ws_ yX4_isPart cX4_isPart 1 (some .boolean))) B.pre
  have hts : ∀ w ∈ lw_all, w.before _ s = true := fun w h => hts w (List.mem_cons_of_mem _ h)
  have hown : s.vm.findClass RX4 = some m.cls := findClass_of_methodNamed B.named
  have hlocks := B.notSynchronized
  have hl := lv_entry ([.int (iI v)]) (n := 1) (Nat.le_of_ble_eq_true rfl)
  rw [lg_entry_eq]
  generalize (lg_sl ([.int (iI v)]) ++ List.replicate (1 - (lg_sl ([.int (iI v)])).length) Slot.unset).toArray = ls at hl ⊢
  have hl : lv_has ls 1 [(0, .int (iI v))] := hl
  refine lv_iload_n hx hb dX4_isPart_0 rfl (lv_at hl 0 rfl) ?_
  refine ii_i2l hx hb (by omega) dX4_isPart_1 ?_
  refine ii_lconst (z := 0) hx hb dX4_isPart_2 rfl ?_
  refine ii_lconst (z := 1) hx hb dX4_isPart_3 rfl ?_
  refine cqI (va_runS (As := [.long (lI v), .long (lI 0), .long (lI 1)]) (rest := []) ⟨hx, hb, hml, hown, hts⟩ (mX4_in Z v (by omega) 0 (by omega) 1 (by omega)) (va_cwS 3 hts (lw_S q1072 q1073 q83 q1074) rfl rfl rfl (by decide +kernel) ⟨Nat.le_of_ble_eq_true rfl, Nat.le_of_ble_eq_true rfl⟩) (psR hB trivial) rfl rfl hl.1 rfl (lv_room (Nat.le_of_ble_eq_true rfl)) dX4_isPart_4 ⟨Nat.zero_le _, Nat.zero_le _⟩) ?_
  have he9 : (b2 (0 ≤ v ∧ v ≤ 1)) = (b2 (0 ≤ v ∧ v ≤ 1)) := rfl
  exact W.zret (ty := .boolean) hx hb hr (b2_nar _) (fun t ht hW9 => ⟨_, rfl, congrArg iI he9, ht⟩) (fun q hq => by cases hq) dX4_isPart_7

set_option maxHeartbeats 4000000 in
set_option maxRecDepth 100000 in
theorem mX1_drifts {l : Launch} {G : GG} {s0 : State} {b0 : Nat} (Z : ZZ l G s0 b0) (ad : Nat → Nat) (hI : Own s0 ad 20) (F : Nat → Int) (hF : WF F) (i : Nat) (zi : Int) (hi : zi = (i : Int)) (h5 : i < 5) (sz : Nat) : Met l yX1_drifts (ws_ yX1_drifts cX1_drifts 5 none) ({ frames := 4, cells := 0, slots := 0, locals := 84 } : Room) (pcM s0 sz (FW G ad F) [.ref (ad 0), .int (iI zi)]) (mV (FW G ad (drS F i)) (AA ad 20 sz)) 0 0 (AA ad 20 sz) := by
  refine Met.ofW (cc := cX1_drifts) (maxL := 5) (ret := none) (by decide) rfl ?_
  intro p e s m args below meth c s₁ B hml hv
  obtain ⟨rfl, hsz, hW, hB⟩ := hv
  subst hsz
  have hx := B.exec
  have hb := B.bytes
  have hr := B.returns
  have hts := atoms_spec (ws := (ws_ yX1_drifts cX1_drifts 5 none)) B.pre
  have hts : ∀ w ∈ lw_all, w.before _ s = true := fun w h => hts w (List.mem_cons_of_mem _ h)
  have hown : s.vm.findClass RX1 = some m.cls := findClass_of_methodNamed B.named
  have hlocks := B.notSynchronized
  have hN := AA.old hI hB
  have hS : va_S (AA ad 20 s.heap.size) s.heap s.heap [] := va_S.rf
  have hl := lv_entry ([.ref (ad 0), .int (iI zi)]) (n := 5) (Nat.le_of_ble_eq_true rfl)
  rw [lg_entry_eq]
  generalize (lg_sl ([.ref (ad 0), .int (iI zi)]) ++ List.replicate (5 - (lg_sl ([.ref (ad 0), .int (iI zi)])).length) Slot.unset).toArray = ls at hl ⊢
  have hl : lv_has ls 5 [(0, .ref (ad 0)), (1, .int (iI zi))] := hl
  have hn5 := hF.n
  refine lv_aload_n hx hb dX1_drifts_0 rfl (lv_at hl 0 rfl) ?_
  refine lv_iload_n hx hb dX1_drifts_1 rfl (lv_at hl 1 rfl) ?_
  refine cqI (va_runV (As := [.int (iI zi)]) (rest := []) ⟨hx, hb, hml, hown, hts⟩ (mX1_sulk Z ad F hF i zi (by omega) (by omega)) (cwV 1 hts (lw_V q464 q465 q466 q80 q467) rfl rfl rfl (by decide +kernel) ⟨Nat.le_of_ble_eq_true rfl, Nat.le_of_ble_eq_true rfl⟩) (pvR (BornH.S hB hN hS) (OBJ.recv Z hB ((hW).1) (q := (RX1, TX1, 8)) rfl) hW) rfl rfl hl.1 rfl (lv_room (Nat.le_of_ble_eq_true rfl)) dX1_drifts_2 ⟨Nat.zero_le _, Nat.zero_le _⟩) ?_
  have b_141 := sulkS_in hF i (by omega) (F 76).toNat (by have := hF.n; omega)
  refine cqI (va_runS (As := [.int (iI (sulkS F i (F 76).toNat))]) (rest := []) ⟨hx, hb, hml, hown, hts⟩ (mJ8_signum Z (sulkS F i (F 76).toNat) (by omega)) (va_cwS 1 hts (lw_S q573 q574 q95 q575) rfl rfl rfl (by decide +kernel) ⟨Nat.le_of_ble_eq_true rfl, Nat.le_of_ble_eq_true rfl⟩) (psR (BornH.S hB hN hS) trivial) rfl rfl hl.1 rfl (lv_room (Nat.le_of_ble_eq_true rfl)) dX1_drifts_5 ⟨Nat.zero_le _, Nat.zero_le _⟩) ?_
  have b_142 := sgS_in (sulkS F i (F 76).toNat)
  refine lv_istore_n (lv' := [(2, .int (iI (sgS (sulkS F i (F 76).toNat)))), (0, .ref (ad 0)), (1, .int (iI zi))]) hx hb dX1_drifts_8 rfl hl (by decide) rfl (fun ls hl => ?_)
  refine lv_aload_n hx hb dX1_drifts_9 rfl (lv_at hl 1 rfl) ?_
  refine lv_iload_n hx hb dX1_drifts_10 rfl (lv_at hl 2 rfl) ?_
  refine cqI (va_runV (As := [.int (iI zi)]) (rest := []) ⟨hx, hb, hml, hown, hts⟩ (mX1_fathoms Z ad F hF i zi (by omega) (by omega)) (cwV 1 hts (lw_V q584 q459 q460 q80 q461) rfl rfl rfl (by decide +kernel) ⟨Nat.le_of_ble_eq_true rfl, Nat.le_of_ble_eq_true rfl⟩) (pvR (BornH.S hB hN hS) (OBJ.recv Z hB ((hW).1) (q := (RX1, TX1, 8)) rfl) hW) rfl rfl hl.1 rfl (lv_room (Nat.le_of_ble_eq_true rfl)) dX1_drifts_11 ⟨Nat.zero_le _, Nat.zero_le _⟩) ?_
  have b_147 := fathS_in hF i (by omega)
  refine lv_istore_n (lv' := [(3, .int (iI (fathS (F (2 * i + 0)) (az (sulkS F i (F 76).toNat))))), (2, .int (iI (sgS (sulkS F i (F 76).toNat)))), (0, .ref (ad 0)), (1, .int (iI zi))]) hx hb dX1_drifts_14 rfl hl (by decide) rfl (fun ls hl => ?_)
  have loop_15 : ∀ (fu : Nat) (k : Nat) (zk : Int) (F1 : Nat → Int), (zk = (k : Int)) → (k ≤ 30) → (WF F1) → (walkS i (sgS (sulkS F i (F 76).toNat)) k F1 = drS F i) → k < fu → ∀ (H : Heap) (locs : List Loc), (FW G ad F1) H → va_S (AA ad 20 s.heap.size) s.heap H locs → ∀ (ls : Array Slot), lv_has ls 5 [(3, .int (iI zk)), (2, .int (iI (sgS (sulkS F i (F 76).toNat)))), (0, .ref (ad 0)), (1, .int (iI zi))] → W p l e (headSpec (ws_ yX1_drifts cX1_drifts 5 none) ({ frames := 4, cells := 0, slots := 0, locals := 84 } : Room)).room s m ([.ref (ad 0), .int (iI zi)] : List Value).toArray below meth c H locs 0 0 (MQ below (mV (FW G ad (drS F i)) (AA ad 20 s.heap.size)) ([.ref (ad 0), .int (iI zi)] : List Value).toArray s 0 0 (AA ad 20 s.heap.size)) (F0 m 15 ls []) := by
    intro fu
    induction fu with
    | zero => intro k zk F1 ezk hk hF1 hinv hmu; exact absurd hmu (Nat.not_lt_zero _)
    | succ fu ih15 =>
      intro k zk F1 ezk hk hF1 hinv hmu H locs hW hS ls hl
      refine lv_iload_n hx hb dX1_drifts_15 rfl (lv_at hl 0 rfl) ?_
      refine ii_if_le (tgt := 85) hx hb dX1_drifts_16 (by decide) (by omega) (fun c_1 => ?_) (fun c_1 => ?_)
      · -- 16 -> 85
        have hpw9 : (FW G ad (drS F i)) H := (by rw [← hinv, show k = 0 by omega]; exact hW)
        exact W.vret hx hb hr (fun t ht hW9 => ⟨⟨(), rfl, trivial, by show (FW G ad (drS F i)) t.heap; rw [ht]; exact hpw9⟩, hS.F ht⟩) hS.2.2 dX1_drifts_85
      · -- 16 -> 19
        obtain ⟨k1, rfl⟩ : ∃ k1 : Nat, k = k1 + 1 := ⟨k - 1, by omega⟩
        have hb1 := hF1.pl i (by omega)
        refine lv_aload_n hx hb dX1_drifts_19 rfl (lv_at hl 2 rfl) ?_
        refine lv_iload_n hx hb dX1_drifts_20 rfl (lv_at hl 3 rfl) ?_
        refine cqI (va_runV (As := [.int (iI zi)]) (rest := []) ⟨hx, hb, hml, hown, hts⟩ (mX1_at Z ad F1 hF1 i zi (by omega) (by omega)) (cwV 1 hts (lw_V q386 q387 q388 q80 q389) rfl rfl rfl (by decide +kernel) ⟨Nat.le_of_ble_eq_true rfl, Nat.le_of_ble_eq_true rfl⟩) (pvR (BornH.S hB hN hS) (OBJ.recv Z hB ((hW).1) (q := (RX1, TX1, 8)) rfl) hW) rfl rfl hl.1 rfl (lv_room (Nat.le_of_ble_eq_true rfl)) dX1_drifts_21 ⟨Nat.zero_le _, Nat.zero_le _⟩) ?_
        have b_152 := hF1.pl i (by omega)
        refine lv_iload_n hx hb dX1_drifts_24 rfl (lv_at hl 1 rfl) ?_
        refine ii_add hx hb dX1_drifts_25 ?_
        refine lv_istore (lv' := [(4, .int (iI ((F1 (2 * i + 1)) + (sgS (sulkS F i (F 76).toNat))))), (3, .int (iI zk)), (2, .int (iI (sgS (sulkS F i (F 76).toNat)))), (0, .ref (ad 0)), (1, .int (iI zi))]) hx hb dX1_drifts_26 hl (by decide) rfl (fun ls hl => ?_)
        refine lv_iload hx hb dX1_drifts_28 (lv_at hl 0 rfl) ?_
        refine cqI (va_runSN (As := [.int (iI ((F1 (2 * i + 1)) + (sgS (sulkS F i (F 76).toNat))))]) (rest := []) ⟨hx, hb, hml, hown, hts⟩ (mX0_isFathom Z ((F1 (2 * i + 1)) + (sgS (sulkS F i (F 76).toNat))) (by omega)) ⟨va_cnB 1 hts (lw_meth q531) rfl rfl rfl (nwM Z hB q585) (hts _ q79) (by decide +kernel) ⟨Nat.le_of_ble_eq_true rfl, Nat.le_of_ble_eq_true rfl⟩, hts _ q530, trivial⟩ (psR (BornH.S hB hN hS) trivial) rfl rfl hl.1 rfl (lv_room (Nat.le_of_ble_eq_true rfl)) dX1_drifts_30 ⟨Nat.zero_le _, Nat.zero_le _⟩) ?_
        refine bb_if_eq (P := 0 ≤ ((F1 (2 * i + 1)) + (sgS (sulkS F i (F 76).toNat))) ∧ ((F1 (2 * i + 1)) + (sgS (sulkS F i (F 76).toNat))) ≤ 99) (tgt := 46) hx hb dX1_drifts_33 (by decide) (fun c_2 => ?_) (fun c_2 => ?_)
        · -- 33 -> 46
          have hpw9 : (FW G ad (drS F i)) H := (by rw [← hinv, walkS_stop (by first | exact Or.inl (by assumption) | exact Or.inr (by assumption))]; exact hW)
          exact W.vret hx hb hr (fun t ht hW9 => ⟨⟨(), rfl, trivial, by show (FW G ad (drS F i)) t.heap; rw [ht]; exact hpw9⟩, hS.F ht⟩) hS.2.2 dX1_drifts_46
        · -- 33 -> 36
          refine lv_aload_n hx hb dX1_drifts_36 rfl (lv_at hl 3 rfl) ?_
          refine lv_iload_n hx hb dX1_drifts_37 rfl (lv_at hl 4 rfl) ?_
          refine lv_iload hx hb dX1_drifts_38 (lv_at hl 0 rfl) ?_
          refine cqI (va_runV (As := [.int (iI zi), .int (iI ((F1 (2 * i + 1)) + (sgS (sulkS F i (F 76).toNat))))]) (rest := []) ⟨hx, hb, hml, hown, hts⟩ (mX1_isHeld Z ad F1 hF1 i zi (by omega) (by omega) ((F1 (2 * i + 1)) + (sgS (sulkS F i (F 76).toNat))) (by omega)) (cwV 2 hts (lw_V q576 q578 qs19 q80 q579) rfl rfl rfl (by decide +kernel) ⟨Nat.le_of_ble_eq_true rfl, Nat.le_of_ble_eq_true rfl⟩) (pvR (BornH.S hB hN hS) (OBJ.recv Z hB ((hW).1) (q := (RX1, TX1, 8)) rfl) hW) rfl rfl hl.1 rfl (lv_room (Nat.le_of_ble_eq_true rfl)) dX1_drifts_40 ⟨Nat.zero_le _, Nat.zero_le _⟩) ?_
          refine bb_if_eq (P := heldS F1 i ((F1 (2 * i + 1)) + (sgS (sulkS F i (F 76).toNat))) (F1 53).toNat = true) (tgt := 47) hx hb dX1_drifts_43 (by decide) (fun c_3 => ?_) (fun c_3 => ?_)
          · -- 43 -> 47
            refine lv_aload_n hx hb dX1_drifts_47 rfl (lv_at hl 3 rfl) ?_
            refine lv_iload hx hb dX1_drifts_48 (lv_at hl 0 rfl) ?_
            refine cqI (va_runV (As := [.int (iI ((F1 (2 * i + 1)) + (sgS (sulkS F i (F 76).toNat))))]) (rest := []) ⟨hx, hb, hml, hown, hts⟩ (mX1_whoIsAt Z ad F1 hF1 ((F1 (2 * i + 1)) + (sgS (sulkS F i (F 76).toNat))) (by omega)) (cwV 1 hts (lw_V q586 q383 q384 q80 q385) rfl rfl rfl (by decide +kernel) ⟨Nat.le_of_ble_eq_true rfl, Nat.le_of_ble_eq_true rfl⟩) (pvR (BornH.S hB hN hS) (OBJ.recv Z hB ((hW).1) (q := (RX1, TX1, 8)) rfl) hW) rfl rfl hl.1 rfl (lv_room (Nat.le_of_ble_eq_true rfl)) dX1_drifts_50 ⟨Nat.zero_le _, Nat.zero_le _⟩) ?_
            have b_161 := whoS_in F1 ((F1 (2 * i + 1)) + (sgS (sulkS F i (F 76).toNat))) (F1 76).toNat 0
            have b_162 := hF1.n
            refine ii_bipush hx hb dX1_drifts_53 (by decide) ?_
            refine ii_icmp_eq (tgt := 69) hx hb dX1_drifts_55 (by decide) (by omega) (by omega) (fun c_4 => ?_) (fun c_4 => ?_)
            · -- 55 -> 69
              refine lv_aload_n hx hb dX1_drifts_69 rfl (lv_at hl 3 rfl) ?_
              refine r_get (ci := 1) (k := 0) (C := RX1) (T := TX1) (N := 8) Z hB hx hb hts hown rfl in_X1 ((hW).1) (by decide) q137 rfl dX1_drifts_70 ?_
              refine lv_iload_n hx hb dX1_drifts_73 rfl (lv_at hl 4 rfl) ?_
              refine r_aald (t := 1) (ty := .array .int) (k := i) Z hB hx hb rfl rfl ((hW).2.1) (by omega) (by omega) (by omega) rfl dX1_drifts_74 ?_
              refine ii_const hx hb dX1_drifts_75 ?_
              refine lv_iload hx hb dX1_drifts_76 (lv_at hl 0 rfl) ?_
              refine r_iast (k := 1) Z hB hx hb ((hW).2.2.1 i (by omega)) hS (AA.me (by omega)) (by omega) (by omega) (by omega) dX1_drifts_78 (FW G ad (up F1 (2 * i + 1) ((F1 (2 * i + 1)) + (sgS (sulkS F i (F 76).toNat))))) (fun H1 hz oq ha => FW.setI (hW) hI (by omega) (by omega) oq ha) (fun H locs hW hS => ?_)
              refine ii_iinc (k := 1) (lv' := [(3, .int (iI (zk + (-1)))), (4, .int (iI ((F1 (2 * i + 1)) + (sgS (sulkS F i (F 76).toNat))))), (2, .int (iI (sgS (sulkS F i (F 76).toNat)))), (0, .ref (ad 0)), (1, .int (iI zi))]) hx hb dX1_drifts_79 hl rfl (by decide) rfl (fun ls hl => ?_)
              refine lv_goto (tgt := 15) hx hb dX1_drifts_82 (by decide) ?_
              exact ih15 k1 (zk + (-1)) (up F1 (2 * i + 1) ((F1 (2 * i + 1)) + (sgS (sulkS F i (F 76).toNat)))) (by omega) (by omega) (hF1.move (by omega) (by omega)) (by rw [← hinv, walkS_step (by omega) (by assumption) (by omega)]) (by omega) _ _ hW hS ls (lv_sub hl [0, 2, 3, 4] rfl)
            · -- 55 -> 58
              refine lv_aload_n hx hb dX1_drifts_58 rfl (lv_at hl 3 rfl) ?_
              refine lv_dup hx hb dX1_drifts_59 rfl ?_
              refine r_get (ci := 1) (k := 7) (C := RX1) (T := TX1) (N := 8) Z hB hx hb hts hown rfl in_X1 ((hW).1) (by decide) q156 rfl dX1_drifts_60 ?_
              refine ii_const hx hb dX1_drifts_63 ?_
              refine ii_add hx hb dX1_drifts_64 ?_
              refine r_put (ci := 1) (k := 7) (C := RX1) (T := TX1) (N := 8) Z hB hx hb hts hown rfl in_X1 tyX1 tyX1_ok nmX1 ((hW).1) hS (AA.me (by omega)) (by decide) q156 rfl rfl rfl rfl (Nat.le_of_ble_eq_true rfl) dX1_drifts_65 (FW G ad (up F1 56 ((F1 56) + 1))) (fun H1 hz oq ho => FW.setO (hW) hI (k := 56) (by omega) oq ho) (fun H locs hW hS => ?_)
              have hpw9 : (FW G ad (drS F i)) H := (by rw [← hinv, walkS_bump (by omega) (by assumption) (by omega)]; exact hW)
              exact W.vret hx hb hr (fun t ht hW9 => ⟨⟨(), rfl, trivial, by show (FW G ad (drS F i)) t.heap; rw [ht]; exact hpw9⟩, hS.F ht⟩) hS.2.2 dX1_drifts_68
          · -- 43 -> 46
            have hpw9 : (FW G ad (drS F i)) H := (by rw [← hinv, walkS_stop (by first | exact Or.inl (by assumption) | exact Or.inr (by assumption))]; exact hW)
            exact W.vret hx hb hr (fun t ht hW9 => ⟨⟨(), rfl, trivial, by show (FW G ad (drS F i)) t.heap; rw [ht]; exact hpw9⟩, hS.F ht⟩) hS.2.2 dX1_drifts_46
  exact loop_15 _ ((fathS (F (2 * i + 0)) (az (sulkS F i (F 76).toNat))).toNat) (fathS (F (2 * i + 0)) (az (sulkS F i (F 76).toNat))) F (by omega) (by omega) (hF) (rfl) (Nat.lt_succ_self _) _ _ hW hS ls (lv_sub hl [0, 1, 2, 3] rfl)

set_option maxHeartbeats 4000000 in
set_option maxRecDepth 100000 in
theorem mX1_comes {l : Launch} {G : GG} {s0 : State} {b0 : Nat} (Z : ZZ l G s0 b0) (ad : Nat → Nat) (hI : Own s0 ad 20) (F : Nat → Int) (hF : WF F) (i : Nat) (zi : Int) (hi : zi = (i : Int)) (h5 : i < 5) (sz : Nat) : Met l yX1_comes (ws_ yX1_comes cX1_comes 4 none) ({ frames := 3, cells := 0, slots := 0, locals := 70 } : Room) (pcM s0 sz (FW G ad F) [.ref (ad 0), .int (iI zi)]) (mV (FW G ad (comeS F i)) (AA ad 20 sz)) 0 0 (AA ad 20 sz) := by
  refine Met.ofW (cc := cX1_comes) (maxL := 4) (ret := none) (by decide) rfl ?_
  intro p e s m args below meth c s₁ B hml hv
  obtain ⟨rfl, hsz, hW, hB⟩ := hv
  subst hsz
  have hx := B.exec
  have hb := B.bytes
  have hr := B.returns
  have hts := atoms_spec (ws := (ws_ yX1_comes cX1_comes 4 none)) B.pre
  have hts : ∀ w ∈ lw_all, w.before _ s = true := fun w h => hts w (List.mem_cons_of_mem _ h)
  have hown : s.vm.findClass RX1 = some m.cls := findClass_of_methodNamed B.named
  have hlocks := B.notSynchronized
  have hN := AA.old hI hB
  have hS : va_S (AA ad 20 s.heap.size) s.heap s.heap [] := va_S.rf
  have hl := lv_entry ([.ref (ad 0), .int (iI zi)]) (n := 4) (Nat.le_of_ble_eq_true rfl)
  rw [lg_entry_eq]
  generalize (lg_sl ([.ref (ad 0), .int (iI zi)]) ++ List.replicate (4 - (lg_sl ([.ref (ad 0), .int (iI zi)])).length) Slot.unset).toArray = ls at hl ⊢
  have hl : lv_has ls 4 [(0, .ref (ad 0)), (1, .int (iI zi))] := hl
  have hn5 := hF.n
  refine lv_aload_n hx hb dX1_comes_0 rfl (lv_at hl 0 rfl) ?_
  refine lv_iload_n hx hb dX1_comes_1 rfl (lv_at hl 1 rfl) ?_
  refine cqI (va_runV (As := [.int (iI zi)]) (rest := []) ⟨hx, hb, hml, hown, hts⟩ (mX1_nearest Z ad F hF i zi (by omega) (by omega)) (cwV 1 hts (lw_V q572 q494 q495 q80 q496) rfl rfl rfl (by decide +kernel) ⟨Nat.le_of_ble_eq_true rfl, Nat.le_of_ble_eq_true rfl⟩) (pvR (BornH.S hB hN hS) (OBJ.recv Z hB ((hW).1) (q := (RX1, TX1, 8)) rfl) hW) rfl rfl hl.1 rfl (lv_room (Nat.le_of_ble_eq_true rfl)) dX1_comes_2 ⟨Nat.zero_le _, Nat.zero_le _⟩) ?_
  have b_179 := nearS_in F i (F 76).toNat
  refine lv_istore_n (lv' := [(2, .int (iI (nearS F i (F 76).toNat))), (0, .ref (ad 0)), (1, .int (iI zi))]) hx hb dX1_comes_5 rfl hl (by decide) rfl (fun ls hl => ?_)
  refine lv_iload_n hx hb dX1_comes_6 rfl (lv_at hl 0 rfl) ?_
  refine ii_bipush hx hb dX1_comes_7 (by decide) ?_
  refine ii_icmp_eq (tgt := 22) hx hb dX1_comes_9 (by decide) (by omega) (by omega) (fun c_1 => ?_) (fun c_1 => ?_)
  · -- 9 -> 22
    have hpw9 : (FW G ad (comeS F i)) s.heap := (by rw [show comeS F i = F by unfold comeS; exact if_pos (by omega)]; exact hW)
    exact W.vret hx hb hr (fun t ht hW9 => ⟨⟨(), rfl, trivial, by show (FW G ad (comeS F i)) t.heap; rw [ht]; exact hpw9⟩, hS.F ht⟩) hS.2.2 dX1_comes_22
  · -- 9 -> 12
    refine lv_aload_n hx hb dX1_comes_12 rfl (lv_at hl 1 rfl) ?_
    refine lv_iload_n hx hb dX1_comes_13 rfl (lv_at hl 2 rfl) ?_
    refine lv_iload_n hx hb dX1_comes_14 rfl (lv_at hl 0 rfl) ?_
    refine cqI (va_runV (As := [.int (iI zi), .int (iI (nearS F i (F 76).toNat))]) (rest := []) ⟨hx, hb, hml, hown, hts⟩ (mX1_apart Z ad F hF i zi (by omega) (by omega) (nearS F i (F 76).toNat).toNat (nearS F i (F 76).toNat) (by omega) (by omega)) (cwV 2 hts (lw_V q497 q498 q499 q80 q500) rfl rfl rfl (by decide +kernel) ⟨Nat.le_of_ble_eq_true rfl, Nat.le_of_ble_eq_true rfl⟩) (pvR (BornH.S hB hN hS) (OBJ.recv Z hB ((hW).1) (q := (RX1, TX1, 8)) rfl) hW) rfl rfl hl.1 rfl (lv_room (Nat.le_of_ble_eq_true rfl)) dX1_comes_15 ⟨Nat.zero_le _, Nat.zero_le _⟩) ?_
    have b_184 := apS_in hF i (nearS F i (F 76).toNat).toNat (by omega) (by omega)
    refine ii_const hx hb dX1_comes_18 ?_
    refine ii_icmp_gt (tgt := 23) hx hb dX1_comes_19 (by decide) (by omega) (by omega) (fun c_2 => ?_) (fun c_2 => ?_)
    · -- 19 -> 23
      refine lv_aload_n hx hb dX1_comes_23 rfl (lv_at hl 1 rfl) ?_
      refine lv_iload_n hx hb dX1_comes_24 rfl (lv_at hl 2 rfl) ?_
      refine cqI (va_runV (As := [.int (iI zi)]) (rest := []) ⟨hx, hb, hml, hown, hts⟩ (mX1_at Z ad F hF i zi (by omega) (by omega)) (cwV 1 hts (lw_V q386 q387 q388 q80 q389) rfl rfl rfl (by decide +kernel) ⟨Nat.le_of_ble_eq_true rfl, Nat.le_of_ble_eq_true rfl⟩) (pvR (BornH.S hB hN hS) (OBJ.recv Z hB ((hW).1) (q := (RX1, TX1, 8)) rfl) hW) rfl rfl hl.1 rfl (lv_room (Nat.le_of_ble_eq_true rfl)) dX1_comes_25 ⟨Nat.zero_le _, Nat.zero_le _⟩) ?_
      have b_189 := hF.pl i (by omega)
      refine lv_aload_n hx hb dX1_comes_28 rfl (lv_at hl 1 rfl) ?_
      refine lv_iload_n hx hb dX1_comes_29 rfl (lv_at hl 0 rfl) ?_
      refine cqI (va_runV (As := [.int (iI (nearS F i (F 76).toNat))]) (rest := [.int (iI (F (2 * i + 1)))]) ⟨hx, hb, hml, hown, hts⟩ (mX1_at Z ad F hF (nearS F i (F 76).toNat).toNat (nearS F i (F 76).toNat) (by omega) (by omega)) (cwV 1 hts (lw_V q386 q387 q388 q80 q389) rfl rfl rfl (by decide +kernel) ⟨Nat.le_of_ble_eq_true rfl, Nat.le_of_ble_eq_true rfl⟩) (pvR (BornH.S hB hN hS) (OBJ.recv Z hB ((hW).1) (q := (RX1, TX1, 8)) rfl) hW) rfl rfl hl.1 rfl (lv_room (Nat.le_of_ble_eq_true rfl)) dX1_comes_30 ⟨Nat.zero_le _, Nat.zero_le _⟩) ?_
      have b_194 := hF.pl (nearS F i (F 76).toNat).toNat (by omega)
      refine lv_aload_n hx hb dX1_comes_33 rfl (lv_at hl 1 rfl) ?_
      refine lv_iload_n hx hb dX1_comes_34 rfl (lv_at hl 2 rfl) ?_
      refine cqI (va_runV (As := [.int (iI zi)]) (rest := [.int (iI (F (2 * (nearS F i (F 76).toNat).toNat + 1))), .int (iI (F (2 * i + 1)))]) ⟨hx, hb, hml, hown, hts⟩ (mX1_at Z ad F hF i zi (by omega) (by omega)) (cwV 1 hts (lw_V q386 q387 q388 q80 q389) rfl rfl rfl (by decide +kernel) ⟨Nat.le_of_ble_eq_true rfl, Nat.le_of_ble_eq_true rfl⟩) (pvR (BornH.S hB hN hS) (OBJ.recv Z hB ((hW).1) (q := (RX1, TX1, 8)) rfl) hW) rfl rfl hl.1 rfl (lv_room (Nat.le_of_ble_eq_true rfl)) dX1_comes_35 ⟨Nat.zero_le _, Nat.zero_le _⟩) ?_
      have b_199 := hF.pl i (by omega)
      refine ii_sub hx hb dX1_comes_38 ?_
      refine cqI (va_runS (As := [.int (iI ((F (2 * (nearS F i (F 76).toNat).toNat + 1)) - (F (2 * i + 1))))]) (rest := [.int (iI (F (2 * i + 1)))]) ⟨hx, hb, hml, hown, hts⟩ (mJ8_signum Z ((F (2 * (nearS F i (F 76).toNat).toNat + 1)) - (F (2 * i + 1))) (by omega)) (va_cwS 1 hts (lw_S q573 q574 q95 q575) rfl rfl rfl (by decide +kernel) ⟨Nat.le_of_ble_eq_true rfl, Nat.le_of_ble_eq_true rfl⟩) (psR (BornH.S hB hN hS) trivial) rfl rfl hl.1 rfl (lv_room (Nat.le_of_ble_eq_true rfl)) dX1_comes_39 ⟨Nat.zero_le _, Nat.zero_le _⟩) ?_
      have b_200 := sgS_in ((F (2 * (nearS F i (F 76).toNat).toNat + 1)) - (F (2 * i + 1)))
      refine ii_add hx hb dX1_comes_42 ?_
      refine lv_istore_n (lv' := [(3, .int (iI ((F (2 * i + 1)) + (sgS ((F (2 * (nearS F i (F 76).toNat).toNat + 1)) - (F (2 * i + 1))))))), (2, .int (iI (nearS F i (F 76).toNat))), (0, .ref (ad 0)), (1, .int (iI zi))]) hx hb dX1_comes_43 rfl hl (by decide) rfl (fun ls hl => ?_)
      refine lv_aload_n hx hb dX1_comes_44 rfl (lv_at hl 2 rfl) ?_
      refine r_get (ci := 1) (k := 0) (C := RX1) (T := TX1) (N := 8) Z hB hx hb hts hown rfl in_X1 ((hW).1) (by decide) q137 rfl dX1_comes_45 ?_
      refine lv_iload_n hx hb dX1_comes_48 rfl (lv_at hl 3 rfl) ?_
      refine r_aald (t := 1) (ty := .array .int) (k := i) Z hB hx hb rfl rfl ((hW).2.1) (by omega) (by omega) (by omega) rfl dX1_comes_49 ?_
      refine ii_const hx hb dX1_comes_50 ?_
      refine lv_aload_n hx hb dX1_comes_51 rfl (lv_at hl 2 rfl) ?_
      refine lv_iload_n hx hb dX1_comes_52 rfl (lv_at hl 3 rfl) ?_
      refine lv_iload_n hx hb dX1_comes_53 rfl (lv_at hl 0 rfl) ?_
      refine cqI (va_runV (As := [.int (iI zi), .int (iI ((F (2 * i + 1)) + (sgS ((F (2 * (nearS F i (F 76).toNat).toNat + 1)) - (F (2 * i + 1))))))]) (rest := [.int (iI 1), .ref (ad (2 + i))]) ⟨hx, hb, hml, hown, hts⟩ (mX1_isHeld Z ad F hF i zi (by omega) (by omega) ((F (2 * i + 1)) + (sgS ((F (2 * (nearS F i (F 76).toNat).toNat + 1)) - (F (2 * i + 1))))) (by omega)) (cwV 2 hts (lw_V q576 q578 qs19 q80 q579) rfl rfl rfl (by decide +kernel) ⟨Nat.le_of_ble_eq_true rfl, Nat.le_of_ble_eq_true rfl⟩) (pvR (BornH.S hB hN hS) (OBJ.recv Z hB ((hW).1) (q := (RX1, TX1, 8)) rfl) hW) rfl rfl hl.1 rfl (lv_room (Nat.le_of_ble_eq_true rfl)) dX1_comes_54 ⟨Nat.zero_le _, Nat.zero_le _⟩) ?_
      refine bb_if_eq (P := heldS F i ((F (2 * i + 1)) + (sgS ((F (2 * (nearS F i (F 76).toNat).toNat + 1)) - (F (2 * i + 1))))) (F 53).toNat = true) (tgt := 68) hx hb dX1_comes_57 (by decide) (fun c_3 => ?_) (fun c_3 => ?_)
      · -- 57 -> 68
        refine lv_iload_n hx hb dX1_comes_68 rfl (lv_at hl 0 rfl) ?_
        refine r_iast (k := 1) Z hB hx hb ((hW).2.2.1 i (by omega)) hS (AA.me (by omega)) (by omega) (by omega) (by omega) dX1_comes_69 (FW G ad (up F (2 * i + 1) ((F (2 * i + 1)) + (sgS ((F (2 * (nearS F i (F 76).toNat).toNat + 1)) - (F (2 * i + 1))))))) (fun H1 hz oq ha => FW.setI (hW) hI (by omega) (by omega) oq ha) (fun H locs hW hS => ?_)
        have hpw9 : (FW G ad (comeS F i)) H := (by rw [show comeS F i = (up F (2 * i + 1) ((F (2 * i + 1)) + (sgS ((F (2 * (nearS F i (F 76).toNat).toNat + 1)) - (F (2 * i + 1)))))) by unfold comeS; rw [if_neg (by omega)]; first | exact if_pos (by assumption) | (rw [if_neg (by assumption)]; rfl)]; exact hW)
        exact W.vret hx hb hr (fun t ht hW9 => ⟨⟨(), rfl, trivial, by show (FW G ad (comeS F i)) t.heap; rw [ht]; exact hpw9⟩, hS.F ht⟩) hS.2.2 dX1_comes_70
      · -- 57 -> 60
        refine lv_aload_n hx hb dX1_comes_60 rfl (lv_at hl 2 rfl) ?_
        refine lv_iload_n hx hb dX1_comes_61 rfl (lv_at hl 3 rfl) ?_
        refine cqI (va_runV (As := [.int (iI zi)]) (rest := [.int (iI 1), .ref (ad (2 + i))]) ⟨hx, hb, hml, hown, hts⟩ (mX1_at Z ad F hF i zi (by omega) (by omega)) (cwV 1 hts (lw_V q386 q387 q388 q80 q389) rfl rfl rfl (by decide +kernel) ⟨Nat.le_of_ble_eq_true rfl, Nat.le_of_ble_eq_true rfl⟩) (pvR (BornH.S hB hN hS) (OBJ.recv Z hB ((hW).1) (q := (RX1, TX1, 8)) rfl) hW) rfl rfl hl.1 rfl (lv_room (Nat.le_of_ble_eq_true rfl)) dX1_comes_62 ⟨Nat.zero_le _, Nat.zero_le _⟩) ?_
        have b_213 := hF.pl i (by omega)
        refine lv_goto (tgt := 69) hx hb dX1_comes_65 (by decide) ?_
        refine r_iast (k := 1) Z hB hx hb ((hW).2.2.1 i (by omega)) hS (AA.me (by omega)) (by omega) (by omega) (by omega) dX1_comes_69 (FW G ad (up F (2 * i + 1) (F (2 * i + 1)))) (fun H1 hz oq ha => FW.setI (hW) hI (by omega) (by omega) oq ha) (fun H locs hW hS => ?_)
        have hpw9 : (FW G ad (comeS F i)) H := (by rw [show comeS F i = (up F (2 * i + 1) (F (2 * i + 1))) by unfold comeS; rw [if_neg (by omega)]; first | exact if_pos (by assumption) | (rw [if_neg (by assumption)]; rfl)]; exact hW)
        exact W.vret hx hb hr (fun t ht hW9 => ⟨⟨(), rfl, trivial, by show (FW G ad (comeS F i)) t.heap; rw [ht]; exact hpw9⟩, hS.F ht⟩) hS.2.2 dX1_comes_70
    · -- 19 -> 22
      have hpw9 : (FW G ad (comeS F i)) s.heap := (by rw [show comeS F i = F by unfold comeS; exact if_pos (by omega)]; exact hW)
      exact W.vret hx hb hr (fun t ht hW9 => ⟨⟨(), rfl, trivial, by show (FW G ad (comeS F i)) t.heap; rw [ht]; exact hpw9⟩, hS.F ht⟩) hS.2.2 dX1_comes_22

set_option maxHeartbeats 4000000 in
set_option maxRecDepth 100000 in
theorem mX1_dayGoes {l : Launch} {G : GG} {s0 : State} {b0 : Nat} (Z : ZZ l G s0 b0) (ad : Nat → Nat) (hI : Own s0 ad 20) (F : Nat → Int) (hF : WF F) (sz : Nat) : Met l yX1_dayGoes (ws_ yX1_dayGoes cX1_dayGoes 2 none) ({ frames := 5, cells := 0, slots := 0, locals := 108 } : Room) (pcM s0 sz (FW G ad F) [.ref (ad 0)]) (mV (FW G ad (dayS F)) (AA ad 20 sz)) 0 0 (AA ad 20 sz) := by
  refine Met.ofW (cc := cX1_dayGoes) (maxL := 2) (ret := none) (by decide) rfl ?_
  intro p e s m args below meth c s₁ B hml hv
  obtain ⟨rfl, hsz, hW, hB⟩ := hv
  subst hsz
  have hx := B.exec
  have hb := B.bytes
  have hr := B.returns
  have hts := atoms_spec (ws := (ws_ yX1_dayGoes cX1_dayGoes 2 none)) B.pre
  have hts : ∀ w ∈ lw_all, w.before _ s = true := fun w h => hts w (List.mem_cons_of_mem _ h)
  have hown : s.vm.findClass RX1 = some m.cls := findClass_of_methodNamed B.named
  have hlocks := B.notSynchronized
  have hN := AA.old hI hB
  have hS : va_S (AA ad 20 s.heap.size) s.heap s.heap [] := va_S.rf
  have hl := lv_entry ([.ref (ad 0)]) (n := 2) (Nat.le_of_ble_eq_true rfl)
  rw [lg_entry_eq]
  generalize (lg_sl ([.ref (ad 0)]) ++ List.replicate (2 - (lg_sl ([.ref (ad 0)])).length) Slot.unset).toArray = ls at hl ⊢
  have hl : lv_has ls 2 [(0, .ref (ad 0))] := hl
  have hn5 := hF.n
  refine ii_const hx hb dX1_dayGoes_0 ?_
  refine lv_istore_n (lv' := [(1, .int (iI 0)), (0, .ref (ad 0))]) hx hb dX1_dayGoes_1 rfl hl (by decide) rfl (fun ls hl => ?_)
  have loop_2 : ∀ (fu : Nat) (i : Nat) (zi : Int) (F1 : Nat → Int), (zi = (i : Int)) → (i ≤ (F 76).toNat) → (WF F1) → (goS F i = F1) → (F1 76 = F 76) → (F1 54 = F 54) → (F1 55 = F 55) → (6 - i) < fu → ∀ (H : Heap) (locs : List Loc), (FW G ad F1) H → va_S (AA ad 20 s.heap.size) s.heap H locs → ∀ (ls : Array Slot), lv_has ls 2 [(1, .int (iI zi)), (0, .ref (ad 0))] → W p l e (headSpec (ws_ yX1_dayGoes cX1_dayGoes 2 none) ({ frames := 5, cells := 0, slots := 0, locals := 108 } : Room)).room s m ([.ref (ad 0)] : List Value).toArray below meth c H locs 0 0 (MQ below (mV (FW G ad (dayS F)) (AA ad 20 s.heap.size)) ([.ref (ad 0)] : List Value).toArray s 0 0 (AA ad 20 s.heap.size)) (F0 m 2 ls []) := by
    intro fu
    induction fu with
    | zero => intro i zi F1 ezi hi hF1 hinv h76 h54 h55 hmu; exact absurd hmu (Nat.not_lt_zero _)
    | succ fu ih2 =>
      intro i zi F1 ezi hi hF1 hinv h76 h54 h55 hmu H locs hW hS ls hl
      refine lv_iload_n hx hb dX1_dayGoes_2 rfl (lv_at hl 0 rfl) ?_
      refine lv_aload_n hx hb dX1_dayGoes_3 rfl (lv_at hl 1 rfl) ?_
      have b_214 := hF1.n 
      refine r_get (ci := 1) (k := 3) (C := RX1) (T := TX1) (N := 8) Z hB hx hb hts hown rfl in_X1 ((hW).1) (by decide) q145 rfl dX1_dayGoes_4 ?_
      refine ii_icmp_ge (tgt := 43) hx hb dX1_dayGoes_7 (by decide) (by omega) (by omega) (fun c_1 => ?_) (fun c_1 => ?_)
      · -- 7 -> 43
        refine lv_aload_n hx hb dX1_dayGoes_43 rfl (lv_at hl 1 rfl) ?_
        refine lv_dup hx hb dX1_dayGoes_44 rfl ?_
        have b_221 := hF1.day 
        refine r_get (ci := 1) (k := 6) (C := RX1) (T := TX1) (N := 8) Z hB hx hb hts hown rfl in_X1 ((hW).1) (by decide) q154 rfl dX1_dayGoes_45 ?_
        refine ii_const hx hb dX1_dayGoes_48 ?_
        refine ii_add hx hb dX1_dayGoes_49 ?_
        refine r_put (ci := 1) (k := 6) (C := RX1) (T := TX1) (N := 8) Z hB hx hb hts hown rfl in_X1 tyX1 tyX1_ok nmX1 ((hW).1) hS (AA.me (by omega)) (by decide) q154 rfl rfl rfl rfl (Nat.le_of_ble_eq_true rfl) dX1_dayGoes_50 (FW G ad (up F1 54 ((F1 54) + 1))) (fun H1 hz oq ho => FW.setO (hW) hI (k := 54) (by omega) oq ho) (fun H locs hW hS => ?_)
        have hpw9 : (FW G ad (dayS F)) H := (by rw [show dayS F = up F1 54 (F1 54 + 1) by unfold dayS; rw [show (F 76).toNat = i by omega, hinv]]; exact hW)
        exact W.vret hx hb hr (fun t ht hW9 => ⟨⟨(), rfl, trivial, by show (FW G ad (dayS F)) t.heap; rw [ht]; exact hpw9⟩, hS.F ht⟩) hS.2.2 dX1_dayGoes_53
      · -- 7 -> 10
        refine lv_aload_n hx hb dX1_dayGoes_10 rfl (lv_at hl 1 rfl) ?_
        have b_229 := hF1.day 
        refine r_get (ci := 1) (k := 6) (C := RX1) (T := TX1) (N := 8) Z hB hx hb hts hown rfl in_X1 ((hW).1) (by decide) q154 rfl dX1_dayGoes_11 ?_
        refine ii_bipush hx hb dX1_dayGoes_14 (by decide) ?_
        refine ii_rem hx hb (by omega) (by omega) dX1_dayGoes_16 ?_
        refine lv_aload_n hx hb dX1_dayGoes_17 rfl (lv_at hl 1 rfl) ?_
        have b_232 := hF1.fe 
        refine r_get (ci := 1) (k := 5) (C := RX1) (T := TX1) (N := 8) Z hB hx hb hts hown rfl in_X1 ((hW).1) (by decide) q151 rfl dX1_dayGoes_18 ?_
        refine ii_icmp_ne (tgt := 32) hx hb dX1_dayGoes_21 (by decide) (by omega) (by omega) (fun c_2 => ?_) (fun c_2 => ?_)
        · -- 21 -> 32
          refine lv_aload_n hx hb dX1_dayGoes_32 rfl (lv_at hl 1 rfl) ?_
          refine lv_iload_n hx hb dX1_dayGoes_33 rfl (lv_at hl 0 rfl) ?_
          refine cmV (va_runV (As := [.int (iI zi)]) (rest := []) ⟨hx, hb, hml, hown, hts⟩ (mX1_drifts Z ad hI F1 hF1 i zi (by omega) (by omega) H.size) (cwV 1 hts (lw_V q580 q582 qs20 q80 q583) rfl rfl rfl (by decide +kernel) ⟨Nat.le_of_ble_eq_true rfl, Nat.le_of_ble_eq_true rfl⟩) (pvM (BornH.S hB hN hS) (OBJ.recv Z hB ((hW).1) (q := (RX1, TX1, 8)) rfl) hW) rfl rfl hl.1 rfl (lv_room (Nat.le_of_ble_eq_true rfl)) dX1_dayGoes_34 ⟨Nat.zero_le _, Nat.zero_le _⟩) hS (AA.le hS.1) (fun H1 locs hW1 hz1 hk1 hS => ?_)
          have hW := hW1
          clear hW1 hk1 hz1
          generalize H1 = H at hW hS ⊢
          refine ii_iinc (k := 0) (lv' := [(1, .int (iI (zi + 1))), (0, .ref (ad 0))]) hx hb dX1_dayGoes_37 hl rfl (by decide) rfl (fun ls hl => ?_)
          refine lv_goto (tgt := 2) hx hb dX1_dayGoes_40 (by decide) ?_
          exact ih2 (i + 1) (zi + 1) (drS F1 i) (by omega) (by omega) (by first | exact comeS_wf hF1 (by omega) | exact drS_wf hF1 (by omega)) (by simp only [goS]; rw [hinv]; first | exact if_pos (by omega) | exact if_neg (by omega)) (by first | (rw [comeS_same _ (by omega)]; exact h76) | (rw [drS_same _ (by omega) (by omega)]; exact h76)) (by first | (rw [comeS_same _ (by omega)]; exact h54) | (rw [drS_same _ (by omega) (by omega)]; exact h54)) (by first | (rw [comeS_same _ (by omega)]; exact h55) | (rw [drS_same _ (by omega) (by omega)]; exact h55)) (by omega) _ _ hW hS ls (lv_sub hl [0, 1] rfl)
        · -- 21 -> 24
          refine lv_aload_n hx hb dX1_dayGoes_24 rfl (lv_at hl 1 rfl) ?_
          refine lv_iload_n hx hb dX1_dayGoes_25 rfl (lv_at hl 0 rfl) ?_
          refine cmV (va_runV (As := [.int (iI zi)]) (rest := []) ⟨hx, hb, hml, hown, hts⟩ (mX1_comes Z ad hI F1 hF1 i zi (by omega) (by omega) H.size) (cwV 1 hts (lw_V q568 q570 qs18 q80 q571) rfl rfl rfl (by decide +kernel) ⟨Nat.le_of_ble_eq_true rfl, Nat.le_of_ble_eq_true rfl⟩) (pvM (BornH.S hB hN hS) (OBJ.recv Z hB ((hW).1) (q := (RX1, TX1, 8)) rfl) hW) rfl rfl hl.1 rfl (lv_room (Nat.le_of_ble_eq_true rfl)) dX1_dayGoes_26 ⟨Nat.zero_le _, Nat.zero_le _⟩) hS (AA.le hS.1) (fun H1 locs hW1 hz1 hk1 hS => ?_)
          have hW := hW1
          clear hW1 hk1 hz1
          generalize H1 = H at hW hS ⊢
          refine lv_goto (tgt := 37) hx hb dX1_dayGoes_29 (by decide) ?_
          refine ii_iinc (k := 0) (lv' := [(1, .int (iI (zi + 1))), (0, .ref (ad 0))]) hx hb dX1_dayGoes_37 hl rfl (by decide) rfl (fun ls hl => ?_)
          refine lv_goto (tgt := 2) hx hb dX1_dayGoes_40 (by decide) ?_
          exact ih2 (i + 1) (zi + 1) (comeS F1 i) (by omega) (by omega) (by first | exact comeS_wf hF1 (by omega) | exact drS_wf hF1 (by omega)) (by simp only [goS]; rw [hinv]; first | exact if_pos (by omega) | exact if_neg (by omega)) (by first | (rw [comeS_same _ (by omega)]; exact h76) | (rw [drS_same _ (by omega) (by omega)]; exact h76)) (by first | (rw [comeS_same _ (by omega)]; exact h54) | (rw [drS_same _ (by omega) (by omega)]; exact h54)) (by first | (rw [comeS_same _ (by omega)]; exact h55) | (rw [drS_same _ (by omega) (by omega)]; exact h55)) (by omega) _ _ hW hS ls (lv_sub hl [0, 1] rfl)
  exact loop_2 _ 0 0 F (by omega) (by omega) (hF) (rfl) (rfl) (rfl) (rfl) (Nat.lt_succ_self _) _ _ hW hS ls (lv_sub hl [0, 1] rfl)

set_option maxHeartbeats 4000000 in
set_option maxRecDepth 100000 in
theorem mX1_weds {l : Launch} {G : GG} {s0 : State} {b0 : Nat} (Z : ZZ l G s0 b0) (ad : Nat → Nat) (hI : Own s0 ad 20) (F : Nat → Int) (hF : WF F) (zi : Int) (zj : Int) (zn : Int) (hr6 : F 53 < 6) (sz : Nat) : Met l yX1_weds (ws_ yX1_weds cX1_weds 4 none) ({ frames := 0, cells := 0, slots := 0, locals := 0 } : Room) (pcM s0 sz (FW G ad F) [.ref (ad 0), .int (iI zi), .int (iI zj), .int (iI zn)]) (mV (FW G ad (wedS F zi zj zn)) (AA ad 20 sz)) 0 0 (AA ad 20 sz) := by
  refine Met.ofW (cc := cX1_weds) (maxL := 4) (ret := none) (by decide) rfl ?_
  intro p e s m args below meth c s₁ B hml hv
  obtain ⟨rfl, hsz, hW, hB⟩ := hv
  subst hsz
  have hx := B.exec
  have hb := B.bytes
  have hr := B.returns
  have hts := atoms_spec (ws := (ws_ yX1_weds cX1_weds 4 none)) B.pre
  have hts : ∀ w ∈ lw_all, w.before _ s = true := fun w h => hts w (List.mem_cons_of_mem _ h)
  have hown : s.vm.findClass RX1 = some m.cls := findClass_of_methodNamed B.named
  have hlocks := B.notSynchronized
  have hN := AA.old hI hB
  have hS : va_S (AA ad 20 s.heap.size) s.heap s.heap [] := va_S.rf
  have hl := lv_entry ([.ref (ad 0), .int (iI zi), .int (iI zj), .int (iI zn)]) (n := 4) (Nat.le_of_ble_eq_true rfl)
  rw [lg_entry_eq]
  generalize (lg_sl ([.ref (ad 0), .int (iI zi), .int (iI zj), .int (iI zn)]) ++ List.replicate (4 - (lg_sl ([.ref (ad 0), .int (iI zi), .int (iI zj), .int (iI zn)])).length) Slot.unset).toArray = ls at hl ⊢
  have hl : lv_has ls 4 [(0, .ref (ad 0)), (1, .int (iI zi)), (2, .int (iI zj)), (3, .int (iI zn))] := hl
  have hrm := hF.rm
  refine lv_aload_n hx hb dX1_weds_0 rfl (lv_at hl 0 rfl) ?_
  refine r_get (ci := 1) (k := 2) (C := RX1) (T := TX1) (N := 8) Z hB hx hb hts hown rfl in_X1 ((hW).1) (by decide) q143 rfl dX1_weds_1 ?_
  refine lv_aload_n hx hb dX1_weds_4 rfl (lv_at hl 0 rfl) ?_
  have b_247 := hF.rm 
  refine r_get (ci := 1) (k := 4) (C := RX1) (T := TX1) (N := 8) Z hB hx hb hts hown rfl in_X1 ((hW).1) (by decide) q148 rfl dX1_weds_5 ?_
  refine r_aald (t := 1) (ty := .array .int) (k := (F 53).toNat) Z hB hx hb rfl rfl ((hW).2.2.2.2.2.1) (by omega) (by omega) (by omega) rfl dX1_weds_8 ?_
  refine ii_const hx hb dX1_weds_9 ?_
  refine lv_iload_n hx hb dX1_weds_10 rfl (lv_at hl 1 rfl) ?_
  refine r_iast (k := 0) Z hB hx hb ((hW).2.2.2.2.2.2 (F 53).toNat (by omega)) hS (AA.me (by omega)) (by omega) (by omega) (by omega) dX1_weds_11 (FW G ad (up F (35 + 3 * (F 53).toNat + 0) zi)) (fun H1 hz oq ha => FW.setR (hW) hI (by omega) (by omega) oq ha) (fun H locs hW hS => ?_)
  refine lv_aload_n hx hb dX1_weds_12 rfl (lv_at hl 0 rfl) ?_
  refine r_get (ci := 1) (k := 2) (C := RX1) (T := TX1) (N := 8) Z hB hx hb hts hown rfl in_X1 ((hW).1) (by decide) q143 rfl dX1_weds_13 ?_
  refine lv_aload_n hx hb dX1_weds_16 rfl (lv_at hl 0 rfl) ?_
  refine r_get (ci := 1) (k := 4) (C := RX1) (T := TX1) (N := 8) Z hB hx hb hts hown rfl in_X1 ((hW).1) (by decide) q148 rfl dX1_weds_17 ?_
  rw [show (up F (35 + 3 * (F 53).toNat + 0) zi) 53 = F 53 by rw [up_n _ _ (by omega)]]
  refine r_aald (t := 1) (ty := .array .int) (k := (F 53).toNat) Z hB hx hb rfl rfl ((hW).2.2.2.2.2.1) (by omega) (by omega) (by omega) rfl dX1_weds_20 ?_
  refine ii_const hx hb dX1_weds_21 ?_
  refine lv_iload_n hx hb dX1_weds_22 rfl (lv_at hl 2 rfl) ?_
  refine r_iast (k := 1) Z hB hx hb ((hW).2.2.2.2.2.2 (F 53).toNat (by omega)) hS (AA.me (by omega)) (by omega) (by omega) (by omega) dX1_weds_23 (FW G ad (up (up F (35 + 3 * (F 53).toNat + 0) zi) (35 + 3 * (F 53).toNat + 1) zj)) (fun H1 hz oq ha => FW.setR (hW) hI (by omega) (by omega) oq ha) (fun H locs hW hS => ?_)
  refine lv_aload_n hx hb dX1_weds_24 rfl (lv_at hl 0 rfl) ?_
  refine r_get (ci := 1) (k := 2) (C := RX1) (T := TX1) (N := 8) Z hB hx hb hts hown rfl in_X1 ((hW).1) (by decide) q143 rfl dX1_weds_25 ?_
  refine lv_aload_n hx hb dX1_weds_28 rfl (lv_at hl 0 rfl) ?_
  refine r_get (ci := 1) (k := 4) (C := RX1) (T := TX1) (N := 8) Z hB hx hb hts hown rfl in_X1 ((hW).1) (by decide) q148 rfl dX1_weds_29 ?_
  rw [show (up (up F (35 + 3 * (F 53).toNat + 0) zi) (35 + 3 * (F 53).toNat + 1) zj) 53 = F 53 by rw [up_n _ _ (by omega), up_n _ _ (by omega)]]
  refine r_aald (t := 1) (ty := .array .int) (k := (F 53).toNat) Z hB hx hb rfl rfl ((hW).2.2.2.2.2.1) (by omega) (by omega) (by omega) rfl dX1_weds_32 ?_
  refine ii_const hx hb dX1_weds_33 ?_
  refine lv_iload_n hx hb dX1_weds_34 rfl (lv_at hl 3 rfl) ?_
  refine r_iast (k := 2) Z hB hx hb ((hW).2.2.2.2.2.2 (F 53).toNat (by omega)) hS (AA.me (by omega)) (by omega) (by omega) (by omega) dX1_weds_35 (FW G ad (up (up (up F (35 + 3 * (F 53).toNat + 0) zi) (35 + 3 * (F 53).toNat + 1) zj) (35 + 3 * (F 53).toNat + 2) zn)) (fun H1 hz oq ha => FW.setR (hW) hI (by omega) (by omega) oq ha) (fun H locs hW hS => ?_)
  refine lv_aload_n hx hb dX1_weds_36 rfl (lv_at hl 0 rfl) ?_
  refine lv_dup hx hb dX1_weds_37 rfl ?_
  refine r_get (ci := 1) (k := 4) (C := RX1) (T := TX1) (N := 8) Z hB hx hb hts hown rfl in_X1 ((hW).1) (by decide) q148 rfl dX1_weds_38 ?_
  rw [show (up (up (up F (35 + 3 * (F 53).toNat + 0) zi) (35 + 3 * (F 53).toNat + 1) zj) (35 + 3 * (F 53).toNat + 2) zn) 53 = F 53 by rw [up_n _ _ (by omega), up_n _ _ (by omega), up_n _ _ (by omega)]]
  refine ii_const hx hb dX1_weds_41 ?_
  refine ii_add hx hb dX1_weds_42 ?_
  refine r_put (ci := 1) (k := 4) (C := RX1) (T := TX1) (N := 8) Z hB hx hb hts hown rfl in_X1 tyX1 tyX1_ok nmX1 ((hW).1) hS (AA.me (by omega)) (by decide) q148 rfl rfl rfl rfl (Nat.le_of_ble_eq_true rfl) dX1_weds_43 (FW G ad (up (up (up (up F (35 + 3 * (F 53).toNat + 0) zi) (35 + 3 * (F 53).toNat + 1) zj) (35 + 3 * (F 53).toNat + 2) zn) 53 ((F 53) + 1))) (fun H1 hz oq ho => FW.setO (hW) hI (k := 53) (by omega) oq ho) (fun H locs hW hS => ?_)
  have hpw9 : (FW G ad (wedS F zi zj zn)) H := hW
  exact W.vret hx hb hr (fun t ht hW9 => ⟨⟨(), rfl, trivial, by show (FW G ad (wedS F zi zj zn)) t.heap; rw [ht]; exact hpw9⟩, hS.F ht⟩) hS.2.2 dX1_weds_46
