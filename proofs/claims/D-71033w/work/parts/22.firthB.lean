/-! KINDS, Firth.fathoms, Firth.isHeld (written by gen/firth.py) -/
set_option maxRecDepth 100000
set_option maxHeartbeats 4000000 in
set_option maxRecDepth 100000 in
theorem mJ8_signum {l : Launch} {G : GG} {s0 : State} {b0 : Nat} (Z : ZZ l G s0 b0) (z : Int) (hz : -100 ≤ z ∧ z ≤ 100) : Met l yJ8_signum (ws_ yJ8_signum cJ8_signum 1 (some .int)) ({ frames := 0, cells := 0, slots := 0, locals := 0 } : Room) (pcR s0 (fun _ => True) [.int (iI z)]) (qI (sgS z)) 0 0 (fun _ => False) := by
  refine Met.ofW (cc := cJ8_signum) (maxL := 1) (ret := (some .int)) (by decide) rfl ?_
  intro p e s m args below meth c s₁ B hml hv
  obtain ⟨rfl, hW, hB⟩ := hv
  have hx := B.exec
  have hb := B.bytes
  have hr := B.returns
  have hts := atoms_spec (ws := (ws_ yJ8_signum cJ8_signum 1 (some .int))) B.pre
  have hts : ∀ w ∈ lw_all, w.before _ s = true := fun w h => hts w (List.mem_cons_of_mem _ h)
  have hown : s.vm.findClass RJ8 = some m.cls := findClass_of_methodNamed B.named
  have hlocks := B.notSynchronized
  have hl := lv_entry ([.int (iI z)]) (n := 1) (Nat.le_of_ble_eq_true rfl)
  rw [lg_entry_eq]
  generalize (lg_sl ([.int (iI z)]) ++ List.replicate (1 - (lg_sl ([.int (iI z)])).length) Slot.unset).toArray = ls at hl ⊢
  have hl : lv_has ls 1 [(0, .int (iI z))] := hl
  refine lv_iload_n hx hb dJ8_signum_0 rfl (lv_at hl 0 rfl) ?_
  refine lv_bipush (v := 31) hx hb dJ8_signum_1 (by decide) ?_
  refine lv_ishr hx hb dJ8_signum_3 ?_
  refine lv_iload_n hx hb dJ8_signum_4 rfl (lv_at hl 0 rfl) ?_
  refine lv_ineg hx hb dJ8_signum_5 ?_
  refine lv_bipush (v := 31) hx hb dJ8_signum_6 (by decide) ?_
  refine lv_iushr hx hb dJ8_signum_8 rfl ?_
  refine lv_ior hx hb dJ8_signum_9 ?_
  have he9 : (((iI z) >>> ((31 : Int32) &&& 31)) ||| ((-(iI z)).toUInt32 >>> ((31 : Int32).toUInt32 &&& Int32.toUInt32 31)).toInt32) = iI (sgS z) := sg_of hz
  exact W.iret hx hb hr (fun t ht hW9 => ⟨_, rfl, he9, ht⟩) (fun q hq => by cases hq) dJ8_signum_10

set_option maxHeartbeats 4000000 in
set_option maxRecDepth 100000 in
theorem mX7_fathoms {l : Launch} {G : GG} {s0 : State} {b0 : Nat} (Z : ZZ l G s0 b0) (C : String) (b : Nat) (hk : KO s0 C b) (z : Int) (hz : 0 ≤ z ∧ z ≤ 100) : Met l yX7_fathoms (ws_ yX7_fathoms cX7_fathoms 2 (some .int)) ({ frames := 0, cells := 0, slots := 0, locals := 0 } : Room) (pcR s0 (fun _ => True) [.ref b, .int (iI z)]) (qI z) 0 0 (fun _ => False) := by
  refine Met.ofW (cc := cX7_fathoms) (maxL := 2) (ret := (some .int)) (by decide) rfl ?_
  intro p e s m args below meth c s₁ B hml hv
  obtain ⟨rfl, hW, hB⟩ := hv
  have hx := B.exec
  have hb := B.bytes
  have hr := B.returns
  have hts := atoms_spec (ws := (ws_ yX7_fathoms cX7_fathoms 2 (some .int))) B.pre
  have hts : ∀ w ∈ lw_all, w.before _ s = true := fun w h => hts w (List.mem_cons_of_mem _ h)
  have hown : s.vm.findClass RX7 = some m.cls := findClass_of_methodNamed B.named
  have hlocks := B.notSynchronized
  have hl := lv_entry ([.ref b, .int (iI z)]) (n := 2) (Nat.le_of_ble_eq_true rfl)
  rw [lg_entry_eq]
  generalize (lg_sl ([.ref b, .int (iI z)]) ++ List.replicate (2 - (lg_sl ([.ref b, .int (iI z)])).length) Slot.unset).toArray = ls at hl ⊢
  have hl : lv_has ls 2 [(0, .ref b), (1, .int (iI z))] := hl
  obtain ⟨cellK, hcK, hoK, -, kK, hkK⟩ := hk.here hB
  refine lv_iload_n hx hb dX7_fathoms_0 rfl (lv_at hl 1 rfl) ?_
  have he9 : z = z := rfl
  exact W.iret hx hb hr (fun t ht hW9 => ⟨_, rfl, congrArg iI he9, ht⟩) (fun q hq => by cases hq) dX7_fathoms_1

set_option maxHeartbeats 4000000 in
set_option maxRecDepth 100000 in
theorem mX8_fathoms {l : Launch} {G : GG} {s0 : State} {b0 : Nat} (Z : ZZ l G s0 b0) (C : String) (b : Nat) (hk : KO s0 C b) (z : Int) (hz : 0 ≤ z ∧ z ≤ 100) : Met l yX8_fathoms (ws_ yX8_fathoms cX8_fathoms 2 (some .int)) ({ frames := 1, cells := 0, slots := 0, locals := 21 } : Room) (pcR s0 (fun _ => True) [.ref b, .int (iI z)]) (qI (z / 2)) 0 0 (fun _ => False) := by
  refine Met.ofW (cc := cX8_fathoms) (maxL := 2) (ret := (some .int)) (by decide) rfl ?_
  intro p e s m args below meth c s₁ B hml hv
  obtain ⟨rfl, hW, hB⟩ := hv
  have hx := B.exec
  have hb := B.bytes
  have hr := B.returns
  have hts := atoms_spec (ws := (ws_ yX8_fathoms cX8_fathoms 2 (some .int))) B.pre
  have hts : ∀ w ∈ lw_all, w.before _ s = true := fun w h => hts w (List.mem_cons_of_mem _ h)
  have hown : s.vm.findClass RX8 = some m.cls := findClass_of_methodNamed B.named
  have hlocks := B.notSynchronized
  have hl := lv_entry ([.ref b, .int (iI z)]) (n := 2) (Nat.le_of_ble_eq_true rfl)
  rw [lg_entry_eq]
  generalize (lg_sl ([.ref b, .int (iI z)]) ++ List.replicate (2 - (lg_sl ([.ref b, .int (iI z)])).length) Slot.unset).toArray = ls at hl ⊢
  have hl : lv_has ls 2 [(0, .ref b), (1, .int (iI z))] := hl
  obtain ⟨cellK, hcK, hoK, -, kK, hkK⟩ := hk.here hB
  refine lv_aload_n hx hb dX8_fathoms_0 rfl (lv_at hl 0 rfl) ?_
  refine lv_iload_n hx hb dX8_fathoms_1 rfl (lv_at hl 1 rfl) ?_
  refine cqI (r_runSU (As := [.int (iI z)]) (rest := []) hcK hoK hkK ⟨hx, hb, hml, hown, hts⟩ (mX7_fathoms Z C b hk z (by omega)) (va_cwSU 1 hts (lw_SU q478 q474 q479 q472 q1455 q480) rfl rfl rfl (by decide +kernel) ⟨Nat.le_of_ble_eq_true rfl, Nat.le_of_ble_eq_true rfl⟩) (psR hB trivial) rfl rfl hl.1 rfl (lv_room (Nat.le_of_ble_eq_true rfl)) dX8_fathoms_2 ⟨Nat.zero_le _, Nat.zero_le _⟩) ?_
  refine ii_const hx hb dX8_fathoms_5 ?_
  refine ii_div hx hb (by omega) (by omega) dX8_fathoms_6 ?_
  have he9 : (z / 2) = (z / 2) := rfl
  exact W.iret hx hb hr (fun t ht hW9 => ⟨_, rfl, congrArg iI he9, ht⟩) (fun q hq => by cases hq) dX8_fathoms_7

set_option maxHeartbeats 4000000 in
set_option maxRecDepth 100000 in
theorem mX9_fathoms {l : Launch} {G : GG} {s0 : State} {b0 : Nat} (Z : ZZ l G s0 b0) (C : String) (b : Nat) (hk : KO s0 C b) (z : Int) (hz : 0 ≤ z ∧ z ≤ 100) : Met l yX9_fathoms (ws_ yX9_fathoms cX9_fathoms 2 (some .int)) ({ frames := 1, cells := 0, slots := 0, locals := 21 } : Room) (pcR s0 (fun _ => True) [.ref b, .int (iI z)]) (qI (2 * z)) 0 0 (fun _ => False) := by
  refine Met.ofW (cc := cX9_fathoms) (maxL := 2) (ret := (some .int)) (by decide) rfl ?_
  intro p e s m args below meth c s₁ B hml hv
  obtain ⟨rfl, hW, hB⟩ := hv
  have hx := B.exec
  have hb := B.bytes
  have hr := B.returns
  have hts := atoms_spec (ws := (ws_ yX9_fathoms cX9_fathoms 2 (some .int))) B.pre
  have hts : ∀ w ∈ lw_all, w.before _ s = true := fun w h => hts w (List.mem_cons_of_mem _ h)
  have hown : s.vm.findClass RX9 = some m.cls := findClass_of_methodNamed B.named
  have hlocks := B.notSynchronized
  have hl := lv_entry ([.ref b, .int (iI z)]) (n := 2) (Nat.le_of_ble_eq_true rfl)
  rw [lg_entry_eq]
  generalize (lg_sl ([.ref b, .int (iI z)]) ++ List.replicate (2 - (lg_sl ([.ref b, .int (iI z)])).length) Slot.unset).toArray = ls at hl ⊢
  have hl : lv_has ls 2 [(0, .ref b), (1, .int (iI z))] := hl
  obtain ⟨cellK, hcK, hoK, -, kK, hkK⟩ := hk.here hB
  refine ii_const hx hb dX9_fathoms_0 ?_
  refine lv_aload_n hx hb dX9_fathoms_1 rfl (lv_at hl 0 rfl) ?_
  refine lv_iload_n hx hb dX9_fathoms_2 rfl (lv_at hl 1 rfl) ?_
  refine cqI (r_runSU (As := [.int (iI z)]) (rest := [.int (iI 2)]) hcK hoK hkK ⟨hx, hb, hml, hown, hts⟩ (mX7_fathoms Z C b hk z (by omega)) (va_cwSU 1 hts (lw_SU q484 q474 q485 q472 q1455 q480) rfl rfl rfl (by decide +kernel) ⟨Nat.le_of_ble_eq_true rfl, Nat.le_of_ble_eq_true rfl⟩) (psR hB trivial) rfl rfl hl.1 rfl (lv_room (Nat.le_of_ble_eq_true rfl)) dX9_fathoms_3 ⟨Nat.zero_le _, Nat.zero_le _⟩) ?_
  refine ii_mul hx hb dX9_fathoms_6 ?_
  have he9 : (2 * z) = (2 * z) := rfl
  exact W.iret hx hb hr (fun t ht hW9 => ⟨_, rfl, congrArg iI he9, ht⟩) (fun q hq => by cases hq) dX9_fathoms_7

set_option maxHeartbeats 4000000 in
set_option maxRecDepth 100000 in
theorem mX10_fathoms {l : Launch} {G : GG} {s0 : State} {b0 : Nat} (Z : ZZ l G s0 b0) (C : String) (b : Nat) (hk : KO s0 C b) (z : Int) (hz : 0 ≤ z ∧ z ≤ 100) : Met l yX10_fathoms (ws_ yX10_fathoms cX10_fathoms 2 (some .int)) ({ frames := 2, cells := 0, slots := 0, locals := 42 } : Room) (pcR s0 (fun _ => True) [.ref b, .int (iI z)]) (qI (max 0 (2 * z - 1))) 0 0 (fun _ => False) := by
  refine Met.ofW (cc := cX10_fathoms) (maxL := 2) (ret := (some .int)) (by decide) rfl ?_
  intro p e s m args below meth c s₁ B hml hv
  obtain ⟨rfl, hW, hB⟩ := hv
  have hx := B.exec
  have hb := B.bytes
  have hr := B.returns
  have hts := atoms_spec (ws := (ws_ yX10_fathoms cX10_fathoms 2 (some .int))) B.pre
  have hts : ∀ w ∈ lw_all, w.before _ s = true := fun w h => hts w (List.mem_cons_of_mem _ h)
  have hown : s.vm.findClass RX10 = some m.cls := findClass_of_methodNamed B.named
  have hlocks := B.notSynchronized
  have hl := lv_entry ([.ref b, .int (iI z)]) (n := 2) (Nat.le_of_ble_eq_true rfl)
  rw [lg_entry_eq]
  generalize (lg_sl ([.ref b, .int (iI z)]) ++ List.replicate (2 - (lg_sl ([.ref b, .int (iI z)])).length) Slot.unset).toArray = ls at hl ⊢
  have hl : lv_has ls 2 [(0, .ref b), (1, .int (iI z))] := hl
  obtain ⟨cellK, hcK, hoK, -, kK, hkK⟩ := hk.here hB
  refine ii_const hx hb dX10_fathoms_0 ?_
  refine lv_aload_n hx hb dX10_fathoms_1 rfl (lv_at hl 0 rfl) ?_
  refine lv_iload_n hx hb dX10_fathoms_2 rfl (lv_at hl 1 rfl) ?_
  refine cqI (r_runSU (As := [.int (iI z)]) (rest := [.int (iI 0)]) hcK hoK hkK ⟨hx, hb, hml, hown, hts⟩ (mX9_fathoms Z C b hk z (by omega)) (va_cwSU 1 hts (lw_SU q489 q1453 q490 q482 q1456 q483) rfl rfl rfl (by decide +kernel) ⟨Nat.le_of_ble_eq_true rfl, Nat.le_of_ble_eq_true rfl⟩) (psR hB trivial) rfl rfl hl.1 rfl (lv_room (Nat.le_of_ble_eq_true rfl)) dX10_fathoms_3 ⟨Nat.zero_le _, Nat.zero_le _⟩) ?_
  refine ii_const hx hb dX10_fathoms_6 ?_
  refine ii_sub hx hb dX10_fathoms_7 ?_
  refine ii_max hx hb (hml.trans hl.1.symm) hts hown q491 (Nat.le_of_ble_eq_true rfl) (Nat.le_of_ble_eq_true rfl) (Nat.zero_le _) (Nat.zero_le _) (by omega) (by omega) dX10_fathoms_8 ?_
  have he9 : (max 0 ((2 * z) - 1)) = (max 0 (2 * z - 1)) := rfl
  exact W.iret hx hb hr (fun t ht hW9 => ⟨_, rfl, congrArg iI he9, ht⟩) (fun q hq => by cases hq) dX10_fathoms_11

set_option maxHeartbeats 4000000 in
set_option maxRecDepth 100000 in
theorem mX1_fathoms {l : Launch} {G : GG} {s0 : State} {b0 : Nat} (Z : ZZ l G s0 b0) (ad : Nat → Nat) (F : Nat → Int) (hF : WF F) (i : Nat) (zi : Int) (hi : zi = (i : Int)) (h5 : i < 5) : Met l yX1_fathoms (ws_ yX1_fathoms cX1_fathoms 2 (some .int)) ({ frames := 3, cells := 0, slots := 0, locals := 63 } : Room) (pcR s0 (FW G ad F) [.ref (ad 0), .int (iI zi)]) (qI (fathS (F (2 * i + 0)) (az (sulkS F i (F 76).toNat)))) 0 0 (fun _ => False) := by
  refine Met.ofW (cc := cX1_fathoms) (maxL := 2) (ret := (some .int)) (by decide) rfl ?_
  intro p e s m args below meth c s₁ B hml hv
  obtain ⟨rfl, hW, hB⟩ := hv
  have hx := B.exec
  have hb := B.bytes
  have hr := B.returns
  have hts := atoms_spec (ws := (ws_ yX1_fathoms cX1_fathoms 2 (some .int))) B.pre
  have hts : ∀ w ∈ lw_all, w.before _ s = true := fun w h => hts w (List.mem_cons_of_mem _ h)
  have hown : s.vm.findClass RX1 = some m.cls := findClass_of_methodNamed B.named
  have hlocks := B.notSynchronized
  have hl := lv_entry ([.ref (ad 0), .int (iI zi)]) (n := 2) (Nat.le_of_ble_eq_true rfl)
  rw [lg_entry_eq]
  generalize (lg_sl ([.ref (ad 0), .int (iI zi)]) ++ List.replicate (2 - (lg_sl ([.ref (ad 0), .int (iI zi)])).length) Slot.unset).toArray = ls at hl ⊢
  have hl : lv_has ls 2 [(0, .ref (ad 0)), (1, .int (iI zi))] := hl
  have hn5 := hF.n
  obtain ⟨tK, kk, hKZ, hKT, hKO⟩ := kinds_of Z
  refine va_getsN (A := oldA s0) hx hb (static_here Z hB hKZ) va_S.rf hown (nwF Z hB q462) (fun _ h => h) dX1_fathoms_0 ?_
  refine lv_aload_n hx hb dX1_fathoms_3 rfl (lv_at hl 0 rfl) ?_
  refine r_get (ci := 1) (k := 0) (C := RX1) (T := TX1) (N := 8) Z hB hx hb hts hown rfl in_X1 ((hW).1) (by decide) q137 rfl dX1_fathoms_4 ?_
  refine lv_iload_n hx hb dX1_fathoms_7 rfl (lv_at hl 1 rfl) ?_
  refine r_aald (t := 1) (ty := .array .int) (k := i) Z hB hx hb rfl rfl ((hW).2.1) (by omega) (by omega) (by omega) rfl dX1_fathoms_8 ?_
  refine ii_const hx hb dX1_fathoms_9 ?_
  have b_95 := hF.kd i (by omega)
  refine r_iald (k := 0) Z hB hx hb ((hW).2.2.1 i (by omega)) (by omega) (by omega) (by omega) dX1_fathoms_10 ?_
  refine vb_tq (A := oldA s0) (C := "TemperIsles$Plain") hx hb (table_here Z hB hKT) va_S.rf (i := iI (F (2 * i + 0))) (iI_in (k := ((F (2 * i + 0))).toNat) (by omega) (by omega) (by omega)) (v := .ref (kk ((F (2 * i + 0))).toNat)) (by rw [iI_cl (k := ((F (2 * i + 0))).toNat) (by omega) (by omega)]) dX1_fathoms_11 ?_
  refine lv_aload_n hx hb dX1_fathoms_12 rfl (lv_at hl 0 rfl) ?_
  refine lv_iload_n hx hb dX1_fathoms_13 rfl (lv_at hl 1 rfl) ?_
  refine cqI (va_runV (As := [.int (iI zi)]) (rest := [.ref (kk ((F (2 * i + 0))).toNat)]) ⟨hx, hb, hml, hown, hts⟩ (mX1_sulk Z ad F hF i zi (by omega) (by omega)) (cwV 1 hts (lw_V q464 q465 q466 q80 q467) rfl rfl rfl (by decide +kernel) ⟨Nat.le_of_ble_eq_true rfl, Nat.le_of_ble_eq_true rfl⟩) (pvR hB (OBJ.recv Z hB ((hW).1) (q := (RX1, TX1, 8)) rfl) hW) rfl rfl hl.1 rfl (lv_room (Nat.le_of_ble_eq_true rfl)) dX1_fathoms_14 ⟨Nat.zero_le _, Nat.zero_le _⟩) ?_
  have b_100 := sulkS_in hF i (by omega) (F 76).toNat (by have := hF.n; omega)
  refine ii_abs hx hb (hml.trans hl.1.symm) hts hown q468 (Nat.le_of_ble_eq_true rfl) (Nat.le_of_ble_eq_true rfl) (Nat.zero_le _) (Nat.zero_le _) (by omega) dX1_fathoms_17 ?_
  have b_1 := az_in (sulkS F i (F 76).toNat)
  by_cases hc0 : F (2 * i + 0) = 0
  · --
    have hkj := hKO (F (2 * i + 0)).toNat (by omega)
    have ej : (F (2 * i + 0)).toNat = 0 := by omega
    rw [ej] at hkj ⊢
    refine cqI (va_runV (As := [.int (iI (az (sulkS F i (F 76).toNat)))]) (rest := []) ⟨hx, hb, hml, hown, hts⟩ (mX7_fathoms Z "TemperIsles$Plain" (kk 0) hkj (az (sulkS F i (F 76).toNat)) (by omega)) (cwV 1 hts (lw_V q471 q472 q473 q1455 q480) rfl rfl rfl (by decide +kernel) ⟨Nat.le_of_ble_eq_true rfl, Nat.le_of_ble_eq_true rfl⟩) (pvR hB (hkj.recv hB) trivial) rfl rfl hl.1 rfl (lv_room (Nat.le_of_ble_eq_true rfl)) dX1_fathoms_20 ⟨Nat.zero_le _, Nat.zero_le _⟩) ?_
    have he9 : (az (sulkS F i (F 76).toNat)) = (fathS (F (2 * i + 0)) (az (sulkS F i (F 76).toNat))) := by unfold fathS; rw [if_pos hc0]
    exact W.iret hx hb hr (fun t ht hW9 => ⟨_, rfl, congrArg iI he9, ht⟩) (fun q hq => by cases hq) dX1_fathoms_23
  by_cases hc1 : F (2 * i + 0) = 1
  · --
    have hkj := hKO (F (2 * i + 0)).toNat (by omega)
    have ej : (F (2 * i + 0)).toNat = 1 := by omega
    rw [ej] at hkj ⊢
    refine cqI (va_runU (As := [.int (iI (az (sulkS F i (F 76).toNat)))]) (rest := []) ⟨hx, hb, hml, hown, hts⟩ (mX9_fathoms Z "TemperIsles$Proud" (kk 1) hkj (az (sulkS F i (F 76).toNat)) (by omega)) (va_cwO (owner := "TemperIsles$Plain") 1 hts (lw_O q471 q474 q472 q481 q482 q1456 q483) rfl rfl rfl q480 (by decide +kernel) ⟨Nat.le_of_ble_eq_true rfl, Nat.le_of_ble_eq_true rfl⟩) (pvR hB (hkj.recv hB) trivial) rfl rfl hl.1 rfl (lv_room (Nat.le_of_ble_eq_true rfl)) dX1_fathoms_20 ⟨Nat.zero_le _, Nat.zero_le _⟩) ?_
    have he9 : (2 * (az (sulkS F i (F 76).toNat))) = (fathS (F (2 * i + 0)) (az (sulkS F i (F 76).toNat))) := by unfold fathS; rw [if_neg hc0, if_pos hc1]
    exact W.iret hx hb hr (fun t ht hW9 => ⟨_, rfl, congrArg iI he9, ht⟩) (fun q hq => by cases hq) dX1_fathoms_23
  by_cases hc2 : F (2 * i + 0) = 2
  · --
    have hkj := hKO (F (2 * i + 0)).toNat (by omega)
    have ej : (F (2 * i + 0)).toNat = 2 := by omega
    rw [ej] at hkj ⊢
    refine cqI (va_runU (As := [.int (iI (az (sulkS F i (F 76).toNat)))]) (rest := []) ⟨hx, hb, hml, hown, hts⟩ (mX8_fathoms Z "TemperIsles$Fond" (kk 2) hkj (az (sulkS F i (F 76).toNat)) (by omega)) (va_cwO (owner := "TemperIsles$Plain") 1 hts (lw_O q471 q474 q472 q475 q476 q1454 q477) rfl rfl rfl q480 (by decide +kernel) ⟨Nat.le_of_ble_eq_true rfl, Nat.le_of_ble_eq_true rfl⟩) (pvR hB (hkj.recv hB) trivial) rfl rfl hl.1 rfl (lv_room (Nat.le_of_ble_eq_true rfl)) dX1_fathoms_20 ⟨Nat.zero_le _, Nat.zero_le _⟩) ?_
    have he9 : ((az (sulkS F i (F 76).toNat)) / 2) = (fathS (F (2 * i + 0)) (az (sulkS F i (F 76).toNat))) := by unfold fathS; rw [if_neg hc0, if_neg hc1, if_pos hc2]
    exact W.iret hx hb hr (fun t ht hW9 => ⟨_, rfl, congrArg iI he9, ht⟩) (fun q hq => by cases hq) dX1_fathoms_23
  have hkj := hKO (F (2 * i + 0)).toNat (by omega)
  have ej : (F (2 * i + 0)).toNat = 3 := by omega
  rw [ej] at hkj ⊢
  refine cqI (va_runU (As := [.int (iI (az (sulkS F i (F 76).toNat)))]) (rest := []) ⟨hx, hb, hml, hown, hts⟩ (mX10_fathoms Z "TemperIsles$Widow" (kk 3) hkj (az (sulkS F i (F 76).toNat)) (by omega)) (va_cwO (owner := "TemperIsles$Plain") 1 hts (lw_O q471 q474 q472 q486 q487 q1457 q488) rfl rfl rfl q480 (by decide +kernel) ⟨Nat.le_of_ble_eq_true rfl, Nat.le_of_ble_eq_true rfl⟩) (pvR hB (hkj.recv hB) trivial) rfl rfl hl.1 rfl (lv_room (Nat.le_of_ble_eq_true rfl)) dX1_fathoms_20 ⟨Nat.zero_le _, Nat.zero_le _⟩) ?_
  have he9 : (max 0 (2 * (az (sulkS F i (F 76).toNat)) - 1)) = (fathS (F (2 * i + 0)) (az (sulkS F i (F 76).toNat))) := by unfold fathS; rw [if_neg hc0, if_neg hc1, if_neg hc2]
  exact W.iret hx hb hr (fun t ht hW9 => ⟨_, rfl, congrArg iI he9, ht⟩) (fun q hq => by cases hq) dX1_fathoms_23

set_option maxHeartbeats 4000000 in
set_option maxRecDepth 100000 in
theorem mX1_isHeld {l : Launch} {G : GG} {s0 : State} {b0 : Nat} (Z : ZZ l G s0 b0) (ad : Nat → Nat) (F : Nat → Int) (hF : WF F) (i : Nat) (zi : Int) (hi : zi = (i : Int)) (h5 : i < 5) (zt : Int) (ht : -1000 ≤ zt ∧ zt ≤ 1000) : Met l yX1_isHeld (ws_ yX1_isHeld cX1_isHeld 8 (some .boolean)) ({ frames := 2, cells := 0, slots := 0, locals := 43 } : Room) (pcR s0 (FW G ad F) [.ref (ad 0), .int (iI zi), .int (iI zt)]) (qI (b2 (heldS F i zt (F 53).toNat = true))) 0 0 (fun _ => False) := by
  refine Met.ofW (cc := cX1_isHeld) (maxL := 8) (ret := (some .boolean)) (by decide) rfl ?_
  intro p e s m args below meth c s₁ B hml hv
  obtain ⟨rfl, hW, hB⟩ := hv
  have hx := B.exec
  have hb := B.bytes
  have hr := B.returns
  have hts := atoms_spec (ws := (ws_ yX1_isHeld cX1_isHeld 8 (some .boolean))) B.pre
  have hts : ∀ w ∈ lw_all, w.before _ s = true := fun w h => hts w (List.mem_cons_of_mem _ h)
  have hown : s.vm.findClass RX1 = some m.cls := findClass_of_methodNamed B.named
  have hlocks := B.notSynchronized
  have hl := lv_entry ([.ref (ad 0), .int (iI zi), .int (iI zt)]) (n := 8) (Nat.le_of_ble_eq_true rfl)
  rw [lg_entry_eq]
  generalize (lg_sl ([.ref (ad 0), .int (iI zi), .int (iI zt)]) ++ List.replicate (8 - (lg_sl ([.ref (ad 0), .int (iI zi), .int (iI zt)])).length) Slot.unset).toArray = ls at hl ⊢
  have hl : lv_has ls 8 [(0, .ref (ad 0)), (1, .int (iI zi)), (2, .int (iI zt))] := hl
  have hrm := hF.rm
  refine ii_const hx hb dX1_isHeld_0 ?_
  refine lv_istore_n (lv' := [(3, .int (iI 0)), (0, .ref (ad 0)), (1, .int (iI zi)), (2, .int (iI zt))]) hx hb dX1_isHeld_1 rfl hl (by decide) rfl (fun ls hl => ?_)
  refine ii_const hx hb dX1_isHeld_2 ?_
  refine lv_istore (lv' := [(4, .int (iI 0)), (3, .int (iI 0)), (0, .ref (ad 0)), (1, .int (iI zi)), (2, .int (iI zt))]) hx hb dX1_isHeld_3 hl (by decide) rfl (fun ls hl => ?_)
  have loop_5 : ∀ (fu : Nat) (k : Nat) (zk : Int), (zk = (k : Int)) → (k ≤ (F 53).toNat) → (7 - k) < fu → ∀ (ls : Array Slot), lv_has ls 8 [(4, .int (iI zk)), (3, .int (iI (b2 (heldS F i zt k = true)))), (0, .ref (ad 0)), (1, .int (iI zi)), (2, .int (iI zt))] → W p l e (headSpec (ws_ yX1_isHeld cX1_isHeld 8 (some .boolean)) ({ frames := 2, cells := 0, slots := 0, locals := 43 } : Room)).room s m ([.ref (ad 0), .int (iI zi), .int (iI zt)] : List Value).toArray below meth c s.heap [] 0 0 (MQ below (qI (b2 (heldS F i zt (F 53).toNat = true))) ([.ref (ad 0), .int (iI zi), .int (iI zt)] : List Value).toArray s 0 0 (fun _ => False)) (F0 m 5 ls []) := by
    intro fu
    induction fu with
    | zero => intro k zk ezk hk hmu; exact absurd hmu (Nat.not_lt_zero _)
    | succ fu ih5 =>
      intro k zk ezk hk hmu ls hl
      refine lv_iload hx hb dX1_isHeld_5 (lv_at hl 0 rfl) ?_
      refine lv_aload_n hx hb dX1_isHeld_7 rfl (lv_at hl 2 rfl) ?_
      have b_102 := hF.rm 
      refine r_get (ci := 1) (k := 4) (C := RX1) (T := TX1) (N := 8) Z hB hx hb hts hown rfl in_X1 ((hW).1) (by decide) q148 rfl dX1_isHeld_8 ?_
      refine ii_icmp_ge (tgt := 102) hx hb dX1_isHeld_11 (by decide) (by omega) (by omega) (fun c_1 => ?_) (fun c_1 => ?_)
      · -- 11 -> 102
        have ex_k : k = (F 53).toNat := by omega
        subst ex_k
        refine lv_iload_n hx hb dX1_isHeld_102 rfl (lv_at hl 1 rfl) ?_
        have he9 : (b2 (heldS F i zt (F 53).toNat = true)) = (b2 (heldS F i zt (F 53).toNat = true)) := rfl
        exact W.zret (ty := .boolean) hx hb hr (b2_nar _) (fun t ht hW9 => ⟨_, rfl, congrArg iI he9, ht⟩) (fun q hq => by cases hq) dX1_isHeld_103
      · -- 11 -> 14
        refine lv_aload_n hx hb dX1_isHeld_14 rfl (lv_at hl 2 rfl) ?_
        refine r_get (ci := 1) (k := 2) (C := RX1) (T := TX1) (N := 8) Z hB hx hb hts hown rfl in_X1 ((hW).1) (by decide) q143 rfl dX1_isHeld_15 ?_
        refine lv_iload hx hb dX1_isHeld_18 (lv_at hl 0 rfl) ?_
        refine r_aald (t := 1) (ty := .array .int) (k := k) Z hB hx hb rfl rfl ((hW).2.2.2.2.2.1) (by omega) (by omega) (by omega) rfl dX1_isHeld_20 ?_
        refine lv_astore (lv' := [(5, .ref (ad (14 + k))), (4, .int (iI zk)), (3, .int (iI (b2 (heldS F i zt k = true)))), (0, .ref (ad 0)), (1, .int (iI zi)), (2, .int (iI zt))]) hx hb dX1_isHeld_21 hl (by decide) rfl (fun ls hl => ?_)
        refine lv_aload hx hb dX1_isHeld_23 (lv_at hl 0 rfl) ?_
        refine ii_const hx hb dX1_isHeld_25 ?_
        have b_109 := hF.r0 k (by omega)
        refine r_iald (k := 0) Z hB hx hb ((hW).2.2.2.2.2.2 k (by omega)) (by omega) (by omega) (by omega) dX1_isHeld_26 ?_
        refine lv_iload_n hx hb dX1_isHeld_27 rfl (lv_at hl 4 rfl) ?_
        refine ii_icmp_eq (tgt := 39) hx hb dX1_isHeld_28 (by decide) (by omega) (by omega) (fun c_2 => ?_) (fun c_2 => ?_)
        · -- 28 -> 39
          refine lv_aload hx hb dX1_isHeld_39 (lv_at hl 0 rfl) ?_
          refine ii_const hx hb dX1_isHeld_41 ?_
          have b_110 := hF.r0 k (by omega)
          refine r_iald (k := 0) Z hB hx hb ((hW).2.2.2.2.2.2 k (by omega)) (by omega) (by omega) (by omega) dX1_isHeld_42 ?_
          refine lv_aload hx hb dX1_isHeld_43 (lv_at hl 0 rfl) ?_
          refine ii_const hx hb dX1_isHeld_45 ?_
          have b_111 := hF.r1 k (by omega)
          refine r_iald (k := 1) Z hB hx hb ((hW).2.2.2.2.2.2 k (by omega)) (by omega) (by omega) (by omega) dX1_isHeld_46 ?_
          refine ii_add hx hb dX1_isHeld_47 ?_
          refine lv_iload_n hx hb dX1_isHeld_48 rfl (lv_at hl 4 rfl) ?_
          refine ii_sub hx hb dX1_isHeld_49 ?_
          obtain ⟨ze_3, eze_3⟩ : ∃ z : Int, z = (((F (35 + 3 * k + 0)) + (F (35 + 3 * k + 1))) - zi) := ⟨_, rfl⟩
          rw [← eze_3]
          have hze_3 : ze_3 = (endS F i k : Int) := by unfold endS; omega
          have hze_3b : endS F i k < 5 := by omega
          refine lv_istore (lv' := [(6, .int (iI ze_3)), (5, .ref (ad (14 + k))), (4, .int (iI zk)), (3, .int (iI (b2 (heldS F i zt k = true)))), (0, .ref (ad 0)), (1, .int (iI zi)), (2, .int (iI zt))]) hx hb dX1_isHeld_50 hl (by decide) rfl (fun ls hl => ?_)
          refine lv_iload_n hx hb dX1_isHeld_52 rfl (lv_at hl 6 rfl) ?_
          refine lv_aload_n hx hb dX1_isHeld_53 rfl (lv_at hl 4 rfl) ?_
          refine lv_iload hx hb dX1_isHeld_54 (lv_at hl 0 rfl) ?_
          refine cqI (va_runV (As := [.int (iI ze_3)]) (rest := [.int (iI zt)]) ⟨hx, hb, hml, hown, hts⟩ (mX1_at Z ad F hF (endS F i k) ze_3 (by omega) (by omega)) (cwV 1 hts (lw_V q386 q387 q388 q80 q389) rfl rfl rfl (by decide +kernel) ⟨Nat.le_of_ble_eq_true rfl, Nat.le_of_ble_eq_true rfl⟩) (pvR hB (OBJ.recv Z hB ((hW).1) (q := (RX1, TX1, 8)) rfl) hW) rfl rfl hl.1 rfl (lv_room (Nat.le_of_ble_eq_true rfl)) dX1_isHeld_56 ⟨Nat.zero_le _, Nat.zero_le _⟩) ?_
          have b_116 := hF.pl (endS F i k) (by omega)
          refine ii_sub hx hb dX1_isHeld_59 ?_
          refine ii_abs hx hb (hml.trans hl.1.symm) hts hown q468 (Nat.le_of_ble_eq_true rfl) (Nat.le_of_ble_eq_true rfl) (Nat.zero_le _) (Nat.zero_le _) (by omega) dX1_isHeld_60 ?_
          have b_4 := az_in (zt - (F (2 * (endS F i k) + 1)))
          refine lv_istore (lv' := [(7, .int (iI (az (zt - (F (2 * (endS F i k) + 1)))))), (6, .int (iI ze_3)), (5, .ref (ad (14 + k))), (4, .int (iI zk)), (3, .int (iI (b2 (heldS F i zt k = true)))), (0, .ref (ad 0)), (1, .int (iI zi)), (2, .int (iI zt))]) hx hb dX1_isHeld_63 hl (by decide) rfl (fun ls hl => ?_)
          refine lv_iload_n hx hb dX1_isHeld_65 rfl (lv_at hl 4 rfl) ?_
          refine bb_if_ne (P := heldS F i zt k = true) (tgt := 90) hx hb dX1_isHeld_66 (by decide) (fun c_5 => ?_) (fun c_5 => ?_)
          · -- 66 -> 90
            refine ii_const hx hb dX1_isHeld_90 ?_
            refine lv_goto (tgt := 95) hx hb dX1_isHeld_91 (by decide) ?_
            refine lv_istore_n (lv' := [(3, .int (iI 1)), (7, .int (iI (az (zt - (F (2 * (endS F i k) + 1)))))), (6, .int (iI ze_3)), (5, .ref (ad (14 + k))), (4, .int (iI zk)), (0, .ref (ad 0)), (1, .int (iI zi)), (2, .int (iI zt))]) hx hb dX1_isHeld_95 rfl hl (by decide) rfl (fun ls hl => ?_)
            refine ii_iinc (k := 4) (lv' := [(4, .int (iI (zk + 1))), (3, .int (iI 1)), (7, .int (iI (az (zt - (F (2 * (endS F i k) + 1)))))), (6, .int (iI ze_3)), (5, .ref (ad (14 + k))), (0, .ref (ad 0)), (1, .int (iI zi)), (2, .int (iI zt))]) hx hb dX1_isHeld_96 hl rfl (by decide) rfl (fun ls hl => ?_)
            refine lv_goto (tgt := 5) hx hb dX1_isHeld_99 (by decide) ?_
            have e_6 : (b2 (heldS F i zt (k + 1) = true)) = 1 := by first | exact heldS_o F i zt k (by omega) | exact heldS_1 F i zt k (by assumption) | exact heldS_2 F i zt k (by omega) (by omega) (by omega) | exact heldS_3 F i zt k (by assumption) (by omega)
            exact ih5 (k + 1) (zk + 1) (by omega) (by omega) (by omega) ls (by rw [e_6]; exact lv_sub hl [0, 1, 5, 6, 7] rfl)
          · -- 66 -> 69
            refine lv_iload hx hb dX1_isHeld_69 (lv_at hl 0 rfl) ?_
            refine lv_aload hx hb dX1_isHeld_71 (lv_at hl 2 rfl) ?_
            refine ii_const hx hb dX1_isHeld_73 ?_
            have b_117 := hF.r2 k (by omega)
            refine r_iald (k := 2) Z hB hx hb ((hW).2.2.2.2.2.2 k (by omega)) (by omega) (by omega) (by omega) dX1_isHeld_74 ?_
            refine ii_icmp_le (tgt := 94) hx hb dX1_isHeld_75 (by decide) (by omega) (by omega) (fun c_7 => ?_) (fun c_7 => ?_)
            · -- 75 -> 94
              refine ii_const hx hb dX1_isHeld_94 ?_
              refine lv_istore_n (lv' := [(3, .int (iI 0)), (7, .int (iI (az (zt - (F (2 * (endS F i k) + 1)))))), (6, .int (iI ze_3)), (5, .ref (ad (14 + k))), (4, .int (iI zk)), (0, .ref (ad 0)), (1, .int (iI zi)), (2, .int (iI zt))]) hx hb dX1_isHeld_95 rfl hl (by decide) rfl (fun ls hl => ?_)
              refine ii_iinc (k := 4) (lv' := [(4, .int (iI (zk + 1))), (3, .int (iI 0)), (7, .int (iI (az (zt - (F (2 * (endS F i k) + 1)))))), (6, .int (iI ze_3)), (5, .ref (ad (14 + k))), (0, .ref (ad 0)), (1, .int (iI zi)), (2, .int (iI zt))]) hx hb dX1_isHeld_96 hl rfl (by decide) rfl (fun ls hl => ?_)
              refine lv_goto (tgt := 5) hx hb dX1_isHeld_99 (by decide) ?_
              have e_8 : (b2 (heldS F i zt (k + 1) = true)) = 0 := by first | exact heldS_o F i zt k (by omega) | exact heldS_1 F i zt k (by assumption) | exact heldS_2 F i zt k (by omega) (by omega) (by omega) | exact heldS_3 F i zt k (by assumption) (by omega)
              exact ih5 (k + 1) (zk + 1) (by omega) (by omega) (by omega) ls (by rw [e_8]; exact lv_sub hl [0, 1, 5, 6, 7] rfl)
            · -- 75 -> 78
              refine lv_iload hx hb dX1_isHeld_78 (lv_at hl 0 rfl) ?_
              refine lv_aload_n hx hb dX1_isHeld_80 rfl (lv_at hl 5 rfl) ?_
              refine lv_iload_n hx hb dX1_isHeld_81 rfl (lv_at hl 6 rfl) ?_
              refine lv_iload hx hb dX1_isHeld_82 (lv_at hl 1 rfl) ?_
              refine cqI (va_runV (As := [.int (iI zi), .int (iI ze_3)]) (rest := [.int (iI (az (zt - (F (2 * (endS F i k) + 1)))))]) ⟨hx, hb, hml, hown, hts⟩ (mX1_apart Z ad F hF i zi (by omega) (by omega) (endS F i k) ze_3 (by omega) (by omega)) (cwV 2 hts (lw_V q497 q498 q499 q80 q500) rfl rfl rfl (by decide +kernel) ⟨Nat.le_of_ble_eq_true rfl, Nat.le_of_ble_eq_true rfl⟩) (pvR hB (OBJ.recv Z hB ((hW).1) (q := (RX1, TX1, 8)) rfl) hW) rfl rfl hl.1 rfl (lv_room (Nat.le_of_ble_eq_true rfl)) dX1_isHeld_84 ⟨Nat.zero_le _, Nat.zero_le _⟩) ?_
              have b_122 := apS_in hF i (endS F i k) (by omega) (by omega)
              refine ii_icmp_le (tgt := 94) hx hb dX1_isHeld_87 (by decide) (by omega) (by omega) (fun c_9 => ?_) (fun c_9 => ?_)
              · -- 87 -> 94
                refine ii_const hx hb dX1_isHeld_94 ?_
                refine lv_istore_n (lv' := [(3, .int (iI 0)), (7, .int (iI (az (zt - (F (2 * (endS F i k) + 1)))))), (6, .int (iI ze_3)), (5, .ref (ad (14 + k))), (4, .int (iI zk)), (0, .ref (ad 0)), (1, .int (iI zi)), (2, .int (iI zt))]) hx hb dX1_isHeld_95 rfl hl (by decide) rfl (fun ls hl => ?_)
                refine ii_iinc (k := 4) (lv' := [(4, .int (iI (zk + 1))), (3, .int (iI 0)), (7, .int (iI (az (zt - (F (2 * (endS F i k) + 1)))))), (6, .int (iI ze_3)), (5, .ref (ad (14 + k))), (0, .ref (ad 0)), (1, .int (iI zi)), (2, .int (iI zt))]) hx hb dX1_isHeld_96 hl rfl (by decide) rfl (fun ls hl => ?_)
                refine lv_goto (tgt := 5) hx hb dX1_isHeld_99 (by decide) ?_
                have e_10 : (b2 (heldS F i zt (k + 1) = true)) = 0 := by first | exact heldS_o F i zt k (by omega) | exact heldS_1 F i zt k (by assumption) | exact heldS_2 F i zt k (by omega) (by omega) (by omega) | exact heldS_3 F i zt k (by assumption) (by omega)
                exact ih5 (k + 1) (zk + 1) (by omega) (by omega) (by omega) ls (by rw [e_10]; exact lv_sub hl [0, 1, 5, 6, 7] rfl)
              · -- 87 -> 90
                refine ii_const hx hb dX1_isHeld_90 ?_
                refine lv_goto (tgt := 95) hx hb dX1_isHeld_91 (by decide) ?_
                refine lv_istore_n (lv' := [(3, .int (iI 1)), (7, .int (iI (az (zt - (F (2 * (endS F i k) + 1)))))), (6, .int (iI ze_3)), (5, .ref (ad (14 + k))), (4, .int (iI zk)), (0, .ref (ad 0)), (1, .int (iI zi)), (2, .int (iI zt))]) hx hb dX1_isHeld_95 rfl hl (by decide) rfl (fun ls hl => ?_)
                refine ii_iinc (k := 4) (lv' := [(4, .int (iI (zk + 1))), (3, .int (iI 1)), (7, .int (iI (az (zt - (F (2 * (endS F i k) + 1)))))), (6, .int (iI ze_3)), (5, .ref (ad (14 + k))), (0, .ref (ad 0)), (1, .int (iI zi)), (2, .int (iI zt))]) hx hb dX1_isHeld_96 hl rfl (by decide) rfl (fun ls hl => ?_)
                refine lv_goto (tgt := 5) hx hb dX1_isHeld_99 (by decide) ?_
                have e_11 : (b2 (heldS F i zt (k + 1) = true)) = 1 := by first | exact heldS_o F i zt k (by omega) | exact heldS_1 F i zt k (by assumption) | exact heldS_2 F i zt k (by omega) (by omega) (by omega) | exact heldS_3 F i zt k (by assumption) (by omega)
                exact ih5 (k + 1) (zk + 1) (by omega) (by omega) (by omega) ls (by rw [e_11]; exact lv_sub hl [0, 1, 5, 6, 7] rfl)
        · -- 28 -> 31
          refine lv_aload hx hb dX1_isHeld_31 (lv_at hl 0 rfl) ?_
          refine ii_const hx hb dX1_isHeld_33 ?_
          have b_123 := hF.r1 k (by omega)
          refine r_iald (k := 1) Z hB hx hb ((hW).2.2.2.2.2.2 k (by omega)) (by omega) (by omega) (by omega) dX1_isHeld_34 ?_
          refine lv_iload_n hx hb dX1_isHeld_35 rfl (lv_at hl 4 rfl) ?_
          refine ii_icmp_ne (tgt := 96) hx hb dX1_isHeld_36 (by decide) (by omega) (by omega) (fun c_12 => ?_) (fun c_12 => ?_)
          · -- 36 -> 96
            refine ii_iinc (k := 1) (lv' := [(4, .int (iI (zk + 1))), (5, .ref (ad (14 + k))), (3, .int (iI (b2 (heldS F i zt k = true)))), (0, .ref (ad 0)), (1, .int (iI zi)), (2, .int (iI zt))]) hx hb dX1_isHeld_96 hl rfl (by decide) rfl (fun ls hl => ?_)
            refine lv_goto (tgt := 5) hx hb dX1_isHeld_99 (by decide) ?_
            have e_13 : (b2 (heldS F i zt (k + 1) = true)) = (b2 (heldS F i zt k = true)) := by first | exact heldS_o F i zt k (by omega) | exact heldS_1 F i zt k (by assumption) | exact heldS_2 F i zt k (by omega) (by omega) (by omega) | exact heldS_3 F i zt k (by assumption) (by omega)
            exact ih5 (k + 1) (zk + 1) (by omega) (by omega) (by omega) ls (by rw [e_13]; exact lv_sub hl [0, 2, 3, 4, 5] rfl)
          · -- 36 -> 39
            refine lv_aload hx hb dX1_isHeld_39 (lv_at hl 0 rfl) ?_
            refine ii_const hx hb dX1_isHeld_41 ?_
            have b_124 := hF.r0 k (by omega)
            refine r_iald (k := 0) Z hB hx hb ((hW).2.2.2.2.2.2 k (by omega)) (by omega) (by omega) (by omega) dX1_isHeld_42 ?_
            refine lv_aload hx hb dX1_isHeld_43 (lv_at hl 0 rfl) ?_
            refine ii_const hx hb dX1_isHeld_45 ?_
            have b_125 := hF.r1 k (by omega)
            refine r_iald (k := 1) Z hB hx hb ((hW).2.2.2.2.2.2 k (by omega)) (by omega) (by omega) (by omega) dX1_isHeld_46 ?_
            refine ii_add hx hb dX1_isHeld_47 ?_
            refine lv_iload_n hx hb dX1_isHeld_48 rfl (lv_at hl 4 rfl) ?_
            refine ii_sub hx hb dX1_isHeld_49 ?_
            obtain ⟨ze_14, eze_14⟩ : ∃ z : Int, z = (((F (35 + 3 * k + 0)) + (F (35 + 3 * k + 1))) - zi) := ⟨_, rfl⟩
            rw [← eze_14]
            have hze_14 : ze_14 = (endS F i k : Int) := by unfold endS; omega
            have hze_14b : endS F i k < 5 := by omega
            refine lv_istore (lv' := [(6, .int (iI ze_14)), (5, .ref (ad (14 + k))), (4, .int (iI zk)), (3, .int (iI (b2 (heldS F i zt k = true)))), (0, .ref (ad 0)), (1, .int (iI zi)), (2, .int (iI zt))]) hx hb dX1_isHeld_50 hl (by decide) rfl (fun ls hl => ?_)
            refine lv_iload_n hx hb dX1_isHeld_52 rfl (lv_at hl 6 rfl) ?_
            refine lv_aload_n hx hb dX1_isHeld_53 rfl (lv_at hl 4 rfl) ?_
            refine lv_iload hx hb dX1_isHeld_54 (lv_at hl 0 rfl) ?_
            refine cqI (va_runV (As := [.int (iI ze_14)]) (rest := [.int (iI zt)]) ⟨hx, hb, hml, hown, hts⟩ (mX1_at Z ad F hF (endS F i k) ze_14 (by omega) (by omega)) (cwV 1 hts (lw_V q386 q387 q388 q80 q389) rfl rfl rfl (by decide +kernel) ⟨Nat.le_of_ble_eq_true rfl, Nat.le_of_ble_eq_true rfl⟩) (pvR hB (OBJ.recv Z hB ((hW).1) (q := (RX1, TX1, 8)) rfl) hW) rfl rfl hl.1 rfl (lv_room (Nat.le_of_ble_eq_true rfl)) dX1_isHeld_56 ⟨Nat.zero_le _, Nat.zero_le _⟩) ?_
            have b_130 := hF.pl (endS F i k) (by omega)
            refine ii_sub hx hb dX1_isHeld_59 ?_
            refine ii_abs hx hb (hml.trans hl.1.symm) hts hown q468 (Nat.le_of_ble_eq_true rfl) (Nat.le_of_ble_eq_true rfl) (Nat.zero_le _) (Nat.zero_le _) (by omega) dX1_isHeld_60 ?_
            have b_15 := az_in (zt - (F (2 * (endS F i k) + 1)))
            refine lv_istore (lv' := [(7, .int (iI (az (zt - (F (2 * (endS F i k) + 1)))))), (6, .int (iI ze_14)), (5, .ref (ad (14 + k))), (4, .int (iI zk)), (3, .int (iI (b2 (heldS F i zt k = true)))), (0, .ref (ad 0)), (1, .int (iI zi)), (2, .int (iI zt))]) hx hb dX1_isHeld_63 hl (by decide) rfl (fun ls hl => ?_)
            refine lv_iload_n hx hb dX1_isHeld_65 rfl (lv_at hl 4 rfl) ?_
            refine bb_if_ne (P := heldS F i zt k = true) (tgt := 90) hx hb dX1_isHeld_66 (by decide) (fun c_16 => ?_) (fun c_16 => ?_)
            · -- 66 -> 90
              refine ii_const hx hb dX1_isHeld_90 ?_
              refine lv_goto (tgt := 95) hx hb dX1_isHeld_91 (by decide) ?_
              refine lv_istore_n (lv' := [(3, .int (iI 1)), (7, .int (iI (az (zt - (F (2 * (endS F i k) + 1)))))), (6, .int (iI ze_14)), (5, .ref (ad (14 + k))), (4, .int (iI zk)), (0, .ref (ad 0)), (1, .int (iI zi)), (2, .int (iI zt))]) hx hb dX1_isHeld_95 rfl hl (by decide) rfl (fun ls hl => ?_)
              refine ii_iinc (k := 4) (lv' := [(4, .int (iI (zk + 1))), (3, .int (iI 1)), (7, .int (iI (az (zt - (F (2 * (endS F i k) + 1)))))), (6, .int (iI ze_14)), (5, .ref (ad (14 + k))), (0, .ref (ad 0)), (1, .int (iI zi)), (2, .int (iI zt))]) hx hb dX1_isHeld_96 hl rfl (by decide) rfl (fun ls hl => ?_)
              refine lv_goto (tgt := 5) hx hb dX1_isHeld_99 (by decide) ?_
              have e_17 : (b2 (heldS F i zt (k + 1) = true)) = 1 := by first | exact heldS_o F i zt k (by omega) | exact heldS_1 F i zt k (by assumption) | exact heldS_2 F i zt k (by omega) (by omega) (by omega) | exact heldS_3 F i zt k (by assumption) (by omega)
              exact ih5 (k + 1) (zk + 1) (by omega) (by omega) (by omega) ls (by rw [e_17]; exact lv_sub hl [0, 1, 5, 6, 7] rfl)
            · -- 66 -> 69
              refine lv_iload hx hb dX1_isHeld_69 (lv_at hl 0 rfl) ?_
              refine lv_aload hx hb dX1_isHeld_71 (lv_at hl 2 rfl) ?_
              refine ii_const hx hb dX1_isHeld_73 ?_
              have b_131 := hF.r2 k (by omega)
              refine r_iald (k := 2) Z hB hx hb ((hW).2.2.2.2.2.2 k (by omega)) (by omega) (by omega) (by omega) dX1_isHeld_74 ?_
              refine ii_icmp_le (tgt := 94) hx hb dX1_isHeld_75 (by decide) (by omega) (by omega) (fun c_18 => ?_) (fun c_18 => ?_)
              · -- 75 -> 94
                refine ii_const hx hb dX1_isHeld_94 ?_
                refine lv_istore_n (lv' := [(3, .int (iI 0)), (7, .int (iI (az (zt - (F (2 * (endS F i k) + 1)))))), (6, .int (iI ze_14)), (5, .ref (ad (14 + k))), (4, .int (iI zk)), (0, .ref (ad 0)), (1, .int (iI zi)), (2, .int (iI zt))]) hx hb dX1_isHeld_95 rfl hl (by decide) rfl (fun ls hl => ?_)
                refine ii_iinc (k := 4) (lv' := [(4, .int (iI (zk + 1))), (3, .int (iI 0)), (7, .int (iI (az (zt - (F (2 * (endS F i k) + 1)))))), (6, .int (iI ze_14)), (5, .ref (ad (14 + k))), (0, .ref (ad 0)), (1, .int (iI zi)), (2, .int (iI zt))]) hx hb dX1_isHeld_96 hl rfl (by decide) rfl (fun ls hl => ?_)
                refine lv_goto (tgt := 5) hx hb dX1_isHeld_99 (by decide) ?_
                have e_19 : (b2 (heldS F i zt (k + 1) = true)) = 0 := by first | exact heldS_o F i zt k (by omega) | exact heldS_1 F i zt k (by assumption) | exact heldS_2 F i zt k (by omega) (by omega) (by omega) | exact heldS_3 F i zt k (by assumption) (by omega)
                exact ih5 (k + 1) (zk + 1) (by omega) (by omega) (by omega) ls (by rw [e_19]; exact lv_sub hl [0, 1, 5, 6, 7] rfl)
              · -- 75 -> 78
                refine lv_iload hx hb dX1_isHeld_78 (lv_at hl 0 rfl) ?_
                refine lv_aload_n hx hb dX1_isHeld_80 rfl (lv_at hl 5 rfl) ?_
                refine lv_iload_n hx hb dX1_isHeld_81 rfl (lv_at hl 6 rfl) ?_
                refine lv_iload hx hb dX1_isHeld_82 (lv_at hl 1 rfl) ?_
                refine cqI (va_runV (As := [.int (iI zi), .int (iI ze_14)]) (rest := [.int (iI (az (zt - (F (2 * (endS F i k) + 1)))))]) ⟨hx, hb, hml, hown, hts⟩ (mX1_apart Z ad F hF i zi (by omega) (by omega) (endS F i k) ze_14 (by omega) (by omega)) (cwV 2 hts (lw_V q497 q498 q499 q80 q500) rfl rfl rfl (by decide +kernel) ⟨Nat.le_of_ble_eq_true rfl, Nat.le_of_ble_eq_true rfl⟩) (pvR hB (OBJ.recv Z hB ((hW).1) (q := (RX1, TX1, 8)) rfl) hW) rfl rfl hl.1 rfl (lv_room (Nat.le_of_ble_eq_true rfl)) dX1_isHeld_84 ⟨Nat.zero_le _, Nat.zero_le _⟩) ?_
                have b_136 := apS_in hF i (endS F i k) (by omega) (by omega)
                refine ii_icmp_le (tgt := 94) hx hb dX1_isHeld_87 (by decide) (by omega) (by omega) (fun c_20 => ?_) (fun c_20 => ?_)
                · -- 87 -> 94
                  refine ii_const hx hb dX1_isHeld_94 ?_
                  refine lv_istore_n (lv' := [(3, .int (iI 0)), (7, .int (iI (az (zt - (F (2 * (endS F i k) + 1)))))), (6, .int (iI ze_14)), (5, .ref (ad (14 + k))), (4, .int (iI zk)), (0, .ref (ad 0)), (1, .int (iI zi)), (2, .int (iI zt))]) hx hb dX1_isHeld_95 rfl hl (by decide) rfl (fun ls hl => ?_)
                  refine ii_iinc (k := 4) (lv' := [(4, .int (iI (zk + 1))), (3, .int (iI 0)), (7, .int (iI (az (zt - (F (2 * (endS F i k) + 1)))))), (6, .int (iI ze_14)), (5, .ref (ad (14 + k))), (0, .ref (ad 0)), (1, .int (iI zi)), (2, .int (iI zt))]) hx hb dX1_isHeld_96 hl rfl (by decide) rfl (fun ls hl => ?_)
                  refine lv_goto (tgt := 5) hx hb dX1_isHeld_99 (by decide) ?_
                  have e_21 : (b2 (heldS F i zt (k + 1) = true)) = 0 := by first | exact heldS_o F i zt k (by omega) | exact heldS_1 F i zt k (by assumption) | exact heldS_2 F i zt k (by omega) (by omega) (by omega) | exact heldS_3 F i zt k (by assumption) (by omega)
                  exact ih5 (k + 1) (zk + 1) (by omega) (by omega) (by omega) ls (by rw [e_21]; exact lv_sub hl [0, 1, 5, 6, 7] rfl)
                · -- 87 -> 90
                  refine ii_const hx hb dX1_isHeld_90 ?_
                  refine lv_goto (tgt := 95) hx hb dX1_isHeld_91 (by decide) ?_
                  refine lv_istore_n (lv' := [(3, .int (iI 1)), (7, .int (iI (az (zt - (F (2 * (endS F i k) + 1)))))), (6, .int (iI ze_14)), (5, .ref (ad (14 + k))), (4, .int (iI zk)), (0, .ref (ad 0)), (1, .int (iI zi)), (2, .int (iI zt))]) hx hb dX1_isHeld_95 rfl hl (by decide) rfl (fun ls hl => ?_)
                  refine ii_iinc (k := 4) (lv' := [(4, .int (iI (zk + 1))), (3, .int (iI 1)), (7, .int (iI (az (zt - (F (2 * (endS F i k) + 1)))))), (6, .int (iI ze_14)), (5, .ref (ad (14 + k))), (0, .ref (ad 0)), (1, .int (iI zi)), (2, .int (iI zt))]) hx hb dX1_isHeld_96 hl rfl (by decide) rfl (fun ls hl => ?_)
                  refine lv_goto (tgt := 5) hx hb dX1_isHeld_99 (by decide) ?_
                  have e_22 : (b2 (heldS F i zt (k + 1) = true)) = 1 := by first | exact heldS_o F i zt k (by omega) | exact heldS_1 F i zt k (by assumption) | exact heldS_2 F i zt k (by omega) (by omega) (by omega) | exact heldS_3 F i zt k (by assumption) (by omega)
                  exact ih5 (k + 1) (zk + 1) (by omega) (by omega) (by omega) ls (by rw [e_22]; exact lv_sub hl [0, 1, 5, 6, 7] rfl)
  have e_23 : (b2 (heldS F i zt 0 = true)) = 0 := rfl
  exact loop_5 _ 0 0 (by omega) (by omega) (Nat.lt_succ_self _) ls (by rw [e_23]; exact lv_sub hl [0, 1, 2, 3, 4] rfl)
