/-! MODEL: what is told of st, what is set in it (written by gen/mod3.py) -/
set_option maxRecDepth 100000
set_option maxHeartbeats 1000000 in
set_option maxRecDepth 100000 in
theorem mX4_fault {l : Launch} {G : GG} {s0 : State} {b0 : Nat} (Z : ZZ l G s0 b0) (K : Nat → Nat) (T : Sta)  : Met l yX4_fault (ws_ yX4_fault cX4_fault 1 (some .int)) ({ frames := 0, cells := 0, slots := 0, locals := 0 } : Room) (pcR s0 (MW G K T) [.ref (K 0)]) (qI (T 0 15)) 0 0 (fun _ => False) := by
  refine Met.ofW (cc := cX4_fault) (maxL := 1) (ret := (some .int)) (by decide) rfl ?_
  intro p e s m args below meth c s₁ B hml hv
  obtain ⟨rfl, hW, hB⟩ := hv
  have hx := B.exec
  have hb := B.bytes
  have hr := B.returns
  have hts := atoms_spec (ws := (ws_ yX4_fault cX4_fault 1 (some .int))) B.pre
  have hts : ∀ w ∈ lw_all, w.before _ s = true := fun w h => hts w (List.mem_cons_of_mem _ h)
  have hown : s.vm.findClass RX4 = some m.cls := findClass_of_methodNamed B.named
  have hlocks := B.notSynchronized
  have hl := lv_entry ([.ref (K 0)]) (n := 1) (Nat.le_of_ble_eq_true rfl)
  rw [lg_entry_eq]
  generalize (lg_sl ([.ref (K 0)]) ++ List.replicate (1 - (lg_sl ([.ref (K 0)])).length) Slot.unset).toArray = ls at hl ⊢
  have hl : lv_has ls 1 [(0, .ref (K 0))] := hl
  refine lv_aload_n hx hb dX4_fault_0 rfl (lv_at hl 0 rfl) ?_
  refine r_get (ci := 4) (k := 15) (v := .int (iI ((T 0) 15))) (C := RX4) (T := TX4) (N := 29) Z hB hx hb hts hown rfl in_X4 hW.obj (by decide) q993 rfl dX4_fault_1 ?_
  have he9 : ((T 0) 15) = (T 0 15) := rfl
  exact W.iret hx hb hr (fun t ht hW9 => ⟨_, rfl, congrArg iI he9, ht⟩) (fun q hq => by cases hq) dX4_fault_4

set_option maxHeartbeats 1000000 in
set_option maxRecDepth 100000 in
theorem mX4_torn {l : Launch} {G : GG} {s0 : State} {b0 : Nat} (Z : ZZ l G s0 b0) (K : Nat → Nat) (T : Sta)  : Met l yX4_torn (ws_ yX4_torn cX4_torn 1 (some .int)) ({ frames := 0, cells := 0, slots := 0, locals := 0 } : Room) (pcR s0 (MW G K T) [.ref (K 0)]) (qI (T 0 27)) 0 0 (fun _ => False) := by
  refine Met.ofW (cc := cX4_torn) (maxL := 1) (ret := (some .int)) (by decide) rfl ?_
  intro p e s m args below meth c s₁ B hml hv
  obtain ⟨rfl, hW, hB⟩ := hv
  have hx := B.exec
  have hb := B.bytes
  have hr := B.returns
  have hts := atoms_spec (ws := (ws_ yX4_torn cX4_torn 1 (some .int))) B.pre
  have hts : ∀ w ∈ lw_all, w.before _ s = true := fun w h => hts w (List.mem_cons_of_mem _ h)
  have hown : s.vm.findClass RX4 = some m.cls := findClass_of_methodNamed B.named
  have hlocks := B.notSynchronized
  have hl := lv_entry ([.ref (K 0)]) (n := 1) (Nat.le_of_ble_eq_true rfl)
  rw [lg_entry_eq]
  generalize (lg_sl ([.ref (K 0)]) ++ List.replicate (1 - (lg_sl ([.ref (K 0)])).length) Slot.unset).toArray = ls at hl ⊢
  have hl : lv_has ls 1 [(0, .ref (K 0))] := hl
  refine lv_aload_n hx hb dX4_torn_0 rfl (lv_at hl 0 rfl) ?_
  refine r_get (ci := 4) (k := 27) (v := .int (iI ((T 0) 27))) (C := RX4) (T := TX4) (N := 29) Z hB hx hb hts hown rfl in_X4 hW.obj (by decide) q1005 rfl dX4_torn_1 ?_
  have he9 : ((T 0) 27) = (T 0 27) := rfl
  exact W.iret hx hb hr (fun t ht hW9 => ⟨_, rfl, congrArg iI he9, ht⟩) (fun q hq => by cases hq) dX4_torn_4

set_option maxHeartbeats 1000000 in
set_option maxRecDepth 100000 in
theorem mX4_bumpsSince {l : Launch} {G : GG} {s0 : State} {b0 : Nat} (Z : ZZ l G s0 b0) (K : Nat → Nat) (T : Sta) (F F1 : Nat → Int) (eF : T 2 = F) (eF1 : T 1 = F1) : Met l yX4_bumpsSince (ws_ yX4_bumpsSince cX4_bumpsSince 1 (some .int)) ({ frames := 0, cells := 0, slots := 0, locals := 0 } : Room) (pcR s0 (MW G K T) [.ref (K 0)]) (qI (F 56 - F1 56)) 0 0 (fun _ => False) := by
  refine Met.ofW (cc := cX4_bumpsSince) (maxL := 1) (ret := (some .int)) (by decide) rfl ?_
  intro p e s m args below meth c s₁ B hml hv
  obtain ⟨rfl, hW, hB⟩ := hv
  have hx := B.exec
  have hb := B.bytes
  have hr := B.returns
  have hts := atoms_spec (ws := (ws_ yX4_bumpsSince cX4_bumpsSince 1 (some .int))) B.pre
  have hts : ∀ w ∈ lw_all, w.before _ s = true := fun w h => hts w (List.mem_cons_of_mem _ h)
  have hown : s.vm.findClass RX4 = some m.cls := findClass_of_methodNamed B.named
  have hlocks := B.notSynchronized
  have hl := lv_entry ([.ref (K 0)]) (n := 1) (Nat.le_of_ble_eq_true rfl)
  rw [lg_entry_eq]
  generalize (lg_sl ([.ref (K 0)]) ++ List.replicate (1 - (lg_sl ([.ref (K 0)])).length) Slot.unset).toArray = ls at hl ⊢
  have hl : lv_has ls 1 [(0, .ref (K 0))] := hl
  subst eF
  subst eF1
  refine lv_aload_n hx hb dX4_bumpsSince_0 rfl (lv_at hl 0 rfl) ?_
  refine r_get (ci := 4) (k := 1) (v := .ref (K 2)) (C := RX4) (T := TX4) (N := 29) Z hB hx hb hts hown rfl in_X4 hW.obj (by decide) q979 rfl dX4_bumpsSince_1 ?_
  refine ii_bipush hx hb dX4_bumpsSince_4 (by decide) ?_
  refine r_iald (k := 56) (f := (T 2)) Z hB hx hb hW.now (by omega) (by omega) (by omega) dX4_bumpsSince_6 ?_
  refine lv_aload_n hx hb dX4_bumpsSince_7 rfl (lv_at hl 0 rfl) ?_
  refine r_get (ci := 4) (k := 0) (v := .ref (K 1)) (C := RX4) (T := TX4) (N := 29) Z hB hx hb hts hown rfl in_X4 hW.obj (by decide) q978 rfl dX4_bumpsSince_8 ?_
  refine ii_bipush hx hb dX4_bumpsSince_11 (by decide) ?_
  refine r_iald (k := 56) (f := (stF T)) Z hB hx hb hW.st (by omega) (by omega) (by omega) dX4_bumpsSince_13 ?_
  rw [show stF T 56 = (T 1) 56 from stF_lo _ (by omega)]
  refine ii_sub hx hb dX4_bumpsSince_14 ?_
  have he9 : (((T 2) 56) - ((T 1) 56)) = ((T 2) 56 - (T 1) 56) := rfl
  exact W.iret hx hb hr (fun t ht hW9 => ⟨_, rfl, congrArg iI he9, ht⟩) (fun q hq => by cases hq) dX4_bumpsSince_15

set_option maxHeartbeats 1000000 in
set_option maxRecDepth 100000 in
theorem mX4_cross {l : Launch} {G : GG} {s0 : State} {b0 : Nat} (Z : ZZ l G s0 b0) (K : Nat → Nat) (T : Sta) (F : Nat → Int) (eF : T 1 = F) (hF : WF F) (i : Int) (hi : inR i) (j : Int) (hj : inR j) : Met l yX4_cross (ws_ yX4_cross cX4_cross 3 (some .int)) ({ frames := 3, cells := 0, slots := 0, locals := 68 } : Room) (pcR s0 (MW G K T) [.ref (K 0), .int (iI i), .int (iI j)]) (qI (crossS F i j)) 0 0 (fun _ => False) := by
  refine Met.ofW (cc := cX4_cross) (maxL := 3) (ret := (some .int)) (by decide) rfl ?_
  intro p e s m args below meth c s₁ B hml hv
  obtain ⟨rfl, hW, hB⟩ := hv
  have hx := B.exec
  have hb := B.bytes
  have hr := B.returns
  have hts := atoms_spec (ws := (ws_ yX4_cross cX4_cross 3 (some .int))) B.pre
  have hts : ∀ w ∈ lw_all, w.before _ s = true := fun w h => hts w (List.mem_cons_of_mem _ h)
  have hown : s.vm.findClass RX4 = some m.cls := findClass_of_methodNamed B.named
  have hlocks := B.notSynchronized
  have hl := lv_entry ([.ref (K 0), .int (iI i), .int (iI j)]) (n := 3) (Nat.le_of_ble_eq_true rfl)
  rw [lg_entry_eq]
  generalize (lg_sl ([.ref (K 0), .int (iI i), .int (iI j)]) ++ List.replicate (3 - (lg_sl ([.ref (K 0), .int (iI i), .int (iI j)])).length) Slot.unset).toArray = ls at hl ⊢
  have hl : lv_has ls 3 [(0, .ref (K 0)), (1, .int (iI i)), (2, .int (iI j))] := hl
  subst eF
  have hn5 := hF.n
  have hrm := hF.rm
  refine lv_aload_n hx hb dX4_cross_0 rfl (lv_at hl 0 rfl) ?_
  refine lv_iload_n hx hb dX4_cross_1 rfl (lv_at hl 1 rfl) ?_
  refine lv_iload_n hx hb dX4_cross_2 rfl (lv_at hl 2 rfl) ?_
  refine cqI (va_runV (As := [.int (iI i), .int (iI j)]) (rest := []) ⟨hx, hb, hml, hown, hts⟩ (mX4_areTwo Z K T (T 1) rfl hF i (by omega) j (by omega)) (cwV 2 hts (lw_V q1201 q1203 qs57 q83 q1204) rfl rfl rfl (by decide +kernel) ⟨Nat.le_of_ble_eq_true rfl, Nat.le_of_ble_eq_true rfl⟩) (pvR hB (OBJ.recv Z hB hW.obj (q := (RX4, TX4, 29)) rfl) hW) rfl rfl hl.1 rfl (lv_room (Nat.le_of_ble_eq_true rfl)) dX4_cross_3 ⟨Nat.zero_le _, Nat.zero_le _⟩) ?_
  refine bb_if_eq (P := ok2 (T 1) i j) (tgt := 25) hx hb dX4_cross_6 (by decide) (fun c_1 => ?_) (fun c_1 => ?_)
  · -- 6 -> 25
    refine ii_const hx hb dX4_cross_25 ?_
    have he9 : (-1) = (crossS (T 1) i j) := by unfold crossS; (repeat' split) <;> first | rfl | omega
    exact W.iret hx hb hr (fun t ht hW9 => ⟨_, rfl, congrArg iI he9, ht⟩) (fun q hq => by cases hq) dX4_cross_26
  · -- 6 -> 9
    refine lv_aload_n hx hb dX4_cross_9 rfl (lv_at hl 0 rfl) ?_
    refine r_get (ci := 4) (k := 0) (v := .ref (K 1)) (C := RX4) (T := TX4) (N := 29) Z hB hx hb hts hown rfl in_X4 hW.obj (by decide) q978 rfl dX4_cross_10 ?_
    refine ii_bipush hx hb dX4_cross_13 (by decide) ?_
    refine ii_const hx hb dX4_cross_15 ?_
    refine lv_iload_n hx hb dX4_cross_16 rfl (lv_at hl 1 rfl) ?_
    refine ii_mul hx hb dX4_cross_17 ?_
    refine ii_add hx hb dX4_cross_18 ?_
    refine lv_iload_n hx hb dX4_cross_19 rfl (lv_at hl 2 rfl) ?_
    refine ii_add hx hb dX4_cross_20 ?_
    have b_729 := hF.cr i.toNat j.toNat (by omega) (by omega)
    refine r_iald (k := (10 + 5 * i.toNat + j.toNat)) (f := (stF T)) Z hB hx hb hW.st (by omega) (by omega) (by omega) dX4_cross_21 ?_
    rw [show stF T (10 + 5 * i.toNat + j.toNat) = (T 1) (10 + 5 * i.toNat + j.toNat) from stF_lo _ (by omega)]
    refine lv_goto (tgt := 26) hx hb dX4_cross_22 (by decide) ?_
    have he9 : ((T 1) (10 + 5 * i.toNat + j.toNat)) = (crossS (T 1) i j) := by unfold crossS; (repeat' split) <;> first | rfl | omega
    exact W.iret hx hb hr (fun t ht hW9 => ⟨_, rfl, congrArg iI he9, ht⟩) (fun q hq => by cases hq) dX4_cross_26

set_option maxHeartbeats 1000000 in
set_option maxRecDepth 100000 in
theorem mX4_rope {l : Launch} {G : GG} {s0 : State} {b0 : Nat} (Z : ZZ l G s0 b0) (K : Nat → Nat) (T : Sta) (F : Nat → Int) (eF : T 1 = F) (hF : WF F) (k : Int) (hk : inR k) (what : Int) (hwhat : inR what) : Met l yX4_rope (ws_ yX4_rope cX4_rope 3 (some .int)) ({ frames := 2, cells := 0, slots := 0, locals := 46 } : Room) (pcR s0 (MW G K T) [.ref (K 0), .int (iI k), .int (iI what)]) (qI (ropeS F k what)) 0 0 (fun _ => False) := by
  refine Met.ofW (cc := cX4_rope) (maxL := 3) (ret := (some .int)) (by decide) rfl ?_
  intro p e s m args below meth c s₁ B hml hv
  obtain ⟨rfl, hW, hB⟩ := hv
  have hx := B.exec
  have hb := B.bytes
  have hr := B.returns
  have hts := atoms_spec (ws := (ws_ yX4_rope cX4_rope 3 (some .int))) B.pre
  have hts : ∀ w ∈ lw_all, w.before _ s = true := fun w h => hts w (List.mem_cons_of_mem _ h)
  have hown : s.vm.findClass RX4 = some m.cls := findClass_of_methodNamed B.named
  have hlocks := B.notSynchronized
  have hl := lv_entry ([.ref (K 0), .int (iI k), .int (iI what)]) (n := 3) (Nat.le_of_ble_eq_true rfl)
  rw [lg_entry_eq]
  generalize (lg_sl ([.ref (K 0), .int (iI k), .int (iI what)]) ++ List.replicate (3 - (lg_sl ([.ref (K 0), .int (iI k), .int (iI what)])).length) Slot.unset).toArray = ls at hl ⊢
  have hl : lv_has ls 3 [(0, .ref (K 0)), (1, .int (iI k)), (2, .int (iI what))] := hl
  subst eF
  have hn5 := hF.n
  have hrm := hF.rm
  refine lv_aload_n hx hb dX4_rope_0 rfl (lv_at hl 0 rfl) ?_
  refine lv_iload_n hx hb dX4_rope_1 rfl (lv_at hl 1 rfl) ?_
  refine cqI (va_runV (As := [.int (iI k)]) (rest := []) ⟨hx, hb, hml, hown, hts⟩ (mX4_isRope Z K T (T 1) rfl hF k (by omega)) (cwV 1 hts (lw_V q1209 q1211 qs58 q83 q1212) rfl rfl rfl (by decide +kernel) ⟨Nat.le_of_ble_eq_true rfl, Nat.le_of_ble_eq_true rfl⟩) (pvR hB (OBJ.recv Z hB hW.obj (q := (RX4, TX4, 29)) rfl) hW) rfl rfl hl.1 rfl (lv_room (Nat.le_of_ble_eq_true rfl)) dX4_rope_2 ⟨Nat.zero_le _, Nat.zero_le _⟩) ?_
  refine bb_if_eq (P := okR (T 1) k) (tgt := 36) hx hb dX4_rope_5 (by decide) (fun c_1 => ?_) (fun c_1 => ?_)
  · -- 5 -> 36
    refine ii_const hx hb dX4_rope_36 ?_
    have he9 : (-1) = (ropeS (T 1) k what) := by unfold ropeS; (repeat' split) <;> first | rfl | omega
    exact W.iret hx hb hr (fun t ht hW9 => ⟨_, rfl, congrArg iI he9, ht⟩) (fun q hq => by cases hq) dX4_rope_37
  · -- 5 -> 8
    refine lv_iload_n hx hb dX4_rope_8 rfl (lv_at hl 2 rfl) ?_
    refine ii_i2l hx hb (by omega) dX4_rope_9 ?_
    refine ii_lconst (z := 0) hx hb dX4_rope_10 rfl ?_
    refine ii_ldc2 (z := 2) hx hb hts hown q1213 dX4_rope_11 (by decide) ?_
    refine cqI (va_runS (As := [.long (lI what), .long (lI 0), .long (lI 2)]) (rest := []) ⟨hx, hb, hml, hown, hts⟩ (mX4_in Z what (by omega) 0 (by omega) 2 (by omega)) (va_cwS 3 hts (lw_S q1072 q1073 q83 q1074) rfl rfl rfl (by decide +kernel) ⟨Nat.le_of_ble_eq_true rfl, Nat.le_of_ble_eq_true rfl⟩) (psR hB trivial) rfl rfl hl.1 rfl (lv_room (Nat.le_of_ble_eq_true rfl)) dX4_rope_14 ⟨Nat.zero_le _, Nat.zero_le _⟩) ?_
    refine bb_if_eq (P := 0 ≤ what ∧ what ≤ 2) (tgt := 36) hx hb dX4_rope_17 (by decide) (fun c_2 => ?_) (fun c_2 => ?_)
    · -- 17 -> 36
      refine ii_const hx hb dX4_rope_36 ?_
      have he9 : (-1) = (ropeS (T 1) k what) := by unfold ropeS; (repeat' split) <;> first | rfl | omega
      exact W.iret hx hb hr (fun t ht hW9 => ⟨_, rfl, congrArg iI he9, ht⟩) (fun q hq => by cases hq) dX4_rope_37
    · -- 17 -> 20
      refine lv_aload_n hx hb dX4_rope_20 rfl (lv_at hl 0 rfl) ?_
      refine r_get (ci := 4) (k := 0) (v := .ref (K 1)) (C := RX4) (T := TX4) (N := 29) Z hB hx hb hts hown rfl in_X4 hW.obj (by decide) q978 rfl dX4_rope_21 ?_
      refine ii_bipush hx hb dX4_rope_24 (by decide) ?_
      refine ii_const hx hb dX4_rope_26 ?_
      refine lv_iload_n hx hb dX4_rope_27 rfl (lv_at hl 1 rfl) ?_
      refine ii_mul hx hb dX4_rope_28 ?_
      refine ii_add hx hb dX4_rope_29 ?_
      refine lv_iload_n hx hb dX4_rope_30 rfl (lv_at hl 2 rfl) ?_
      refine ii_add hx hb dX4_rope_31 ?_
      refine r_iald (k := ((35 + (3 * k.toNat)) + what.toNat)) (f := (stF T)) Z hB hx hb hW.st (by omega) (by omega) (by omega) dX4_rope_32 ?_
      rw [show stF T ((35 + (3 * k.toNat)) + what.toNat) = (T 1) ((35 + (3 * k.toNat)) + what.toNat) from stF_lo _ (by omega)]
      refine lv_goto (tgt := 37) hx hb dX4_rope_33 (by decide) ?_
      have he9 : ((T 1) ((35 + (3 * k.toNat)) + what.toNat)) = (ropeS (T 1) k what) := by unfold ropeS; (repeat' split) <;> first | rfl | omega
      exact W.iret hx hb hr (fun t ht hW9 => ⟨_, rfl, congrArg iI he9, ht⟩) (fun q hq => by cases hq) dX4_rope_37

set_option maxHeartbeats 1000000 in
set_option maxRecDepth 100000 in
theorem mX4_sulk {l : Launch} {G : GG} {s0 : State} {b0 : Nat} (Z : ZZ l G s0 b0) (K : Nat → Nat) (hI : Own s0 K 12) (T : Sta) (F : Nat → Int) (eF : T 1 = F) (hF : WF F) (i : Int) (hi : inR i) (j : Int) (hj : inR j) (v : Int) (hv : inR v) (sz : Nat) : Met l yX4_sulk (ws_ yX4_sulk cX4_sulk 4 (some .int)) ({ frames := 3, cells := 0, slots := 0, locals := 68 } : Room) (pcM s0 sz (MW G K T) [.ref (K 0), .int (iI i), .int (iI j), .int (iI v)]) (mI (sulkA F i j v) (MW G K (up T 1 (sulkF F i j v))) (AA K 12 sz)) 0 0 (AA K 12 sz) := by
  refine Met.ofW (cc := cX4_sulk) (maxL := 4) (ret := (some .int)) (by decide) rfl ?_
  intro p e s m args below meth c s₁ B hml hv
  obtain ⟨rfl, hsz, hW, hB⟩ := hv
  subst hsz
  have hx := B.exec
  have hb := B.bytes
  have hr := B.returns
  have hts := atoms_spec (ws := (ws_ yX4_sulk cX4_sulk 4 (some .int))) B.pre
  have hts : ∀ w ∈ lw_all, w.before _ s = true := fun w h => hts w (List.mem_cons_of_mem _ h)
  have hown : s.vm.findClass RX4 = some m.cls := findClass_of_methodNamed B.named
  have hlocks := B.notSynchronized
  have hN := AA.old hI hB
  have hS : va_S (AA K 12 s.heap.size) s.heap s.heap [] := va_S.rf
  have hl := lv_entry ([.ref (K 0), .int (iI i), .int (iI j), .int (iI v)]) (n := 4) (Nat.le_of_ble_eq_true rfl)
  rw [lg_entry_eq]
  generalize (lg_sl ([.ref (K 0), .int (iI i), .int (iI j), .int (iI v)]) ++ List.replicate (4 - (lg_sl ([.ref (K 0), .int (iI i), .int (iI j), .int (iI v)])).length) Slot.unset).toArray = ls at hl ⊢
  have hl : lv_has ls 4 [(0, .ref (K 0)), (1, .int (iI i)), (2, .int (iI j)), (3, .int (iI v))] := hl
  subst eF
  have hn5 := hF.n
  have hrm := hF.rm
  have hfe := hF.fe
  refine lv_aload_n hx hb dX4_sulk_0 rfl (lv_at hl 0 rfl) ?_
  refine lv_iload_n hx hb dX4_sulk_1 rfl (lv_at hl 1 rfl) ?_
  refine lv_iload_n hx hb dX4_sulk_2 rfl (lv_at hl 2 rfl) ?_
  refine cqI (va_runV (As := [.int (iI i), .int (iI j)]) (rest := []) ⟨hx, hb, hml, hown, hts⟩ (mX4_areTwo Z K T (T 1) rfl hF i (by omega) j (by omega)) (cwV 2 hts (lw_V q1201 q1203 qs57 q83 q1204) rfl rfl rfl (by decide +kernel) ⟨Nat.le_of_ble_eq_true rfl, Nat.le_of_ble_eq_true rfl⟩) (pvR (BornH.S hB hN hS) (OBJ.recv Z hB hW.obj (q := (RX4, TX4, 29)) rfl) hW) rfl rfl hl.1 rfl (lv_room (Nat.le_of_ble_eq_true rfl)) dX4_sulk_3 ⟨Nat.zero_le _, Nat.zero_le _⟩) ?_
  refine bb_if_eq (P := ok2 (T 1) i j) (tgt := 37) hx hb dX4_sulk_6 (by decide) (fun c_1 => ?_) (fun c_1 => ?_)
  · -- 6 -> 37
    refine ii_const hx hb dX4_sulk_37 ?_
    have hpw9 : (MW G K (up T 1 (sulkF (T 1) i j v))) s.heap := (hW.eqS (show T = up T 1 (sulkF (T 1) i j v) by rw [show sulkF (T 1) i j v = T 1 by unfold sulkF; (repeat' split) <;> first | rfl | omega]; exact (up_id T 1).symm))
    have he9 : (-1) = (sulkA (T 1) i j v) := by unfold sulkA; (repeat' split) <;> first | rfl | omega
    exact W.iret hx hb hr (fun t ht hW9 => ⟨⟨_, (), rfl, congrArg iI he9, by show (MW G K (up T 1 (sulkF (T 1) i j v))) t.heap; rw [ht]; exact hpw9⟩, hS.F ht⟩) hS.2.2 dX4_sulk_38
  · -- 6 -> 9
    refine lv_iload_n hx hb dX4_sulk_9 rfl (lv_at hl 3 rfl) ?_
    refine ii_i2l hx hb (by omega) dX4_sulk_10 ?_
    refine ii_lconst (z := 0) hx hb dX4_sulk_11 rfl ?_
    refine ii_ldc2 (z := 3) hx hb hts hown q1222 dX4_sulk_12 (by decide) ?_
    refine cqI (va_runS (As := [.long (lI v), .long (lI 0), .long (lI 3)]) (rest := []) ⟨hx, hb, hml, hown, hts⟩ (mX4_in Z v (by omega) 0 (by omega) 3 (by omega)) (va_cwS 3 hts (lw_S q1072 q1073 q83 q1074) rfl rfl rfl (by decide +kernel) ⟨Nat.le_of_ble_eq_true rfl, Nat.le_of_ble_eq_true rfl⟩) (psR (BornH.S hB hN hS) trivial) rfl rfl hl.1 rfl (lv_room (Nat.le_of_ble_eq_true rfl)) dX4_sulk_15 ⟨Nat.zero_le _, Nat.zero_le _⟩) ?_
    refine bb_if_eq (P := 0 ≤ v ∧ v ≤ 3) (tgt := 37) hx hb dX4_sulk_18 (by decide) (fun c_2 => ?_) (fun c_2 => ?_)
    · -- 18 -> 37
      refine ii_const hx hb dX4_sulk_37 ?_
      have hpw9 : (MW G K (up T 1 (sulkF (T 1) i j v))) s.heap := (hW.eqS (show T = up T 1 (sulkF (T 1) i j v) by rw [show sulkF (T 1) i j v = T 1 by unfold sulkF; (repeat' split) <;> first | rfl | omega]; exact (up_id T 1).symm))
      have he9 : (-1) = (sulkA (T 1) i j v) := by unfold sulkA; (repeat' split) <;> first | rfl | omega
      exact W.iret hx hb hr (fun t ht hW9 => ⟨⟨_, (), rfl, congrArg iI he9, by show (MW G K (up T 1 (sulkF (T 1) i j v))) t.heap; rw [ht]; exact hpw9⟩, hS.F ht⟩) hS.2.2 dX4_sulk_38
    · -- 18 -> 21
      refine lv_aload_n hx hb dX4_sulk_21 rfl (lv_at hl 0 rfl) ?_
      refine ii_bipush hx hb dX4_sulk_22 (by decide) ?_
      refine ii_const hx hb dX4_sulk_24 ?_
      refine lv_iload_n hx hb dX4_sulk_25 rfl (lv_at hl 1 rfl) ?_
      refine ii_mul hx hb dX4_sulk_26 ?_
      refine ii_add hx hb dX4_sulk_27 ?_
      refine lv_iload_n hx hb dX4_sulk_28 rfl (lv_at hl 2 rfl) ?_
      refine ii_add hx hb dX4_sulk_29 ?_
      refine lv_iload_n hx hb dX4_sulk_30 rfl (lv_at hl 3 rfl) ?_
      refine cmI (va_runV (As := [.int (iI ((10 + (5 * i)) + j)), .int (iI v)]) (rest := []) ⟨hx, hb, hml, hown, hts⟩ (mX4_becomes Z K hI T (T 1) rfl (10 + 5 * i.toNat + j.toNat) ((10 + (5 * i)) + j) (by omega) (by omega) v s.heap.size) (cwV 2 hts (lw_V q1231 q1233 qs60 q83 q1234) rfl rfl rfl (by decide +kernel) ⟨Nat.le_of_ble_eq_true rfl, Nat.le_of_ble_eq_true rfl⟩) (pvM (BornH.S hB hN hS) (OBJ.recv Z hB hW.obj (q := (RX4, TX4, 29)) rfl) hW) rfl rfl hl.1 rfl (lv_room (Nat.le_of_ble_eq_true rfl)) dX4_sulk_31 ⟨Nat.zero_le _, Nat.zero_le _⟩) hS (AA.le hS.1) (fun H1 locs hW1 hz1 hk1 hS => ?_)
      have hW := hW1
      clear hW1 hk1 hz1
      generalize H1 = H at hW hS ⊢
      refine lv_goto (tgt := 38) hx hb dX4_sulk_34 (by decide) ?_
      have hpw9 : (MW G K (up T 1 (sulkF (T 1) i j v))) H := (hW.eqS (congrArg (up T 1) (show (up (T 1) (10 + 5 * i.toNat + j.toNat) v) = sulkF (T 1) i j v by unfold sulkF; (repeat' split) <;> first | rfl | omega)))
      have he9 : ((T 1) (10 + 5 * i.toNat + j.toNat)) = (sulkA (T 1) i j v) := by unfold sulkA; (repeat' split) <;> first | rfl | omega
      exact W.iret hx hb hr (fun t ht hW9 => ⟨⟨_, (), rfl, congrArg iI he9, by show (MW G K (up T 1 (sulkF (T 1) i j v))) t.heap; rw [ht]; exact hpw9⟩, hS.F ht⟩) hS.2.2 dX4_sulk_38

set_option maxHeartbeats 1000000 in
set_option maxRecDepth 100000 in
theorem mX4_haul {l : Launch} {G : GG} {s0 : State} {b0 : Nat} (Z : ZZ l G s0 b0) (K : Nat → Nat) (hI : Own s0 K 12) (T : Sta) (F : Nat → Int) (eF : T 1 = F) (hF : WF F) (k : Int) (hk : inR k) (v : Int) (hv : inR v) (sz : Nat) : Met l yX4_haul (ws_ yX4_haul cX4_haul 3 (some .int)) ({ frames := 2, cells := 0, slots := 0, locals := 46 } : Room) (pcM s0 sz (MW G K T) [.ref (K 0), .int (iI k), .int (iI v)]) (mI (haulA F k v) (MW G K (up T 1 (haulF F k v))) (AA K 12 sz)) 0 0 (AA K 12 sz) := by
  refine Met.ofW (cc := cX4_haul) (maxL := 3) (ret := (some .int)) (by decide) rfl ?_
  intro p e s m args below meth c s₁ B hml hv
  obtain ⟨rfl, hsz, hW, hB⟩ := hv
  subst hsz
  have hx := B.exec
  have hb := B.bytes
  have hr := B.returns
  have hts := atoms_spec (ws := (ws_ yX4_haul cX4_haul 3 (some .int))) B.pre
  have hts : ∀ w ∈ lw_all, w.before _ s = true := fun w h => hts w (List.mem_cons_of_mem _ h)
  have hown : s.vm.findClass RX4 = some m.cls := findClass_of_methodNamed B.named
  have hlocks := B.notSynchronized
  have hN := AA.old hI hB
  have hS : va_S (AA K 12 s.heap.size) s.heap s.heap [] := va_S.rf
  have hl := lv_entry ([.ref (K 0), .int (iI k), .int (iI v)]) (n := 3) (Nat.le_of_ble_eq_true rfl)
  rw [lg_entry_eq]
  generalize (lg_sl ([.ref (K 0), .int (iI k), .int (iI v)]) ++ List.replicate (3 - (lg_sl ([.ref (K 0), .int (iI k), .int (iI v)])).length) Slot.unset).toArray = ls at hl ⊢
  have hl : lv_has ls 3 [(0, .ref (K 0)), (1, .int (iI k)), (2, .int (iI v))] := hl
  subst eF
  have hn5 := hF.n
  have hrm := hF.rm
  have hfe := hF.fe
  refine lv_aload_n hx hb dX4_haul_0 rfl (lv_at hl 0 rfl) ?_
  refine lv_iload_n hx hb dX4_haul_1 rfl (lv_at hl 1 rfl) ?_
  refine cqI (va_runV (As := [.int (iI k)]) (rest := []) ⟨hx, hb, hml, hown, hts⟩ (mX4_isRope Z K T (T 1) rfl hF k (by omega)) (cwV 1 hts (lw_V q1209 q1211 qs58 q83 q1212) rfl rfl rfl (by decide +kernel) ⟨Nat.le_of_ble_eq_true rfl, Nat.le_of_ble_eq_true rfl⟩) (pvR (BornH.S hB hN hS) (OBJ.recv Z hB hW.obj (q := (RX4, TX4, 29)) rfl) hW) rfl rfl hl.1 rfl (lv_room (Nat.le_of_ble_eq_true rfl)) dX4_haul_2 ⟨Nat.zero_le _, Nat.zero_le _⟩) ?_
  refine bb_if_eq (P := okR (T 1) k) (tgt := 36) hx hb dX4_haul_5 (by decide) (fun c_1 => ?_) (fun c_1 => ?_)
  · -- 5 -> 36
    refine ii_const hx hb dX4_haul_36 ?_
    have hpw9 : (MW G K (up T 1 (haulF (T 1) k v))) s.heap := (hW.eqS (show T = up T 1 (haulF (T 1) k v) by rw [show haulF (T 1) k v = T 1 by unfold haulF; (repeat' split) <;> first | rfl | omega]; exact (up_id T 1).symm))
    have he9 : (-1) = (haulA (T 1) k v) := by unfold haulA; (repeat' split) <;> first | rfl | omega
    exact W.iret hx hb hr (fun t ht hW9 => ⟨⟨_, (), rfl, congrArg iI he9, by show (MW G K (up T 1 (haulF (T 1) k v))) t.heap; rw [ht]; exact hpw9⟩, hS.F ht⟩) hS.2.2 dX4_haul_37
  · -- 5 -> 8
    refine lv_iload_n hx hb dX4_haul_8 rfl (lv_at hl 2 rfl) ?_
    refine ii_i2l hx hb (by omega) dX4_haul_9 ?_
    refine ii_lconst (z := 1) hx hb dX4_haul_10 rfl ?_
    refine ii_ldc2 (z := 30) hx hb hts hown q1243 dX4_haul_11 (by decide) ?_
    refine cqI (va_runS (As := [.long (lI v), .long (lI 1), .long (lI 30)]) (rest := []) ⟨hx, hb, hml, hown, hts⟩ (mX4_in Z v (by omega) 1 (by omega) 30 (by omega)) (va_cwS 3 hts (lw_S q1072 q1073 q83 q1074) rfl rfl rfl (by decide +kernel) ⟨Nat.le_of_ble_eq_true rfl, Nat.le_of_ble_eq_true rfl⟩) (psR (BornH.S hB hN hS) trivial) rfl rfl hl.1 rfl (lv_room (Nat.le_of_ble_eq_true rfl)) dX4_haul_14 ⟨Nat.zero_le _, Nat.zero_le _⟩) ?_
    refine bb_if_eq (P := 1 ≤ v ∧ v ≤ 30) (tgt := 36) hx hb dX4_haul_17 (by decide) (fun c_2 => ?_) (fun c_2 => ?_)
    · -- 17 -> 36
      refine ii_const hx hb dX4_haul_36 ?_
      have hpw9 : (MW G K (up T 1 (haulF (T 1) k v))) s.heap := (hW.eqS (show T = up T 1 (haulF (T 1) k v) by rw [show haulF (T 1) k v = T 1 by unfold haulF; (repeat' split) <;> first | rfl | omega]; exact (up_id T 1).symm))
      have he9 : (-1) = (haulA (T 1) k v) := by unfold haulA; (repeat' split) <;> first | rfl | omega
      exact W.iret hx hb hr (fun t ht hW9 => ⟨⟨_, (), rfl, congrArg iI he9, by show (MW G K (up T 1 (haulF (T 1) k v))) t.heap; rw [ht]; exact hpw9⟩, hS.F ht⟩) hS.2.2 dX4_haul_37
    · -- 17 -> 20
      refine lv_aload_n hx hb dX4_haul_20 rfl (lv_at hl 0 rfl) ?_
      refine ii_bipush hx hb dX4_haul_21 (by decide) ?_
      refine ii_const hx hb dX4_haul_23 ?_
      refine lv_iload_n hx hb dX4_haul_24 rfl (lv_at hl 1 rfl) ?_
      refine ii_mul hx hb dX4_haul_25 ?_
      refine ii_add hx hb dX4_haul_26 ?_
      refine ii_const hx hb dX4_haul_27 ?_
      refine ii_add hx hb dX4_haul_28 ?_
      refine lv_iload_n hx hb dX4_haul_29 rfl (lv_at hl 2 rfl) ?_
      refine cmI (va_runV (As := [.int (iI ((35 + (3 * k)) + 2)), .int (iI v)]) (rest := []) ⟨hx, hb, hml, hown, hts⟩ (mX4_becomes Z K hI T (T 1) rfl (35 + 3 * k.toNat + 2) ((35 + (3 * k)) + 2) (by omega) (by omega) v s.heap.size) (cwV 2 hts (lw_V q1231 q1233 qs60 q83 q1234) rfl rfl rfl (by decide +kernel) ⟨Nat.le_of_ble_eq_true rfl, Nat.le_of_ble_eq_true rfl⟩) (pvM (BornH.S hB hN hS) (OBJ.recv Z hB hW.obj (q := (RX4, TX4, 29)) rfl) hW) rfl rfl hl.1 rfl (lv_room (Nat.le_of_ble_eq_true rfl)) dX4_haul_30 ⟨Nat.zero_le _, Nat.zero_le _⟩) hS (AA.le hS.1) (fun H1 locs hW1 hz1 hk1 hS => ?_)
      have hW := hW1
      clear hW1 hk1 hz1
      generalize H1 = H at hW hS ⊢
      refine lv_goto (tgt := 37) hx hb dX4_haul_33 (by decide) ?_
      have hpw9 : (MW G K (up T 1 (haulF (T 1) k v))) H := (hW.eqS (congrArg (up T 1) (show (up (T 1) (35 + 3 * k.toNat + 2) v) = haulF (T 1) k v by unfold haulF; (repeat' split) <;> first | rfl | omega)))
      have he9 : ((T 1) (35 + 3 * k.toNat + 2)) = (haulA (T 1) k v) := by unfold haulA; (repeat' split) <;> first | rfl | omega
      exact W.iret hx hb hr (fun t ht hW9 => ⟨⟨_, (), rfl, congrArg iI he9, by show (MW G K (up T 1 (haulF (T 1) k v))) t.heap; rw [ht]; exact hpw9⟩, hS.F ht⟩) hS.2.2 dX4_haul_37

set_option maxHeartbeats 1000000 in
set_option maxRecDepth 100000 in
theorem mX4_loose {l : Launch} {G : GG} {s0 : State} {b0 : Nat} (Z : ZZ l G s0 b0) (K : Nat → Nat) (hI : Own s0 K 12) (T : Sta) (F : Nat → Int) (eF : T 1 = F) (hF : WF F) (n : Int) (hn : inR n) (sz : Nat) : Met l yX4_loose (ws_ yX4_loose cX4_loose 2 (some .int)) ({ frames := 1, cells := 0, slots := 0, locals := 25 } : Room) (pcM s0 sz (MW G K T) [.ref (K 0), .int (iI n)]) (mI (looseA F n) (MW G K (up T 1 (looseF F n))) (AA K 12 sz)) 0 0 (AA K 12 sz) := by
  refine Met.ofW (cc := cX4_loose) (maxL := 2) (ret := (some .int)) (by decide) rfl ?_
  intro p e s m args below meth c s₁ B hml hv
  obtain ⟨rfl, hsz, hW, hB⟩ := hv
  subst hsz
  have hx := B.exec
  have hb := B.bytes
  have hr := B.returns
  have hts := atoms_spec (ws := (ws_ yX4_loose cX4_loose 2 (some .int))) B.pre
  have hts : ∀ w ∈ lw_all, w.before _ s = true := fun w h => hts w (List.mem_cons_of_mem _ h)
  have hown : s.vm.findClass RX4 = some m.cls := findClass_of_methodNamed B.named
  have hlocks := B.notSynchronized
  have hN := AA.old hI hB
  have hS : va_S (AA K 12 s.heap.size) s.heap s.heap [] := va_S.rf
  have hl := lv_entry ([.ref (K 0), .int (iI n)]) (n := 2) (Nat.le_of_ble_eq_true rfl)
  rw [lg_entry_eq]
  generalize (lg_sl ([.ref (K 0), .int (iI n)]) ++ List.replicate (2 - (lg_sl ([.ref (K 0), .int (iI n)])).length) Slot.unset).toArray = ls at hl ⊢
  have hl : lv_has ls 2 [(0, .ref (K 0)), (1, .int (iI n))] := hl
  subst eF
  have hn5 := hF.n
  have hrm := hF.rm
  have hfe := hF.fe
  refine lv_iload_n hx hb dX4_loose_0 rfl (lv_at hl 1 rfl) ?_
  refine ii_i2l hx hb (by omega) dX4_loose_1 ?_
  refine ii_lconst (z := 0) hx hb dX4_loose_2 rfl ?_
  refine lv_aload_n hx hb dX4_loose_3 rfl (lv_at hl 0 rfl) ?_
  refine r_get (ci := 4) (k := 0) (v := .ref (K 1)) (C := RX4) (T := TX4) (N := 29) Z hB hx hb hts hown rfl in_X4 hW.obj (by decide) q978 rfl dX4_loose_4 ?_
  refine ii_bipush hx hb dX4_loose_7 (by decide) ?_
  have b_730 := hF.rm
  refine r_iald (k := 53) (f := (stF T)) Z hB hx hb hW.st (by omega) (by omega) (by omega) dX4_loose_9 ?_
  rw [show stF T 53 = (T 1) 53 from stF_lo _ (by omega)]
  refine ii_i2l hx hb (by omega) dX4_loose_10 ?_
  refine cqI (va_runS (As := [.long (lI n), .long (lI 0), .long (lI ((T 1) 53))]) (rest := []) ⟨hx, hb, hml, hown, hts⟩ (mX4_in Z n (by omega) 0 (by omega) ((T 1) 53) (by omega)) (va_cwS 3 hts (lw_S q1072 q1073 q83 q1074) rfl rfl rfl (by decide +kernel) ⟨Nat.le_of_ble_eq_true rfl, Nat.le_of_ble_eq_true rfl⟩) (psR (BornH.S hB hN hS) trivial) rfl rfl hl.1 rfl (lv_room (Nat.le_of_ble_eq_true rfl)) dX4_loose_11 ⟨Nat.zero_le _, Nat.zero_le _⟩) ?_
  refine bb_if_eq (P := 0 ≤ n ∧ n ≤ ((T 1) 53)) (tgt := 27) hx hb dX4_loose_14 (by decide) (fun c_1 => ?_) (fun c_1 => ?_)
  · -- 14 -> 27
    refine ii_const hx hb dX4_loose_27 ?_
    have hpw9 : (MW G K (up T 1 (looseF (T 1) n))) s.heap := (hW.eqS (show T = up T 1 (looseF (T 1) n) by rw [show looseF (T 1) n = T 1 by unfold looseF; (repeat' split) <;> first | rfl | omega]; exact (up_id T 1).symm))
    have he9 : (-1) = (looseA (T 1) n) := by unfold looseA; (repeat' split) <;> first | rfl | omega
    exact W.iret hx hb hr (fun t ht hW9 => ⟨⟨_, (), rfl, congrArg iI he9, by show (MW G K (up T 1 (looseF (T 1) n))) t.heap; rw [ht]; exact hpw9⟩, hS.F ht⟩) hS.2.2 dX4_loose_28
  · -- 14 -> 17
    refine lv_aload_n hx hb dX4_loose_17 rfl (lv_at hl 0 rfl) ?_
    refine ii_bipush hx hb dX4_loose_18 (by decide) ?_
    refine lv_iload_n hx hb dX4_loose_20 rfl (lv_at hl 1 rfl) ?_
    refine cmI (va_runV (As := [.int (iI 53), .int (iI n)]) (rest := []) ⟨hx, hb, hml, hown, hts⟩ (mX4_becomes Z K hI T (T 1) rfl 53 53 (by omega) (by omega) n s.heap.size) (cwV 2 hts (lw_V q1231 q1233 qs60 q83 q1234) rfl rfl rfl (by decide +kernel) ⟨Nat.le_of_ble_eq_true rfl, Nat.le_of_ble_eq_true rfl⟩) (pvM (BornH.S hB hN hS) (OBJ.recv Z hB hW.obj (q := (RX4, TX4, 29)) rfl) hW) rfl rfl hl.1 rfl (lv_room (Nat.le_of_ble_eq_true rfl)) dX4_loose_21 ⟨Nat.zero_le _, Nat.zero_le _⟩) hS (AA.le hS.1) (fun H1 locs hW1 hz1 hk1 hS => ?_)
    have hW := hW1
    clear hW1 hk1 hz1
    generalize H1 = H at hW hS ⊢
    refine lv_goto (tgt := 28) hx hb dX4_loose_24 (by decide) ?_
    have hpw9 : (MW G K (up T 1 (looseF (T 1) n))) H := (hW.eqS (congrArg (up T 1) (show (up (T 1) 53 n) = looseF (T 1) n by unfold looseF; (repeat' split) <;> first | rfl | omega)))
    have he9 : ((T 1) 53) = (looseA (T 1) n) := by unfold looseA; (repeat' split) <;> first | rfl | omega
    exact W.iret hx hb hr (fun t ht hW9 => ⟨⟨_, (), rfl, congrArg iI he9, by show (MW G K (up T 1 (looseF (T 1) n))) t.heap; rw [ht]; exact hpw9⟩, hS.F ht⟩) hS.2.2 dX4_loose_28

set_option maxHeartbeats 1000000 in
set_option maxRecDepth 100000 in
theorem mX4_feast {l : Launch} {G : GG} {s0 : State} {b0 : Nat} (Z : ZZ l G s0 b0) (K : Nat → Nat) (hI : Own s0 K 12) (T : Sta) (F : Nat → Int) (eF : T 1 = F) (hF : WF F) (v : Int) (hv : inR v) (sz : Nat) : Met l yX4_feast (ws_ yX4_feast cX4_feast 2 (some .int)) ({ frames := 1, cells := 0, slots := 0, locals := 25 } : Room) (pcM s0 sz (MW G K T) [.ref (K 0), .int (iI v)]) (mI (feastA F v) (MW G K (up T 1 (feastF F v))) (AA K 12 sz)) 0 0 (AA K 12 sz) := by
  refine Met.ofW (cc := cX4_feast) (maxL := 2) (ret := (some .int)) (by decide) rfl ?_
  intro p e s m args below meth c s₁ B hml hv
  obtain ⟨rfl, hsz, hW, hB⟩ := hv
  subst hsz
  have hx := B.exec
  have hb := B.bytes
  have hr := B.returns
  have hts := atoms_spec (ws := (ws_ yX4_feast cX4_feast 2 (some .int))) B.pre
  have hts : ∀ w ∈ lw_all, w.before _ s = true := fun w h => hts w (List.mem_cons_of_mem _ h)
  have hown : s.vm.findClass RX4 = some m.cls := findClass_of_methodNamed B.named
  have hlocks := B.notSynchronized
  have hN := AA.old hI hB
  have hS : va_S (AA K 12 s.heap.size) s.heap s.heap [] := va_S.rf
  have hl := lv_entry ([.ref (K 0), .int (iI v)]) (n := 2) (Nat.le_of_ble_eq_true rfl)
  rw [lg_entry_eq]
  generalize (lg_sl ([.ref (K 0), .int (iI v)]) ++ List.replicate (2 - (lg_sl ([.ref (K 0), .int (iI v)])).length) Slot.unset).toArray = ls at hl ⊢
  have hl : lv_has ls 2 [(0, .ref (K 0)), (1, .int (iI v))] := hl
  subst eF
  have hn5 := hF.n
  have hrm := hF.rm
  have hfe := hF.fe
  refine lv_iload_n hx hb dX4_feast_0 rfl (lv_at hl 1 rfl) ?_
  refine ii_i2l hx hb (by omega) dX4_feast_1 ?_
  refine ii_lconst (z := 0) hx hb dX4_feast_2 rfl ?_
  refine ii_ldc2 (z := 6) hx hb hts hown q1264 dX4_feast_3 (by decide) ?_
  refine cqI (va_runS (As := [.long (lI v), .long (lI 0), .long (lI 6)]) (rest := []) ⟨hx, hb, hml, hown, hts⟩ (mX4_in Z v (by omega) 0 (by omega) 6 (by omega)) (va_cwS 3 hts (lw_S q1072 q1073 q83 q1074) rfl rfl rfl (by decide +kernel) ⟨Nat.le_of_ble_eq_true rfl, Nat.le_of_ble_eq_true rfl⟩) (psR (BornH.S hB hN hS) trivial) rfl rfl hl.1 rfl (lv_room (Nat.le_of_ble_eq_true rfl)) dX4_feast_6 ⟨Nat.zero_le _, Nat.zero_le _⟩) ?_
  refine bb_if_eq (P := 0 ≤ v ∧ v ≤ 6) (tgt := 22) hx hb dX4_feast_9 (by decide) (fun c_1 => ?_) (fun c_1 => ?_)
  · -- 9 -> 22
    refine ii_const hx hb dX4_feast_22 ?_
    have hpw9 : (MW G K (up T 1 (feastF (T 1) v))) s.heap := (hW.eqS (show T = up T 1 (feastF (T 1) v) by rw [show feastF (T 1) v = T 1 by unfold feastF; (repeat' split) <;> first | rfl | omega]; exact (up_id T 1).symm))
    have he9 : (-1) = (feastA (T 1) v) := by unfold feastA; (repeat' split) <;> first | rfl | omega
    exact W.iret hx hb hr (fun t ht hW9 => ⟨⟨_, (), rfl, congrArg iI he9, by show (MW G K (up T 1 (feastF (T 1) v))) t.heap; rw [ht]; exact hpw9⟩, hS.F ht⟩) hS.2.2 dX4_feast_23
  · -- 9 -> 12
    refine lv_aload_n hx hb dX4_feast_12 rfl (lv_at hl 0 rfl) ?_
    refine ii_bipush hx hb dX4_feast_13 (by decide) ?_
    refine lv_iload_n hx hb dX4_feast_15 rfl (lv_at hl 1 rfl) ?_
    refine cmI (va_runV (As := [.int (iI 55), .int (iI v)]) (rest := []) ⟨hx, hb, hml, hown, hts⟩ (mX4_becomes Z K hI T (T 1) rfl 55 55 (by omega) (by omega) v s.heap.size) (cwV 2 hts (lw_V q1231 q1233 qs60 q83 q1234) rfl rfl rfl (by decide +kernel) ⟨Nat.le_of_ble_eq_true rfl, Nat.le_of_ble_eq_true rfl⟩) (pvM (BornH.S hB hN hS) (OBJ.recv Z hB hW.obj (q := (RX4, TX4, 29)) rfl) hW) rfl rfl hl.1 rfl (lv_room (Nat.le_of_ble_eq_true rfl)) dX4_feast_16 ⟨Nat.zero_le _, Nat.zero_le _⟩) hS (AA.le hS.1) (fun H1 locs hW1 hz1 hk1 hS => ?_)
    have hW := hW1
    clear hW1 hk1 hz1
    generalize H1 = H at hW hS ⊢
    refine lv_goto (tgt := 23) hx hb dX4_feast_19 (by decide) ?_
    have hpw9 : (MW G K (up T 1 (feastF (T 1) v))) H := (hW.eqS (congrArg (up T 1) (show (up (T 1) 55 v) = feastF (T 1) v by unfold feastF; (repeat' split) <;> first | rfl | omega)))
    have he9 : ((T 1) 55) = (feastA (T 1) v) := by unfold feastA; (repeat' split) <;> first | rfl | omega
    exact W.iret hx hb hr (fun t ht hW9 => ⟨⟨_, (), rfl, congrArg iI he9, by show (MW G K (up T 1 (feastF (T 1) v))) t.heap; rw [ht]; exact hpw9⟩, hS.F ht⟩) hS.2.2 dX4_feast_23
