/-! MODEL: what only reads (written by gen/mod.py) -/
set_option maxRecDepth 100000
set_option maxHeartbeats 1000000 in
set_option maxRecDepth 100000 in
theorem mX4_sizeOf {l : Launch} {G : GG} {s0 : State} {b0 : Nat} (Z : ZZ l G s0 b0) (v : Int) (hv : -2147483647 ≤ v ∧ v ≤ 2147483647) : Met l yX4_sizeOf (ws_ yX4_sizeOf cX4_sizeOf 1 (some .int)) ({ frames := 0, cells := 0, slots := 0, locals := 0 } : Room) (pcR s0 (fun _ => True) [.int (iI v)]) (qI (az v)) 0 0 (fun _ => False) := by
  refine Met.ofW (cc := cX4_sizeOf) (maxL := 1) (ret := (some .int)) (by decide) rfl ?_
  intro p e s m args below meth c s₁ B hml hv
  obtain ⟨rfl, hW, hB⟩ := hv
  have hx := B.exec
  have hb := B.bytes
  have hr := B.returns
  have hts := atoms_spec (ws := (ws_ yX4_sizeOf cX4_sizeOf 1 (some .int))) B.pre
  have hts : ∀ w ∈ lw_all, w.before _ s = true := fun w h => hts w (List.mem_cons_of_mem _ h)
  have hown : s.vm.findClass RX4 = some m.cls := findClass_of_methodNamed B.named
  have hlocks := B.notSynchronized
  have hl := lv_entry ([.int (iI v)]) (n := 1) (Nat.le_of_ble_eq_true rfl)
  rw [lg_entry_eq]
  generalize (lg_sl ([.int (iI v)]) ++ List.replicate (1 - (lg_sl ([.int (iI v)])).length) Slot.unset).toArray = ls at hl ⊢
  have hl : lv_has ls 1 [(0, .int (iI v))] := hl
  refine lv_iload_n hx hb dX4_sizeOf_0 rfl (lv_at hl 0 rfl) ?_
  refine ii_if_ge (tgt := 9) hx hb dX4_sizeOf_1 (by decide) (by omega) (fun c_1 => ?_) (fun c_1 => ?_)
  · -- 1 -> 9
    refine lv_iload_n hx hb dX4_sizeOf_9 rfl (lv_at hl 0 rfl) ?_
    have he9 : v = (az v) := by unfold az; (repeat' split) <;> omega
    exact W.iret hx hb hr (fun t ht hW9 => ⟨_, rfl, congrArg iI he9, ht⟩) (fun q hq => by cases hq) dX4_sizeOf_10
  · -- 1 -> 4
    refine lv_iload_n hx hb dX4_sizeOf_4 rfl (lv_at hl 0 rfl) ?_
    refine ii_neg hx hb dX4_sizeOf_5 ?_
    refine lv_goto (tgt := 10) hx hb dX4_sizeOf_6 (by decide) ?_
    have he9 : (-v) = (az v) := by unfold az; (repeat' split) <;> omega
    exact W.iret hx hb hr (fun t ht hW9 => ⟨_, rfl, congrArg iI he9, ht⟩) (fun q hq => by cases hq) dX4_sizeOf_10

set_option maxHeartbeats 1000000 in
set_option maxRecDepth 100000 in
theorem mX4_flag {l : Launch} {G : GG} {s0 : State} {b0 : Nat} (Z : ZZ l G s0 b0) (v : Int) (hv : v = 0 ∨ v = 1) : Met l yX4_flag (ws_ yX4_flag cX4_flag 1 (some .int)) ({ frames := 0, cells := 0, slots := 0, locals := 0 } : Room) (pcR s0 (fun _ => True) [.int (iI v)]) (qI v) 0 0 (fun _ => False) := by
  refine Met.ofW (cc := cX4_flag) (maxL := 1) (ret := (some .int)) (by decide) rfl ?_
  intro p e s m args below meth c s₁ B hml hv
  obtain ⟨rfl, hW, hB⟩ := hv
  have hx := B.exec
  have hb := B.bytes
  have hr := B.returns
  have hts := atoms_spec (ws := (ws_ yX4_flag cX4_flag 1 (some .int))) B.pre
  have hts : ∀ w ∈ lw_all, w.before _ s = true := fun w h => hts w (List.mem_cons_of_mem _ h)
  have hown : s.vm.findClass RX4 = some m.cls := findClass_of_methodNamed B.named
  have hlocks := B.notSynchronized
  have hl := lv_entry ([.int (iI v)]) (n := 1) (Nat.le_of_ble_eq_true rfl)
  rw [lg_entry_eq]
  generalize (lg_sl ([.int (iI v)]) ++ List.replicate (1 - (lg_sl ([.int (iI v)])).length) Slot.unset).toArray = ls at hl ⊢
  have hl : lv_has ls 1 [(0, .int (iI v))] := hl
  refine lv_iload_n hx hb dX4_flag_0 rfl (lv_at hl 0 rfl) ?_
  refine ii_if_eq (tgt := 8) hx hb dX4_flag_1 (by decide) (by omega) (fun c_1 => ?_) (fun c_1 => ?_)
  · -- 1 -> 8
    refine ii_const hx hb dX4_flag_8 ?_
    have he9 : 0 = v := by omega
    exact W.iret hx hb hr (fun t ht hW9 => ⟨_, rfl, congrArg iI he9, ht⟩) (fun q hq => by cases hq) dX4_flag_9
  · -- 1 -> 4
    refine ii_const hx hb dX4_flag_4 ?_
    refine lv_goto (tgt := 9) hx hb dX4_flag_5 (by decide) ?_
    have he9 : 1 = v := by omega
    exact W.iret hx hb hr (fun t ht hW9 => ⟨_, rfl, congrArg iI he9, ht⟩) (fun q hq => by cases hq) dX4_flag_9

set_option maxHeartbeats 1000000 in
set_option maxRecDepth 100000 in
theorem mX4_lesser {l : Launch} {G : GG} {s0 : State} {b0 : Nat} (Z : ZZ l G s0 b0) (a b : Int) (ha : inR a) (hb1 : inR b) : Met l yX4_lesser (ws_ yX4_lesser cX4_lesser 2 (some .int)) ({ frames := 0, cells := 0, slots := 0, locals := 0 } : Room) (pcR s0 (fun _ => True) [.int (iI a), .int (iI b)]) (qI (min a b)) 0 0 (fun _ => False) := by
  refine Met.ofW (cc := cX4_lesser) (maxL := 2) (ret := (some .int)) (by decide) rfl ?_
  intro p e s m args below meth c s₁ B hml hv
  obtain ⟨rfl, hW, hB⟩ := hv
  have hx := B.exec
  have hb := B.bytes
  have hr := B.returns
  have hts := atoms_spec (ws := (ws_ yX4_lesser cX4_lesser 2 (some .int))) B.pre
  have hts : ∀ w ∈ lw_all, w.before _ s = true := fun w h => hts w (List.mem_cons_of_mem _ h)
  have hown : s.vm.findClass RX4 = some m.cls := findClass_of_methodNamed B.named
  have hlocks := B.notSynchronized
  have hl := lv_entry ([.int (iI a), .int (iI b)]) (n := 2) (Nat.le_of_ble_eq_true rfl)
  rw [lg_entry_eq]
  generalize (lg_sl ([.int (iI a), .int (iI b)]) ++ List.replicate (2 - (lg_sl ([.int (iI a), .int (iI b)])).length) Slot.unset).toArray = ls at hl ⊢
  have hl : lv_has ls 2 [(0, .int (iI a)), (1, .int (iI b))] := hl
  refine lv_iload_n hx hb dX4_lesser_0 rfl (lv_at hl 0 rfl) ?_
  refine lv_iload_n hx hb dX4_lesser_1 rfl (lv_at hl 1 rfl) ?_
  refine ii_icmp_ge (tgt := 9) hx hb dX4_lesser_2 (by decide) (by omega) (by omega) (fun c_1 => ?_) (fun c_1 => ?_)
  · -- 2 -> 9
    refine lv_iload_n hx hb dX4_lesser_9 rfl (lv_at hl 1 rfl) ?_
    have he9 : b = (min a b) := by omega
    exact W.iret hx hb hr (fun t ht hW9 => ⟨_, rfl, congrArg iI he9, ht⟩) (fun q hq => by cases hq) dX4_lesser_10
  · -- 2 -> 5
    refine lv_iload_n hx hb dX4_lesser_5 rfl (lv_at hl 0 rfl) ?_
    refine lv_goto (tgt := 10) hx hb dX4_lesser_6 (by decide) ?_
    have he9 : a = (min a b) := by omega
    exact W.iret hx hb hr (fun t ht hW9 => ⟨_, rfl, congrArg iI he9, ht⟩) (fun q hq => by cases hq) dX4_lesser_10

set_option maxHeartbeats 1000000 in
set_option maxRecDepth 100000 in
theorem mX4_place {l : Launch} {G : GG} {s0 : State} {b0 : Nat} (Z : ZZ l G s0 b0) (K : Nat → Nat) (T : Sta) (F : Nat → Int) (eF : T 2 = F) (hF : WF F) (eN : T 1 76 = F 76) (i : Nat) (zi : Int) (hzi : zi = (i : Int)) (h5i : i < 5) : Met l yX4_place (ws_ yX4_place cX4_place 2 (some .int)) ({ frames := 0, cells := 0, slots := 0, locals := 0 } : Room) (pcR s0 (MW G K T) [.ref (K 0), .int (iI zi)]) (qI (F (2 * i + 1))) 0 0 (fun _ => False) := by
  refine Met.ofW (cc := cX4_place) (maxL := 2) (ret := (some .int)) (by decide) rfl ?_
  intro p e s m args below meth c s₁ B hml hv
  obtain ⟨rfl, hW, hB⟩ := hv
  have hx := B.exec
  have hb := B.bytes
  have hr := B.returns
  have hts := atoms_spec (ws := (ws_ yX4_place cX4_place 2 (some .int))) B.pre
  have hts : ∀ w ∈ lw_all, w.before _ s = true := fun w h => hts w (List.mem_cons_of_mem _ h)
  have hown : s.vm.findClass RX4 = some m.cls := findClass_of_methodNamed B.named
  have hlocks := B.notSynchronized
  have hl := lv_entry ([.ref (K 0), .int (iI zi)]) (n := 2) (Nat.le_of_ble_eq_true rfl)
  rw [lg_entry_eq]
  generalize (lg_sl ([.ref (K 0), .int (iI zi)]) ++ List.replicate (2 - (lg_sl ([.ref (K 0), .int (iI zi)])).length) Slot.unset).toArray = ls at hl ⊢
  have hl : lv_has ls 2 [(0, .ref (K 0)), (1, .int (iI zi))] := hl
  subst eF
  have hn5 := hF.n
  have hrm := hF.rm
  refine lv_aload_n hx hb dX4_place_0 rfl (lv_at hl 0 rfl) ?_
  refine r_get (ci := 4) (k := 1) (v := .ref (K 2)) (C := RX4) (T := TX4) (N := 29) Z hB hx hb hts hown rfl in_X4 hW.obj (by decide) q979 rfl dX4_place_1 ?_
  refine ii_const hx hb dX4_place_4 ?_
  refine lv_iload_n hx hb dX4_place_5 rfl (lv_at hl 1 rfl) ?_
  refine ii_mul hx hb dX4_place_6 ?_
  refine ii_const hx hb dX4_place_7 ?_
  refine ii_add hx hb dX4_place_8 ?_
  have b_673 := hF.pl i (by omega)
  refine r_iald (k := (2 * i + 1)) (f := (T 2)) Z hB hx hb hW.now (by omega) (by omega) (by omega) dX4_place_9 ?_
  have he9 : ((T 2) (2 * i + 1)) = ((T 2) (2 * i + 1)) := rfl
  exact W.iret hx hb hr (fun t ht hW9 => ⟨_, rfl, congrArg iI he9, ht⟩) (fun q hq => by cases hq) dX4_place_10

set_option maxHeartbeats 1000000 in
set_option maxRecDepth 100000 in
theorem mX4_apart {l : Launch} {G : GG} {s0 : State} {b0 : Nat} (Z : ZZ l G s0 b0) (K : Nat → Nat) (T : Sta) (F : Nat → Int) (eF : T 2 = F) (hF : WF F) (eN : T 1 76 = F 76) (i : Nat) (zi : Int) (hzi : zi = (i : Int)) (h5i : i < 5) (j : Nat) (zj : Int) (hzj : zj = (j : Int)) (h5j : j < 5) : Met l yX4_apart (ws_ yX4_apart cX4_apart 3 (some .int)) ({ frames := 1, cells := 0, slots := 0, locals := 21 } : Room) (pcR s0 (MW G K T) [.ref (K 0), .int (iI zi), .int (iI zj)]) (qI (apS F i j)) 0 0 (fun _ => False) := by
  refine Met.ofW (cc := cX4_apart) (maxL := 3) (ret := (some .int)) (by decide) rfl ?_
  intro p e s m args below meth c s₁ B hml hv
  obtain ⟨rfl, hW, hB⟩ := hv
  have hx := B.exec
  have hb := B.bytes
  have hr := B.returns
  have hts := atoms_spec (ws := (ws_ yX4_apart cX4_apart 3 (some .int))) B.pre
  have hts : ∀ w ∈ lw_all, w.before _ s = true := fun w h => hts w (List.mem_cons_of_mem _ h)
  have hown : s.vm.findClass RX4 = some m.cls := findClass_of_methodNamed B.named
  have hlocks := B.notSynchronized
  have hl := lv_entry ([.ref (K 0), .int (iI zi), .int (iI zj)]) (n := 3) (Nat.le_of_ble_eq_true rfl)
  rw [lg_entry_eq]
  generalize (lg_sl ([.ref (K 0), .int (iI zi), .int (iI zj)]) ++ List.replicate (3 - (lg_sl ([.ref (K 0), .int (iI zi), .int (iI zj)])).length) Slot.unset).toArray = ls at hl ⊢
  have hl : lv_has ls 3 [(0, .ref (K 0)), (1, .int (iI zi)), (2, .int (iI zj))] := hl
  subst eF
  have hn5 := hF.n
  have hrm := hF.rm
  refine lv_aload_n hx hb dX4_apart_0 rfl (lv_at hl 0 rfl) ?_
  refine lv_iload_n hx hb dX4_apart_1 rfl (lv_at hl 1 rfl) ?_
  have hn_1 : (T 1) 76 = (T 2) 76 := by first | rfl | omega
  refine cqI (va_runV (As := [.int (iI zi)]) (rest := []) ⟨hx, hb, hml, hown, hts⟩ (mX4_place Z K T (T 2) rfl hF hn_1 i zi (by omega) (by omega)) (cwV 1 hts (lw_V q1163 q1165 qs51 q83 q1166) rfl rfl rfl (by decide +kernel) ⟨Nat.le_of_ble_eq_true rfl, Nat.le_of_ble_eq_true rfl⟩) (pvR hB (OBJ.recv Z hB hW.obj (q := (RX4, TX4, 29)) rfl) hW) rfl rfl hl.1 rfl (lv_room (Nat.le_of_ble_eq_true rfl)) dX4_apart_2 ⟨Nat.zero_le _, Nat.zero_le _⟩) ?_
  have b_674 := hF.pl i (by omega)
  refine lv_aload_n hx hb dX4_apart_5 rfl (lv_at hl 0 rfl) ?_
  refine lv_iload_n hx hb dX4_apart_6 rfl (lv_at hl 2 rfl) ?_
  have hn_2 : (T 1) 76 = (T 2) 76 := by first | rfl | omega
  refine cqI (va_runV (As := [.int (iI zj)]) (rest := [.int (iI ((T 2) (2 * i + 1)))]) ⟨hx, hb, hml, hown, hts⟩ (mX4_place Z K T (T 2) rfl hF hn_2 j zj (by omega) (by omega)) (cwV 1 hts (lw_V q1163 q1165 qs51 q83 q1166) rfl rfl rfl (by decide +kernel) ⟨Nat.le_of_ble_eq_true rfl, Nat.le_of_ble_eq_true rfl⟩) (pvR hB (OBJ.recv Z hB hW.obj (q := (RX4, TX4, 29)) rfl) hW) rfl rfl hl.1 rfl (lv_room (Nat.le_of_ble_eq_true rfl)) dX4_apart_7 ⟨Nat.zero_le _, Nat.zero_le _⟩) ?_
  have b_675 := hF.pl j (by omega)
  refine ii_sub hx hb dX4_apart_10 ?_
  refine cqI (va_runS (As := [.int (iI (((T 2) (2 * i + 1)) - ((T 2) (2 * j + 1))))]) (rest := []) ⟨hx, hb, hml, hown, hts⟩ (mX4_sizeOf Z (((T 2) (2 * i + 1)) - ((T 2) (2 * j + 1))) (by omega)) (va_cwS 1 hts (lw_S q1167 q1168 q83 q1169) rfl rfl rfl (by decide +kernel) ⟨Nat.le_of_ble_eq_true rfl, Nat.le_of_ble_eq_true rfl⟩) (psR hB trivial) rfl rfl hl.1 rfl (lv_room (Nat.le_of_ble_eq_true rfl)) dX4_apart_11 ⟨Nat.zero_le _, Nat.zero_le _⟩) ?_
  have b_676 := az_in (((T 2) (2 * i + 1)) - ((T 2) (2 * j + 1)))
  have he9 : (az (((T 2) (2 * i + 1)) - ((T 2) (2 * j + 1)))) = (apS (T 2) i j) := rfl
  exact W.iret hx hb hr (fun t ht hW9 => ⟨_, rfl, congrArg iI he9, ht⟩) (fun q hq => by cases hq) dX4_apart_14

set_option maxHeartbeats 1000000 in
set_option maxRecDepth 100000 in
theorem mX4_spread {l : Launch} {G : GG} {s0 : State} {b0 : Nat} (Z : ZZ l G s0 b0) (K : Nat → Nat) (T : Sta) (F : Nat → Int) (eF : T 2 = F) (hF : WF F) (eN : T 1 76 = F 76) : Met l yX4_spread (ws_ yX4_spread cX4_spread 4 (some .int)) ({ frames := 2, cells := 0, slots := 0, locals := 43 } : Room) (pcR s0 (MW G K T) [.ref (K 0)]) (qI (spS F)) 0 0 (fun _ => False) := by
  refine Met.ofW (cc := cX4_spread) (maxL := 4) (ret := (some .int)) (by decide) rfl ?_
  intro p e s m args below meth c s₁ B hml hv
  obtain ⟨rfl, hW, hB⟩ := hv
  have hx := B.exec
  have hb := B.bytes
  have hr := B.returns
  have hts := atoms_spec (ws := (ws_ yX4_spread cX4_spread 4 (some .int))) B.pre
  have hts : ∀ w ∈ lw_all, w.before _ s = true := fun w h => hts w (List.mem_cons_of_mem _ h)
  have hown : s.vm.findClass RX4 = some m.cls := findClass_of_methodNamed B.named
  have hlocks := B.notSynchronized
  have hl := lv_entry ([.ref (K 0)]) (n := 4) (Nat.le_of_ble_eq_true rfl)
  rw [lg_entry_eq]
  generalize (lg_sl ([.ref (K 0)]) ++ List.replicate (4 - (lg_sl ([.ref (K 0)])).length) Slot.unset).toArray = ls at hl ⊢
  have hl : lv_has ls 4 [(0, .ref (K 0))] := hl
  subst eF
  have hn5 := hF.n
  have hrm := hF.rm
  refine ii_const hx hb dX4_spread_0 ?_
  refine lv_istore_n (lv' := [(1, .int (iI 0)), (0, .ref (K 0))]) hx hb dX4_spread_1 rfl hl (by decide) rfl (fun ls hl => ?_)
  refine ii_const hx hb dX4_spread_2 ?_
  refine lv_istore_n (lv' := [(2, .int (iI 0)), (1, .int (iI 0)), (0, .ref (K 0))]) hx hb dX4_spread_3 rfl hl (by decide) rfl (fun ls hl => ?_)
  have loop_4 : ∀ (fu : Nat) (i : Nat) (zi : Int), (zi = (i : Int)) → (i ≤ (T 2 76).toNat) → (6 - i) < fu → ∀ (ls : Array Slot), lv_has ls 4 [(2, .int (iI zi)), (1, .int (iI (msO (T 2) i))), (0, .ref (K 0))] → W p l e (headSpec (ws_ yX4_spread cX4_spread 4 (some .int)) ({ frames := 2, cells := 0, slots := 0, locals := 43 } : Room)).room s m ([.ref (K 0)] : List Value).toArray below meth c s.heap [] 0 0 (MQ below (qI (spS (T 2))) ([.ref (K 0)] : List Value).toArray s 0 0 (fun _ => False)) (F0 m 4 ls []) := by
    intro fu
    induction fu with
    | zero => intro i zi ezi hi hmu; exact absurd hmu (Nat.not_lt_zero _)
    | succ fu ih4 =>
      intro i zi ezi hi hmu ls hl
      have hms := msO_in hF i (by omega)
      refine lv_iload_n hx hb dX4_spread_4 rfl (lv_at hl 0 rfl) ?_
      refine lv_aload_n hx hb dX4_spread_5 rfl (lv_at hl 2 rfl) ?_
      refine r_get (ci := 4) (k := 3) (v := .int (iI ((T 1) 76))) (C := RX4) (T := TX4) (N := 29) Z hB hx hb hts hown rfl in_X4 hW.obj (by decide) q981 rfl dX4_spread_6 ?_
      refine ii_icmp_ge (tgt := 52) hx hb dX4_spread_9 (by decide) (by omega) (by omega) (fun c_1 => ?_) (fun c_1 => ?_)
      · -- 9 -> 52
        have ex_i : (T 2 76).toNat = i := by omega
        subst ex_i
        refine lv_iload_n hx hb dX4_spread_52 rfl (lv_at hl 1 rfl) ?_
        have he9 : (msO (T 2) (T 2 76).toNat) = (spS (T 2)) := by unfold spS; exact msO_eq hF _ (by omega)
        exact W.iret hx hb hr (fun t ht hW9 => ⟨_, rfl, congrArg iI he9, ht⟩) (fun q hq => by cases hq) dX4_spread_53
      · -- 9 -> 12
        refine ii_const hx hb dX4_spread_12 ?_
        refine lv_istore_n (lv' := [(3, .int (iI 0)), (2, .int (iI zi)), (1, .int (iI (msO (T 2) i))), (0, .ref (K 0))]) hx hb dX4_spread_13 rfl hl (by decide) rfl (fun ls hl => ?_)
        have loop_14 : ∀ (fu : Nat) (j : Nat) (zj : Int), (zj = (j : Int)) → (j ≤ i) → (6 - j) < fu → ∀ (ls : Array Slot), lv_has ls 4 [(3, .int (iI zj)), (2, .int (iI zi)), (1, .int (iI (msI (T 2) i (msO (T 2) i) j))), (0, .ref (K 0))] → W p l e (headSpec (ws_ yX4_spread cX4_spread 4 (some .int)) ({ frames := 2, cells := 0, slots := 0, locals := 43 } : Room)).room s m ([.ref (K 0)] : List Value).toArray below meth c s.heap [] 0 0 (MQ below (qI (spS (T 2))) ([.ref (K 0)] : List Value).toArray s 0 0 (fun _ => False)) (F0 m 14 ls []) := by
          intro fu
          induction fu with
          | zero => intro j zj ezj hj hmu; exact absurd hmu (Nat.not_lt_zero _)
          | succ fu ih14 =>
            intro j zj ezj hj hmu ls hl
            have hmi := msI_in hF (i := i) (by omega) hms j (by omega)
            refine lv_iload_n hx hb dX4_spread_14 rfl (lv_at hl 0 rfl) ?_
            refine lv_iload_n hx hb dX4_spread_15 rfl (lv_at hl 1 rfl) ?_
            refine ii_icmp_ge (tgt := 46) hx hb dX4_spread_16 (by decide) (by omega) (by omega) (fun c_2 => ?_) (fun c_2 => ?_)
            · -- 16 -> 46
              refine ii_iinc (k := 1) (lv' := [(2, .int (iI (zi + 1))), (3, .int (iI zj)), (1, .int (iI (msI (T 2) i (msO (T 2) i) j))), (0, .ref (K 0))]) hx hb dX4_spread_46 hl rfl (by decide) rfl (fun ls hl => ?_)
              refine lv_goto (tgt := 4) hx hb dX4_spread_49 (by decide) ?_
              have e_3 : (msO (T 2) (i + 1)) = (msI (T 2) i (msO (T 2) i) j) := by simp only [msO]; rw [show j = i by omega]
              exact ih4 (i + 1) (zi + 1) (by omega) (by omega) (by omega) ls (by rw [e_3]; exact lv_sub hl [0, 2, 3] rfl)
            · -- 16 -> 19
              refine lv_aload_n hx hb dX4_spread_19 rfl (lv_at hl 3 rfl) ?_
              refine lv_iload_n hx hb dX4_spread_20 rfl (lv_at hl 1 rfl) ?_
              refine lv_iload_n hx hb dX4_spread_21 rfl (lv_at hl 0 rfl) ?_
              have hn_4 : (T 1) 76 = (T 2) 76 := by first | rfl | omega
              refine cqI (va_runV (As := [.int (iI zi), .int (iI zj)]) (rest := []) ⟨hx, hb, hml, hown, hts⟩ (mX4_apart Z K T (T 2) rfl hF hn_4 i zi (by omega) (by omega) j zj (by omega) (by omega)) (cwV 2 hts (lw_V q1159 q1161 qs50 q83 q1162) rfl rfl rfl (by decide +kernel) ⟨Nat.le_of_ble_eq_true rfl, Nat.le_of_ble_eq_true rfl⟩) (pvR hB (OBJ.recv Z hB hW.obj (q := (RX4, TX4, 29)) rfl) hW) rfl rfl hl.1 rfl (lv_room (Nat.le_of_ble_eq_true rfl)) dX4_spread_22 ⟨Nat.zero_le _, Nat.zero_le _⟩) ?_
              have b_677 := apS_in hF i j (by omega) (by omega)
              refine lv_iload_n hx hb dX4_spread_25 rfl (lv_at hl 2 rfl) ?_
              refine ii_icmp_le (tgt := 38) hx hb dX4_spread_26 (by decide) (by omega) (by omega) (fun c_5 => ?_) (fun c_5 => ?_)
              · -- 26 -> 38
                refine lv_iload_n hx hb dX4_spread_38 rfl (lv_at hl 2 rfl) ?_
                refine lv_istore_n (lv' := [(1, .int (iI (msI (T 2) i (msO (T 2) i) j))), (3, .int (iI zj)), (2, .int (iI zi)), (0, .ref (K 0))]) hx hb dX4_spread_39 rfl hl (by decide) rfl (fun ls hl => ?_)
                refine ii_iinc (k := 1) (lv' := [(3, .int (iI (zj + 1))), (1, .int (iI (msI (T 2) i (msO (T 2) i) j))), (2, .int (iI zi)), (0, .ref (K 0))]) hx hb dX4_spread_40 hl rfl (by decide) rfl (fun ls hl => ?_)
                refine lv_goto (tgt := 14) hx hb dX4_spread_43 (by decide) ?_
                have e_6 : (msI (T 2) i (msO (T 2) i) (j + 1)) = (msI (T 2) i (msO (T 2) i) j) := by simp only [msI]; split <;> omega
                exact ih14 (j + 1) (zj + 1) (by omega) (by omega) (by omega) ls (by rw [e_6]; exact lv_sub hl [0, 2, 1, 3] rfl)
              · -- 26 -> 29
                refine lv_aload_n hx hb dX4_spread_29 rfl (lv_at hl 3 rfl) ?_
                refine lv_iload_n hx hb dX4_spread_30 rfl (lv_at hl 1 rfl) ?_
                refine lv_iload_n hx hb dX4_spread_31 rfl (lv_at hl 0 rfl) ?_
                have hn_7 : (T 1) 76 = (T 2) 76 := by first | rfl | omega
                refine cqI (va_runV (As := [.int (iI zi), .int (iI zj)]) (rest := []) ⟨hx, hb, hml, hown, hts⟩ (mX4_apart Z K T (T 2) rfl hF hn_7 i zi (by omega) (by omega) j zj (by omega) (by omega)) (cwV 2 hts (lw_V q1159 q1161 qs50 q83 q1162) rfl rfl rfl (by decide +kernel) ⟨Nat.le_of_ble_eq_true rfl, Nat.le_of_ble_eq_true rfl⟩) (pvR hB (OBJ.recv Z hB hW.obj (q := (RX4, TX4, 29)) rfl) hW) rfl rfl hl.1 rfl (lv_room (Nat.le_of_ble_eq_true rfl)) dX4_spread_32 ⟨Nat.zero_le _, Nat.zero_le _⟩) ?_
                have b_678 := apS_in hF i j (by omega) (by omega)
                refine lv_goto (tgt := 39) hx hb dX4_spread_35 (by decide) ?_
                refine lv_istore_n (lv' := [(1, .int (iI (apS (T 2) i j))), (3, .int (iI zj)), (2, .int (iI zi)), (0, .ref (K 0))]) hx hb dX4_spread_39 rfl hl (by decide) rfl (fun ls hl => ?_)
                refine ii_iinc (k := 1) (lv' := [(3, .int (iI (zj + 1))), (1, .int (iI (apS (T 2) i j))), (2, .int (iI zi)), (0, .ref (K 0))]) hx hb dX4_spread_40 hl rfl (by decide) rfl (fun ls hl => ?_)
                refine lv_goto (tgt := 14) hx hb dX4_spread_43 (by decide) ?_
                have e_8 : (msI (T 2) i (msO (T 2) i) (j + 1)) = (apS (T 2) i j) := by simp only [msI]; split <;> omega
                exact ih14 (j + 1) (zj + 1) (by omega) (by omega) (by omega) ls (by rw [e_8]; exact lv_sub hl [0, 2, 1, 3] rfl)
        have e_9 : (msI (T 2) i (msO (T 2) i) 0) = (msO (T 2) i) := rfl
        exact loop_14 _ 0 0 (by omega) (by omega) (Nat.lt_succ_self _) ls (by rw [e_9]; exact lv_sub hl [0, 1, 2, 3] rfl)
  have e_10 : (msO (T 2) 0) = 0 := rfl
  exact loop_4 _ 0 0 (by omega) (by omega) (Nat.lt_succ_self _) ls (by rw [e_10]; exact lv_sub hl [0, 1, 2] rfl)

set_option maxHeartbeats 1000000 in
set_option maxRecDepth 100000 in
theorem mX4_nearest {l : Launch} {G : GG} {s0 : State} {b0 : Nat} (Z : ZZ l G s0 b0) (K : Nat → Nat) (T : Sta) (F : Nat → Int) (eF : T 2 = F) (hF : WF F) (eN : T 1 76 = F 76) (i : Nat) (zi : Int) (hzi : zi = (i : Int)) (h5i : i < 5) : Met l yX4_nearest (ws_ yX4_nearest cX4_nearest 4 (some .int)) ({ frames := 2, cells := 0, slots := 0, locals := 43 } : Room) (pcR s0 (MW G K T) [.ref (K 0), .int (iI zi)]) (qI (nearS F i (F 76).toNat)) 0 0 (fun _ => False) := by
  refine Met.ofW (cc := cX4_nearest) (maxL := 4) (ret := (some .int)) (by decide) rfl ?_
  intro p e s m args below meth c s₁ B hml hv
  obtain ⟨rfl, hW, hB⟩ := hv
  have hx := B.exec
  have hb := B.bytes
  have hr := B.returns
  have hts := atoms_spec (ws := (ws_ yX4_nearest cX4_nearest 4 (some .int))) B.pre
  have hts : ∀ w ∈ lw_all, w.before _ s = true := fun w h => hts w (List.mem_cons_of_mem _ h)
  have hown : s.vm.findClass RX4 = some m.cls := findClass_of_methodNamed B.named
  have hlocks := B.notSynchronized
  have hl := lv_entry ([.ref (K 0), .int (iI zi)]) (n := 4) (Nat.le_of_ble_eq_true rfl)
  rw [lg_entry_eq]
  generalize (lg_sl ([.ref (K 0), .int (iI zi)]) ++ List.replicate (4 - (lg_sl ([.ref (K 0), .int (iI zi)])).length) Slot.unset).toArray = ls at hl ⊢
  have hl : lv_has ls 4 [(0, .ref (K 0)), (1, .int (iI zi))] := hl
  subst eF
  have hn5 := hF.n
  have hrm := hF.rm
  refine ii_bipush hx hb dX4_nearest_0 (by decide) ?_
  refine lv_istore_n (lv' := [(2, .int (iI (-4))), (0, .ref (K 0)), (1, .int (iI zi))]) hx hb dX4_nearest_2 rfl hl (by decide) rfl (fun ls hl => ?_)
  refine ii_const hx hb dX4_nearest_3 ?_
  refine lv_istore_n (lv' := [(3, .int (iI 0)), (2, .int (iI (-4))), (0, .ref (K 0)), (1, .int (iI zi))]) hx hb dX4_nearest_4 rfl hl (by decide) rfl (fun ls hl => ?_)
  have loop_5 : ∀ (fu : Nat) (j : Nat) (zj : Int), (zj = (j : Int)) → (j ≤ (T 2 76).toNat) → (6 - j) < fu → ∀ (ls : Array Slot), lv_has ls 4 [(3, .int (iI zj)), (2, .int (iI (nearS (T 2) i j))), (0, .ref (K 0)), (1, .int (iI zi))] → W p l e (headSpec (ws_ yX4_nearest cX4_nearest 4 (some .int)) ({ frames := 2, cells := 0, slots := 0, locals := 43 } : Room)).room s m ([.ref (K 0), .int (iI zi)] : List Value).toArray below meth c s.heap [] 0 0 (MQ below (qI (nearS (T 2) i ((T 2) 76).toNat)) ([.ref (K 0), .int (iI zi)] : List Value).toArray s 0 0 (fun _ => False)) (F0 m 5 ls []) := by
    intro fu
    induction fu with
    | zero => intro j zj ezj hj hmu; exact absurd hmu (Nat.not_lt_zero _)
    | succ fu ih5 =>
      intro j zj ezj hj hmu ls hl
      have hne := nearS_in (T 2) i j
      refine lv_iload_n hx hb dX4_nearest_5 rfl (lv_at hl 0 rfl) ?_
      refine lv_aload_n hx hb dX4_nearest_6 rfl (lv_at hl 2 rfl) ?_
      refine r_get (ci := 4) (k := 3) (v := .int (iI ((T 1) 76))) (C := RX4) (T := TX4) (N := 29) Z hB hx hb hts hown rfl in_X4 hW.obj (by decide) q981 rfl dX4_nearest_7 ?_
      refine ii_icmp_ge (tgt := 51) hx hb dX4_nearest_10 (by decide) (by omega) (by omega) (fun c_1 => ?_) (fun c_1 => ?_)
      · -- 10 -> 51
        have ex_j : (T 2 76).toNat = j := by omega
        subst ex_j
        refine lv_iload_n hx hb dX4_nearest_51 rfl (lv_at hl 1 rfl) ?_
        have he9 : (nearS (T 2) i (T 2 76).toNat) = (nearS (T 2) i ((T 2) 76).toNat) := rfl
        exact W.iret hx hb hr (fun t ht hW9 => ⟨_, rfl, congrArg iI he9, ht⟩) (fun q hq => by cases hq) dX4_nearest_52
      · -- 10 -> 13
        refine lv_iload_n hx hb dX4_nearest_13 rfl (lv_at hl 0 rfl) ?_
        refine lv_iload_n hx hb dX4_nearest_14 rfl (lv_at hl 3 rfl) ?_
        refine ii_icmp_eq (tgt := 43) hx hb dX4_nearest_15 (by decide) (by omega) (by omega) (fun c_2 => ?_) (fun c_2 => ?_)
        · -- 15 -> 43
          refine lv_iload_n hx hb dX4_nearest_43 rfl (lv_at hl 1 rfl) ?_
          refine lv_istore_n (lv' := [(2, .int (iI (nearS (T 2) i j))), (3, .int (iI zj)), (0, .ref (K 0)), (1, .int (iI zi))]) hx hb dX4_nearest_44 rfl hl (by decide) rfl (fun ls hl => ?_)
          refine ii_iinc (k := 1) (lv' := [(3, .int (iI (zj + 1))), (2, .int (iI (nearS (T 2) i j))), (0, .ref (K 0)), (1, .int (iI zi))]) hx hb dX4_nearest_45 hl rfl (by decide) rfl (fun ls hl => ?_)
          refine lv_goto (tgt := 5) hx hb dX4_nearest_48 (by decide) ?_
          have e_3 : (nearS (T 2) i (j + 1)) = (nearS (T 2) i j) := by simp only [nearS]; split <;> omega
          exact ih5 (j + 1) (zj + 1) (by omega) (by omega) (by omega) ls (by rw [e_3]; exact lv_sub hl [0, 1, 2, 3] rfl)
        · -- 15 -> 18
          refine lv_iload_n hx hb dX4_nearest_18 rfl (lv_at hl 1 rfl) ?_
          refine ii_bipush hx hb dX4_nearest_19 (by decide) ?_
          refine ii_icmp_eq (tgt := 39) hx hb dX4_nearest_21 (by decide) (by omega) (by omega) (fun c_4 => ?_) (fun c_4 => ?_)
          · -- 21 -> 39
            refine lv_iload_n hx hb dX4_nearest_39 rfl (lv_at hl 0 rfl) ?_
            refine lv_goto (tgt := 44) hx hb dX4_nearest_40 (by decide) ?_
            refine lv_istore_n (lv' := [(2, .int (iI zj)), (3, .int (iI zj)), (0, .ref (K 0)), (1, .int (iI zi))]) hx hb dX4_nearest_44 rfl hl (by decide) rfl (fun ls hl => ?_)
            refine ii_iinc (k := 1) (lv' := [(3, .int (iI (zj + 1))), (2, .int (iI zj)), (0, .ref (K 0)), (1, .int (iI zi))]) hx hb dX4_nearest_45 hl rfl (by decide) rfl (fun ls hl => ?_)
            refine lv_goto (tgt := 5) hx hb dX4_nearest_48 (by decide) ?_
            have e_5 : (nearS (T 2) i (j + 1)) = zj := by simp only [nearS]; split <;> omega
            exact ih5 (j + 1) (zj + 1) (by omega) (by omega) (by omega) ls (by rw [e_5]; exact lv_sub hl [0, 1, 2, 3] rfl)
          · -- 21 -> 24
            refine lv_aload_n hx hb dX4_nearest_24 rfl (lv_at hl 2 rfl) ?_
            refine lv_iload_n hx hb dX4_nearest_25 rfl (lv_at hl 3 rfl) ?_
            refine lv_iload_n hx hb dX4_nearest_26 rfl (lv_at hl 0 rfl) ?_
            have hn_6 : (T 1) 76 = (T 2) 76 := by first | rfl | omega
            refine cqI (va_runV (As := [.int (iI zi), .int (iI zj)]) (rest := []) ⟨hx, hb, hml, hown, hts⟩ (mX4_apart Z K T (T 2) rfl hF hn_6 i zi (by omega) (by omega) j zj (by omega) (by omega)) (cwV 2 hts (lw_V q1159 q1161 qs50 q83 q1162) rfl rfl rfl (by decide +kernel) ⟨Nat.le_of_ble_eq_true rfl, Nat.le_of_ble_eq_true rfl⟩) (pvR hB (OBJ.recv Z hB hW.obj (q := (RX4, TX4, 29)) rfl) hW) rfl rfl hl.1 rfl (lv_room (Nat.le_of_ble_eq_true rfl)) dX4_nearest_27 ⟨Nat.zero_le _, Nat.zero_le _⟩) ?_
            have b_679 := apS_in hF i j (by omega) (by omega)
            refine lv_aload_n hx hb dX4_nearest_30 rfl (lv_at hl 2 rfl) ?_
            refine lv_iload_n hx hb dX4_nearest_31 rfl (lv_at hl 3 rfl) ?_
            refine lv_iload_n hx hb dX4_nearest_32 rfl (lv_at hl 1 rfl) ?_
            have hn_7 : (T 1) 76 = (T 2) 76 := by first | rfl | omega
            refine cqI (va_runV (As := [.int (iI zi), .int (iI (nearS (T 2) i j))]) (rest := [.int (iI (apS (T 2) i j))]) ⟨hx, hb, hml, hown, hts⟩ (mX4_apart Z K T (T 2) rfl hF hn_7 i zi (by omega) (by omega) (nearS (T 2) i j).toNat (nearS (T 2) i j) (by omega) (by omega)) (cwV 2 hts (lw_V q1159 q1161 qs50 q83 q1162) rfl rfl rfl (by decide +kernel) ⟨Nat.le_of_ble_eq_true rfl, Nat.le_of_ble_eq_true rfl⟩) (pvR hB (OBJ.recv Z hB hW.obj (q := (RX4, TX4, 29)) rfl) hW) rfl rfl hl.1 rfl (lv_room (Nat.le_of_ble_eq_true rfl)) dX4_nearest_33 ⟨Nat.zero_le _, Nat.zero_le _⟩) ?_
            have b_680 := apS_in hF i (nearS (T 2) i j).toNat (by omega) (by omega)
            refine ii_icmp_ge (tgt := 43) hx hb dX4_nearest_36 (by decide) (by omega) (by omega) (fun c_8 => ?_) (fun c_8 => ?_)
            · -- 36 -> 43
              refine lv_iload_n hx hb dX4_nearest_43 rfl (lv_at hl 1 rfl) ?_
              refine lv_istore_n (lv' := [(2, .int (iI (nearS (T 2) i j))), (3, .int (iI zj)), (0, .ref (K 0)), (1, .int (iI zi))]) hx hb dX4_nearest_44 rfl hl (by decide) rfl (fun ls hl => ?_)
              refine ii_iinc (k := 1) (lv' := [(3, .int (iI (zj + 1))), (2, .int (iI (nearS (T 2) i j))), (0, .ref (K 0)), (1, .int (iI zi))]) hx hb dX4_nearest_45 hl rfl (by decide) rfl (fun ls hl => ?_)
              refine lv_goto (tgt := 5) hx hb dX4_nearest_48 (by decide) ?_
              have e_9 : (nearS (T 2) i (j + 1)) = (nearS (T 2) i j) := by simp only [nearS]; split <;> omega
              exact ih5 (j + 1) (zj + 1) (by omega) (by omega) (by omega) ls (by rw [e_9]; exact lv_sub hl [0, 1, 2, 3] rfl)
            · -- 36 -> 39
              refine lv_iload_n hx hb dX4_nearest_39 rfl (lv_at hl 0 rfl) ?_
              refine lv_goto (tgt := 44) hx hb dX4_nearest_40 (by decide) ?_
              refine lv_istore_n (lv' := [(2, .int (iI zj)), (3, .int (iI zj)), (0, .ref (K 0)), (1, .int (iI zi))]) hx hb dX4_nearest_44 rfl hl (by decide) rfl (fun ls hl => ?_)
              refine ii_iinc (k := 1) (lv' := [(3, .int (iI (zj + 1))), (2, .int (iI zj)), (0, .ref (K 0)), (1, .int (iI zi))]) hx hb dX4_nearest_45 hl rfl (by decide) rfl (fun ls hl => ?_)
              refine lv_goto (tgt := 5) hx hb dX4_nearest_48 (by decide) ?_
              have e_10 : (nearS (T 2) i (j + 1)) = zj := by simp only [nearS]; split <;> omega
              exact ih5 (j + 1) (zj + 1) (by omega) (by omega) (by omega) ls (by rw [e_10]; exact lv_sub hl [0, 1, 2, 3] rfl)
  have e_11 : (nearS (T 2) i 0) = (-4) := rfl
  exact loop_5 _ 0 0 (by omega) (by omega) (Nat.lt_succ_self _) ls (by rw [e_11]; exact lv_sub hl [0, 1, 2, 3] rfl)

set_option maxHeartbeats 1000000 in
set_option maxRecDepth 100000 in
theorem mX4_isTaken {l : Launch} {G : GG} {s0 : State} {b0 : Nat} (Z : ZZ l G s0 b0) (K : Nat → Nat) (T : Sta) (F : Nat → Int) (eF : T 2 = F) (hF : WF F) (eN : T 1 76 = F 76) (v : Int) (hv : inR v) : Met l yX4_isTaken (ws_ yX4_isTaken cX4_isTaken 4 (some .boolean)) ({ frames := 1, cells := 0, slots := 0, locals := 21 } : Room) (pcR s0 (MW G K T) [.ref (K 0), .int (iI v)]) (qI (b2 (tkB F v (F 76).toNat = true))) 0 0 (fun _ => False) := by
  refine Met.ofW (cc := cX4_isTaken) (maxL := 4) (ret := (some .boolean)) (by decide) rfl ?_
  intro p e s m args below meth c s₁ B hml hv
  obtain ⟨rfl, hW, hB⟩ := hv
  have hx := B.exec
  have hb := B.bytes
  have hr := B.returns
  have hts := atoms_spec (ws := (ws_ yX4_isTaken cX4_isTaken 4 (some .boolean))) B.pre
  have hts : ∀ w ∈ lw_all, w.before _ s = true := fun w h => hts w (List.mem_cons_of_mem _ h)
  have hown : s.vm.findClass RX4 = some m.cls := findClass_of_methodNamed B.named
  have hlocks := B.notSynchronized
  have hl := lv_entry ([.ref (K 0), .int (iI v)]) (n := 4) (Nat.le_of_ble_eq_true rfl)
  rw [lg_entry_eq]
  generalize (lg_sl ([.ref (K 0), .int (iI v)]) ++ List.replicate (4 - (lg_sl ([.ref (K 0), .int (iI v)])).length) Slot.unset).toArray = ls at hl ⊢
  have hl : lv_has ls 4 [(0, .ref (K 0)), (1, .int (iI v))] := hl
  subst eF
  have hn5 := hF.n
  have hrm := hF.rm
  refine ii_const hx hb dX4_isTaken_0 ?_
  refine lv_istore_n (lv' := [(2, .int (iI 0)), (0, .ref (K 0)), (1, .int (iI v))]) hx hb dX4_isTaken_1 rfl hl (by decide) rfl (fun ls hl => ?_)
  refine ii_const hx hb dX4_isTaken_2 ?_
  refine lv_istore_n (lv' := [(3, .int (iI 0)), (2, .int (iI 0)), (0, .ref (K 0)), (1, .int (iI v))]) hx hb dX4_isTaken_3 rfl hl (by decide) rfl (fun ls hl => ?_)
  have loop_4 : ∀ (fu : Nat) (i : Nat) (zi : Int), (zi = (i : Int)) → (i ≤ (T 2 76).toNat) → (6 - i) < fu → ∀ (ls : Array Slot), lv_has ls 4 [(3, .int (iI zi)), (2, .int (iI (b2 (tkB (T 2) v i = true)))), (0, .ref (K 0)), (1, .int (iI v))] → W p l e (headSpec (ws_ yX4_isTaken cX4_isTaken 4 (some .boolean)) ({ frames := 1, cells := 0, slots := 0, locals := 21 } : Room)).room s m ([.ref (K 0), .int (iI v)] : List Value).toArray below meth c s.heap [] 0 0 (MQ below (qI (b2 (tkB (T 2) v ((T 2) 76).toNat = true))) ([.ref (K 0), .int (iI v)] : List Value).toArray s 0 0 (fun _ => False)) (F0 m 4 ls []) := by
    intro fu
    induction fu with
    | zero => intro i zi ezi hi hmu; exact absurd hmu (Nat.not_lt_zero _)
    | succ fu ih4 =>
      intro i zi ezi hi hmu ls hl
      refine lv_iload_n hx hb dX4_isTaken_4 rfl (lv_at hl 0 rfl) ?_
      refine lv_aload_n hx hb dX4_isTaken_5 rfl (lv_at hl 2 rfl) ?_
      refine r_get (ci := 4) (k := 3) (v := .int (iI ((T 1) 76))) (C := RX4) (T := TX4) (N := 29) Z hB hx hb hts hown rfl in_X4 hW.obj (by decide) q981 rfl dX4_isTaken_6 ?_
      refine ii_icmp_ge (tgt := 37) hx hb dX4_isTaken_9 (by decide) (by omega) (by omega) (fun c_1 => ?_) (fun c_1 => ?_)
      · -- 9 -> 37
        have ex_i : (T 2 76).toNat = i := by omega
        subst ex_i
        refine lv_iload_n hx hb dX4_isTaken_37 rfl (lv_at hl 1 rfl) ?_
        have he9 : (b2 (tkB (T 2) v (T 2 76).toNat = true)) = (b2 (tkB (T 2) v ((T 2) 76).toNat = true)) := rfl
        exact W.zret (ty := .boolean) hx hb hr (b2_nar _) (fun t ht hW9 => ⟨_, rfl, congrArg iI he9, ht⟩) (fun q hq => by cases hq) dX4_isTaken_38
      · -- 9 -> 12
        refine lv_iload_n hx hb dX4_isTaken_12 rfl (lv_at hl 1 rfl) ?_
        refine bb_if_ne (P := tkB (T 2) v i = true) (tgt := 25) hx hb dX4_isTaken_13 (by decide) (fun c_2 => ?_) (fun c_2 => ?_)
        · -- 13 -> 25
          refine ii_const hx hb dX4_isTaken_25 ?_
          refine lv_goto (tgt := 30) hx hb dX4_isTaken_26 (by decide) ?_
          refine lv_istore_n (lv' := [(2, .int (iI 1)), (3, .int (iI zi)), (0, .ref (K 0)), (1, .int (iI v))]) hx hb dX4_isTaken_30 rfl hl (by decide) rfl (fun ls hl => ?_)
          refine ii_iinc (k := 1) (lv' := [(3, .int (iI (zi + 1))), (2, .int (iI 1)), (0, .ref (K 0)), (1, .int (iI v))]) hx hb dX4_isTaken_31 hl rfl (by decide) rfl (fun ls hl => ?_)
          refine lv_goto (tgt := 4) hx hb dX4_isTaken_34 (by decide) ?_
          have e_3 : (b2 (tkB (T 2) v (i + 1) = true)) = 1 := by simp only [tkB, Bool.or_eq_true, decide_eq_true_eq]; first | exact b2_t (Or.inl (by assumption)) | exact b2_t (Or.inr (by omega)) | exact b2_f (fun h => h.elim (by assumption) (fun h => by omega))
          exact ih4 (i + 1) (zi + 1) (by omega) (by omega) (by omega) ls (by rw [e_3]; exact lv_sub hl [0, 1, 2, 3] rfl)
        · -- 13 -> 16
          refine lv_aload_n hx hb dX4_isTaken_16 rfl (lv_at hl 2 rfl) ?_
          refine lv_iload_n hx hb dX4_isTaken_17 rfl (lv_at hl 0 rfl) ?_
          have hn_4 : (T 1) 76 = (T 2) 76 := by first | rfl | omega
          refine cqI (va_runV (As := [.int (iI zi)]) (rest := []) ⟨hx, hb, hml, hown, hts⟩ (mX4_place Z K T (T 2) rfl hF hn_4 i zi (by omega) (by omega)) (cwV 1 hts (lw_V q1163 q1165 qs51 q83 q1166) rfl rfl rfl (by decide +kernel) ⟨Nat.le_of_ble_eq_true rfl, Nat.le_of_ble_eq_true rfl⟩) (pvR hB (OBJ.recv Z hB hW.obj (q := (RX4, TX4, 29)) rfl) hW) rfl rfl hl.1 rfl (lv_room (Nat.le_of_ble_eq_true rfl)) dX4_isTaken_18 ⟨Nat.zero_le _, Nat.zero_le _⟩) ?_
          have b_681 := hF.pl i (by omega)
          refine lv_iload_n hx hb dX4_isTaken_21 rfl (lv_at hl 3 rfl) ?_
          refine ii_icmp_ne (tgt := 29) hx hb dX4_isTaken_22 (by decide) (by omega) (by omega) (fun c_5 => ?_) (fun c_5 => ?_)
          · -- 22 -> 29
            refine ii_const hx hb dX4_isTaken_29 ?_
            refine lv_istore_n (lv' := [(2, .int (iI 0)), (3, .int (iI zi)), (0, .ref (K 0)), (1, .int (iI v))]) hx hb dX4_isTaken_30 rfl hl (by decide) rfl (fun ls hl => ?_)
            refine ii_iinc (k := 1) (lv' := [(3, .int (iI (zi + 1))), (2, .int (iI 0)), (0, .ref (K 0)), (1, .int (iI v))]) hx hb dX4_isTaken_31 hl rfl (by decide) rfl (fun ls hl => ?_)
            refine lv_goto (tgt := 4) hx hb dX4_isTaken_34 (by decide) ?_
            have e_6 : (b2 (tkB (T 2) v (i + 1) = true)) = 0 := by simp only [tkB, Bool.or_eq_true, decide_eq_true_eq]; first | exact b2_t (Or.inl (by assumption)) | exact b2_t (Or.inr (by omega)) | exact b2_f (fun h => h.elim (by assumption) (fun h => by omega))
            exact ih4 (i + 1) (zi + 1) (by omega) (by omega) (by omega) ls (by rw [e_6]; exact lv_sub hl [0, 1, 2, 3] rfl)
          · -- 22 -> 25
            refine ii_const hx hb dX4_isTaken_25 ?_
            refine lv_goto (tgt := 30) hx hb dX4_isTaken_26 (by decide) ?_
            refine lv_istore_n (lv' := [(2, .int (iI 1)), (3, .int (iI zi)), (0, .ref (K 0)), (1, .int (iI v))]) hx hb dX4_isTaken_30 rfl hl (by decide) rfl (fun ls hl => ?_)
            refine ii_iinc (k := 1) (lv' := [(3, .int (iI (zi + 1))), (2, .int (iI 1)), (0, .ref (K 0)), (1, .int (iI v))]) hx hb dX4_isTaken_31 hl rfl (by decide) rfl (fun ls hl => ?_)
            refine lv_goto (tgt := 4) hx hb dX4_isTaken_34 (by decide) ?_
            have e_7 : (b2 (tkB (T 2) v (i + 1) = true)) = 1 := by simp only [tkB, Bool.or_eq_true, decide_eq_true_eq]; first | exact b2_t (Or.inl (by assumption)) | exact b2_t (Or.inr (by omega)) | exact b2_f (fun h => h.elim (by assumption) (fun h => by omega))
            exact ih4 (i + 1) (zi + 1) (by omega) (by omega) (by omega) ls (by rw [e_7]; exact lv_sub hl [0, 1, 2, 3] rfl)
  have e_8 : (b2 (tkB (T 2) v 0 = true)) = 0 := rfl
  exact loop_4 _ 0 0 (by omega) (by omega) (Nat.lt_succ_self _) ls (by rw [e_8]; exact lv_sub hl [0, 1, 2, 3] rfl)

set_option maxHeartbeats 1000000 in
set_option maxRecDepth 100000 in
theorem mX4_sulkOf {l : Launch} {G : GG} {s0 : State} {b0 : Nat} (Z : ZZ l G s0 b0) (K : Nat → Nat) (T : Sta) (F : Nat → Int) (eF : T 2 = F) (hF : WF F) (eN : T 1 76 = F 76) (i : Nat) (zi : Int) (hzi : zi = (i : Int)) (h5i : i < 5) (hD : Dia F) : Met l yX4_sulkOf (ws_ yX4_sulkOf cX4_sulkOf 5 (some .int)) ({ frames := 1, cells := 0, slots := 0, locals := 21 } : Room) (pcR s0 (MW G K T) [.ref (K 0), .int (iI zi)]) (qI (sulkS F i (F 76).toNat)) 0 0 (fun _ => False) := by
  refine Met.ofW (cc := cX4_sulkOf) (maxL := 5) (ret := (some .int)) (by decide) rfl ?_
  intro p e s m args below meth c s₁ B hml hv
  obtain ⟨rfl, hW, hB⟩ := hv
  have hx := B.exec
  have hb := B.bytes
  have hr := B.returns
  have hts := atoms_spec (ws := (ws_ yX4_sulkOf cX4_sulkOf 5 (some .int))) B.pre
  have hts : ∀ w ∈ lw_all, w.before _ s = true := fun w h => hts w (List.mem_cons_of_mem _ h)
  have hown : s.vm.findClass RX4 = some m.cls := findClass_of_methodNamed B.named
  have hlocks := B.notSynchronized
  have hl := lv_entry ([.ref (K 0), .int (iI zi)]) (n := 5) (Nat.le_of_ble_eq_true rfl)
  rw [lg_entry_eq]
  generalize (lg_sl ([.ref (K 0), .int (iI zi)]) ++ List.replicate (5 - (lg_sl ([.ref (K 0), .int (iI zi)])).length) Slot.unset).toArray = ls at hl ⊢
  have hl : lv_has ls 5 [(0, .ref (K 0)), (1, .int (iI zi))] := hl
  subst eF
  have hn5 := hF.n
  have hrm := hF.rm
  refine ii_const hx hb dX4_sulkOf_0 ?_
  refine lv_istore_n (lv' := [(2, .int (iI 0)), (0, .ref (K 0)), (1, .int (iI zi))]) hx hb dX4_sulkOf_1 rfl hl (by decide) rfl (fun ls hl => ?_)
  refine ii_const hx hb dX4_sulkOf_2 ?_
  refine lv_istore_n (lv' := [(3, .int (iI 0)), (2, .int (iI 0)), (0, .ref (K 0)), (1, .int (iI zi))]) hx hb dX4_sulkOf_3 rfl hl (by decide) rfl (fun ls hl => ?_)
  have loop_4 : ∀ (fu : Nat) (j : Nat) (zj : Int), (zj = (j : Int)) → (j ≤ (T 2 76).toNat) → (6 - j) < fu → ∀ (ls : Array Slot), lv_has ls 5 [(3, .int (iI zj)), (2, .int (iI (sulkS (T 2) i j))), (0, .ref (K 0)), (1, .int (iI zi))] → W p l e (headSpec (ws_ yX4_sulkOf cX4_sulkOf 5 (some .int)) ({ frames := 1, cells := 0, slots := 0, locals := 21 } : Room)).room s m ([.ref (K 0), .int (iI zi)] : List Value).toArray below meth c s.heap [] 0 0 (MQ below (qI (sulkS (T 2) i ((T 2) 76).toNat)) ([.ref (K 0), .int (iI zi)] : List Value).toArray s 0 0 (fun _ => False)) (F0 m 4 ls []) := by
    intro fu
    induction fu with
    | zero => intro j zj ezj hj hmu; exact absurd hmu (Nat.not_lt_zero _)
    | succ fu ih4 =>
      intro j zj ezj hj hmu ls hl
      have hdi := hD i (by omega)
      refine lv_iload_n hx hb dX4_sulkOf_4 rfl (lv_at hl 0 rfl) ?_
      refine lv_aload_n hx hb dX4_sulkOf_5 rfl (lv_at hl 2 rfl) ?_
      refine r_get (ci := 4) (k := 3) (v := .int (iI ((T 1) 76))) (C := RX4) (T := TX4) (N := 29) Z hB hx hb hts hown rfl in_X4 hW.obj (by decide) q981 rfl dX4_sulkOf_6 ?_
      refine ii_icmp_ge (tgt := 66) hx hb dX4_sulkOf_9 (by decide) (by omega) (by omega) (fun c_1 => ?_) (fun c_1 => ?_)
      · -- 9 -> 66
        have ex_j : (T 2 76).toNat = j := by omega
        subst ex_j
        refine lv_iload_n hx hb dX4_sulkOf_66 rfl (lv_at hl 1 rfl) ?_
        have he9 : (sulkS (T 2) i (T 2 76).toNat) = (sulkS (T 2) i ((T 2) 76).toNat) := rfl
        exact W.iret hx hb hr (fun t ht hW9 => ⟨_, rfl, congrArg iI he9, ht⟩) (fun q hq => by cases hq) dX4_sulkOf_67
      · -- 9 -> 12
        refine lv_aload_n hx hb dX4_sulkOf_12 rfl (lv_at hl 2 rfl) ?_
        refine r_get (ci := 4) (k := 1) (v := .ref (K 2)) (C := RX4) (T := TX4) (N := 29) Z hB hx hb hts hown rfl in_X4 hW.obj (by decide) q979 rfl dX4_sulkOf_13 ?_
        refine ii_bipush hx hb dX4_sulkOf_16 (by decide) ?_
        refine ii_const hx hb dX4_sulkOf_18 ?_
        refine lv_iload_n hx hb dX4_sulkOf_19 rfl (lv_at hl 3 rfl) ?_
        refine ii_mul hx hb dX4_sulkOf_20 ?_
        refine ii_add hx hb dX4_sulkOf_21 ?_
        refine lv_iload_n hx hb dX4_sulkOf_22 rfl (lv_at hl 0 rfl) ?_
        refine ii_add hx hb dX4_sulkOf_23 ?_
        have b_682 := hF.cr i j (by omega) (by omega)
        refine r_iald (k := (10 + 5 * i + j)) (f := (T 2)) Z hB hx hb hW.now (by omega) (by omega) (by omega) dX4_sulkOf_24 ?_
        refine lv_istore (lv' := [(4, .int (iI ((T 2) (10 + 5 * i + j)))), (3, .int (iI zj)), (2, .int (iI (sulkS (T 2) i j))), (0, .ref (K 0)), (1, .int (iI zi))]) hx hb dX4_sulkOf_25 hl (by decide) rfl (fun ls hl => ?_)
        refine lv_iload_n hx hb dX4_sulkOf_27 rfl (lv_at hl 2 rfl) ?_
        refine lv_iload_n hx hb dX4_sulkOf_28 rfl (lv_at hl 1 rfl) ?_
        refine lv_iload_n hx hb dX4_sulkOf_29 rfl (lv_at hl 4 rfl) ?_
        refine ii_icmp_ne (tgt := 37) hx hb dX4_sulkOf_30 (by decide) (by omega) (by omega) (fun c_2 => ?_) (fun c_2 => ?_)
        · -- 30 -> 37
          refine lv_aload_n hx hb dX4_sulkOf_37 rfl (lv_at hl 3 rfl) ?_
          refine lv_iload_n hx hb dX4_sulkOf_38 rfl (lv_at hl 4 rfl) ?_
          have hn_3 : (T 1) 76 = (T 2) 76 := by first | rfl | omega
          refine cqI (va_runV (As := [.int (iI zi)]) (rest := [.int (iI (sulkS (T 2) i j))]) ⟨hx, hb, hml, hown, hts⟩ (mX4_place Z K T (T 2) rfl hF hn_3 i zi (by omega) (by omega)) (cwV 1 hts (lw_V q1163 q1165 qs51 q83 q1166) rfl rfl rfl (by decide +kernel) ⟨Nat.le_of_ble_eq_true rfl, Nat.le_of_ble_eq_true rfl⟩) (pvR hB (OBJ.recv Z hB hW.obj (q := (RX4, TX4, 29)) rfl) hW) rfl rfl hl.1 rfl (lv_room (Nat.le_of_ble_eq_true rfl)) dX4_sulkOf_39 ⟨Nat.zero_le _, Nat.zero_le _⟩) ?_
          have b_683 := hF.pl i (by omega)
          refine lv_aload_n hx hb dX4_sulkOf_42 rfl (lv_at hl 3 rfl) ?_
          refine lv_iload_n hx hb dX4_sulkOf_43 rfl (lv_at hl 1 rfl) ?_
          have hn_4 : (T 1) 76 = (T 2) 76 := by first | rfl | omega
          refine cqI (va_runV (As := [.int (iI zj)]) (rest := [.int (iI ((T 2) (2 * i + 1))), .int (iI (sulkS (T 2) i j))]) ⟨hx, hb, hml, hown, hts⟩ (mX4_place Z K T (T 2) rfl hF hn_4 j zj (by omega) (by omega)) (cwV 1 hts (lw_V q1163 q1165 qs51 q83 q1166) rfl rfl rfl (by decide +kernel) ⟨Nat.le_of_ble_eq_true rfl, Nat.le_of_ble_eq_true rfl⟩) (pvR hB (OBJ.recv Z hB hW.obj (q := (RX4, TX4, 29)) rfl) hW) rfl rfl hl.1 rfl (lv_room (Nat.le_of_ble_eq_true rfl)) dX4_sulkOf_44 ⟨Nat.zero_le _, Nat.zero_le _⟩) ?_
          have b_684 := hF.pl j (by omega)
          refine ii_icmp_le (tgt := 55) hx hb dX4_sulkOf_47 (by decide) (by omega) (by omega) (fun c_5 => ?_) (fun c_5 => ?_)
          · -- 47 -> 55
            refine lv_iload hx hb dX4_sulkOf_55 (lv_at hl 0 rfl) ?_
            refine ii_neg hx hb dX4_sulkOf_57 ?_
            refine ii_add hx hb dX4_sulkOf_58 ?_
            refine lv_istore_n (lv' := [(2, .int (iI ((sulkS (T 2) i j) + (-((T 2) (10 + 5 * i + j)))))), (4, .int (iI ((T 2) (10 + 5 * i + j)))), (3, .int (iI zj)), (0, .ref (K 0)), (1, .int (iI zi))]) hx hb dX4_sulkOf_59 rfl hl (by decide) rfl (fun ls hl => ?_)
            refine ii_iinc (k := 2) (lv' := [(3, .int (iI (zj + 1))), (2, .int (iI ((sulkS (T 2) i j) + (-((T 2) (10 + 5 * i + j)))))), (4, .int (iI ((T 2) (10 + 5 * i + j)))), (0, .ref (K 0)), (1, .int (iI zi))]) hx hb dX4_sulkOf_60 hl rfl (by decide) rfl (fun ls hl => ?_)
            refine lv_goto (tgt := 4) hx hb dX4_sulkOf_63 (by decide) ?_
            have e_6 : (sulkS (T 2) i (j + 1)) = ((sulkS (T 2) i j) + (-((T 2) (10 + 5 * i + j)))) := by simp only [sulkS]; first | (rw [show j = i by omega]; split <;> omega) | (split <;> omega)
            exact ih4 (j + 1) (zj + 1) (by omega) (by omega) (by omega) ls (by rw [e_6]; exact lv_sub hl [0, 1, 3, 4] rfl)
          · -- 47 -> 50
            refine lv_iload hx hb dX4_sulkOf_50 (lv_at hl 0 rfl) ?_
            refine lv_goto (tgt := 58) hx hb dX4_sulkOf_52 (by decide) ?_
            refine ii_add hx hb dX4_sulkOf_58 ?_
            refine lv_istore_n (lv' := [(2, .int (iI ((sulkS (T 2) i j) + ((T 2) (10 + 5 * i + j))))), (4, .int (iI ((T 2) (10 + 5 * i + j)))), (3, .int (iI zj)), (0, .ref (K 0)), (1, .int (iI zi))]) hx hb dX4_sulkOf_59 rfl hl (by decide) rfl (fun ls hl => ?_)
            refine ii_iinc (k := 2) (lv' := [(3, .int (iI (zj + 1))), (2, .int (iI ((sulkS (T 2) i j) + ((T 2) (10 + 5 * i + j))))), (4, .int (iI ((T 2) (10 + 5 * i + j)))), (0, .ref (K 0)), (1, .int (iI zi))]) hx hb dX4_sulkOf_60 hl rfl (by decide) rfl (fun ls hl => ?_)
            refine lv_goto (tgt := 4) hx hb dX4_sulkOf_63 (by decide) ?_
            have e_7 : (sulkS (T 2) i (j + 1)) = ((sulkS (T 2) i j) + ((T 2) (10 + 5 * i + j))) := by simp only [sulkS]; first | (rw [show j = i by omega]; split <;> omega) | (split <;> omega)
            exact ih4 (j + 1) (zj + 1) (by omega) (by omega) (by omega) ls (by rw [e_7]; exact lv_sub hl [0, 1, 3, 4] rfl)
        · -- 30 -> 33
          refine ii_const hx hb dX4_sulkOf_33 ?_
          refine lv_goto (tgt := 58) hx hb dX4_sulkOf_34 (by decide) ?_
          refine ii_add hx hb dX4_sulkOf_58 ?_
          refine lv_istore_n (lv' := [(2, .int (iI ((sulkS (T 2) i j) + 0))), (4, .int (iI ((T 2) (10 + 5 * i + j)))), (3, .int (iI zj)), (0, .ref (K 0)), (1, .int (iI zi))]) hx hb dX4_sulkOf_59 rfl hl (by decide) rfl (fun ls hl => ?_)
          refine ii_iinc (k := 2) (lv' := [(3, .int (iI (zj + 1))), (2, .int (iI ((sulkS (T 2) i j) + 0))), (4, .int (iI ((T 2) (10 + 5 * i + j)))), (0, .ref (K 0)), (1, .int (iI zi))]) hx hb dX4_sulkOf_60 hl rfl (by decide) rfl (fun ls hl => ?_)
          refine lv_goto (tgt := 4) hx hb dX4_sulkOf_63 (by decide) ?_
          have e_8 : (sulkS (T 2) i (j + 1)) = ((sulkS (T 2) i j) + 0) := by simp only [sulkS]; first | (rw [show j = i by omega]; split <;> omega) | (split <;> omega)
          exact ih4 (j + 1) (zj + 1) (by omega) (by omega) (by omega) ls (by rw [e_8]; exact lv_sub hl [0, 1, 3, 4] rfl)
  have e_9 : (sulkS (T 2) i 0) = 0 := rfl
  exact loop_4 _ 0 0 (by omega) (by omega) (Nat.lt_succ_self _) ls (by rw [e_9]; exact lv_sub hl [0, 1, 2, 3] rfl)

set_option maxHeartbeats 1000000 in
set_option maxRecDepth 100000 in
theorem mX4_driftOf {l : Launch} {G : GG} {s0 : State} {b0 : Nat} (Z : ZZ l G s0 b0) (K : Nat → Nat) (T : Sta) (F : Nat → Int) (eF : T 2 = F) (hF : WF F) (eN : T 1 76 = F 76) (i : Nat) (zi : Int) (hzi : zi = (i : Int)) (h5i : i < 5) (hD : Dia F) : Met l yX4_driftOf (ws_ yX4_driftOf cX4_driftOf 4 (some .int)) ({ frames := 2, cells := 0, slots := 0, locals := 45 } : Room) (pcR s0 (MW G K T) [.ref (K 0), .int (iI zi)]) (qI (mdr (F (2 * i + 0)) (sulkS F i (F 76).toNat))) 0 0 (fun _ => False) := by
  refine Met.ofW (cc := cX4_driftOf) (maxL := 4) (ret := (some .int)) (by decide) rfl ?_
  intro p e s m args below meth c s₁ B hml hv
  obtain ⟨rfl, hW, hB⟩ := hv
  have hx := B.exec
  have hb := B.bytes
  have hr := B.returns
  have hts := atoms_spec (ws := (ws_ yX4_driftOf cX4_driftOf 4 (some .int))) B.pre
  have hts : ∀ w ∈ lw_all, w.before _ s = true := fun w h => hts w (List.mem_cons_of_mem _ h)
  have hown : s.vm.findClass RX4 = some m.cls := findClass_of_methodNamed B.named
  have hlocks := B.notSynchronized
  have hl := lv_entry ([.ref (K 0), .int (iI zi)]) (n := 4) (Nat.le_of_ble_eq_true rfl)
  rw [lg_entry_eq]
  generalize (lg_sl ([.ref (K 0), .int (iI zi)]) ++ List.replicate (4 - (lg_sl ([.ref (K 0), .int (iI zi)])).length) Slot.unset).toArray = ls at hl ⊢
  have hl : lv_has ls 4 [(0, .ref (K 0)), (1, .int (iI zi))] := hl
  subst eF
  have hn5 := hF.n
  have hrm := hF.rm
  refine lv_aload_n hx hb dX4_driftOf_0 rfl (lv_at hl 0 rfl) ?_
  refine lv_iload_n hx hb dX4_driftOf_1 rfl (lv_at hl 1 rfl) ?_
  have hn_1 : (T 1) 76 = (T 2) 76 := by first | rfl | omega
  refine cqI (va_runV (As := [.int (iI zi)]) (rest := []) ⟨hx, hb, hml, hown, hts⟩ (mX4_sulkOf Z K T (T 2) rfl hF hn_1 i zi (by omega) (by omega) hD) (cwV 1 hts (lw_V q1189 q1191 qs55 q83 q1192) rfl rfl rfl (by decide +kernel) ⟨Nat.le_of_ble_eq_true rfl, Nat.le_of_ble_eq_true rfl⟩) (pvR hB (OBJ.recv Z hB hW.obj (q := (RX4, TX4, 29)) rfl) hW) rfl rfl hl.1 rfl (lv_room (Nat.le_of_ble_eq_true rfl)) dX4_driftOf_2 ⟨Nat.zero_le _, Nat.zero_le _⟩) ?_
  have b_685 := sulkS_in hF i (by omega) ((T 2) 76).toNat (by have := hF.n; omega)
  refine lv_istore_n (lv' := [(2, .int (iI (sulkS (T 2) i ((T 2) 76).toNat))), (0, .ref (K 0)), (1, .int (iI zi))]) hx hb dX4_driftOf_5 rfl hl (by decide) rfl (fun ls hl => ?_)
  refine ii_const hx hb dX4_driftOf_6 ?_
  refine lv_iload_n hx hb dX4_driftOf_7 rfl (lv_at hl 0 rfl) ?_
  refine ii_mul hx hb dX4_driftOf_8 ?_
  refine lv_istore_n (lv' := [(3, .int (iI (2 * (sulkS (T 2) i ((T 2) 76).toNat)))), (2, .int (iI (sulkS (T 2) i ((T 2) 76).toNat))), (0, .ref (K 0)), (1, .int (iI zi))]) hx hb dX4_driftOf_9 rfl hl (by decide) rfl (fun ls hl => ?_)
  refine lv_aload_n hx hb dX4_driftOf_10 rfl (lv_at hl 2 rfl) ?_
  refine r_get (ci := 4) (k := 1) (v := .ref (K 2)) (C := RX4) (T := TX4) (N := 29) Z hB hx hb hts hown rfl in_X4 hW.obj (by decide) q979 rfl dX4_driftOf_11 ?_
  refine ii_const hx hb dX4_driftOf_14 ?_
  refine lv_iload_n hx hb dX4_driftOf_15 rfl (lv_at hl 3 rfl) ?_
  refine ii_mul hx hb dX4_driftOf_16 ?_
  refine ii_const hx hb dX4_driftOf_17 ?_
  refine ii_add hx hb dX4_driftOf_18 ?_
  have b_686 := hF.kd i (by omega)
  refine r_iald (k := (2 * i + 0)) (f := (T 2)) Z hB hx hb hW.now (by omega) (by omega) (by omega) dX4_driftOf_19 ?_
  by_cases c_2_1 : ((T 2) (2 * i + 0)) = 1
  · --
    refine lv_tableIn (off := 28) (tgt := 48) hx hb dX4_driftOf_20 (by rw [iI_toInt (by omega)]; omega) (by rw [iI_toInt (by omega)]; omega) (by rw [iI_toInt (by omega), c_2_1]; rfl) (by decide) ?_
    refine lv_iload_n hx hb dX4_driftOf_48 rfl (lv_at hl 0 rfl) ?_
    have he9 : (2 * (sulkS (T 2) i ((T 2) 76).toNat)) = (mdr ((T 2) (2 * i + 0)) (sulkS (T 2) i ((T 2) 76).toNat)) := by unfold mdr; (repeat' split) <;> first | rfl | omega
    exact W.iret hx hb hr (fun t ht hW9 => ⟨_, rfl, congrArg iI he9, ht⟩) (fun q hq => by cases hq) dX4_driftOf_49
  by_cases c_2_2 : ((T 2) (2 * i + 0)) = 2
  · --
    refine lv_tableIn (off := 30) (tgt := 50) hx hb dX4_driftOf_20 (by rw [iI_toInt (by omega)]; omega) (by rw [iI_toInt (by omega)]; omega) (by rw [iI_toInt (by omega), c_2_2]; rfl) (by decide) ?_
    refine lv_iload_n hx hb dX4_driftOf_50 rfl (lv_at hl 1 rfl) ?_
    refine ii_if_ge (tgt := 62) hx hb dX4_driftOf_51 (by decide) (by omega) (fun c_3 => ?_) (fun c_3 => ?_)
    · -- 51 -> 62
      refine lv_iload_n hx hb dX4_driftOf_62 rfl (lv_at hl 1 rfl) ?_
      refine ii_const hx hb dX4_driftOf_63 ?_
      refine ii_div hx hb (by omega) (by omega) dX4_driftOf_64 ?_
      have he9 : ((sulkS (T 2) i ((T 2) 76).toNat) / 2) = (mdr ((T 2) (2 * i + 0)) (sulkS (T 2) i ((T 2) 76).toNat)) := by unfold mdr; (repeat' split) <;> first | rfl | omega
      exact W.iret hx hb hr (fun t ht hW9 => ⟨_, rfl, congrArg iI he9, ht⟩) (fun q hq => by cases hq) dX4_driftOf_65
    · -- 51 -> 54
      refine lv_iload_n hx hb dX4_driftOf_54 rfl (lv_at hl 1 rfl) ?_
      refine ii_neg hx hb dX4_driftOf_55 ?_
      refine ii_const hx hb dX4_driftOf_56 ?_
      refine ii_div hx hb (by omega) (by omega) dX4_driftOf_57 ?_
      refine ii_neg hx hb dX4_driftOf_58 ?_
      refine lv_goto (tgt := 65) hx hb dX4_driftOf_59 (by decide) ?_
      have he9 : (-((-(sulkS (T 2) i ((T 2) 76).toNat)) / 2)) = (mdr ((T 2) (2 * i + 0)) (sulkS (T 2) i ((T 2) 76).toNat)) := by unfold mdr; (repeat' split) <;> first | rfl | omega
      exact W.iret hx hb hr (fun t ht hW9 => ⟨_, rfl, congrArg iI he9, ht⟩) (fun q hq => by cases hq) dX4_driftOf_65
  by_cases c_2_3 : ((T 2) (2 * i + 0)) = 3
  · --
    refine lv_tableIn (off := 46) (tgt := 66) hx hb dX4_driftOf_20 (by rw [iI_toInt (by omega)]; omega) (by rw [iI_toInt (by omega)]; omega) (by rw [iI_toInt (by omega), c_2_3]; rfl) (by decide) ?_
    refine lv_iload_n hx hb dX4_driftOf_66 rfl (lv_at hl 0 rfl) ?_
    refine ii_if_le (tgt := 76) hx hb dX4_driftOf_67 (by decide) (by omega) (fun c_4 => ?_) (fun c_4 => ?_)
    · -- 67 -> 76
      refine lv_iload_n hx hb dX4_driftOf_76 rfl (lv_at hl 0 rfl) ?_
      refine ii_if_ge (tgt := 86) hx hb dX4_driftOf_77 (by decide) (by omega) (fun c_5 => ?_) (fun c_5 => ?_)
      · -- 77 -> 86
        refine ii_const hx hb dX4_driftOf_86 ?_
        have he9 : 0 = (mdr ((T 2) (2 * i + 0)) (sulkS (T 2) i ((T 2) 76).toNat)) := by unfold mdr; (repeat' split) <;> first | rfl | omega
        exact W.iret hx hb hr (fun t ht hW9 => ⟨_, rfl, congrArg iI he9, ht⟩) (fun q hq => by cases hq) dX4_driftOf_87
      · -- 77 -> 80
        refine lv_iload_n hx hb dX4_driftOf_80 rfl (lv_at hl 0 rfl) ?_
        refine ii_const hx hb dX4_driftOf_81 ?_
        refine ii_add hx hb dX4_driftOf_82 ?_
        refine lv_goto (tgt := 87) hx hb dX4_driftOf_83 (by decide) ?_
        have he9 : ((2 * (sulkS (T 2) i ((T 2) 76).toNat)) + 1) = (mdr ((T 2) (2 * i + 0)) (sulkS (T 2) i ((T 2) 76).toNat)) := by unfold mdr; (repeat' split) <;> first | rfl | omega
        exact W.iret hx hb hr (fun t ht hW9 => ⟨_, rfl, congrArg iI he9, ht⟩) (fun q hq => by cases hq) dX4_driftOf_87
    · -- 67 -> 70
      refine lv_iload_n hx hb dX4_driftOf_70 rfl (lv_at hl 0 rfl) ?_
      refine ii_const hx hb dX4_driftOf_71 ?_
      refine ii_sub hx hb dX4_driftOf_72 ?_
      refine lv_goto (tgt := 87) hx hb dX4_driftOf_73 (by decide) ?_
      have he9 : ((2 * (sulkS (T 2) i ((T 2) 76).toNat)) - 1) = (mdr ((T 2) (2 * i + 0)) (sulkS (T 2) i ((T 2) 76).toNat)) := by unfold mdr; (repeat' split) <;> first | rfl | omega
      exact W.iret hx hb hr (fun t ht hW9 => ⟨_, rfl, congrArg iI he9, ht⟩) (fun q hq => by cases hq) dX4_driftOf_87
  refine lv_tableOut (tgt := 88) hx hb dX4_driftOf_20 (by rw [iI_toInt (by omega)]; omega) (by decide) ?_
  refine lv_iload_n hx hb dX4_driftOf_88 rfl (lv_at hl 1 rfl) ?_
  have he9 : (sulkS (T 2) i ((T 2) 76).toNat) = (mdr ((T 2) (2 * i + 0)) (sulkS (T 2) i ((T 2) 76).toNat)) := by unfold mdr; (repeat' split) <;> first | rfl | omega
  exact W.iret hx hb hr (fun t ht hW9 => ⟨_, rfl, congrArg iI he9, ht⟩) (fun q hq => by cases hq) dX4_driftOf_89

set_option maxHeartbeats 1000000 in
set_option maxRecDepth 100000 in
theorem mX4_isHeld {l : Launch} {G : GG} {s0 : State} {b0 : Nat} (Z : ZZ l G s0 b0) (K : Nat → Nat) (T : Sta) (F : Nat → Int) (eF : T 2 = F) (hF : WF F) (eN : T 1 76 = F 76) (i : Nat) (zi : Int) (hzi : zi = (i : Int)) (h5i : i < 5) (zt : Int) (ht : -1000 ≤ zt ∧ zt ≤ 1000) : Met l yX4_isHeld (ws_ yX4_isHeld cX4_isHeld 8 (some .boolean)) ({ frames := 2, cells := 0, slots := 0, locals := 43 } : Room) (pcR s0 (MW G K T) [.ref (K 0), .int (iI zi), .int (iI zt)]) (qI (b2 (heldS F i zt (F 53).toNat = true))) 0 0 (fun _ => False) := by
  refine Met.ofW (cc := cX4_isHeld) (maxL := 8) (ret := (some .boolean)) (by decide) rfl ?_
  intro p e s m args below meth c s₁ B hml hv
  obtain ⟨rfl, hW, hB⟩ := hv
  have hx := B.exec
  have hb := B.bytes
  have hr := B.returns
  have hts := atoms_spec (ws := (ws_ yX4_isHeld cX4_isHeld 8 (some .boolean))) B.pre
  have hts : ∀ w ∈ lw_all, w.before _ s = true := fun w h => hts w (List.mem_cons_of_mem _ h)
  have hown : s.vm.findClass RX4 = some m.cls := findClass_of_methodNamed B.named
  have hlocks := B.notSynchronized
  have hl := lv_entry ([.ref (K 0), .int (iI zi), .int (iI zt)]) (n := 8) (Nat.le_of_ble_eq_true rfl)
  rw [lg_entry_eq]
  generalize (lg_sl ([.ref (K 0), .int (iI zi), .int (iI zt)]) ++ List.replicate (8 - (lg_sl ([.ref (K 0), .int (iI zi), .int (iI zt)])).length) Slot.unset).toArray = ls at hl ⊢
  have hl : lv_has ls 8 [(0, .ref (K 0)), (1, .int (iI zi)), (2, .int (iI zt))] := hl
  subst eF
  have hn5 := hF.n
  have hrm := hF.rm
  refine ii_const hx hb dX4_isHeld_0 ?_
  refine lv_istore_n (lv' := [(3, .int (iI 0)), (0, .ref (K 0)), (1, .int (iI zi)), (2, .int (iI zt))]) hx hb dX4_isHeld_1 rfl hl (by decide) rfl (fun ls hl => ?_)
  refine ii_const hx hb dX4_isHeld_2 ?_
  refine lv_istore (lv' := [(4, .int (iI 0)), (3, .int (iI 0)), (0, .ref (K 0)), (1, .int (iI zi)), (2, .int (iI zt))]) hx hb dX4_isHeld_3 hl (by decide) rfl (fun ls hl => ?_)
  have loop_5 : ∀ (fu : Nat) (k : Nat) (zk : Int), (zk = (k : Int)) → (k ≤ (T 2 53).toNat) → (7 - k) < fu → ∀ (ls : Array Slot), lv_has ls 8 [(4, .int (iI zk)), (3, .int (iI (b2 (heldS (T 2) i zt k = true)))), (0, .ref (K 0)), (1, .int (iI zi)), (2, .int (iI zt))] → W p l e (headSpec (ws_ yX4_isHeld cX4_isHeld 8 (some .boolean)) ({ frames := 2, cells := 0, slots := 0, locals := 43 } : Room)).room s m ([.ref (K 0), .int (iI zi), .int (iI zt)] : List Value).toArray below meth c s.heap [] 0 0 (MQ below (qI (b2 (heldS (T 2) i zt ((T 2) 53).toNat = true))) ([.ref (K 0), .int (iI zi), .int (iI zt)] : List Value).toArray s 0 0 (fun _ => False)) (F0 m 5 ls []) := by
    intro fu
    induction fu with
    | zero => intro k zk ezk hk hmu; exact absurd hmu (Nat.not_lt_zero _)
    | succ fu ih5 =>
      intro k zk ezk hk hmu ls hl
      refine lv_iload hx hb dX4_isHeld_5 (lv_at hl 0 rfl) ?_
      refine lv_aload_n hx hb dX4_isHeld_7 rfl (lv_at hl 2 rfl) ?_
      refine r_get (ci := 4) (k := 1) (v := .ref (K 2)) (C := RX4) (T := TX4) (N := 29) Z hB hx hb hts hown rfl in_X4 hW.obj (by decide) q979 rfl dX4_isHeld_8 ?_
      refine ii_bipush hx hb dX4_isHeld_11 (by decide) ?_
      have b_687 := hF.rm
      refine r_iald (k := 53) (f := (T 2)) Z hB hx hb hW.now (by omega) (by omega) (by omega) dX4_isHeld_13 ?_
      refine ii_icmp_ge (tgt := 138) hx hb dX4_isHeld_14 (by decide) (by omega) (by omega) (fun c_1 => ?_) (fun c_1 => ?_)
      · -- 14 -> 138
        have ex_k : (T 2 53).toNat = k := by omega
        subst ex_k
        refine lv_iload_n hx hb dX4_isHeld_138 rfl (lv_at hl 1 rfl) ?_
        have he9 : (b2 (heldS (T 2) i zt (T 2 53).toNat = true)) = (b2 (heldS (T 2) i zt ((T 2) 53).toNat = true)) := rfl
        exact W.zret (ty := .boolean) hx hb hr (b2_nar _) (fun t ht hW9 => ⟨_, rfl, congrArg iI he9, ht⟩) (fun q hq => by cases hq) dX4_isHeld_139
      · -- 14 -> 17
        refine ii_bipush hx hb dX4_isHeld_17 (by decide) ?_
        refine ii_const hx hb dX4_isHeld_19 ?_
        refine lv_iload hx hb dX4_isHeld_20 (lv_at hl 0 rfl) ?_
        refine ii_mul hx hb dX4_isHeld_22 ?_
        refine ii_add hx hb dX4_isHeld_23 ?_
        refine lv_istore (lv' := [(5, .int (iI (35 + (3 * zk)))), (4, .int (iI zk)), (3, .int (iI (b2 (heldS (T 2) i zt k = true)))), (0, .ref (K 0)), (1, .int (iI zi)), (2, .int (iI zt))]) hx hb dX4_isHeld_24 hl (by decide) rfl (fun ls hl => ?_)
        refine lv_aload_n hx hb dX4_isHeld_26 rfl (lv_at hl 3 rfl) ?_
        refine r_get (ci := 4) (k := 1) (v := .ref (K 2)) (C := RX4) (T := TX4) (N := 29) Z hB hx hb hts hown rfl in_X4 hW.obj (by decide) q979 rfl dX4_isHeld_27 ?_
        refine lv_iload hx hb dX4_isHeld_30 (lv_at hl 0 rfl) ?_
        have b_688 := hF.r0 k (by omega)
        refine r_iald (k := (35 + 3 * k + 0)) (f := (T 2)) Z hB hx hb hW.now (by omega) (by omega) (by omega) dX4_isHeld_32 ?_
        refine lv_iload_n hx hb dX4_isHeld_33 rfl (lv_at hl 4 rfl) ?_
        refine ii_icmp_ne (tgt := 49) hx hb dX4_isHeld_34 (by decide) (by omega) (by omega) (fun c_2 => ?_) (fun c_2 => ?_)
        · -- 34 -> 49
          refine lv_aload_n hx hb dX4_isHeld_49 rfl (lv_at hl 3 rfl) ?_
          refine r_get (ci := 4) (k := 1) (v := .ref (K 2)) (C := RX4) (T := TX4) (N := 29) Z hB hx hb hts hown rfl in_X4 hW.obj (by decide) q979 rfl dX4_isHeld_50 ?_
          refine lv_iload hx hb dX4_isHeld_53 (lv_at hl 0 rfl) ?_
          refine ii_const hx hb dX4_isHeld_55 ?_
          refine ii_add hx hb dX4_isHeld_56 ?_
          have b_689 := hF.r1 k (by omega)
          refine r_iald (k := (35 + 3 * k + 1)) (f := (T 2)) Z hB hx hb hW.now (by omega) (by omega) (by omega) dX4_isHeld_57 ?_
          refine lv_iload_n hx hb dX4_isHeld_58 rfl (lv_at hl 4 rfl) ?_
          refine ii_icmp_ne (tgt := 72) hx hb dX4_isHeld_59 (by decide) (by omega) (by omega) (fun c_3 => ?_) (fun c_3 => ?_)
          · -- 59 -> 72
            refine ii_bipush hx hb dX4_isHeld_72 (by decide) ?_
            refine lv_istore (lv' := [(6, .int (iI (-4))), (5, .int (iI (35 + (3 * zk)))), (4, .int (iI zk)), (3, .int (iI (b2 (heldS (T 2) i zt k = true)))), (0, .ref (K 0)), (1, .int (iI zi)), (2, .int (iI zt))]) hx hb dX4_isHeld_74 hl (by decide) rfl (fun ls hl => ?_)
            refine lv_iload hx hb dX4_isHeld_76 (lv_at hl 0 rfl) ?_
            refine ii_bipush hx hb dX4_isHeld_78 (by decide) ?_
            refine ii_icmp_eq (tgt := 132) hx hb dX4_isHeld_80 (by decide) (by omega) (by omega) (fun c_4 => ?_) (fun c_4 => ?_)
            · -- 80 -> 132
              refine ii_iinc (k := 2) (lv' := [(4, .int (iI (zk + 1))), (6, .int (iI (-4))), (5, .int (iI (35 + (3 * zk)))), (3, .int (iI (b2 (heldS (T 2) i zt k = true)))), (0, .ref (K 0)), (1, .int (iI zi)), (2, .int (iI zt))]) hx hb dX4_isHeld_132 hl rfl (by decide) rfl (fun ls hl => ?_)
              refine lv_goto (tgt := 5) hx hb dX4_isHeld_135 (by decide) ?_
              have e_5 : (b2 (heldS (T 2) i zt (k + 1) = true)) = (b2 (heldS (T 2) i zt k = true)) := by first | exact heldS_o (T 2) i zt k (by omega) | exact heldS_1 (T 2) i zt k (by assumption) | exact heldS_2 (T 2) i zt k (by omega) (by omega) (by omega) | exact heldS_3 (T 2) i zt k (by assumption) (by omega)
              exact ih5 (k + 1) (zk + 1) (by omega) (by omega) (by omega) ls (by rw [e_5]; exact lv_sub hl [0, 3, 4, 5, 6] rfl)
            · -- 80 -> 83
              exact absurd c_4 (by omega)
          · -- 59 -> 62
            refine lv_aload_n hx hb dX4_isHeld_62 rfl (lv_at hl 3 rfl) ?_
            refine r_get (ci := 4) (k := 1) (v := .ref (K 2)) (C := RX4) (T := TX4) (N := 29) Z hB hx hb hts hown rfl in_X4 hW.obj (by decide) q979 rfl dX4_isHeld_63 ?_
            refine lv_iload hx hb dX4_isHeld_66 (lv_at hl 0 rfl) ?_
            have b_690 := hF.r0 k (by omega)
            refine r_iald (k := (35 + 3 * k + 0)) (f := (T 2)) Z hB hx hb hW.now (by omega) (by omega) (by omega) dX4_isHeld_68 ?_
            refine lv_goto (tgt := 74) hx hb dX4_isHeld_69 (by decide) ?_
            obtain ⟨ze_6, eze_6⟩ : ∃ z : Int, z = ((T 2) (35 + 3 * k + 0)) := ⟨_, rfl⟩
            rw [← eze_6]
            have hze_6 : ze_6 = (endS (T 2) i k : Int) := by unfold endS; omega
            have hze_6b : endS (T 2) i k < 5 := by omega
            refine lv_istore (lv' := [(6, .int (iI ze_6)), (5, .int (iI (35 + (3 * zk)))), (4, .int (iI zk)), (3, .int (iI (b2 (heldS (T 2) i zt k = true)))), (0, .ref (K 0)), (1, .int (iI zi)), (2, .int (iI zt))]) hx hb dX4_isHeld_74 hl (by decide) rfl (fun ls hl => ?_)
            refine lv_iload hx hb dX4_isHeld_76 (lv_at hl 0 rfl) ?_
            refine ii_bipush hx hb dX4_isHeld_78 (by decide) ?_
            refine ii_icmp_eq (tgt := 132) hx hb dX4_isHeld_80 (by decide) (by omega) (by omega) (fun c_7 => ?_) (fun c_7 => ?_)
            · -- 80 -> 132
              refine ii_iinc (k := 2) (lv' := [(4, .int (iI (zk + 1))), (6, .int (iI ze_6)), (5, .int (iI (35 + (3 * zk)))), (3, .int (iI (b2 (heldS (T 2) i zt k = true)))), (0, .ref (K 0)), (1, .int (iI zi)), (2, .int (iI zt))]) hx hb dX4_isHeld_132 hl rfl (by decide) rfl (fun ls hl => ?_)
              refine lv_goto (tgt := 5) hx hb dX4_isHeld_135 (by decide) ?_
              have e_8 : (b2 (heldS (T 2) i zt (k + 1) = true)) = (b2 (heldS (T 2) i zt k = true)) := by first | exact heldS_o (T 2) i zt k (by omega) | exact heldS_1 (T 2) i zt k (by assumption) | exact heldS_2 (T 2) i zt k (by omega) (by omega) (by omega) | exact heldS_3 (T 2) i zt k (by assumption) (by omega)
              exact ih5 (k + 1) (zk + 1) (by omega) (by omega) (by omega) ls (by rw [e_8]; exact lv_sub hl [0, 3, 4, 5, 6] rfl)
            · -- 80 -> 83
              refine lv_iload_n hx hb dX4_isHeld_83 rfl (lv_at hl 6 rfl) ?_
              refine lv_aload_n hx hb dX4_isHeld_84 rfl (lv_at hl 4 rfl) ?_
              refine lv_iload hx hb dX4_isHeld_85 (lv_at hl 0 rfl) ?_
              have hn_9 : (T 1) 76 = (T 2) 76 := by first | rfl | omega
              refine cqI (va_runV (As := [.int (iI ze_6)]) (rest := [.int (iI zt)]) ⟨hx, hb, hml, hown, hts⟩ (mX4_place Z K T (T 2) rfl hF hn_9 (endS (T 2) i k) ze_6 (by omega) (by omega)) (cwV 1 hts (lw_V q1163 q1165 qs51 q83 q1166) rfl rfl rfl (by decide +kernel) ⟨Nat.le_of_ble_eq_true rfl, Nat.le_of_ble_eq_true rfl⟩) (pvR hB (OBJ.recv Z hB hW.obj (q := (RX4, TX4, 29)) rfl) hW) rfl rfl hl.1 rfl (lv_room (Nat.le_of_ble_eq_true rfl)) dX4_isHeld_87 ⟨Nat.zero_le _, Nat.zero_le _⟩) ?_
              have b_691 := hF.pl (endS (T 2) i k) (by omega)
              refine ii_sub hx hb dX4_isHeld_90 ?_
              refine cqI (va_runS (As := [.int (iI (zt - ((T 2) (2 * (endS (T 2) i k) + 1))))]) (rest := []) ⟨hx, hb, hml, hown, hts⟩ (mX4_sizeOf Z (zt - ((T 2) (2 * (endS (T 2) i k) + 1))) (by omega)) (va_cwS 1 hts (lw_S q1167 q1168 q83 q1169) rfl rfl rfl (by decide +kernel) ⟨Nat.le_of_ble_eq_true rfl, Nat.le_of_ble_eq_true rfl⟩) (psR hB trivial) rfl rfl hl.1 rfl (lv_room (Nat.le_of_ble_eq_true rfl)) dX4_isHeld_91 ⟨Nat.zero_le _, Nat.zero_le _⟩) ?_
              have b_692 := az_in (zt - ((T 2) (2 * (endS (T 2) i k) + 1)))
              refine lv_istore (lv' := [(7, .int (iI (az (zt - ((T 2) (2 * (endS (T 2) i k) + 1)))))), (6, .int (iI ze_6)), (5, .int (iI (35 + (3 * zk)))), (4, .int (iI zk)), (3, .int (iI (b2 (heldS (T 2) i zt k = true)))), (0, .ref (K 0)), (1, .int (iI zi)), (2, .int (iI zt))]) hx hb dX4_isHeld_94 hl (by decide) rfl (fun ls hl => ?_)
              refine lv_iload_n hx hb dX4_isHeld_96 rfl (lv_at hl 4 rfl) ?_
              refine bb_if_ne (P := heldS (T 2) i zt k = true) (tgt := 126) hx hb dX4_isHeld_97 (by decide) (fun c_10 => ?_) (fun c_10 => ?_)
              · -- 97 -> 126
                refine ii_const hx hb dX4_isHeld_126 ?_
                refine lv_goto (tgt := 131) hx hb dX4_isHeld_127 (by decide) ?_
                refine lv_istore_n (lv' := [(3, .int (iI 1)), (7, .int (iI (az (zt - ((T 2) (2 * (endS (T 2) i k) + 1)))))), (6, .int (iI ze_6)), (5, .int (iI (35 + (3 * zk)))), (4, .int (iI zk)), (0, .ref (K 0)), (1, .int (iI zi)), (2, .int (iI zt))]) hx hb dX4_isHeld_131 rfl hl (by decide) rfl (fun ls hl => ?_)
                refine ii_iinc (k := 4) (lv' := [(4, .int (iI (zk + 1))), (3, .int (iI 1)), (7, .int (iI (az (zt - ((T 2) (2 * (endS (T 2) i k) + 1)))))), (6, .int (iI ze_6)), (5, .int (iI (35 + (3 * zk)))), (0, .ref (K 0)), (1, .int (iI zi)), (2, .int (iI zt))]) hx hb dX4_isHeld_132 hl rfl (by decide) rfl (fun ls hl => ?_)
                refine lv_goto (tgt := 5) hx hb dX4_isHeld_135 (by decide) ?_
                have e_11 : (b2 (heldS (T 2) i zt (k + 1) = true)) = 1 := by first | exact heldS_o (T 2) i zt k (by omega) | exact heldS_1 (T 2) i zt k (by assumption) | exact heldS_2 (T 2) i zt k (by omega) (by omega) (by omega) | exact heldS_3 (T 2) i zt k (by assumption) (by omega)
                exact ih5 (k + 1) (zk + 1) (by omega) (by omega) (by omega) ls (by rw [e_11]; exact lv_sub hl [0, 1, 5, 6, 7] rfl)
              · -- 97 -> 100
                refine lv_iload hx hb dX4_isHeld_100 (lv_at hl 0 rfl) ?_
                refine lv_aload_n hx hb dX4_isHeld_102 rfl (lv_at hl 5 rfl) ?_
                refine r_get (ci := 4) (k := 1) (v := .ref (K 2)) (C := RX4) (T := TX4) (N := 29) Z hB hx hb hts hown rfl in_X4 hW.obj (by decide) q979 rfl dX4_isHeld_103 ?_
                refine lv_iload hx hb dX4_isHeld_106 (lv_at hl 2 rfl) ?_
                refine ii_const hx hb dX4_isHeld_108 ?_
                refine ii_add hx hb dX4_isHeld_109 ?_
                have b_693 := hF.r2 k (by omega)
                refine r_iald (k := (35 + 3 * k + 2)) (f := (T 2)) Z hB hx hb hW.now (by omega) (by omega) (by omega) dX4_isHeld_110 ?_
                refine ii_icmp_le (tgt := 130) hx hb dX4_isHeld_111 (by decide) (by omega) (by omega) (fun c_12 => ?_) (fun c_12 => ?_)
                · -- 111 -> 130
                  refine ii_const hx hb dX4_isHeld_130 ?_
                  refine lv_istore_n (lv' := [(3, .int (iI 0)), (7, .int (iI (az (zt - ((T 2) (2 * (endS (T 2) i k) + 1)))))), (6, .int (iI ze_6)), (5, .int (iI (35 + (3 * zk)))), (4, .int (iI zk)), (0, .ref (K 0)), (1, .int (iI zi)), (2, .int (iI zt))]) hx hb dX4_isHeld_131 rfl hl (by decide) rfl (fun ls hl => ?_)
                  refine ii_iinc (k := 4) (lv' := [(4, .int (iI (zk + 1))), (3, .int (iI 0)), (7, .int (iI (az (zt - ((T 2) (2 * (endS (T 2) i k) + 1)))))), (6, .int (iI ze_6)), (5, .int (iI (35 + (3 * zk)))), (0, .ref (K 0)), (1, .int (iI zi)), (2, .int (iI zt))]) hx hb dX4_isHeld_132 hl rfl (by decide) rfl (fun ls hl => ?_)
                  refine lv_goto (tgt := 5) hx hb dX4_isHeld_135 (by decide) ?_
                  have e_13 : (b2 (heldS (T 2) i zt (k + 1) = true)) = 0 := by first | exact heldS_o (T 2) i zt k (by omega) | exact heldS_1 (T 2) i zt k (by assumption) | exact heldS_2 (T 2) i zt k (by omega) (by omega) (by omega) | exact heldS_3 (T 2) i zt k (by assumption) (by omega)
                  exact ih5 (k + 1) (zk + 1) (by omega) (by omega) (by omega) ls (by rw [e_13]; exact lv_sub hl [0, 1, 5, 6, 7] rfl)
                · -- 111 -> 114
                  refine lv_iload hx hb dX4_isHeld_114 (lv_at hl 0 rfl) ?_
                  refine lv_aload_n hx hb dX4_isHeld_116 rfl (lv_at hl 5 rfl) ?_
                  refine lv_iload_n hx hb dX4_isHeld_117 rfl (lv_at hl 6 rfl) ?_
                  refine lv_iload hx hb dX4_isHeld_118 (lv_at hl 1 rfl) ?_
                  have hn_14 : (T 1) 76 = (T 2) 76 := by first | rfl | omega
                  refine cqI (va_runV (As := [.int (iI zi), .int (iI ze_6)]) (rest := [.int (iI (az (zt - ((T 2) (2 * (endS (T 2) i k) + 1)))))]) ⟨hx, hb, hml, hown, hts⟩ (mX4_apart Z K T (T 2) rfl hF hn_14 i zi (by omega) (by omega) (endS (T 2) i k) ze_6 (by omega) (by omega)) (cwV 2 hts (lw_V q1159 q1161 qs50 q83 q1162) rfl rfl rfl (by decide +kernel) ⟨Nat.le_of_ble_eq_true rfl, Nat.le_of_ble_eq_true rfl⟩) (pvR hB (OBJ.recv Z hB hW.obj (q := (RX4, TX4, 29)) rfl) hW) rfl rfl hl.1 rfl (lv_room (Nat.le_of_ble_eq_true rfl)) dX4_isHeld_120 ⟨Nat.zero_le _, Nat.zero_le _⟩) ?_
                  have b_694 := apS_in hF i (endS (T 2) i k) (by omega) (by omega)
                  refine ii_icmp_le (tgt := 130) hx hb dX4_isHeld_123 (by decide) (by omega) (by omega) (fun c_15 => ?_) (fun c_15 => ?_)
                  · -- 123 -> 130
                    refine ii_const hx hb dX4_isHeld_130 ?_
                    refine lv_istore_n (lv' := [(3, .int (iI 0)), (7, .int (iI (az (zt - ((T 2) (2 * (endS (T 2) i k) + 1)))))), (6, .int (iI ze_6)), (5, .int (iI (35 + (3 * zk)))), (4, .int (iI zk)), (0, .ref (K 0)), (1, .int (iI zi)), (2, .int (iI zt))]) hx hb dX4_isHeld_131 rfl hl (by decide) rfl (fun ls hl => ?_)
                    refine ii_iinc (k := 4) (lv' := [(4, .int (iI (zk + 1))), (3, .int (iI 0)), (7, .int (iI (az (zt - ((T 2) (2 * (endS (T 2) i k) + 1)))))), (6, .int (iI ze_6)), (5, .int (iI (35 + (3 * zk)))), (0, .ref (K 0)), (1, .int (iI zi)), (2, .int (iI zt))]) hx hb dX4_isHeld_132 hl rfl (by decide) rfl (fun ls hl => ?_)
                    refine lv_goto (tgt := 5) hx hb dX4_isHeld_135 (by decide) ?_
                    have e_16 : (b2 (heldS (T 2) i zt (k + 1) = true)) = 0 := by first | exact heldS_o (T 2) i zt k (by omega) | exact heldS_1 (T 2) i zt k (by assumption) | exact heldS_2 (T 2) i zt k (by omega) (by omega) (by omega) | exact heldS_3 (T 2) i zt k (by assumption) (by omega)
                    exact ih5 (k + 1) (zk + 1) (by omega) (by omega) (by omega) ls (by rw [e_16]; exact lv_sub hl [0, 1, 5, 6, 7] rfl)
                  · -- 123 -> 126
                    refine ii_const hx hb dX4_isHeld_126 ?_
                    refine lv_goto (tgt := 131) hx hb dX4_isHeld_127 (by decide) ?_
                    refine lv_istore_n (lv' := [(3, .int (iI 1)), (7, .int (iI (az (zt - ((T 2) (2 * (endS (T 2) i k) + 1)))))), (6, .int (iI ze_6)), (5, .int (iI (35 + (3 * zk)))), (4, .int (iI zk)), (0, .ref (K 0)), (1, .int (iI zi)), (2, .int (iI zt))]) hx hb dX4_isHeld_131 rfl hl (by decide) rfl (fun ls hl => ?_)
                    refine ii_iinc (k := 4) (lv' := [(4, .int (iI (zk + 1))), (3, .int (iI 1)), (7, .int (iI (az (zt - ((T 2) (2 * (endS (T 2) i k) + 1)))))), (6, .int (iI ze_6)), (5, .int (iI (35 + (3 * zk)))), (0, .ref (K 0)), (1, .int (iI zi)), (2, .int (iI zt))]) hx hb dX4_isHeld_132 hl rfl (by decide) rfl (fun ls hl => ?_)
                    refine lv_goto (tgt := 5) hx hb dX4_isHeld_135 (by decide) ?_
                    have e_17 : (b2 (heldS (T 2) i zt (k + 1) = true)) = 1 := by first | exact heldS_o (T 2) i zt k (by omega) | exact heldS_1 (T 2) i zt k (by assumption) | exact heldS_2 (T 2) i zt k (by omega) (by omega) (by omega) | exact heldS_3 (T 2) i zt k (by assumption) (by omega)
                    exact ih5 (k + 1) (zk + 1) (by omega) (by omega) (by omega) ls (by rw [e_17]; exact lv_sub hl [0, 1, 5, 6, 7] rfl)
        · -- 34 -> 37
          refine lv_aload_n hx hb dX4_isHeld_37 rfl (lv_at hl 3 rfl) ?_
          refine r_get (ci := 4) (k := 1) (v := .ref (K 2)) (C := RX4) (T := TX4) (N := 29) Z hB hx hb hts hown rfl in_X4 hW.obj (by decide) q979 rfl dX4_isHeld_38 ?_
          refine lv_iload hx hb dX4_isHeld_41 (lv_at hl 0 rfl) ?_
          refine ii_const hx hb dX4_isHeld_43 ?_
          refine ii_add hx hb dX4_isHeld_44 ?_
          have b_695 := hF.r1 k (by omega)
          refine r_iald (k := (35 + 3 * k + 1)) (f := (T 2)) Z hB hx hb hW.now (by omega) (by omega) (by omega) dX4_isHeld_45 ?_
          refine lv_goto (tgt := 74) hx hb dX4_isHeld_46 (by decide) ?_
          obtain ⟨ze_18, eze_18⟩ : ∃ z : Int, z = ((T 2) (35 + 3 * k + 1)) := ⟨_, rfl⟩
          rw [← eze_18]
          have hze_18 : ze_18 = (endS (T 2) i k : Int) := by unfold endS; omega
          have hze_18b : endS (T 2) i k < 5 := by omega
          refine lv_istore (lv' := [(6, .int (iI ze_18)), (5, .int (iI (35 + (3 * zk)))), (4, .int (iI zk)), (3, .int (iI (b2 (heldS (T 2) i zt k = true)))), (0, .ref (K 0)), (1, .int (iI zi)), (2, .int (iI zt))]) hx hb dX4_isHeld_74 hl (by decide) rfl (fun ls hl => ?_)
          refine lv_iload hx hb dX4_isHeld_76 (lv_at hl 0 rfl) ?_
          refine ii_bipush hx hb dX4_isHeld_78 (by decide) ?_
          refine ii_icmp_eq (tgt := 132) hx hb dX4_isHeld_80 (by decide) (by omega) (by omega) (fun c_19 => ?_) (fun c_19 => ?_)
          · -- 80 -> 132
            refine ii_iinc (k := 2) (lv' := [(4, .int (iI (zk + 1))), (6, .int (iI ze_18)), (5, .int (iI (35 + (3 * zk)))), (3, .int (iI (b2 (heldS (T 2) i zt k = true)))), (0, .ref (K 0)), (1, .int (iI zi)), (2, .int (iI zt))]) hx hb dX4_isHeld_132 hl rfl (by decide) rfl (fun ls hl => ?_)
            refine lv_goto (tgt := 5) hx hb dX4_isHeld_135 (by decide) ?_
            have e_20 : (b2 (heldS (T 2) i zt (k + 1) = true)) = (b2 (heldS (T 2) i zt k = true)) := by first | exact heldS_o (T 2) i zt k (by omega) | exact heldS_1 (T 2) i zt k (by assumption) | exact heldS_2 (T 2) i zt k (by omega) (by omega) (by omega) | exact heldS_3 (T 2) i zt k (by assumption) (by omega)
            exact ih5 (k + 1) (zk + 1) (by omega) (by omega) (by omega) ls (by rw [e_20]; exact lv_sub hl [0, 3, 4, 5, 6] rfl)
          · -- 80 -> 83
            refine lv_iload_n hx hb dX4_isHeld_83 rfl (lv_at hl 6 rfl) ?_
            refine lv_aload_n hx hb dX4_isHeld_84 rfl (lv_at hl 4 rfl) ?_
            refine lv_iload hx hb dX4_isHeld_85 (lv_at hl 0 rfl) ?_
            have hn_21 : (T 1) 76 = (T 2) 76 := by first | rfl | omega
            refine cqI (va_runV (As := [.int (iI ze_18)]) (rest := [.int (iI zt)]) ⟨hx, hb, hml, hown, hts⟩ (mX4_place Z K T (T 2) rfl hF hn_21 (endS (T 2) i k) ze_18 (by omega) (by omega)) (cwV 1 hts (lw_V q1163 q1165 qs51 q83 q1166) rfl rfl rfl (by decide +kernel) ⟨Nat.le_of_ble_eq_true rfl, Nat.le_of_ble_eq_true rfl⟩) (pvR hB (OBJ.recv Z hB hW.obj (q := (RX4, TX4, 29)) rfl) hW) rfl rfl hl.1 rfl (lv_room (Nat.le_of_ble_eq_true rfl)) dX4_isHeld_87 ⟨Nat.zero_le _, Nat.zero_le _⟩) ?_
            have b_696 := hF.pl (endS (T 2) i k) (by omega)
            refine ii_sub hx hb dX4_isHeld_90 ?_
            refine cqI (va_runS (As := [.int (iI (zt - ((T 2) (2 * (endS (T 2) i k) + 1))))]) (rest := []) ⟨hx, hb, hml, hown, hts⟩ (mX4_sizeOf Z (zt - ((T 2) (2 * (endS (T 2) i k) + 1))) (by omega)) (va_cwS 1 hts (lw_S q1167 q1168 q83 q1169) rfl rfl rfl (by decide +kernel) ⟨Nat.le_of_ble_eq_true rfl, Nat.le_of_ble_eq_true rfl⟩) (psR hB trivial) rfl rfl hl.1 rfl (lv_room (Nat.le_of_ble_eq_true rfl)) dX4_isHeld_91 ⟨Nat.zero_le _, Nat.zero_le _⟩) ?_
            have b_697 := az_in (zt - ((T 2) (2 * (endS (T 2) i k) + 1)))
            refine lv_istore (lv' := [(7, .int (iI (az (zt - ((T 2) (2 * (endS (T 2) i k) + 1)))))), (6, .int (iI ze_18)), (5, .int (iI (35 + (3 * zk)))), (4, .int (iI zk)), (3, .int (iI (b2 (heldS (T 2) i zt k = true)))), (0, .ref (K 0)), (1, .int (iI zi)), (2, .int (iI zt))]) hx hb dX4_isHeld_94 hl (by decide) rfl (fun ls hl => ?_)
            refine lv_iload_n hx hb dX4_isHeld_96 rfl (lv_at hl 4 rfl) ?_
            refine bb_if_ne (P := heldS (T 2) i zt k = true) (tgt := 126) hx hb dX4_isHeld_97 (by decide) (fun c_22 => ?_) (fun c_22 => ?_)
            · -- 97 -> 126
              refine ii_const hx hb dX4_isHeld_126 ?_
              refine lv_goto (tgt := 131) hx hb dX4_isHeld_127 (by decide) ?_
              refine lv_istore_n (lv' := [(3, .int (iI 1)), (7, .int (iI (az (zt - ((T 2) (2 * (endS (T 2) i k) + 1)))))), (6, .int (iI ze_18)), (5, .int (iI (35 + (3 * zk)))), (4, .int (iI zk)), (0, .ref (K 0)), (1, .int (iI zi)), (2, .int (iI zt))]) hx hb dX4_isHeld_131 rfl hl (by decide) rfl (fun ls hl => ?_)
              refine ii_iinc (k := 4) (lv' := [(4, .int (iI (zk + 1))), (3, .int (iI 1)), (7, .int (iI (az (zt - ((T 2) (2 * (endS (T 2) i k) + 1)))))), (6, .int (iI ze_18)), (5, .int (iI (35 + (3 * zk)))), (0, .ref (K 0)), (1, .int (iI zi)), (2, .int (iI zt))]) hx hb dX4_isHeld_132 hl rfl (by decide) rfl (fun ls hl => ?_)
              refine lv_goto (tgt := 5) hx hb dX4_isHeld_135 (by decide) ?_
              have e_23 : (b2 (heldS (T 2) i zt (k + 1) = true)) = 1 := by first | exact heldS_o (T 2) i zt k (by omega) | exact heldS_1 (T 2) i zt k (by assumption) | exact heldS_2 (T 2) i zt k (by omega) (by omega) (by omega) | exact heldS_3 (T 2) i zt k (by assumption) (by omega)
              exact ih5 (k + 1) (zk + 1) (by omega) (by omega) (by omega) ls (by rw [e_23]; exact lv_sub hl [0, 1, 5, 6, 7] rfl)
            · -- 97 -> 100
              refine lv_iload hx hb dX4_isHeld_100 (lv_at hl 0 rfl) ?_
              refine lv_aload_n hx hb dX4_isHeld_102 rfl (lv_at hl 5 rfl) ?_
              refine r_get (ci := 4) (k := 1) (v := .ref (K 2)) (C := RX4) (T := TX4) (N := 29) Z hB hx hb hts hown rfl in_X4 hW.obj (by decide) q979 rfl dX4_isHeld_103 ?_
              refine lv_iload hx hb dX4_isHeld_106 (lv_at hl 2 rfl) ?_
              refine ii_const hx hb dX4_isHeld_108 ?_
              refine ii_add hx hb dX4_isHeld_109 ?_
              have b_698 := hF.r2 k (by omega)
              refine r_iald (k := (35 + 3 * k + 2)) (f := (T 2)) Z hB hx hb hW.now (by omega) (by omega) (by omega) dX4_isHeld_110 ?_
              refine ii_icmp_le (tgt := 130) hx hb dX4_isHeld_111 (by decide) (by omega) (by omega) (fun c_24 => ?_) (fun c_24 => ?_)
              · -- 111 -> 130
                refine ii_const hx hb dX4_isHeld_130 ?_
                refine lv_istore_n (lv' := [(3, .int (iI 0)), (7, .int (iI (az (zt - ((T 2) (2 * (endS (T 2) i k) + 1)))))), (6, .int (iI ze_18)), (5, .int (iI (35 + (3 * zk)))), (4, .int (iI zk)), (0, .ref (K 0)), (1, .int (iI zi)), (2, .int (iI zt))]) hx hb dX4_isHeld_131 rfl hl (by decide) rfl (fun ls hl => ?_)
                refine ii_iinc (k := 4) (lv' := [(4, .int (iI (zk + 1))), (3, .int (iI 0)), (7, .int (iI (az (zt - ((T 2) (2 * (endS (T 2) i k) + 1)))))), (6, .int (iI ze_18)), (5, .int (iI (35 + (3 * zk)))), (0, .ref (K 0)), (1, .int (iI zi)), (2, .int (iI zt))]) hx hb dX4_isHeld_132 hl rfl (by decide) rfl (fun ls hl => ?_)
                refine lv_goto (tgt := 5) hx hb dX4_isHeld_135 (by decide) ?_
                have e_25 : (b2 (heldS (T 2) i zt (k + 1) = true)) = 0 := by first | exact heldS_o (T 2) i zt k (by omega) | exact heldS_1 (T 2) i zt k (by assumption) | exact heldS_2 (T 2) i zt k (by omega) (by omega) (by omega) | exact heldS_3 (T 2) i zt k (by assumption) (by omega)
                exact ih5 (k + 1) (zk + 1) (by omega) (by omega) (by omega) ls (by rw [e_25]; exact lv_sub hl [0, 1, 5, 6, 7] rfl)
              · -- 111 -> 114
                refine lv_iload hx hb dX4_isHeld_114 (lv_at hl 0 rfl) ?_
                refine lv_aload_n hx hb dX4_isHeld_116 rfl (lv_at hl 5 rfl) ?_
                refine lv_iload_n hx hb dX4_isHeld_117 rfl (lv_at hl 6 rfl) ?_
                refine lv_iload hx hb dX4_isHeld_118 (lv_at hl 1 rfl) ?_
                have hn_26 : (T 1) 76 = (T 2) 76 := by first | rfl | omega
                refine cqI (va_runV (As := [.int (iI zi), .int (iI ze_18)]) (rest := [.int (iI (az (zt - ((T 2) (2 * (endS (T 2) i k) + 1)))))]) ⟨hx, hb, hml, hown, hts⟩ (mX4_apart Z K T (T 2) rfl hF hn_26 i zi (by omega) (by omega) (endS (T 2) i k) ze_18 (by omega) (by omega)) (cwV 2 hts (lw_V q1159 q1161 qs50 q83 q1162) rfl rfl rfl (by decide +kernel) ⟨Nat.le_of_ble_eq_true rfl, Nat.le_of_ble_eq_true rfl⟩) (pvR hB (OBJ.recv Z hB hW.obj (q := (RX4, TX4, 29)) rfl) hW) rfl rfl hl.1 rfl (lv_room (Nat.le_of_ble_eq_true rfl)) dX4_isHeld_120 ⟨Nat.zero_le _, Nat.zero_le _⟩) ?_
                have b_699 := apS_in hF i (endS (T 2) i k) (by omega) (by omega)
                refine ii_icmp_le (tgt := 130) hx hb dX4_isHeld_123 (by decide) (by omega) (by omega) (fun c_27 => ?_) (fun c_27 => ?_)
                · -- 123 -> 130
                  refine ii_const hx hb dX4_isHeld_130 ?_
                  refine lv_istore_n (lv' := [(3, .int (iI 0)), (7, .int (iI (az (zt - ((T 2) (2 * (endS (T 2) i k) + 1)))))), (6, .int (iI ze_18)), (5, .int (iI (35 + (3 * zk)))), (4, .int (iI zk)), (0, .ref (K 0)), (1, .int (iI zi)), (2, .int (iI zt))]) hx hb dX4_isHeld_131 rfl hl (by decide) rfl (fun ls hl => ?_)
                  refine ii_iinc (k := 4) (lv' := [(4, .int (iI (zk + 1))), (3, .int (iI 0)), (7, .int (iI (az (zt - ((T 2) (2 * (endS (T 2) i k) + 1)))))), (6, .int (iI ze_18)), (5, .int (iI (35 + (3 * zk)))), (0, .ref (K 0)), (1, .int (iI zi)), (2, .int (iI zt))]) hx hb dX4_isHeld_132 hl rfl (by decide) rfl (fun ls hl => ?_)
                  refine lv_goto (tgt := 5) hx hb dX4_isHeld_135 (by decide) ?_
                  have e_28 : (b2 (heldS (T 2) i zt (k + 1) = true)) = 0 := by first | exact heldS_o (T 2) i zt k (by omega) | exact heldS_1 (T 2) i zt k (by assumption) | exact heldS_2 (T 2) i zt k (by omega) (by omega) (by omega) | exact heldS_3 (T 2) i zt k (by assumption) (by omega)
                  exact ih5 (k + 1) (zk + 1) (by omega) (by omega) (by omega) ls (by rw [e_28]; exact lv_sub hl [0, 1, 5, 6, 7] rfl)
                · -- 123 -> 126
                  refine ii_const hx hb dX4_isHeld_126 ?_
                  refine lv_goto (tgt := 131) hx hb dX4_isHeld_127 (by decide) ?_
                  refine lv_istore_n (lv' := [(3, .int (iI 1)), (7, .int (iI (az (zt - ((T 2) (2 * (endS (T 2) i k) + 1)))))), (6, .int (iI ze_18)), (5, .int (iI (35 + (3 * zk)))), (4, .int (iI zk)), (0, .ref (K 0)), (1, .int (iI zi)), (2, .int (iI zt))]) hx hb dX4_isHeld_131 rfl hl (by decide) rfl (fun ls hl => ?_)
                  refine ii_iinc (k := 4) (lv' := [(4, .int (iI (zk + 1))), (3, .int (iI 1)), (7, .int (iI (az (zt - ((T 2) (2 * (endS (T 2) i k) + 1)))))), (6, .int (iI ze_18)), (5, .int (iI (35 + (3 * zk)))), (0, .ref (K 0)), (1, .int (iI zi)), (2, .int (iI zt))]) hx hb dX4_isHeld_132 hl rfl (by decide) rfl (fun ls hl => ?_)
                  refine lv_goto (tgt := 5) hx hb dX4_isHeld_135 (by decide) ?_
                  have e_29 : (b2 (heldS (T 2) i zt (k + 1) = true)) = 1 := by first | exact heldS_o (T 2) i zt k (by omega) | exact heldS_1 (T 2) i zt k (by assumption) | exact heldS_2 (T 2) i zt k (by omega) (by omega) (by omega) | exact heldS_3 (T 2) i zt k (by assumption) (by omega)
                  exact ih5 (k + 1) (zk + 1) (by omega) (by omega) (by omega) ls (by rw [e_29]; exact lv_sub hl [0, 1, 5, 6, 7] rfl)
  have e_30 : (b2 (heldS (T 2) i zt 0 = true)) = 0 := rfl
  exact loop_5 _ 0 0 (by omega) (by omega) (Nat.lt_succ_self _) ls (by rw [e_30]; exact lv_sub hl [0, 1, 2, 3, 4] rfl)

set_option maxHeartbeats 1000000 in
set_option maxRecDepth 100000 in
theorem mX4_ropesOf {l : Launch} {G : GG} {s0 : State} {b0 : Nat} (Z : ZZ l G s0 b0) (K : Nat → Nat) (T : Sta) (F : Nat → Int) (eF : T 1 = F) (hF : WF F) (i : Nat) (zi : Int) (hzi : zi = (i : Int)) (h5i : i < 5) : Met l yX4_ropesOf (ws_ yX4_ropesOf cX4_ropesOf 5 (some .int)) ({ frames := 1, cells := 0, slots := 0, locals := 20 } : Room) (pcR s0 (MW G K T) [.ref (K 0), .int (iI zi)]) (qI (ropesS F i (F 53).toNat)) 0 0 (fun _ => False) := by
  refine Met.ofW (cc := cX4_ropesOf) (maxL := 5) (ret := (some .int)) (by decide) rfl ?_
  intro p e s m args below meth c s₁ B hml hv
  obtain ⟨rfl, hW, hB⟩ := hv
  have hx := B.exec
  have hb := B.bytes
  have hr := B.returns
  have hts := atoms_spec (ws := (ws_ yX4_ropesOf cX4_ropesOf 5 (some .int))) B.pre
  have hts : ∀ w ∈ lw_all, w.before _ s = true := fun w h => hts w (List.mem_cons_of_mem _ h)
  have hown : s.vm.findClass RX4 = some m.cls := findClass_of_methodNamed B.named
  have hlocks := B.notSynchronized
  have hl := lv_entry ([.ref (K 0), .int (iI zi)]) (n := 5) (Nat.le_of_ble_eq_true rfl)
  rw [lg_entry_eq]
  generalize (lg_sl ([.ref (K 0), .int (iI zi)]) ++ List.replicate (5 - (lg_sl ([.ref (K 0), .int (iI zi)])).length) Slot.unset).toArray = ls at hl ⊢
  have hl : lv_has ls 5 [(0, .ref (K 0)), (1, .int (iI zi))] := hl
  subst eF
  have hn5 := hF.n
  have hrm := hF.rm
  refine ii_const hx hb dX4_ropesOf_0 ?_
  refine lv_istore_n (lv' := [(2, .int (iI 0)), (0, .ref (K 0)), (1, .int (iI zi))]) hx hb dX4_ropesOf_1 rfl hl (by decide) rfl (fun ls hl => ?_)
  refine ii_const hx hb dX4_ropesOf_2 ?_
  refine lv_istore_n (lv' := [(3, .int (iI 0)), (2, .int (iI 0)), (0, .ref (K 0)), (1, .int (iI zi))]) hx hb dX4_ropesOf_3 rfl hl (by decide) rfl (fun ls hl => ?_)
  have loop_4 : ∀ (fu : Nat) (k : Nat) (zk : Int), (zk = (k : Int)) → (k ≤ (T 1 53).toNat) → (7 - k) < fu → ∀ (ls : Array Slot), lv_has ls 5 [(3, .int (iI zk)), (2, .int (iI (ropesS (T 1) i k))), (0, .ref (K 0)), (1, .int (iI zi))] → W p l e (headSpec (ws_ yX4_ropesOf cX4_ropesOf 5 (some .int)) ({ frames := 1, cells := 0, slots := 0, locals := 20 } : Room)).room s m ([.ref (K 0), .int (iI zi)] : List Value).toArray below meth c s.heap [] 0 0 (MQ below (qI (ropesS (T 1) i ((T 1) 53).toNat)) ([.ref (K 0), .int (iI zi)] : List Value).toArray s 0 0 (fun _ => False)) (F0 m 4 ls []) := by
    intro fu
    induction fu with
    | zero => intro k zk ezk hk hmu; exact absurd hmu (Nat.not_lt_zero _)
    | succ fu ih4 =>
      intro k zk ezk hk hmu ls hl
      refine lv_iload_n hx hb dX4_ropesOf_4 rfl (lv_at hl 0 rfl) ?_
      refine lv_aload_n hx hb dX4_ropesOf_5 rfl (lv_at hl 2 rfl) ?_
      refine r_get (ci := 4) (k := 0) (v := .ref (K 1)) (C := RX4) (T := TX4) (N := 29) Z hB hx hb hts hown rfl in_X4 hW.obj (by decide) q978 rfl dX4_ropesOf_6 ?_
      refine ii_bipush hx hb dX4_ropesOf_9 (by decide) ?_
      have b_700 := hF.rm
      refine r_iald (k := 53) (f := (stF T)) Z hB hx hb hW.st (by omega) (by omega) (by omega) dX4_ropesOf_11 ?_
      rw [show stF T 53 = (T 1) 53 from stF_lo _ (by omega)]
      refine ii_icmp_ge (tgt := 64) hx hb dX4_ropesOf_12 (by decide) (by omega) (by omega) (fun c_1 => ?_) (fun c_1 => ?_)
      · -- 12 -> 64
        have ex_k : (T 1 53).toNat = k := by omega
        subst ex_k
        refine lv_iload_n hx hb dX4_ropesOf_64 rfl (lv_at hl 1 rfl) ?_
        have he9 : (ropesS (T 1) i (T 1 53).toNat) = (ropesS (T 1) i ((T 1) 53).toNat) := rfl
        exact W.iret hx hb hr (fun t ht hW9 => ⟨_, rfl, congrArg iI he9, ht⟩) (fun q hq => by cases hq) dX4_ropesOf_65
      · -- 12 -> 15
        refine ii_bipush hx hb dX4_ropesOf_15 (by decide) ?_
        refine ii_const hx hb dX4_ropesOf_17 ?_
        refine lv_iload_n hx hb dX4_ropesOf_18 rfl (lv_at hl 0 rfl) ?_
        refine ii_mul hx hb dX4_ropesOf_19 ?_
        refine ii_add hx hb dX4_ropesOf_20 ?_
        refine lv_istore (lv' := [(4, .int (iI (35 + (3 * zk)))), (3, .int (iI zk)), (2, .int (iI (ropesS (T 1) i k))), (0, .ref (K 0)), (1, .int (iI zi))]) hx hb dX4_ropesOf_21 hl (by decide) rfl (fun ls hl => ?_)
        refine lv_iload_n hx hb dX4_ropesOf_23 rfl (lv_at hl 2 rfl) ?_
        refine lv_aload_n hx hb dX4_ropesOf_24 rfl (lv_at hl 3 rfl) ?_
        refine r_get (ci := 4) (k := 0) (v := .ref (K 1)) (C := RX4) (T := TX4) (N := 29) Z hB hx hb hts hown rfl in_X4 hW.obj (by decide) q978 rfl dX4_ropesOf_25 ?_
        refine lv_iload hx hb dX4_ropesOf_28 (lv_at hl 0 rfl) ?_
        have b_701 := hF.r0 k (by omega)
        refine r_iald (k := (35 + 3 * k + 0)) (f := (stF T)) Z hB hx hb hW.st (by omega) (by omega) (by omega) dX4_ropesOf_30 ?_
        rw [show stF T (35 + 3 * k + 0) = (T 1) (35 + 3 * k + 0) from stF_lo _ (by omega)]
        refine lv_iload_n hx hb dX4_ropesOf_31 rfl (lv_at hl 4 rfl) ?_
        refine ii_icmp_eq (tgt := 48) hx hb dX4_ropesOf_32 (by decide) (by omega) (by omega) (fun c_2 => ?_) (fun c_2 => ?_)
        · -- 32 -> 48
          refine ii_const hx hb dX4_ropesOf_48 ?_
          refine lv_goto (tgt := 53) hx hb dX4_ropesOf_49 (by decide) ?_
          refine cqI (va_runS (As := [.int (iI 1)]) (rest := [.int (iI (ropesS (T 1) i k))]) ⟨hx, hb, hml, hown, hts⟩ (mX4_flag Z 1 (by omega)) (va_cwS 1 hts (lw_S q1182 q1183 q83 q1184) rfl rfl rfl (by decide +kernel) ⟨Nat.le_of_ble_eq_true rfl, Nat.le_of_ble_eq_true rfl⟩) (psR hB trivial) rfl rfl hl.1 rfl (lv_room (Nat.le_of_ble_eq_true rfl)) dX4_ropesOf_53 ⟨Nat.zero_le _, Nat.zero_le _⟩) ?_
          refine ii_add hx hb dX4_ropesOf_56 ?_
          refine lv_istore_n (lv' := [(2, .int (iI ((ropesS (T 1) i k) + 1))), (4, .int (iI (35 + (3 * zk)))), (3, .int (iI zk)), (0, .ref (K 0)), (1, .int (iI zi))]) hx hb dX4_ropesOf_57 rfl hl (by decide) rfl (fun ls hl => ?_)
          refine ii_iinc (k := 2) (lv' := [(3, .int (iI (zk + 1))), (2, .int (iI ((ropesS (T 1) i k) + 1))), (4, .int (iI (35 + (3 * zk)))), (0, .ref (K 0)), (1, .int (iI zi))]) hx hb dX4_ropesOf_58 hl rfl (by decide) rfl (fun ls hl => ?_)
          refine lv_goto (tgt := 4) hx hb dX4_ropesOf_61 (by decide) ?_
          have e_3 : (ropesS (T 1) i (k + 1)) = ((ropesS (T 1) i k) + 1) := by simp only [ropesS]; split <;> omega
          exact ih4 (k + 1) (zk + 1) (by omega) (by omega) (by omega) ls (by rw [e_3]; exact lv_sub hl [0, 1, 3, 4] rfl)
        · -- 32 -> 35
          refine lv_aload_n hx hb dX4_ropesOf_35 rfl (lv_at hl 3 rfl) ?_
          refine r_get (ci := 4) (k := 0) (v := .ref (K 1)) (C := RX4) (T := TX4) (N := 29) Z hB hx hb hts hown rfl in_X4 hW.obj (by decide) q978 rfl dX4_ropesOf_36 ?_
          refine lv_iload hx hb dX4_ropesOf_39 (lv_at hl 0 rfl) ?_
          refine ii_const hx hb dX4_ropesOf_41 ?_
          refine ii_add hx hb dX4_ropesOf_42 ?_
          have b_702 := hF.r1 k (by omega)
          refine r_iald (k := (35 + 3 * k + 1)) (f := (stF T)) Z hB hx hb hW.st (by omega) (by omega) (by omega) dX4_ropesOf_43 ?_
          rw [show stF T (35 + 3 * k + 1) = (T 1) (35 + 3 * k + 1) from stF_lo _ (by omega)]
          refine lv_iload_n hx hb dX4_ropesOf_44 rfl (lv_at hl 4 rfl) ?_
          refine ii_icmp_ne (tgt := 52) hx hb dX4_ropesOf_45 (by decide) (by omega) (by omega) (fun c_4 => ?_) (fun c_4 => ?_)
          · -- 45 -> 52
            refine ii_const hx hb dX4_ropesOf_52 ?_
            refine cqI (va_runS (As := [.int (iI 0)]) (rest := [.int (iI (ropesS (T 1) i k))]) ⟨hx, hb, hml, hown, hts⟩ (mX4_flag Z 0 (by omega)) (va_cwS 1 hts (lw_S q1182 q1183 q83 q1184) rfl rfl rfl (by decide +kernel) ⟨Nat.le_of_ble_eq_true rfl, Nat.le_of_ble_eq_true rfl⟩) (psR hB trivial) rfl rfl hl.1 rfl (lv_room (Nat.le_of_ble_eq_true rfl)) dX4_ropesOf_53 ⟨Nat.zero_le _, Nat.zero_le _⟩) ?_
            refine ii_add hx hb dX4_ropesOf_56 ?_
            refine lv_istore_n (lv' := [(2, .int (iI ((ropesS (T 1) i k) + 0))), (4, .int (iI (35 + (3 * zk)))), (3, .int (iI zk)), (0, .ref (K 0)), (1, .int (iI zi))]) hx hb dX4_ropesOf_57 rfl hl (by decide) rfl (fun ls hl => ?_)
            refine ii_iinc (k := 2) (lv' := [(3, .int (iI (zk + 1))), (2, .int (iI ((ropesS (T 1) i k) + 0))), (4, .int (iI (35 + (3 * zk)))), (0, .ref (K 0)), (1, .int (iI zi))]) hx hb dX4_ropesOf_58 hl rfl (by decide) rfl (fun ls hl => ?_)
            refine lv_goto (tgt := 4) hx hb dX4_ropesOf_61 (by decide) ?_
            have e_5 : (ropesS (T 1) i (k + 1)) = ((ropesS (T 1) i k) + 0) := by simp only [ropesS]; split <;> omega
            exact ih4 (k + 1) (zk + 1) (by omega) (by omega) (by omega) ls (by rw [e_5]; exact lv_sub hl [0, 1, 3, 4] rfl)
          · -- 45 -> 48
            refine ii_const hx hb dX4_ropesOf_48 ?_
            refine lv_goto (tgt := 53) hx hb dX4_ropesOf_49 (by decide) ?_
            refine cqI (va_runS (As := [.int (iI 1)]) (rest := [.int (iI (ropesS (T 1) i k))]) ⟨hx, hb, hml, hown, hts⟩ (mX4_flag Z 1 (by omega)) (va_cwS 1 hts (lw_S q1182 q1183 q83 q1184) rfl rfl rfl (by decide +kernel) ⟨Nat.le_of_ble_eq_true rfl, Nat.le_of_ble_eq_true rfl⟩) (psR hB trivial) rfl rfl hl.1 rfl (lv_room (Nat.le_of_ble_eq_true rfl)) dX4_ropesOf_53 ⟨Nat.zero_le _, Nat.zero_le _⟩) ?_
            refine ii_add hx hb dX4_ropesOf_56 ?_
            refine lv_istore_n (lv' := [(2, .int (iI ((ropesS (T 1) i k) + 1))), (4, .int (iI (35 + (3 * zk)))), (3, .int (iI zk)), (0, .ref (K 0)), (1, .int (iI zi))]) hx hb dX4_ropesOf_57 rfl hl (by decide) rfl (fun ls hl => ?_)
            refine ii_iinc (k := 2) (lv' := [(3, .int (iI (zk + 1))), (2, .int (iI ((ropesS (T 1) i k) + 1))), (4, .int (iI (35 + (3 * zk)))), (0, .ref (K 0)), (1, .int (iI zi))]) hx hb dX4_ropesOf_58 hl rfl (by decide) rfl (fun ls hl => ?_)
            refine lv_goto (tgt := 4) hx hb dX4_ropesOf_61 (by decide) ?_
            have e_6 : (ropesS (T 1) i (k + 1)) = ((ropesS (T 1) i k) + 1) := by simp only [ropesS]; split <;> omega
            exact ih4 (k + 1) (zk + 1) (by omega) (by omega) (by omega) ls (by rw [e_6]; exact lv_sub hl [0, 1, 3, 4] rfl)
  have e_7 : (ropesS (T 1) i 0) = 0 := rfl
  exact loop_4 _ 0 0 (by omega) (by omega) (Nat.lt_succ_self _) ls (by rw [e_7]; exact lv_sub hl [0, 1, 2, 3] rfl)

set_option maxHeartbeats 1000000 in
set_option maxRecDepth 100000 in
theorem mX4_isIsle {l : Launch} {G : GG} {s0 : State} {b0 : Nat} (Z : ZZ l G s0 b0) (K : Nat → Nat) (T : Sta) (F : Nat → Int) (eF : T 1 = F) (hF : WF F) (i : Int) (hi : inR i) : Met l yX4_isIsle (ws_ yX4_isIsle cX4_isIsle 2 (some .boolean)) ({ frames := 1, cells := 0, slots := 0, locals := 25 } : Room) (pcR s0 (MW G K T) [.ref (K 0), .int (iI i)]) (qI (b2 (okI F i))) 0 0 (fun _ => False) := by
  refine Met.ofW (cc := cX4_isIsle) (maxL := 2) (ret := (some .boolean)) (by decide) rfl ?_
  intro p e s m args below meth c s₁ B hml hv
  obtain ⟨rfl, hW, hB⟩ := hv
  have hx := B.exec
  have hb := B.bytes
  have hr := B.returns
  have hts := atoms_spec (ws := (ws_ yX4_isIsle cX4_isIsle 2 (some .boolean))) B.pre
  have hts : ∀ w ∈ lw_all, w.before _ s = true := fun w h => hts w (List.mem_cons_of_mem _ h)
  have hown : s.vm.findClass RX4 = some m.cls := findClass_of_methodNamed B.named
  have hlocks := B.notSynchronized
  have hl := lv_entry ([.ref (K 0), .int (iI i)]) (n := 2) (Nat.le_of_ble_eq_true rfl)
  rw [lg_entry_eq]
  generalize (lg_sl ([.ref (K 0), .int (iI i)]) ++ List.replicate (2 - (lg_sl ([.ref (K 0), .int (iI i)])).length) Slot.unset).toArray = ls at hl ⊢
  have hl : lv_has ls 2 [(0, .ref (K 0)), (1, .int (iI i))] := hl
  subst eF
  have hn5 := hF.n
  have hrm := hF.rm
  refine lv_iload_n hx hb dX4_isIsle_0 rfl (lv_at hl 1 rfl) ?_
  refine ii_i2l hx hb (by omega) dX4_isIsle_1 ?_
  refine ii_lconst (z := 0) hx hb dX4_isIsle_2 rfl ?_
  refine lv_aload_n hx hb dX4_isIsle_3 rfl (lv_at hl 0 rfl) ?_
  refine r_get (ci := 4) (k := 3) (v := .int (iI ((T 1) 76))) (C := RX4) (T := TX4) (N := 29) Z hB hx hb hts hown rfl in_X4 hW.obj (by decide) q981 rfl dX4_isIsle_4 ?_
  refine ii_const hx hb dX4_isIsle_7 ?_
  refine ii_sub hx hb dX4_isIsle_8 ?_
  refine ii_i2l hx hb (by omega) dX4_isIsle_9 ?_
  refine cqI (va_runS (As := [.long (lI i), .long (lI 0), .long (lI (((T 1) 76) - 1))]) (rest := []) ⟨hx, hb, hml, hown, hts⟩ (mX4_in Z i (by omega) 0 (by omega) (((T 1) 76) - 1) (by omega)) (va_cwS 3 hts (lw_S q1072 q1073 q83 q1074) rfl rfl rfl (by decide +kernel) ⟨Nat.le_of_ble_eq_true rfl, Nat.le_of_ble_eq_true rfl⟩) (psR hB trivial) rfl rfl hl.1 rfl (lv_room (Nat.le_of_ble_eq_true rfl)) dX4_isIsle_10 ⟨Nat.zero_le _, Nat.zero_le _⟩) ?_
  have he9 : (b2 (0 ≤ i ∧ i ≤ (((T 1) 76) - 1))) = (b2 (okI (T 1) i)) := by first | rfl | exact (b2_t (by omega)).symm | exact (b2_f (by omega)).symm
  exact W.zret (ty := .boolean) hx hb hr (b2_nar _) (fun t ht hW9 => ⟨_, rfl, congrArg iI he9, ht⟩) (fun q hq => by cases hq) dX4_isIsle_13

set_option maxHeartbeats 1000000 in
set_option maxRecDepth 100000 in
theorem mX4_isRope {l : Launch} {G : GG} {s0 : State} {b0 : Nat} (Z : ZZ l G s0 b0) (K : Nat → Nat) (T : Sta) (F : Nat → Int) (eF : T 1 = F) (hF : WF F) (k : Int) (hk : inR k) : Met l yX4_isRope (ws_ yX4_isRope cX4_isRope 2 (some .boolean)) ({ frames := 1, cells := 0, slots := 0, locals := 25 } : Room) (pcR s0 (MW G K T) [.ref (K 0), .int (iI k)]) (qI (b2 (okR F k))) 0 0 (fun _ => False) := by
  refine Met.ofW (cc := cX4_isRope) (maxL := 2) (ret := (some .boolean)) (by decide) rfl ?_
  intro p e s m args below meth c s₁ B hml hv
  obtain ⟨rfl, hW, hB⟩ := hv
  have hx := B.exec
  have hb := B.bytes
  have hr := B.returns
  have hts := atoms_spec (ws := (ws_ yX4_isRope cX4_isRope 2 (some .boolean))) B.pre
  have hts : ∀ w ∈ lw_all, w.before _ s = true := fun w h => hts w (List.mem_cons_of_mem _ h)
  have hown : s.vm.findClass RX4 = some m.cls := findClass_of_methodNamed B.named
  have hlocks := B.notSynchronized
  have hl := lv_entry ([.ref (K 0), .int (iI k)]) (n := 2) (Nat.le_of_ble_eq_true rfl)
  rw [lg_entry_eq]
  generalize (lg_sl ([.ref (K 0), .int (iI k)]) ++ List.replicate (2 - (lg_sl ([.ref (K 0), .int (iI k)])).length) Slot.unset).toArray = ls at hl ⊢
  have hl : lv_has ls 2 [(0, .ref (K 0)), (1, .int (iI k))] := hl
  subst eF
  have hn5 := hF.n
  have hrm := hF.rm
  refine lv_iload_n hx hb dX4_isRope_0 rfl (lv_at hl 1 rfl) ?_
  refine ii_i2l hx hb (by omega) dX4_isRope_1 ?_
  refine ii_lconst (z := 0) hx hb dX4_isRope_2 rfl ?_
  refine lv_aload_n hx hb dX4_isRope_3 rfl (lv_at hl 0 rfl) ?_
  refine r_get (ci := 4) (k := 0) (v := .ref (K 1)) (C := RX4) (T := TX4) (N := 29) Z hB hx hb hts hown rfl in_X4 hW.obj (by decide) q978 rfl dX4_isRope_4 ?_
  refine ii_bipush hx hb dX4_isRope_7 (by decide) ?_
  have b_703 := hF.rm
  refine r_iald (k := 53) (f := (stF T)) Z hB hx hb hW.st (by omega) (by omega) (by omega) dX4_isRope_9 ?_
  rw [show stF T 53 = (T 1) 53 from stF_lo _ (by omega)]
  refine ii_const hx hb dX4_isRope_10 ?_
  refine ii_sub hx hb dX4_isRope_11 ?_
  refine ii_i2l hx hb (by omega) dX4_isRope_12 ?_
  refine cqI (va_runS (As := [.long (lI k), .long (lI 0), .long (lI (((T 1) 53) - 1))]) (rest := []) ⟨hx, hb, hml, hown, hts⟩ (mX4_in Z k (by omega) 0 (by omega) (((T 1) 53) - 1) (by omega)) (va_cwS 3 hts (lw_S q1072 q1073 q83 q1074) rfl rfl rfl (by decide +kernel) ⟨Nat.le_of_ble_eq_true rfl, Nat.le_of_ble_eq_true rfl⟩) (psR hB trivial) rfl rfl hl.1 rfl (lv_room (Nat.le_of_ble_eq_true rfl)) dX4_isRope_13 ⟨Nat.zero_le _, Nat.zero_le _⟩) ?_
  have he9 : (b2 (0 ≤ k ∧ k ≤ (((T 1) 53) - 1))) = (b2 (okR (T 1) k)) := by first | rfl | exact (b2_t (by omega)).symm | exact (b2_f (by omega)).symm
  exact W.zret (ty := .boolean) hx hb hr (b2_nar _) (fun t ht hW9 => ⟨_, rfl, congrArg iI he9, ht⟩) (fun q hq => by cases hq) dX4_isRope_16

set_option maxHeartbeats 1000000 in
set_option maxRecDepth 100000 in
theorem mX4_areTwo {l : Launch} {G : GG} {s0 : State} {b0 : Nat} (Z : ZZ l G s0 b0) (K : Nat → Nat) (T : Sta) (F : Nat → Int) (eF : T 1 = F) (hF : WF F) (i : Int) (hi : inR i) (j : Int) (hj : inR j) : Met l yX4_areTwo (ws_ yX4_areTwo cX4_areTwo 3 (some .boolean)) ({ frames := 2, cells := 0, slots := 0, locals := 46 } : Room) (pcR s0 (MW G K T) [.ref (K 0), .int (iI i), .int (iI j)]) (qI (b2 (ok2 F i j))) 0 0 (fun _ => False) := by
  refine Met.ofW (cc := cX4_areTwo) (maxL := 3) (ret := (some .boolean)) (by decide) rfl ?_
  intro p e s m args below meth c s₁ B hml hv
  obtain ⟨rfl, hW, hB⟩ := hv
  have hx := B.exec
  have hb := B.bytes
  have hr := B.returns
  have hts := atoms_spec (ws := (ws_ yX4_areTwo cX4_areTwo 3 (some .boolean))) B.pre
  have hts : ∀ w ∈ lw_all, w.before _ s = true := fun w h => hts w (List.mem_cons_of_mem _ h)
  have hown : s.vm.findClass RX4 = some m.cls := findClass_of_methodNamed B.named
  have hlocks := B.notSynchronized
  have hl := lv_entry ([.ref (K 0), .int (iI i), .int (iI j)]) (n := 3) (Nat.le_of_ble_eq_true rfl)
  rw [lg_entry_eq]
  generalize (lg_sl ([.ref (K 0), .int (iI i), .int (iI j)]) ++ List.replicate (3 - (lg_sl ([.ref (K 0), .int (iI i), .int (iI j)])).length) Slot.unset).toArray = ls at hl ⊢
  have hl : lv_has ls 3 [(0, .ref (K 0)), (1, .int (iI i)), (2, .int (iI j))] := hl
  subst eF
  have hn5 := hF.n
  have hrm := hF.rm
  refine lv_aload_n hx hb dX4_areTwo_0 rfl (lv_at hl 0 rfl) ?_
  refine lv_iload_n hx hb dX4_areTwo_1 rfl (lv_at hl 1 rfl) ?_
  refine cqI (va_runV (As := [.int (iI i)]) (rest := []) ⟨hx, hb, hml, hown, hts⟩ (mX4_isIsle Z K T (T 1) rfl hF i (by omega)) (cwV 1 hts (lw_V q1174 q1176 qs52 q83 q1177) rfl rfl rfl (by decide +kernel) ⟨Nat.le_of_ble_eq_true rfl, Nat.le_of_ble_eq_true rfl⟩) (pvR hB (OBJ.recv Z hB hW.obj (q := (RX4, TX4, 29)) rfl) hW) rfl rfl hl.1 rfl (lv_room (Nat.le_of_ble_eq_true rfl)) dX4_areTwo_2 ⟨Nat.zero_le _, Nat.zero_le _⟩) ?_
  refine bb_if_eq (P := okI (T 1) i) (tgt := 25) hx hb dX4_areTwo_5 (by decide) (fun c_1 => ?_) (fun c_1 => ?_)
  · -- 5 -> 25
    refine ii_const hx hb dX4_areTwo_25 ?_
    have he9 : 0 = (b2 (ok2 (T 1) i j)) := by first | rfl | exact (b2_t (by omega)).symm | exact (b2_f (by omega)).symm
    exact W.zret (ty := .boolean) hx hb hr (by first | rfl | exact b2_nar _) (fun t ht hW9 => ⟨_, rfl, congrArg iI he9, ht⟩) (fun q hq => by cases hq) dX4_areTwo_26
  · -- 5 -> 8
    refine lv_aload_n hx hb dX4_areTwo_8 rfl (lv_at hl 0 rfl) ?_
    refine lv_iload_n hx hb dX4_areTwo_9 rfl (lv_at hl 2 rfl) ?_
    refine cqI (va_runV (As := [.int (iI j)]) (rest := []) ⟨hx, hb, hml, hown, hts⟩ (mX4_isIsle Z K T (T 1) rfl hF j (by omega)) (cwV 1 hts (lw_V q1174 q1176 qs52 q83 q1177) rfl rfl rfl (by decide +kernel) ⟨Nat.le_of_ble_eq_true rfl, Nat.le_of_ble_eq_true rfl⟩) (pvR hB (OBJ.recv Z hB hW.obj (q := (RX4, TX4, 29)) rfl) hW) rfl rfl hl.1 rfl (lv_room (Nat.le_of_ble_eq_true rfl)) dX4_areTwo_10 ⟨Nat.zero_le _, Nat.zero_le _⟩) ?_
    refine bb_if_eq (P := okI (T 1) j) (tgt := 25) hx hb dX4_areTwo_13 (by decide) (fun c_2 => ?_) (fun c_2 => ?_)
    · -- 13 -> 25
      refine ii_const hx hb dX4_areTwo_25 ?_
      have he9 : 0 = (b2 (ok2 (T 1) i j)) := by first | rfl | exact (b2_t (by omega)).symm | exact (b2_f (by omega)).symm
      exact W.zret (ty := .boolean) hx hb hr (by first | rfl | exact b2_nar _) (fun t ht hW9 => ⟨_, rfl, congrArg iI he9, ht⟩) (fun q hq => by cases hq) dX4_areTwo_26
    · -- 13 -> 16
      refine lv_iload_n hx hb dX4_areTwo_16 rfl (lv_at hl 1 rfl) ?_
      refine lv_iload_n hx hb dX4_areTwo_17 rfl (lv_at hl 2 rfl) ?_
      refine ii_icmp_eq (tgt := 25) hx hb dX4_areTwo_18 (by decide) (by omega) (by omega) (fun c_3 => ?_) (fun c_3 => ?_)
      · -- 18 -> 25
        refine ii_const hx hb dX4_areTwo_25 ?_
        have he9 : 0 = (b2 (ok2 (T 1) i j)) := by first | rfl | exact (b2_t (by omega)).symm | exact (b2_f (by omega)).symm
        exact W.zret (ty := .boolean) hx hb hr (by first | rfl | exact b2_nar _) (fun t ht hW9 => ⟨_, rfl, congrArg iI he9, ht⟩) (fun q hq => by cases hq) dX4_areTwo_26
      · -- 18 -> 21
        refine ii_const hx hb dX4_areTwo_21 ?_
        refine lv_goto (tgt := 26) hx hb dX4_areTwo_22 (by decide) ?_
        have he9 : 1 = (b2 (ok2 (T 1) i j)) := by first | rfl | exact (b2_t (by omega)).symm | exact (b2_f (by omega)).symm
        exact W.zret (ty := .boolean) hx hb hr (by first | rfl | exact b2_nar _) (fun t ht hW9 => ⟨_, rfl, congrArg iI he9, ht⟩) (fun q hq => by cases hq) dX4_areTwo_26
