/-! COMPONENT: what only reads (written by gen/comp.py) -/
set_option maxRecDepth 100000
set_option maxHeartbeats 1000000 in
set_option maxRecDepth 100000 in
theorem mX0_isIsle {l : Launch} {G : GG} {s0 : State} {b0 : Nat} (Z : ZZ l G s0 b0) (A : Nat → Nat) (S : Sta) (R : Nat → Option Nat) (hF0 : WF (S 20)) (i : Int) (hi : inR i) : Met l yX0_isIsle (ws_ yX0_isIsle cX0_isIsle 2 (some .boolean)) ({ frames := 1, cells := 0, slots := 0, locals := 25 } : Room) (pcR s0 (CW G A S R) [.ref (A 0), .int (iI i)]) (qI (b2 (okI (S 20) i))) 0 0 (fun _ => False) := by
  refine Met.ofW (cc := cX0_isIsle) (maxL := 2) (ret := (some .boolean)) (by decide) rfl ?_
  intro p e s m args below meth c s₁ B hml hv
  obtain ⟨rfl, hW, hB⟩ := hv
  have hx := B.exec
  have hb := B.bytes
  have hr := B.returns
  have hts := atoms_spec (ws := (ws_ yX0_isIsle cX0_isIsle 2 (some .boolean))) B.pre
  have hts : ∀ w ∈ lw_all, w.before _ s = true := fun w h => hts w (List.mem_cons_of_mem _ h)
  have hown : s.vm.findClass RX0 = some m.cls := findClass_of_methodNamed B.named
  have hlocks := B.notSynchronized
  have hl := lv_entry ([.ref (A 0), .int (iI i)]) (n := 2) (Nat.le_of_ble_eq_true rfl)
  rw [lg_entry_eq]
  generalize (lg_sl ([.ref (A 0), .int (iI i)]) ++ List.replicate (2 - (lg_sl ([.ref (A 0), .int (iI i)])).length) Slot.unset).toArray = ls at hl ⊢
  have hl : lv_has ls 2 [(0, .ref (A 0)), (1, .int (iI i))] := hl
  have hn5 := hF0.n
  refine lv_iload_n hx hb dX0_isIsle_0 rfl (lv_at hl 1 rfl) ?_
  refine ii_i2l hx hb (by omega) dX0_isIsle_1 ?_
  refine ii_lconst (z := 0) hx hb dX0_isIsle_2 rfl ?_
  refine lv_aload_n hx hb dX0_isIsle_3 rfl (lv_at hl 0 rfl) ?_
  refine r_get (ci := 0) (k := 3) (v := .ref (A 36)) (C := RX0) (T := TX0) (N := 16) Z hB hx hb hts hown rfl in_X0 hW.obj (by decide) q796 rfl dX0_isIsle_4 ?_
  have b_250 := hF0.n 
  refine r_getN (ci := 1) (k := 3) (v := .int (iI ((S 20) 76))) (C := RX1) (T := TX1) (N := 8) Z hB hx hb hts hown rfl in_X1 (((hW.fw (f := 0) (by omega) (F := (S 20)) rfl)).1) (by decide) q147 rfl dX0_isIsle_7 ?_
  refine ii_const hx hb dX0_isIsle_10 ?_
  refine ii_sub hx hb dX0_isIsle_11 ?_
  refine ii_i2l hx hb (by omega) dX0_isIsle_12 ?_
  refine cqI (va_runS (As := [.long (lI i), .long (lI 0), .long (lI (((S 20) 76) - 1))]) (rest := []) ⟨hx, hb, hml, hown, hts⟩ (mX0_isIn Z i (by omega) 0 (by omega) (((S 20) 76) - 1) (by omega)) (va_cwS 3 hts (lw_S q106 q107 q79 q108) rfl rfl rfl (by decide +kernel) ⟨Nat.le_of_ble_eq_true rfl, Nat.le_of_ble_eq_true rfl⟩) (psR hB trivial) rfl rfl hl.1 rfl (lv_room (Nat.le_of_ble_eq_true rfl)) dX0_isIsle_13 ⟨Nat.zero_le _, Nat.zero_le _⟩) ?_
  have he9 : (b2 (0 ≤ i ∧ i ≤ (((S 20) 76) - 1))) = (b2 (okI (S 20) i)) := rfl
  exact W.zret (ty := .boolean) hx hb hr (b2_nar _) (fun t ht hW9 => ⟨_, rfl, congrArg iI he9, ht⟩) (fun q hq => by cases hq) dX0_isIsle_16

set_option maxHeartbeats 1000000 in
set_option maxRecDepth 100000 in
theorem mX0_isRope {l : Launch} {G : GG} {s0 : State} {b0 : Nat} (Z : ZZ l G s0 b0) (A : Nat → Nat) (S : Sta) (R : Nat → Option Nat) (hF0 : WF (S 20)) (k : Int) (hk : inR k) : Met l yX0_isRope (ws_ yX0_isRope cX0_isRope 2 (some .boolean)) ({ frames := 1, cells := 0, slots := 0, locals := 25 } : Room) (pcR s0 (CW G A S R) [.ref (A 0), .int (iI k)]) (qI (b2 (okR (S 20) k))) 0 0 (fun _ => False) := by
  refine Met.ofW (cc := cX0_isRope) (maxL := 2) (ret := (some .boolean)) (by decide) rfl ?_
  intro p e s m args below meth c s₁ B hml hv
  obtain ⟨rfl, hW, hB⟩ := hv
  have hx := B.exec
  have hb := B.bytes
  have hr := B.returns
  have hts := atoms_spec (ws := (ws_ yX0_isRope cX0_isRope 2 (some .boolean))) B.pre
  have hts : ∀ w ∈ lw_all, w.before _ s = true := fun w h => hts w (List.mem_cons_of_mem _ h)
  have hown : s.vm.findClass RX0 = some m.cls := findClass_of_methodNamed B.named
  have hlocks := B.notSynchronized
  have hl := lv_entry ([.ref (A 0), .int (iI k)]) (n := 2) (Nat.le_of_ble_eq_true rfl)
  rw [lg_entry_eq]
  generalize (lg_sl ([.ref (A 0), .int (iI k)]) ++ List.replicate (2 - (lg_sl ([.ref (A 0), .int (iI k)])).length) Slot.unset).toArray = ls at hl ⊢
  have hl : lv_has ls 2 [(0, .ref (A 0)), (1, .int (iI k))] := hl
  have hr6 := hF0.rm
  refine lv_iload_n hx hb dX0_isRope_0 rfl (lv_at hl 1 rfl) ?_
  refine ii_i2l hx hb (by omega) dX0_isRope_1 ?_
  refine ii_lconst (z := 0) hx hb dX0_isRope_2 rfl ?_
  refine lv_aload_n hx hb dX0_isRope_3 rfl (lv_at hl 0 rfl) ?_
  refine r_get (ci := 0) (k := 3) (v := .ref (A 36)) (C := RX0) (T := TX0) (N := 16) Z hB hx hb hts hown rfl in_X0 hW.obj (by decide) q796 rfl dX0_isRope_4 ?_
  have b_255 := hF0.rm 
  refine r_getN (ci := 1) (k := 4) (v := .int (iI ((S 20) 53))) (C := RX1) (T := TX1) (N := 8) Z hB hx hb hts hown rfl in_X1 (((hW.fw (f := 0) (by omega) (F := (S 20)) rfl)).1) (by decide) q149 rfl dX0_isRope_7 ?_
  refine ii_const hx hb dX0_isRope_10 ?_
  refine ii_sub hx hb dX0_isRope_11 ?_
  refine ii_i2l hx hb (by omega) dX0_isRope_12 ?_
  refine cqI (va_runS (As := [.long (lI k), .long (lI 0), .long (lI (((S 20) 53) - 1))]) (rest := []) ⟨hx, hb, hml, hown, hts⟩ (mX0_isIn Z k (by omega) 0 (by omega) (((S 20) 53) - 1) (by omega)) (va_cwS 3 hts (lw_S q106 q107 q79 q108) rfl rfl rfl (by decide +kernel) ⟨Nat.le_of_ble_eq_true rfl, Nat.le_of_ble_eq_true rfl⟩) (psR hB trivial) rfl rfl hl.1 rfl (lv_room (Nat.le_of_ble_eq_true rfl)) dX0_isRope_13 ⟨Nat.zero_le _, Nat.zero_le _⟩) ?_
  have he9 : (b2 (0 ≤ k ∧ k ≤ (((S 20) 53) - 1))) = (b2 (okR (S 20) k)) := rfl
  exact W.zret (ty := .boolean) hx hb hr (b2_nar _) (fun t ht hW9 => ⟨_, rfl, congrArg iI he9, ht⟩) (fun q hq => by cases hq) dX0_isRope_16

set_option maxHeartbeats 1000000 in
set_option maxRecDepth 100000 in
theorem mX0_areTwo {l : Launch} {G : GG} {s0 : State} {b0 : Nat} (Z : ZZ l G s0 b0) (A : Nat → Nat) (S : Sta) (R : Nat → Option Nat) (hF0 : WF (S 20)) (i : Int) (hi : inR i) (j : Int) (hj : inR j) : Met l yX0_areTwo (ws_ yX0_areTwo cX0_areTwo 3 (some .boolean)) ({ frames := 2, cells := 0, slots := 0, locals := 46 } : Room) (pcR s0 (CW G A S R) [.ref (A 0), .int (iI i), .int (iI j)]) (qI (b2 (ok2 (S 20) i j))) 0 0 (fun _ => False) := by
  refine Met.ofW (cc := cX0_areTwo) (maxL := 3) (ret := (some .boolean)) (by decide) rfl ?_
  intro p e s m args below meth c s₁ B hml hv
  obtain ⟨rfl, hW, hB⟩ := hv
  have hx := B.exec
  have hb := B.bytes
  have hr := B.returns
  have hts := atoms_spec (ws := (ws_ yX0_areTwo cX0_areTwo 3 (some .boolean))) B.pre
  have hts : ∀ w ∈ lw_all, w.before _ s = true := fun w h => hts w (List.mem_cons_of_mem _ h)
  have hown : s.vm.findClass RX0 = some m.cls := findClass_of_methodNamed B.named
  have hlocks := B.notSynchronized
  have hl := lv_entry ([.ref (A 0), .int (iI i), .int (iI j)]) (n := 3) (Nat.le_of_ble_eq_true rfl)
  rw [lg_entry_eq]
  generalize (lg_sl ([.ref (A 0), .int (iI i), .int (iI j)]) ++ List.replicate (3 - (lg_sl ([.ref (A 0), .int (iI i), .int (iI j)])).length) Slot.unset).toArray = ls at hl ⊢
  have hl : lv_has ls 3 [(0, .ref (A 0)), (1, .int (iI i)), (2, .int (iI j))] := hl
  have hn5 := hF0.n
  refine lv_aload_n hx hb dX0_areTwo_0 rfl (lv_at hl 0 rfl) ?_
  refine lv_iload_n hx hb dX0_areTwo_1 rfl (lv_at hl 1 rfl) ?_
  refine cqI (va_runV (As := [.int (iI i)]) (rest := []) ⟨hx, hb, hml, hown, hts⟩ (mX0_isIsle Z A S R hF0 i (by omega)) (cwV 1 hts (lw_V q449 q451 qs14 q79 q453) rfl rfl rfl (by decide +kernel) ⟨Nat.le_of_ble_eq_true rfl, Nat.le_of_ble_eq_true rfl⟩) (pvR hB (OBJ.recv Z hB hW.obj (q := (RX0, TX0, 16)) rfl) hW) rfl rfl hl.1 rfl (lv_room (Nat.le_of_ble_eq_true rfl)) dX0_areTwo_2 ⟨Nat.zero_le _, Nat.zero_le _⟩) ?_
  refine bb_if_eq (P := okI (S 20) i) (tgt := 25) hx hb dX0_areTwo_5 (by decide) (fun c_1 => ?_) (fun c_1 => ?_)
  · -- 5 -> 25
    refine ii_const hx hb dX0_areTwo_25 ?_
    have he9 : 0 = (b2 (ok2 (S 20) i j)) := by first | exact (b2_t (by omega)).symm | exact (b2_f (by omega)).symm
    exact W.zret (ty := .boolean) hx hb hr (by first | rfl | exact b2_nar _) (fun t ht hW9 => ⟨_, rfl, congrArg iI he9, ht⟩) (fun q hq => by cases hq) dX0_areTwo_26
  · -- 5 -> 8
    refine lv_aload_n hx hb dX0_areTwo_8 rfl (lv_at hl 0 rfl) ?_
    refine lv_iload_n hx hb dX0_areTwo_9 rfl (lv_at hl 2 rfl) ?_
    refine cqI (va_runV (As := [.int (iI j)]) (rest := []) ⟨hx, hb, hml, hown, hts⟩ (mX0_isIsle Z A S R hF0 j (by omega)) (cwV 1 hts (lw_V q449 q451 qs14 q79 q453) rfl rfl rfl (by decide +kernel) ⟨Nat.le_of_ble_eq_true rfl, Nat.le_of_ble_eq_true rfl⟩) (pvR hB (OBJ.recv Z hB hW.obj (q := (RX0, TX0, 16)) rfl) hW) rfl rfl hl.1 rfl (lv_room (Nat.le_of_ble_eq_true rfl)) dX0_areTwo_10 ⟨Nat.zero_le _, Nat.zero_le _⟩) ?_
    refine bb_if_eq (P := okI (S 20) j) (tgt := 25) hx hb dX0_areTwo_13 (by decide) (fun c_2 => ?_) (fun c_2 => ?_)
    · -- 13 -> 25
      refine ii_const hx hb dX0_areTwo_25 ?_
      have he9 : 0 = (b2 (ok2 (S 20) i j)) := by first | exact (b2_t (by omega)).symm | exact (b2_f (by omega)).symm
      exact W.zret (ty := .boolean) hx hb hr (by first | rfl | exact b2_nar _) (fun t ht hW9 => ⟨_, rfl, congrArg iI he9, ht⟩) (fun q hq => by cases hq) dX0_areTwo_26
    · -- 13 -> 16
      refine lv_iload_n hx hb dX0_areTwo_16 rfl (lv_at hl 1 rfl) ?_
      refine lv_iload_n hx hb dX0_areTwo_17 rfl (lv_at hl 2 rfl) ?_
      refine ii_icmp_eq (tgt := 25) hx hb dX0_areTwo_18 (by decide) (by omega) (by omega) (fun c_3 => ?_) (fun c_3 => ?_)
      · -- 18 -> 25
        refine ii_const hx hb dX0_areTwo_25 ?_
        have he9 : 0 = (b2 (ok2 (S 20) i j)) := by first | exact (b2_t (by omega)).symm | exact (b2_f (by omega)).symm
        exact W.zret (ty := .boolean) hx hb hr (by first | rfl | exact b2_nar _) (fun t ht hW9 => ⟨_, rfl, congrArg iI he9, ht⟩) (fun q hq => by cases hq) dX0_areTwo_26
      · -- 18 -> 21
        refine ii_const hx hb dX0_areTwo_21 ?_
        refine lv_goto (tgt := 26) hx hb dX0_areTwo_22 (by decide) ?_
        have he9 : 1 = (b2 (ok2 (S 20) i j)) := by first | exact (b2_t (by omega)).symm | exact (b2_f (by omega)).symm
        exact W.zret (ty := .boolean) hx hb hr (by first | rfl | exact b2_nar _) (fun t ht hW9 => ⟨_, rfl, congrArg iI he9, ht⟩) (fun q hq => by cases hq) dX0_areTwo_26

set_option maxHeartbeats 1000000 in
set_option maxRecDepth 100000 in
theorem mX0_fault {l : Launch} {G : GG} {s0 : State} {b0 : Nat} (Z : ZZ l G s0 b0) (A : Nat → Nat) (S : Sta) (R : Nat → Option Nat) (hF0 : WF (S 20)) : Met l yX0_fault (ws_ yX0_fault cX0_fault 1 (some .int)) ({ frames := 0, cells := 0, slots := 0, locals := 0 } : Room) (pcR s0 (CW G A S R) [.ref (A 0)]) (qI (S 0 1)) 0 0 (fun _ => False) := by
  refine Met.ofW (cc := cX0_fault) (maxL := 1) (ret := (some .int)) (by decide) rfl ?_
  intro p e s m args below meth c s₁ B hml hv
  obtain ⟨rfl, hW, hB⟩ := hv
  have hx := B.exec
  have hb := B.bytes
  have hr := B.returns
  have hts := atoms_spec (ws := (ws_ yX0_fault cX0_fault 1 (some .int))) B.pre
  have hts : ∀ w ∈ lw_all, w.before _ s = true := fun w h => hts w (List.mem_cons_of_mem _ h)
  have hown : s.vm.findClass RX0 = some m.cls := findClass_of_methodNamed B.named
  have hlocks := B.notSynchronized
  have hl := lv_entry ([.ref (A 0)]) (n := 1) (Nat.le_of_ble_eq_true rfl)
  rw [lg_entry_eq]
  generalize (lg_sl ([.ref (A 0)]) ++ List.replicate (1 - (lg_sl ([.ref (A 0)])).length) Slot.unset).toArray = ls at hl ⊢
  have hl : lv_has ls 1 [(0, .ref (A 0))] := hl
  refine lv_aload_n hx hb dX0_fault_0 rfl (lv_at hl 0 rfl) ?_
  refine r_get (ci := 0) (k := 2) (v := .int (iI ((S 0) 1))) (C := RX0) (T := TX0) (N := 16) Z hB hx hb hts hown rfl in_X0 hW.obj (by decide) q794 rfl dX0_fault_1 ?_
  have he9 : ((S 0) 1) = (S 0 1) := rfl
  exact W.iret hx hb hr (fun t ht hW9 => ⟨_, rfl, congrArg iI he9, ht⟩) (fun q hq => by cases hq) dX0_fault_4

set_option maxHeartbeats 1000000 in
set_option maxRecDepth 100000 in
theorem mX0_torn {l : Launch} {G : GG} {s0 : State} {b0 : Nat} (Z : ZZ l G s0 b0) (A : Nat → Nat) (S : Sta) (R : Nat → Option Nat) (hF0 : WF (S 20)) : Met l yX0_torn (ws_ yX0_torn cX0_torn 1 (some .int)) ({ frames := 0, cells := 0, slots := 0, locals := 0 } : Room) (pcR s0 (CW G A S R) [.ref (A 0)]) (qI (S 0 4)) 0 0 (fun _ => False) := by
  refine Met.ofW (cc := cX0_torn) (maxL := 1) (ret := (some .int)) (by decide) rfl ?_
  intro p e s m args below meth c s₁ B hml hv
  obtain ⟨rfl, hW, hB⟩ := hv
  have hx := B.exec
  have hb := B.bytes
  have hr := B.returns
  have hts := atoms_spec (ws := (ws_ yX0_torn cX0_torn 1 (some .int))) B.pre
  have hts : ∀ w ∈ lw_all, w.before _ s = true := fun w h => hts w (List.mem_cons_of_mem _ h)
  have hown : s.vm.findClass RX0 = some m.cls := findClass_of_methodNamed B.named
  have hlocks := B.notSynchronized
  have hl := lv_entry ([.ref (A 0)]) (n := 1) (Nat.le_of_ble_eq_true rfl)
  rw [lg_entry_eq]
  generalize (lg_sl ([.ref (A 0)]) ++ List.replicate (1 - (lg_sl ([.ref (A 0)])).length) Slot.unset).toArray = ls at hl ⊢
  have hl : lv_has ls 1 [(0, .ref (A 0))] := hl
  refine lv_aload_n hx hb dX0_torn_0 rfl (lv_at hl 0 rfl) ?_
  refine r_get (ci := 0) (k := 13) (v := .int (iI ((S 0) 4))) (C := RX0) (T := TX0) (N := 16) Z hB hx hb hts hown rfl in_X0 hW.obj (by decide) q808 rfl dX0_torn_1 ?_
  have he9 : ((S 0) 4) = (S 0 4) := rfl
  exact W.iret hx hb hr (fun t ht hW9 => ⟨_, rfl, congrArg iI he9, ht⟩) (fun q hq => by cases hq) dX0_torn_4

set_option maxHeartbeats 1000000 in
set_option maxRecDepth 100000 in
theorem mX0_rule {l : Launch} {G : GG} {s0 : State} {b0 : Nat} (Z : ZZ l G s0 b0) (A : Nat → Nat) (S : Sta) (R : Nat → Option Nat) (hF0 : WF (S 20)) (what : Int) (hwhat : inR what) : Met l yX0_rule (ws_ yX0_rule cX0_rule 2 (some .int)) ({ frames := 2, cells := 0, slots := 0, locals := 44 } : Room) (pcR s0 (CW G A S R) [.ref (A 0), .int (iI what)]) (qI (ruleS (S 20) what)) 0 0 (fun _ => False) := by
  refine Met.ofW (cc := cX0_rule) (maxL := 2) (ret := (some .int)) (by decide) rfl ?_
  intro p e s m args below meth c s₁ B hml hv
  obtain ⟨rfl, hW, hB⟩ := hv
  have hx := B.exec
  have hb := B.bytes
  have hr := B.returns
  have hts := atoms_spec (ws := (ws_ yX0_rule cX0_rule 2 (some .int))) B.pre
  have hts : ∀ w ∈ lw_all, w.before _ s = true := fun w h => hts w (List.mem_cons_of_mem _ h)
  have hown : s.vm.findClass RX0 = some m.cls := findClass_of_methodNamed B.named
  have hlocks := B.notSynchronized
  have hl := lv_entry ([.ref (A 0), .int (iI what)]) (n := 2) (Nat.le_of_ble_eq_true rfl)
  rw [lg_entry_eq]
  generalize (lg_sl ([.ref (A 0), .int (iI what)]) ++ List.replicate (2 - (lg_sl ([.ref (A 0), .int (iI what)])).length) Slot.unset).toArray = ls at hl ⊢
  have hl : lv_has ls 2 [(0, .ref (A 0)), (1, .int (iI what))] := hl
  have hn5 := hF0.n
  refine lv_iload_n hx hb dX0_rule_0 rfl (lv_at hl 1 rfl) ?_
  by_cases c_1_0 : what = 0
  · --
    refine lv_tableIn (off := 39) (tgt := 40) hx hb dX0_rule_1 (by rw [iI_toInt (by omega)]; omega) (by rw [iI_toInt (by omega)]; omega) (by rw [iI_toInt (by omega), c_1_0]; rfl) (by decide) ?_
    refine lv_aload_n hx hb dX0_rule_40 rfl (lv_at hl 0 rfl) ?_
    refine r_get (ci := 0) (k := 3) (v := .ref (A 36)) (C := RX0) (T := TX0) (N := 16) Z hB hx hb hts hown rfl in_X0 hW.obj (by decide) q796 rfl dX0_rule_41 ?_
    have b_258 := hF0.n 
    refine r_getN (ci := 1) (k := 3) (v := .int (iI ((S 20) 76))) (C := RX1) (T := TX1) (N := 8) Z hB hx hb hts hown rfl in_X1 (((hW.fw (f := 0) (by omega) (F := (S 20)) rfl)).1) (by decide) q147 rfl dX0_rule_44 ?_
    have he9 : ((S 20) 76) = (ruleS (S 20) what) := by unfold ruleS; (repeat' split) <;> first | rfl | omega
    exact W.iret hx hb hr (fun t ht hW9 => ⟨_, rfl, congrArg iI he9, ht⟩) (fun q hq => by cases hq) dX0_rule_47
  by_cases c_1_1 : what = 1
  · --
    refine lv_tableIn (off := 47) (tgt := 48) hx hb dX0_rule_1 (by rw [iI_toInt (by omega)]; omega) (by rw [iI_toInt (by omega)]; omega) (by rw [iI_toInt (by omega), c_1_1]; rfl) (by decide) ?_
    refine lv_aload_n hx hb dX0_rule_48 rfl (lv_at hl 0 rfl) ?_
    refine r_get (ci := 0) (k := 3) (v := .ref (A 36)) (C := RX0) (T := TX0) (N := 16) Z hB hx hb hts hown rfl in_X0 hW.obj (by decide) q796 rfl dX0_rule_49 ?_
    have b_263 := hF0.rm 
    refine r_getN (ci := 1) (k := 4) (v := .int (iI ((S 20) 53))) (C := RX1) (T := TX1) (N := 8) Z hB hx hb hts hown rfl in_X1 (((hW.fw (f := 0) (by omega) (F := (S 20)) rfl)).1) (by decide) q149 rfl dX0_rule_52 ?_
    have he9 : ((S 20) 53) = (ruleS (S 20) what) := by unfold ruleS; (repeat' split) <;> first | rfl | omega
    exact W.iret hx hb hr (fun t ht hW9 => ⟨_, rfl, congrArg iI he9, ht⟩) (fun q hq => by cases hq) dX0_rule_55
  by_cases c_1_2 : what = 2
  · --
    refine lv_tableIn (off := 55) (tgt := 56) hx hb dX0_rule_1 (by rw [iI_toInt (by omega)]; omega) (by rw [iI_toInt (by omega)]; omega) (by rw [iI_toInt (by omega), c_1_2]; rfl) (by decide) ?_
    refine lv_aload_n hx hb dX0_rule_56 rfl (lv_at hl 0 rfl) ?_
    refine r_get (ci := 0) (k := 3) (v := .ref (A 36)) (C := RX0) (T := TX0) (N := 16) Z hB hx hb hts hown rfl in_X0 hW.obj (by decide) q796 rfl dX0_rule_57 ?_
    have b_269 := hF0.day 
    refine r_getN (ci := 1) (k := 6) (v := .int (iI ((S 20) 54))) (C := RX1) (T := TX1) (N := 8) Z hB hx hb hts hown rfl in_X1 (((hW.fw (f := 0) (by omega) (F := (S 20)) rfl)).1) (by decide) q155 rfl dX0_rule_60 ?_
    have he9 : ((S 20) 54) = (ruleS (S 20) what) := by unfold ruleS; (repeat' split) <;> first | rfl | omega
    exact W.iret hx hb hr (fun t ht hW9 => ⟨_, rfl, congrArg iI he9, ht⟩) (fun q hq => by cases hq) dX0_rule_63
  by_cases c_1_3 : what = 3
  · --
    refine lv_tableIn (off := 63) (tgt := 64) hx hb dX0_rule_1 (by rw [iI_toInt (by omega)]; omega) (by rw [iI_toInt (by omega)]; omega) (by rw [iI_toInt (by omega), c_1_3]; rfl) (by decide) ?_
    refine lv_aload_n hx hb dX0_rule_64 rfl (lv_at hl 0 rfl) ?_
    refine r_get (ci := 0) (k := 3) (v := .ref (A 36)) (C := RX0) (T := TX0) (N := 16) Z hB hx hb hts hown rfl in_X0 hW.obj (by decide) q796 rfl dX0_rule_65 ?_
    have b_272 := hF0.fe 
    refine r_getN (ci := 1) (k := 5) (v := .int (iI ((S 20) 55))) (C := RX1) (T := TX1) (N := 8) Z hB hx hb hts hown rfl in_X1 (((hW.fw (f := 0) (by omega) (F := (S 20)) rfl)).1) (by decide) q153 rfl dX0_rule_68 ?_
    have he9 : ((S 20) 55) = (ruleS (S 20) what) := by unfold ruleS; (repeat' split) <;> first | rfl | omega
    exact W.iret hx hb hr (fun t ht hW9 => ⟨_, rfl, congrArg iI he9, ht⟩) (fun q hq => by cases hq) dX0_rule_71
  by_cases c_1_4 : what = 4
  · --
    refine lv_tableIn (off := 71) (tgt := 72) hx hb dX0_rule_1 (by rw [iI_toInt (by omega)]; omega) (by rw [iI_toInt (by omega)]; omega) (by rw [iI_toInt (by omega), c_1_4]; rfl) (by decide) ?_
    refine lv_aload_n hx hb dX0_rule_72 rfl (lv_at hl 0 rfl) ?_
    refine r_get (ci := 0) (k := 3) (v := .ref (A 36)) (C := RX0) (T := TX0) (N := 16) Z hB hx hb hts hown rfl in_X0 hW.obj (by decide) q796 rfl dX0_rule_73 ?_
    refine r_getN (ci := 1) (k := 7) (v := .int (iI ((S 20) 56))) (C := RX1) (T := TX1) (N := 8) Z hB hx hb hts hown rfl in_X1 (((hW.fw (f := 0) (by omega) (F := (S 20)) rfl)).1) (by decide) q157 rfl dX0_rule_76 ?_
    have he9 : ((S 20) 56) = (ruleS (S 20) what) := by unfold ruleS; (repeat' split) <;> first | rfl | omega
    exact W.iret hx hb hr (fun t ht hW9 => ⟨_, rfl, congrArg iI he9, ht⟩) (fun q hq => by cases hq) dX0_rule_79
  by_cases c_1_5 : what = 5
  · --
    refine lv_tableIn (off := 79) (tgt := 80) hx hb dX0_rule_1 (by rw [iI_toInt (by omega)]; omega) (by rw [iI_toInt (by omega)]; omega) (by rw [iI_toInt (by omega), c_1_5]; rfl) (by decide) ?_
    refine lv_aload_n hx hb dX0_rule_80 rfl (lv_at hl 0 rfl) ?_
    refine r_get (ci := 0) (k := 3) (v := .ref (A 36)) (C := RX0) (T := TX0) (N := 16) Z hB hx hb hts hown rfl in_X0 hW.obj (by decide) q796 rfl dX0_rule_81 ?_
    refine cqI (va_runV (As := []) (rest := []) ⟨hx, hb, hml, hown, hts⟩ (mX1_spread Z (fa A 0) (S 20) hF0 ) (cwV 0 hts (lw_V q437 q438 q439 q80 q440) rfl rfl rfl (by decide +kernel) ⟨Nat.le_of_ble_eq_true rfl, Nat.le_of_ble_eq_true rfl⟩) (pvR hB (OBJ.recv Z hB (((hW.fw (f := 0) (by omega) (F := (S 20)) rfl)).1) (q := (RX1, TX1, 8)) rfl) (hW.fw (f := 0) (by omega) (F := (S 20)) rfl)) rfl rfl hl.1 rfl (lv_room (Nat.le_of_ble_eq_true rfl)) dX0_rule_84 ⟨Nat.zero_le _, Nat.zero_le _⟩) ?_
    have b_282 := lowS_in hF0 ((S 20) 76).toNat (by have := hF0.n; omega)
    have b_283 := highS_in hF0 ((S 20) 76).toNat (by have := hF0.n; omega)
    have he9 : (max 0 (highS (S 20) ((S 20) 76).toNat - lowS (S 20) ((S 20) 76).toNat)) = (ruleS (S 20) what) := by unfold ruleS; (repeat' split) <;> first | rfl | omega
    exact W.iret hx hb hr (fun t ht hW9 => ⟨_, rfl, congrArg iI he9, ht⟩) (fun q hq => by cases hq) dX0_rule_87
  refine lv_tableOut (tgt := 88) hx hb dX0_rule_1 (by rw [iI_toInt (by omega)]; omega) (by decide) ?_
  refine ii_const hx hb dX0_rule_88 ?_
  have he9 : (-1) = (ruleS (S 20) what) := by unfold ruleS; (repeat' split) <;> first | rfl | omega
  exact W.iret hx hb hr (fun t ht hW9 => ⟨_, rfl, congrArg iI he9, ht⟩) (fun q hq => by cases hq) dX0_rule_89

set_option maxHeartbeats 1000000 in
set_option maxRecDepth 100000 in
theorem mX0_isle {l : Launch} {G : GG} {s0 : State} {b0 : Nat} (Z : ZZ l G s0 b0) (A : Nat → Nat) (S : Sta) (R : Nat → Option Nat) (hF0 : WF (S 20)) (i : Int) (hi : inR i) (what : Int) (hwhat : inR what) : Met l yX0_isle (ws_ yX0_isle cX0_isle 3 (some .int)) ({ frames := 4, cells := 0, slots := 0, locals := 84 } : Room) (pcR s0 (CW G A S R) [.ref (A 0), .int (iI i), .int (iI what)]) (qI (isleS (S 20) i what)) 0 0 (fun _ => False) := by
  refine Met.ofW (cc := cX0_isle) (maxL := 3) (ret := (some .int)) (by decide) rfl ?_
  intro p e s m args below meth c s₁ B hml hv
  obtain ⟨rfl, hW, hB⟩ := hv
  have hx := B.exec
  have hb := B.bytes
  have hr := B.returns
  have hts := atoms_spec (ws := (ws_ yX0_isle cX0_isle 3 (some .int))) B.pre
  have hts : ∀ w ∈ lw_all, w.before _ s = true := fun w h => hts w (List.mem_cons_of_mem _ h)
  have hown : s.vm.findClass RX0 = some m.cls := findClass_of_methodNamed B.named
  have hlocks := B.notSynchronized
  have hl := lv_entry ([.ref (A 0), .int (iI i), .int (iI what)]) (n := 3) (Nat.le_of_ble_eq_true rfl)
  rw [lg_entry_eq]
  generalize (lg_sl ([.ref (A 0), .int (iI i), .int (iI what)]) ++ List.replicate (3 - (lg_sl ([.ref (A 0), .int (iI i), .int (iI what)])).length) Slot.unset).toArray = ls at hl ⊢
  have hl : lv_has ls 3 [(0, .ref (A 0)), (1, .int (iI i)), (2, .int (iI what))] := hl
  have hn5 := hF0.n
  have hr6 := hF0.rm
  refine lv_aload_n hx hb dX0_isle_0 rfl (lv_at hl 0 rfl) ?_
  refine lv_iload_n hx hb dX0_isle_1 rfl (lv_at hl 1 rfl) ?_
  refine cqI (va_runV (As := [.int (iI i)]) (rest := []) ⟨hx, hb, hml, hown, hts⟩ (mX0_isIsle Z A S R hF0 i (by omega)) (cwV 1 hts (lw_V q449 q451 qs14 q79 q453) rfl rfl rfl (by decide +kernel) ⟨Nat.le_of_ble_eq_true rfl, Nat.le_of_ble_eq_true rfl⟩) (pvR hB (OBJ.recv Z hB hW.obj (q := (RX0, TX0, 16)) rfl) hW) rfl rfl hl.1 rfl (lv_room (Nat.le_of_ble_eq_true rfl)) dX0_isle_2 ⟨Nat.zero_le _, Nat.zero_le _⟩) ?_
  refine bb_if_ne (P := okI (S 20) i) (tgt := 10) hx hb dX0_isle_5 (by decide) (fun c_1 => ?_) (fun c_1 => ?_)
  · -- 5 -> 10
    refine lv_iload_n hx hb dX0_isle_10 rfl (lv_at hl 2 rfl) ?_
    by_cases c_2_0 : what = 0
    · --
      refine lv_tableIn (off := 37) (tgt := 48) hx hb dX0_isle_11 (by rw [iI_toInt (by omega)]; omega) (by rw [iI_toInt (by omega)]; omega) (by rw [iI_toInt (by omega), c_2_0]; rfl) (by decide) ?_
      refine lv_aload_n hx hb dX0_isle_48 rfl (lv_at hl 0 rfl) ?_
      refine r_get (ci := 0) (k := 3) (v := .ref (A 36)) (C := RX0) (T := TX0) (N := 16) Z hB hx hb hts hown rfl in_X0 hW.obj (by decide) q796 rfl dX0_isle_49 ?_
      refine r_getN (ci := 1) (k := 0) (v := .ref ((fa A 0) 1)) (C := RX1) (T := TX1) (N := 8) Z hB hx hb hts hown rfl in_X1 (((hW.fw (f := 0) (by omega) (F := (S 20)) rfl)).1) (by decide) q139 rfl dX0_isle_52 ?_
      refine lv_iload_n hx hb dX0_isle_55 rfl (lv_at hl 1 rfl) ?_
      refine r_aald (t := 1) (ty := .array .int) (k := (i).toNat) Z hB hx hb rfl rfl (((hW.fw (f := 0) (by omega) (F := (S 20)) rfl)).2.1) (by omega) (by omega) (by omega) rfl dX0_isle_56 ?_
      refine lv_iload_n hx hb dX0_isle_57 rfl (lv_at hl 2 rfl) ?_
      have b_288 := hF0.pl (i).toNat (by omega)
      refine r_iald (k := (what).toNat) Z hB hx hb (((hW.fw (f := 0) (by omega) (F := (S 20)) rfl)).2.2.1 (i).toNat (by omega)) (by omega) (by omega) (by omega) dX0_isle_58 ?_
      have he9 : ((S 20) (2 * (i).toNat + (what).toNat)) = (isleS (S 20) i what) := by unfold isleS fathF; (repeat' split) <;> first | rfl | omega | (rw [show what.toNat = 0 by omega]) | (rw [show what.toNat = 1 by omega])
      exact W.iret hx hb hr (fun t ht hW9 => ⟨_, rfl, congrArg iI he9, ht⟩) (fun q hq => by cases hq) dX0_isle_59
    by_cases c_2_1 : what = 1
    · --
      refine lv_tableIn (off := 37) (tgt := 48) hx hb dX0_isle_11 (by rw [iI_toInt (by omega)]; omega) (by rw [iI_toInt (by omega)]; omega) (by rw [iI_toInt (by omega), c_2_1]; rfl) (by decide) ?_
      refine lv_aload_n hx hb dX0_isle_48 rfl (lv_at hl 0 rfl) ?_
      refine r_get (ci := 0) (k := 3) (v := .ref (A 36)) (C := RX0) (T := TX0) (N := 16) Z hB hx hb hts hown rfl in_X0 hW.obj (by decide) q796 rfl dX0_isle_49 ?_
      refine r_getN (ci := 1) (k := 0) (v := .ref ((fa A 0) 1)) (C := RX1) (T := TX1) (N := 8) Z hB hx hb hts hown rfl in_X1 (((hW.fw (f := 0) (by omega) (F := (S 20)) rfl)).1) (by decide) q139 rfl dX0_isle_52 ?_
      refine lv_iload_n hx hb dX0_isle_55 rfl (lv_at hl 1 rfl) ?_
      refine r_aald (t := 1) (ty := .array .int) (k := (i).toNat) Z hB hx hb rfl rfl (((hW.fw (f := 0) (by omega) (F := (S 20)) rfl)).2.1) (by omega) (by omega) (by omega) rfl dX0_isle_56 ?_
      refine lv_iload_n hx hb dX0_isle_57 rfl (lv_at hl 2 rfl) ?_
      have b_293 := hF0.pl (i).toNat (by omega)
      refine r_iald (k := (what).toNat) Z hB hx hb (((hW.fw (f := 0) (by omega) (F := (S 20)) rfl)).2.2.1 (i).toNat (by omega)) (by omega) (by omega) (by omega) dX0_isle_58 ?_
      have he9 : ((S 20) (2 * (i).toNat + (what).toNat)) = (isleS (S 20) i what) := by unfold isleS fathF; (repeat' split) <;> first | rfl | omega | (rw [show what.toNat = 0 by omega]) | (rw [show what.toNat = 1 by omega])
      exact W.iret hx hb hr (fun t ht hW9 => ⟨_, rfl, congrArg iI he9, ht⟩) (fun q hq => by cases hq) dX0_isle_59
    by_cases c_2_2 : what = 2
    · --
      refine lv_tableIn (off := 49) (tgt := 60) hx hb dX0_isle_11 (by rw [iI_toInt (by omega)]; omega) (by rw [iI_toInt (by omega)]; omega) (by rw [iI_toInt (by omega), c_2_2]; rfl) (by decide) ?_
      refine lv_aload_n hx hb dX0_isle_60 rfl (lv_at hl 0 rfl) ?_
      refine r_get (ci := 0) (k := 3) (v := .ref (A 36)) (C := RX0) (T := TX0) (N := 16) Z hB hx hb hts hown rfl in_X0 hW.obj (by decide) q796 rfl dX0_isle_61 ?_
      refine lv_iload_n hx hb dX0_isle_64 rfl (lv_at hl 1 rfl) ?_
      refine cqI (va_runV (As := [.int (iI i)]) (rest := []) ⟨hx, hb, hml, hown, hts⟩ (mX1_ropesOf Z (fa A 0) (S 20) hF0 (i).toNat i (by omega) (by omega)) (cwV 1 hts (lw_V q454 q455 q456 q80 q457) rfl rfl rfl (by decide +kernel) ⟨Nat.le_of_ble_eq_true rfl, Nat.le_of_ble_eq_true rfl⟩) (pvR hB (OBJ.recv Z hB (((hW.fw (f := 0) (by omega) (F := (S 20)) rfl)).1) (q := (RX1, TX1, 8)) rfl) (hW.fw (f := 0) (by omega) (F := (S 20)) rfl)) rfl rfl hl.1 rfl (lv_room (Nat.le_of_ble_eq_true rfl)) dX0_isle_65 ⟨Nat.zero_le _, Nat.zero_le _⟩) ?_
      have b_298 := ropesS_in (S 20) (i).toNat ((S 20) 53).toNat
      have he9 : (ropesS (S 20) (i).toNat ((S 20) 53).toNat) = (isleS (S 20) i what) := by unfold isleS fathF; (repeat' split) <;> first | rfl | omega | (rw [show what.toNat = 0 by omega]) | (rw [show what.toNat = 1 by omega])
      exact W.iret hx hb hr (fun t ht hW9 => ⟨_, rfl, congrArg iI he9, ht⟩) (fun q hq => by cases hq) dX0_isle_68
    by_cases c_2_3 : what = 3
    · --
      refine lv_tableIn (off := 58) (tgt := 69) hx hb dX0_isle_11 (by rw [iI_toInt (by omega)]; omega) (by rw [iI_toInt (by omega)]; omega) (by rw [iI_toInt (by omega), c_2_3]; rfl) (by decide) ?_
      refine lv_aload_n hx hb dX0_isle_69 rfl (lv_at hl 0 rfl) ?_
      refine r_get (ci := 0) (k := 3) (v := .ref (A 36)) (C := RX0) (T := TX0) (N := 16) Z hB hx hb hts hown rfl in_X0 hW.obj (by decide) q796 rfl dX0_isle_70 ?_
      refine lv_iload_n hx hb dX0_isle_73 rfl (lv_at hl 1 rfl) ?_
      refine cqI (va_runV (As := [.int (iI i)]) (rest := []) ⟨hx, hb, hml, hown, hts⟩ (mX1_fathoms Z (fa A 0) (S 20) hF0 (i).toNat i (by omega) (by omega)) (cwV 1 hts (lw_V q458 q459 q460 q80 q461) rfl rfl rfl (by decide +kernel) ⟨Nat.le_of_ble_eq_true rfl, Nat.le_of_ble_eq_true rfl⟩) (pvR hB (OBJ.recv Z hB (((hW.fw (f := 0) (by omega) (F := (S 20)) rfl)).1) (q := (RX1, TX1, 8)) rfl) (hW.fw (f := 0) (by omega) (F := (S 20)) rfl)) rfl rfl hl.1 rfl (lv_room (Nat.le_of_ble_eq_true rfl)) dX0_isle_74 ⟨Nat.zero_le _, Nat.zero_le _⟩) ?_
      have b_303 := fathS_in hF0 (i).toNat (by omega)
      have he9 : (fathS ((S 20) (2 * (i).toNat + 0)) (az (sulkS (S 20) (i).toNat ((S 20) 76).toNat))) = (isleS (S 20) i what) := by unfold isleS fathF; (repeat' split) <;> first | rfl | omega | (rw [show what.toNat = 0 by omega]) | (rw [show what.toNat = 1 by omega])
      exact W.iret hx hb hr (fun t ht hW9 => ⟨_, rfl, congrArg iI he9, ht⟩) (fun q hq => by cases hq) dX0_isle_77
    by_cases c_2_4 : what = 4
    · --
      refine lv_tableIn (off := 67) (tgt := 78) hx hb dX0_isle_11 (by rw [iI_toInt (by omega)]; omega) (by rw [iI_toInt (by omega)]; omega) (by rw [iI_toInt (by omega), c_2_4]; rfl) (by decide) ?_
      refine lv_aload_n hx hb dX0_isle_78 rfl (lv_at hl 0 rfl) ?_
      refine r_get (ci := 0) (k := 3) (v := .ref (A 36)) (C := RX0) (T := TX0) (N := 16) Z hB hx hb hts hown rfl in_X0 hW.obj (by decide) q796 rfl dX0_isle_79 ?_
      refine lv_iload_n hx hb dX0_isle_82 rfl (lv_at hl 1 rfl) ?_
      refine cqI (va_runV (As := [.int (iI i)]) (rest := []) ⟨hx, hb, hml, hown, hts⟩ (mX1_sulk Z (fa A 0) (S 20) hF0 (i).toNat i (by omega) (by omega)) (cwV 1 hts (lw_V q492 q465 q466 q80 q467) rfl rfl rfl (by decide +kernel) ⟨Nat.le_of_ble_eq_true rfl, Nat.le_of_ble_eq_true rfl⟩) (pvR hB (OBJ.recv Z hB (((hW.fw (f := 0) (by omega) (F := (S 20)) rfl)).1) (q := (RX1, TX1, 8)) rfl) (hW.fw (f := 0) (by omega) (F := (S 20)) rfl)) rfl rfl hl.1 rfl (lv_room (Nat.le_of_ble_eq_true rfl)) dX0_isle_83 ⟨Nat.zero_le _, Nat.zero_le _⟩) ?_
      have b_308 := sulkS_in hF0 (i).toNat (by omega) ((S 20) 76).toNat (by have := hF0.n; omega)
      refine ii_if_le (tgt := 104) hx hb dX0_isle_86 (by decide) (by omega) (fun c_3 => ?_) (fun c_3 => ?_)
      · -- 86 -> 104
        refine ii_const hx hb dX0_isle_104 ?_
        have he9 : 0 = (isleS (S 20) i what) := by unfold isleS fathF; (repeat' split) <;> first | rfl | omega | (rw [show what.toNat = 0 by omega]) | (rw [show what.toNat = 1 by omega])
        exact W.iret hx hb hr (fun t ht hW9 => ⟨_, rfl, congrArg iI he9, ht⟩) (fun q hq => by cases hq) dX0_isle_105
      · -- 86 -> 89
        refine lv_aload_n hx hb dX0_isle_89 rfl (lv_at hl 0 rfl) ?_
        refine r_get (ci := 0) (k := 3) (v := .ref (A 36)) (C := RX0) (T := TX0) (N := 16) Z hB hx hb hts hown rfl in_X0 hW.obj (by decide) q796 rfl dX0_isle_90 ?_
        refine lv_iload_n hx hb dX0_isle_93 rfl (lv_at hl 1 rfl) ?_
        refine cqI (va_runV (As := [.int (iI i)]) (rest := []) ⟨hx, hb, hml, hown, hts⟩ (mX1_fathoms Z (fa A 0) (S 20) hF0 (i).toNat i (by omega) (by omega)) (cwV 1 hts (lw_V q458 q459 q460 q80 q461) rfl rfl rfl (by decide +kernel) ⟨Nat.le_of_ble_eq_true rfl, Nat.le_of_ble_eq_true rfl⟩) (pvR hB (OBJ.recv Z hB (((hW.fw (f := 0) (by omega) (F := (S 20)) rfl)).1) (q := (RX1, TX1, 8)) rfl) (hW.fw (f := 0) (by omega) (F := (S 20)) rfl)) rfl rfl hl.1 rfl (lv_room (Nat.le_of_ble_eq_true rfl)) dX0_isle_94 ⟨Nat.zero_le _, Nat.zero_le _⟩) ?_
        have b_313 := fathS_in hF0 (i).toNat (by omega)
        refine ii_if_le (tgt := 104) hx hb dX0_isle_97 (by decide) (by omega) (fun c_4 => ?_) (fun c_4 => ?_)
        · -- 97 -> 104
          refine ii_const hx hb dX0_isle_104 ?_
          have he9 : 0 = (isleS (S 20) i what) := by unfold isleS fathF; (repeat' split) <;> first | rfl | omega | (rw [show what.toNat = 0 by omega]) | (rw [show what.toNat = 1 by omega])
          exact W.iret hx hb hr (fun t ht hW9 => ⟨_, rfl, congrArg iI he9, ht⟩) (fun q hq => by cases hq) dX0_isle_105
        · -- 97 -> 100
          refine ii_const hx hb dX0_isle_100 ?_
          refine lv_goto (tgt := 105) hx hb dX0_isle_101 (by decide) ?_
          have he9 : 1 = (isleS (S 20) i what) := by unfold isleS fathF; (repeat' split) <;> first | rfl | omega | (rw [show what.toNat = 0 by omega]) | (rw [show what.toNat = 1 by omega])
          exact W.iret hx hb hr (fun t ht hW9 => ⟨_, rfl, congrArg iI he9, ht⟩) (fun q hq => by cases hq) dX0_isle_105
    by_cases c_2_5 : what = 5
    · --
      refine lv_tableIn (off := 95) (tgt := 106) hx hb dX0_isle_11 (by rw [iI_toInt (by omega)]; omega) (by rw [iI_toInt (by omega)]; omega) (by rw [iI_toInt (by omega), c_2_5]; rfl) (by decide) ?_
      refine lv_aload_n hx hb dX0_isle_106 rfl (lv_at hl 0 rfl) ?_
      refine r_get (ci := 0) (k := 3) (v := .ref (A 36)) (C := RX0) (T := TX0) (N := 16) Z hB hx hb hts hown rfl in_X0 hW.obj (by decide) q796 rfl dX0_isle_107 ?_
      refine lv_iload_n hx hb dX0_isle_110 rfl (lv_at hl 1 rfl) ?_
      refine cqI (va_runV (As := [.int (iI i)]) (rest := []) ⟨hx, hb, hml, hown, hts⟩ (mX1_nearest Z (fa A 0) (S 20) hF0 (i).toNat i (by omega) (by omega)) (cwV 1 hts (lw_V q493 q494 q495 q80 q496) rfl rfl rfl (by decide +kernel) ⟨Nat.le_of_ble_eq_true rfl, Nat.le_of_ble_eq_true rfl⟩) (pvR hB (OBJ.recv Z hB (((hW.fw (f := 0) (by omega) (F := (S 20)) rfl)).1) (q := (RX1, TX1, 8)) rfl) (hW.fw (f := 0) (by omega) (F := (S 20)) rfl)) rfl rfl hl.1 rfl (lv_room (Nat.le_of_ble_eq_true rfl)) dX0_isle_111 ⟨Nat.zero_le _, Nat.zero_le _⟩) ?_
      have b_318 := nearS_in (S 20) (i).toNat ((S 20) 76).toNat
      have he9 : (nearS (S 20) (i).toNat ((S 20) 76).toNat) = (isleS (S 20) i what) := by unfold isleS fathF; (repeat' split) <;> first | rfl | omega | (rw [show what.toNat = 0 by omega]) | (rw [show what.toNat = 1 by omega])
      exact W.iret hx hb hr (fun t ht hW9 => ⟨_, rfl, congrArg iI he9, ht⟩) (fun q hq => by cases hq) dX0_isle_114
    refine lv_tableOut (tgt := 115) hx hb dX0_isle_11 (by rw [iI_toInt (by omega)]; omega) (by decide) ?_
    refine ii_const hx hb dX0_isle_115 ?_
    have he9 : (-1) = (isleS (S 20) i what) := by unfold isleS fathF; (repeat' split) <;> first | rfl | omega | (rw [show what.toNat = 0 by omega]) | (rw [show what.toNat = 1 by omega])
    exact W.iret hx hb hr (fun t ht hW9 => ⟨_, rfl, congrArg iI he9, ht⟩) (fun q hq => by cases hq) dX0_isle_116
  · -- 5 -> 8
    refine ii_const hx hb dX0_isle_8 ?_
    have he9 : (-1) = (isleS (S 20) i what) := by unfold isleS fathF; (repeat' split) <;> first | rfl | omega | (rw [show what.toNat = 0 by omega]) | (rw [show what.toNat = 1 by omega])
    exact W.iret hx hb hr (fun t ht hW9 => ⟨_, rfl, congrArg iI he9, ht⟩) (fun q hq => by cases hq) dX0_isle_9

set_option maxHeartbeats 1000000 in
set_option maxRecDepth 100000 in
theorem mX0_cross {l : Launch} {G : GG} {s0 : State} {b0 : Nat} (Z : ZZ l G s0 b0) (A : Nat → Nat) (S : Sta) (R : Nat → Option Nat) (hF0 : WF (S 20)) (i : Int) (hi : inR i) (j : Int) (hj : inR j) : Met l yX0_cross (ws_ yX0_cross cX0_cross 3 (some .int)) ({ frames := 3, cells := 0, slots := 0, locals := 68 } : Room) (pcR s0 (CW G A S R) [.ref (A 0), .int (iI i), .int (iI j)]) (qI (crossS (S 20) i j)) 0 0 (fun _ => False) := by
  refine Met.ofW (cc := cX0_cross) (maxL := 3) (ret := (some .int)) (by decide) rfl ?_
  intro p e s m args below meth c s₁ B hml hv
  obtain ⟨rfl, hW, hB⟩ := hv
  have hx := B.exec
  have hb := B.bytes
  have hr := B.returns
  have hts := atoms_spec (ws := (ws_ yX0_cross cX0_cross 3 (some .int))) B.pre
  have hts : ∀ w ∈ lw_all, w.before _ s = true := fun w h => hts w (List.mem_cons_of_mem _ h)
  have hown : s.vm.findClass RX0 = some m.cls := findClass_of_methodNamed B.named
  have hlocks := B.notSynchronized
  have hl := lv_entry ([.ref (A 0), .int (iI i), .int (iI j)]) (n := 3) (Nat.le_of_ble_eq_true rfl)
  rw [lg_entry_eq]
  generalize (lg_sl ([.ref (A 0), .int (iI i), .int (iI j)]) ++ List.replicate (3 - (lg_sl ([.ref (A 0), .int (iI i), .int (iI j)])).length) Slot.unset).toArray = ls at hl ⊢
  have hl : lv_has ls 3 [(0, .ref (A 0)), (1, .int (iI i)), (2, .int (iI j))] := hl
  have hn5 := hF0.n
  refine lv_aload_n hx hb dX0_cross_0 rfl (lv_at hl 0 rfl) ?_
  refine lv_iload_n hx hb dX0_cross_1 rfl (lv_at hl 1 rfl) ?_
  refine lv_iload_n hx hb dX0_cross_2 rfl (lv_at hl 2 rfl) ?_
  refine cqI (va_runV (As := [.int (iI i), .int (iI j)]) (rest := []) ⟨hx, hb, hml, hown, hts⟩ (mX0_areTwo Z A S R hF0 i (by omega) j (by omega)) (cwV 2 hts (lw_V q505 q507 qs15 q79 q508) rfl rfl rfl (by decide +kernel) ⟨Nat.le_of_ble_eq_true rfl, Nat.le_of_ble_eq_true rfl⟩) (pvR hB (OBJ.recv Z hB hW.obj (q := (RX0, TX0, 16)) rfl) hW) rfl rfl hl.1 rfl (lv_room (Nat.le_of_ble_eq_true rfl)) dX0_cross_3 ⟨Nat.zero_le _, Nat.zero_le _⟩) ?_
  refine bb_if_eq (P := ok2 (S 20) i j) (tgt := 23) hx hb dX0_cross_6 (by decide) (fun c_1 => ?_) (fun c_1 => ?_)
  · -- 6 -> 23
    refine ii_const hx hb dX0_cross_23 ?_
    have he9 : (-1) = (crossS (S 20) i j) := by unfold crossS; (repeat' split) <;> first | rfl | omega
    exact W.iret hx hb hr (fun t ht hW9 => ⟨_, rfl, congrArg iI he9, ht⟩) (fun q hq => by cases hq) dX0_cross_24
  · -- 6 -> 9
    refine lv_aload_n hx hb dX0_cross_9 rfl (lv_at hl 0 rfl) ?_
    refine r_get (ci := 0) (k := 3) (v := .ref (A 36)) (C := RX0) (T := TX0) (N := 16) Z hB hx hb hts hown rfl in_X0 hW.obj (by decide) q796 rfl dX0_cross_10 ?_
    refine r_getN (ci := 1) (k := 1) (v := .ref ((fa A 0) 7)) (C := RX1) (T := TX1) (N := 8) Z hB hx hb hts hown rfl in_X1 (((hW.fw (f := 0) (by omega) (F := (S 20)) rfl)).1) (by decide) q142 rfl dX0_cross_13 ?_
    refine lv_iload_n hx hb dX0_cross_16 rfl (lv_at hl 1 rfl) ?_
    refine r_aald (t := 1) (ty := .array .int) (k := (i).toNat) Z hB hx hb rfl rfl (((hW.fw (f := 0) (by omega) (F := (S 20)) rfl)).2.2.2.1) (by omega) (by omega) (by omega) rfl dX0_cross_17 ?_
    refine lv_iload_n hx hb dX0_cross_18 rfl (lv_at hl 2 rfl) ?_
    have b_323 := hF0.cr (i).toNat (j).toNat (by omega) (by omega)
    refine r_iald (k := (j).toNat) Z hB hx hb (((hW.fw (f := 0) (by omega) (F := (S 20)) rfl)).2.2.2.2.1 (i).toNat (by omega)) (by omega) (by omega) (by omega) dX0_cross_19 ?_
    refine lv_goto (tgt := 24) hx hb dX0_cross_20 (by decide) ?_
    have he9 : ((S 20) (10 + 5 * (i).toNat + (j).toNat)) = (crossS (S 20) i j) := by unfold crossS; (repeat' split) <;> first | rfl | omega
    exact W.iret hx hb hr (fun t ht hW9 => ⟨_, rfl, congrArg iI he9, ht⟩) (fun q hq => by cases hq) dX0_cross_24

set_option maxHeartbeats 1000000 in
set_option maxRecDepth 100000 in
theorem mX0_rope {l : Launch} {G : GG} {s0 : State} {b0 : Nat} (Z : ZZ l G s0 b0) (A : Nat → Nat) (S : Sta) (R : Nat → Option Nat) (hF0 : WF (S 20)) (k : Int) (hk : inR k) (what : Int) (hwhat : inR what) : Met l yX0_rope (ws_ yX0_rope cX0_rope 3 (some .int)) ({ frames := 2, cells := 0, slots := 0, locals := 46 } : Room) (pcR s0 (CW G A S R) [.ref (A 0), .int (iI k), .int (iI what)]) (qI (ropeS (S 20) k what)) 0 0 (fun _ => False) := by
  refine Met.ofW (cc := cX0_rope) (maxL := 3) (ret := (some .int)) (by decide) rfl ?_
  intro p e s m args below meth c s₁ B hml hv
  obtain ⟨rfl, hW, hB⟩ := hv
  have hx := B.exec
  have hb := B.bytes
  have hr := B.returns
  have hts := atoms_spec (ws := (ws_ yX0_rope cX0_rope 3 (some .int))) B.pre
  have hts : ∀ w ∈ lw_all, w.before _ s = true := fun w h => hts w (List.mem_cons_of_mem _ h)
  have hown : s.vm.findClass RX0 = some m.cls := findClass_of_methodNamed B.named
  have hlocks := B.notSynchronized
  have hl := lv_entry ([.ref (A 0), .int (iI k), .int (iI what)]) (n := 3) (Nat.le_of_ble_eq_true rfl)
  rw [lg_entry_eq]
  generalize (lg_sl ([.ref (A 0), .int (iI k), .int (iI what)]) ++ List.replicate (3 - (lg_sl ([.ref (A 0), .int (iI k), .int (iI what)])).length) Slot.unset).toArray = ls at hl ⊢
  have hl : lv_has ls 3 [(0, .ref (A 0)), (1, .int (iI k)), (2, .int (iI what))] := hl
  have hr6 := hF0.rm
  refine lv_aload_n hx hb dX0_rope_0 rfl (lv_at hl 0 rfl) ?_
  refine lv_iload_n hx hb dX0_rope_1 rfl (lv_at hl 1 rfl) ?_
  refine cqI (va_runV (As := [.int (iI k)]) (rest := []) ⟨hx, hb, hml, hown, hts⟩ (mX0_isRope Z A S R hF0 k (by omega)) (cwV 1 hts (lw_V q513 q515 qs16 q79 q516) rfl rfl rfl (by decide +kernel) ⟨Nat.le_of_ble_eq_true rfl, Nat.le_of_ble_eq_true rfl⟩) (pvR hB (OBJ.recv Z hB hW.obj (q := (RX0, TX0, 16)) rfl) hW) rfl rfl hl.1 rfl (lv_room (Nat.le_of_ble_eq_true rfl)) dX0_rope_2 ⟨Nat.zero_le _, Nat.zero_le _⟩) ?_
  refine bb_if_eq (P := okR (S 20) k) (tgt := 34) hx hb dX0_rope_5 (by decide) (fun c_1 => ?_) (fun c_1 => ?_)
  · -- 5 -> 34
    refine ii_const hx hb dX0_rope_34 ?_
    have he9 : (-1) = (ropeS (S 20) k what) := by unfold ropeS; (repeat' split) <;> first | rfl | omega
    exact W.iret hx hb hr (fun t ht hW9 => ⟨_, rfl, congrArg iI he9, ht⟩) (fun q hq => by cases hq) dX0_rope_35
  · -- 5 -> 8
    refine lv_iload_n hx hb dX0_rope_8 rfl (lv_at hl 2 rfl) ?_
    refine ii_i2l hx hb (by omega) dX0_rope_9 ?_
    refine ii_lconst (z := 0) hx hb dX0_rope_10 rfl ?_
    refine ii_ldc2 (z := 2) hx hb hts hown q517 dX0_rope_11 (by decide) ?_
    refine cqI (va_runS (As := [.long (lI what), .long (lI 0), .long (lI 2)]) (rest := []) ⟨hx, hb, hml, hown, hts⟩ (mX0_isIn Z what (by omega) 0 (by omega) 2 (by omega)) (va_cwS 3 hts (lw_S q106 q107 q79 q108) rfl rfl rfl (by decide +kernel) ⟨Nat.le_of_ble_eq_true rfl, Nat.le_of_ble_eq_true rfl⟩) (psR hB trivial) rfl rfl hl.1 rfl (lv_room (Nat.le_of_ble_eq_true rfl)) dX0_rope_14 ⟨Nat.zero_le _, Nat.zero_le _⟩) ?_
    refine bb_if_eq (P := 0 ≤ what ∧ what ≤ 2) (tgt := 34) hx hb dX0_rope_17 (by decide) (fun c_2 => ?_) (fun c_2 => ?_)
    · -- 17 -> 34
      refine ii_const hx hb dX0_rope_34 ?_
      have he9 : (-1) = (ropeS (S 20) k what) := by unfold ropeS; (repeat' split) <;> first | rfl | omega
      exact W.iret hx hb hr (fun t ht hW9 => ⟨_, rfl, congrArg iI he9, ht⟩) (fun q hq => by cases hq) dX0_rope_35
    · -- 17 -> 20
      refine lv_aload_n hx hb dX0_rope_20 rfl (lv_at hl 0 rfl) ?_
      refine r_get (ci := 0) (k := 3) (v := .ref (A 36)) (C := RX0) (T := TX0) (N := 16) Z hB hx hb hts hown rfl in_X0 hW.obj (by decide) q796 rfl dX0_rope_21 ?_
      refine r_getN (ci := 1) (k := 2) (v := .ref ((fa A 0) 13)) (C := RX1) (T := TX1) (N := 8) Z hB hx hb hts hown rfl in_X1 (((hW.fw (f := 0) (by omega) (F := (S 20)) rfl)).1) (by decide) q144 rfl dX0_rope_24 ?_
      refine lv_iload_n hx hb dX0_rope_27 rfl (lv_at hl 1 rfl) ?_
      refine r_aald (t := 1) (ty := .array .int) (k := (k).toNat) Z hB hx hb rfl rfl (((hW.fw (f := 0) (by omega) (F := (S 20)) rfl)).2.2.2.2.2.1) (by omega) (by omega) (by omega) rfl dX0_rope_28 ?_
      refine lv_iload_n hx hb dX0_rope_29 rfl (lv_at hl 2 rfl) ?_
      refine r_iald (k := (what).toNat) Z hB hx hb (((hW.fw (f := 0) (by omega) (F := (S 20)) rfl)).2.2.2.2.2.2 (k).toNat (by omega)) (by omega) (by omega) (by omega) dX0_rope_30 ?_
      refine lv_goto (tgt := 35) hx hb dX0_rope_31 (by decide) ?_
      have he9 : ((S 20) (35 + 3 * (k).toNat + (what).toNat)) = (ropeS (S 20) k what) := by unfold ropeS; (repeat' split) <;> first | rfl | omega
      exact W.iret hx hb hr (fun t ht hW9 => ⟨_, rfl, congrArg iI he9, ht⟩) (fun q hq => by cases hq) dX0_rope_35

set_option maxHeartbeats 1000000 in
set_option maxRecDepth 100000 in
theorem mX0_far {l : Launch} {G : GG} {s0 : State} {b0 : Nat} (Z : ZZ l G s0 b0) (A : Nat → Nat) (S : Sta) (R : Nat → Option Nat) (hF0 : WF (S 20)) (i : Int) (hi : inR i) (j : Int) (hj : inR j) : Met l yX0_far (ws_ yX0_far cX0_far 3 (some .int)) ({ frames := 3, cells := 0, slots := 0, locals := 68 } : Room) (pcR s0 (CW G A S R) [.ref (A 0), .int (iI i), .int (iI j)]) (qI (farS (S 20) i j)) 0 0 (fun _ => False) := by
  refine Met.ofW (cc := cX0_far) (maxL := 3) (ret := (some .int)) (by decide) rfl ?_
  intro p e s m args below meth c s₁ B hml hv
  obtain ⟨rfl, hW, hB⟩ := hv
  have hx := B.exec
  have hb := B.bytes
  have hr := B.returns
  have hts := atoms_spec (ws := (ws_ yX0_far cX0_far 3 (some .int))) B.pre
  have hts : ∀ w ∈ lw_all, w.before _ s = true := fun w h => hts w (List.mem_cons_of_mem _ h)
  have hown : s.vm.findClass RX0 = some m.cls := findClass_of_methodNamed B.named
  have hlocks := B.notSynchronized
  have hl := lv_entry ([.ref (A 0), .int (iI i), .int (iI j)]) (n := 3) (Nat.le_of_ble_eq_true rfl)
  rw [lg_entry_eq]
  generalize (lg_sl ([.ref (A 0), .int (iI i), .int (iI j)]) ++ List.replicate (3 - (lg_sl ([.ref (A 0), .int (iI i), .int (iI j)])).length) Slot.unset).toArray = ls at hl ⊢
  have hl : lv_has ls 3 [(0, .ref (A 0)), (1, .int (iI i)), (2, .int (iI j))] := hl
  have hn5 := hF0.n
  refine lv_aload_n hx hb dX0_far_0 rfl (lv_at hl 0 rfl) ?_
  refine lv_iload_n hx hb dX0_far_1 rfl (lv_at hl 1 rfl) ?_
  refine lv_iload_n hx hb dX0_far_2 rfl (lv_at hl 2 rfl) ?_
  refine cqI (va_runV (As := [.int (iI i), .int (iI j)]) (rest := []) ⟨hx, hb, hml, hown, hts⟩ (mX0_areTwo Z A S R hF0 i (by omega) j (by omega)) (cwV 2 hts (lw_V q505 q507 qs15 q79 q508) rfl rfl rfl (by decide +kernel) ⟨Nat.le_of_ble_eq_true rfl, Nat.le_of_ble_eq_true rfl⟩) (pvR hB (OBJ.recv Z hB hW.obj (q := (RX0, TX0, 16)) rfl) hW) rfl rfl hl.1 rfl (lv_room (Nat.le_of_ble_eq_true rfl)) dX0_far_3 ⟨Nat.zero_le _, Nat.zero_le _⟩) ?_
  refine bb_if_eq (P := ok2 (S 20) i j) (tgt := 21) hx hb dX0_far_6 (by decide) (fun c_1 => ?_) (fun c_1 => ?_)
  · -- 6 -> 21
    refine ii_const hx hb dX0_far_21 ?_
    have he9 : (-1) = (farS (S 20) i j) := by unfold farS; (repeat' split) <;> first | rfl | omega
    exact W.iret hx hb hr (fun t ht hW9 => ⟨_, rfl, congrArg iI he9, ht⟩) (fun q hq => by cases hq) dX0_far_22
  · -- 6 -> 9
    refine lv_aload_n hx hb dX0_far_9 rfl (lv_at hl 0 rfl) ?_
    refine r_get (ci := 0) (k := 3) (v := .ref (A 36)) (C := RX0) (T := TX0) (N := 16) Z hB hx hb hts hown rfl in_X0 hW.obj (by decide) q796 rfl dX0_far_10 ?_
    refine lv_iload_n hx hb dX0_far_13 rfl (lv_at hl 1 rfl) ?_
    refine lv_iload_n hx hb dX0_far_14 rfl (lv_at hl 2 rfl) ?_
    refine cqI (va_runV (As := [.int (iI i), .int (iI j)]) (rest := []) ⟨hx, hb, hml, hown, hts⟩ (mX1_apart Z (fa A 0) (S 20) hF0 (i).toNat i (by omega) (by omega) (j).toNat j (by omega) (by omega)) (cwV 2 hts (lw_V q522 q498 q499 q80 q500) rfl rfl rfl (by decide +kernel) ⟨Nat.le_of_ble_eq_true rfl, Nat.le_of_ble_eq_true rfl⟩) (pvR hB (OBJ.recv Z hB (((hW.fw (f := 0) (by omega) (F := (S 20)) rfl)).1) (q := (RX1, TX1, 8)) rfl) (hW.fw (f := 0) (by omega) (F := (S 20)) rfl)) rfl rfl hl.1 rfl (lv_room (Nat.le_of_ble_eq_true rfl)) dX0_far_15 ⟨Nat.zero_le _, Nat.zero_le _⟩) ?_
    have b_332 := apS_in hF0 (i).toNat (j).toNat (by omega) (by omega)
    refine lv_goto (tgt := 22) hx hb dX0_far_18 (by decide) ?_
    have he9 : (apS (S 20) (i).toNat (j).toNat) = (farS (S 20) i j) := by unfold farS; (repeat' split) <;> first | rfl | omega
    exact W.iret hx hb hr (fun t ht hW9 => ⟨_, rfl, congrArg iI he9, ht⟩) (fun q hq => by cases hq) dX0_far_22
