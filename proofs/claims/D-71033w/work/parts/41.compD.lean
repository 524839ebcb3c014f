/-! COMPONENT: days tried (written by gen/comp4.py) -/
set_option maxRecDepth 100000
set_option maxHeartbeats 1000000 in
set_option maxRecDepth 100000 in
theorem mX0_daysOf_0 {l : Launch} {G : GG} {s0 : State} {b0 : Nat} (Z : ZZ l G s0 b0) (A : Nat → Nat) (hI : Own s0 A 156) (S : Sta) (R : Nat → Option Nat) (hF0 : WF (S 20)) (F : Nat → Int) (eF : S 20 = F) (hd : F 54 ≤ 2000) (n : Nat) (zn : Int) (hzn : zn = (n : Int)) (hn : n ≤ 60) (sz : Nat) : Met l yX0_daysOf (ws_ yX0_daysOf cX0_daysOf 4 none) ({ frames := 6, cells := 0, slots := 0, locals := 129 } : Room) (pcM s0 sz (CW G A S R) [.ref (A 0), .ref (A 36), .int (iI zn)]) (mV (CW G A (up S 21 (daysS F n)) R) (AA A 156 sz)) 0 0 (AA A 156 sz) := by
  refine Met.ofW (cc := cX0_daysOf) (maxL := 4) (ret := none) (by decide) rfl ?_
  intro p e s m args below meth c s₁ B hml hv
  obtain ⟨rfl, hsz, hW, hB⟩ := hv
  subst hsz
  have hx := B.exec
  have hb := B.bytes
  have hr := B.returns
  have hts := atoms_spec (ws := (ws_ yX0_daysOf cX0_daysOf 4 none)) B.pre
  have hts : ∀ w ∈ lw_all, w.before _ s = true := fun w h => hts w (List.mem_cons_of_mem _ h)
  have hown : s.vm.findClass RX0 = some m.cls := findClass_of_methodNamed B.named
  have hlocks := B.notSynchronized
  have hN := AA.old hI hB
  have hS : va_S (AA A 156 s.heap.size) s.heap s.heap [] := va_S.rf
  have hl := lv_entry ([.ref (A 0), .ref (A 36), .int (iI zn)]) (n := 4) (Nat.le_of_ble_eq_true rfl)
  rw [lg_entry_eq]
  generalize (lg_sl ([.ref (A 0), .ref (A 36), .int (iI zn)]) ++ List.replicate (4 - (lg_sl ([.ref (A 0), .ref (A 36), .int (iI zn)])).length) Slot.unset).toArray = ls at hl ⊢
  have hl : lv_has ls 4 [(0, .ref (A 0)), (1, .ref (A 36)), (2, .int (iI zn))] := hl
  subst eF
  refine lv_aload_n hx hb dX0_daysOf_0 rfl (lv_at hl 0 rfl) ?_
  refine r_get (ci := 0) (k := 4) (v := .ref (A 56)) (C := RX0) (T := TX0) (N := 16) Z hB hx hb hts hown rfl in_X0 hW.obj (by decide) q797 rfl dX0_daysOf_1 ?_
  refine lv_aload_n hx hb dX0_daysOf_4 rfl (lv_at hl 1 rfl) ?_
  refine cmV (va_runV (As := [.ref (A 36)]) (rest := []) ⟨hx, hb, hml, hown, hts⟩ (mX1_takes Z (fa A 1) (hI.fa (by omega)) (S 21) (fa A 0) (S 20) (fa_apart hI (f := 1) (g := 0) (by omega) (by omega) (by omega)) s.heap.size) (cwV 1 hts (lw_V q424 q425 q426 q80 q427) rfl rfl rfl (by decide +kernel) ⟨Nat.le_of_ble_eq_true rfl, Nat.le_of_ble_eq_true rfl⟩) (pvM (BornH.S hB hN hS) (OBJ.recv Z hB ((hW.fw (f := 1) (by omega) (F := (S 21)) rfl)).1 (q := (RX1, TX1, 8)) rfl) (⟨(hW.fw (f := 1) (by omega) (F := (S 21)) rfl), (hW.fw (f := 0) (by omega) (F := (S 20)) rfl)⟩)) rfl rfl hl.1 rfl (lv_room (Nat.le_of_ble_eq_true rfl)) dX0_daysOf_5 ⟨Nat.zero_le _, Nat.zero_le _⟩) hS (AA.fa (by omega) hS.1) (fun H1 locs hW1 hz1 hk1 hS => ?_)
  have hW := hW.joinF hI (f := 1) (by omega) hk1 hW1
  clear hW1 hk1 hz1
  generalize H1 = H at hW hS ⊢
  refine ii_const hx hb dX0_daysOf_8 ?_
  refine lv_istore_n (lv' := [(3, .int (iI 0)), (0, .ref (A 0)), (1, .ref (A 36)), (2, .int (iI zn))]) hx hb dX0_daysOf_9 rfl hl (by decide) rfl (fun ls hl => ?_)
  have loop_10 : ∀ (fu : Nat) (i : Nat) (zi : Int), (zi = (i : Int)) → (i ≤ n) → (61 - i) < fu → ∀ (H : Heap) (locs : List Loc), (CW G A (up S 21 (daysS (S 20) i)) R) H → va_S (AA A 156 s.heap.size) s.heap H locs → ∀ (ls : Array Slot), lv_has ls 4 [(3, .int (iI zi)), (0, .ref (A 0)), (1, .ref (A 36)), (2, .int (iI zn))] → W p l e (headSpec (ws_ yX0_daysOf cX0_daysOf 4 none) ({ frames := 6, cells := 0, slots := 0, locals := 129 } : Room)).room s m ([.ref (A 0), .ref (A 36), .int (iI zn)] : List Value).toArray below meth c H locs 0 0 (MQ below (mV (CW G A (up S 21 (daysS (S 20) n)) R) (AA A 156 s.heap.size)) ([.ref (A 0), .ref (A 36), .int (iI zn)] : List Value).toArray s 0 0 (AA A 156 s.heap.size)) (F0 m 10 ls []) := by
    intro fu
    induction fu with
    | zero => intro i zi ezi hi hmu; exact absurd hmu (Nat.not_lt_zero _)
    | succ fu ih10 =>
      intro i zi ezi hi hmu H locs hW hS ls hl
      have hwd := daysS_wf hF0 i (by omega)
      have hdd := (daysS_day hF0 i (by omega)).2
      refine lv_iload_n hx hb dX0_daysOf_10 rfl (lv_at hl 0 rfl) ?_
      refine lv_iload_n hx hb dX0_daysOf_11 rfl (lv_at hl 3 rfl) ?_
      refine ii_icmp_ge (tgt := 28) hx hb dX0_daysOf_12 (by decide) (by omega) (by omega) (fun c_1 => ?_) (fun c_1 => ?_)
      · -- 12 -> 28
        have ex_i : n = i := by omega
        subst ex_i
        have hpw9 : (CW G A (up S 21 (daysS (S 20) n)) R) H := hW
        exact W.vret hx hb hr (fun t ht hW9 => ⟨⟨(), rfl, trivial, by show (CW G A (up S 21 (daysS (S 20) n)) R) t.heap; rw [ht]; exact hpw9⟩, hS.F ht⟩) hS.2.2 dX0_daysOf_28
      · -- 12 -> 15
        refine lv_aload_n hx hb dX0_daysOf_15 rfl (lv_at hl 1 rfl) ?_
        refine r_get (ci := 0) (k := 4) (v := .ref (A 56)) (C := RX0) (T := TX0) (N := 16) Z hB hx hb hts hown rfl in_X0 hW.obj (by decide) q797 rfl dX0_daysOf_16 ?_
        refine cmV (va_runV (As := []) (rest := []) ⟨hx, hb, hml, hown, hts⟩ (mX1_dayGoes Z (fa A 1) (hI.fa (by omega)) (daysS (S 20) i) hwd  H.size) (cwV 0 hts (lw_V q564 q565 q566 q80 q567) rfl rfl rfl (by decide +kernel) ⟨Nat.le_of_ble_eq_true rfl, Nat.le_of_ble_eq_true rfl⟩) (pvM (BornH.S hB hN hS) (OBJ.recv Z hB ((hW.fw (f := 1) (by omega) (F := (daysS (S 20) i)) (up_s _ _ _))).1 (q := (RX1, TX1, 8)) rfl) (hW.fw (f := 1) (by omega) (F := (daysS (S 20) i)) (up_s _ _ _))) rfl rfl hl.1 rfl (lv_room (Nat.le_of_ble_eq_true rfl)) dX0_daysOf_19 ⟨Nat.zero_le _, Nat.zero_le _⟩) hS (AA.fa (by omega) hS.1) (fun H1 locs hW1 hz1 hk1 hS => ?_)
        have hW := hW.joinF hI (f := 1) (by omega) hk1 hW1
        clear hW1 hk1 hz1
        generalize H1 = H at hW hS ⊢
        have hW := hW.eqS (S' := (up S 21 (dayS (daysS (S 20) i)))) (by
            funext a
            by_cases h21 : a = 21
            · subst h21; rfl
            simp only [up, if_neg h21])
        have hwf_2 := dayS_wf hwd (by omega)
        refine ii_iinc (k := 0) (lv' := [(3, .int (iI (zi + 1))), (0, .ref (A 0)), (1, .ref (A 36)), (2, .int (iI zn))]) hx hb dX0_daysOf_22 hl rfl (by decide) rfl (fun ls hl => ?_)
        refine lv_goto (tgt := 10) hx hb dX0_daysOf_25 (by decide) ?_
        exact ih10 (i + 1) (zi + 1) (by omega) (by omega) (by omega) _ _ hW hS ls (lv_sub hl [0, 1, 2, 3] rfl)
  exact loop_10 _ 0 0 (by omega) (by omega) (Nat.lt_succ_self _) _ _ hW hS ls (lv_sub hl [0, 1, 2, 3] rfl)

set_option maxHeartbeats 1000000 in
set_option maxRecDepth 100000 in
theorem mX0_daysOf_2 {l : Launch} {G : GG} {s0 : State} {b0 : Nat} (Z : ZZ l G s0 b0) (A : Nat → Nat) (hI : Own s0 A 156) (S : Sta) (R : Nat → Option Nat) (hF0 : WF (S 20)) (F : Nat → Int) (eF : S 22 = F) (hF2 : WF F) (hd : F 54 ≤ 2000) (n : Nat) (zn : Int) (hzn : zn = (n : Int)) (hn : n ≤ 60) (sz : Nat) : Met l yX0_daysOf (ws_ yX0_daysOf cX0_daysOf 4 none) ({ frames := 6, cells := 0, slots := 0, locals := 129 } : Room) (pcM s0 sz (CW G A S R) [.ref (A 0), .ref (A 76), .int (iI zn)]) (mV (CW G A (up S 21 (daysS F n)) R) (AA A 156 sz)) 0 0 (AA A 156 sz) := by
  refine Met.ofW (cc := cX0_daysOf) (maxL := 4) (ret := none) (by decide) rfl ?_
  intro p e s m args below meth c s₁ B hml hv
  obtain ⟨rfl, hsz, hW, hB⟩ := hv
  subst hsz
  have hx := B.exec
  have hb := B.bytes
  have hr := B.returns
  have hts := atoms_spec (ws := (ws_ yX0_daysOf cX0_daysOf 4 none)) B.pre
  have hts : ∀ w ∈ lw_all, w.before _ s = true := fun w h => hts w (List.mem_cons_of_mem _ h)
  have hown : s.vm.findClass RX0 = some m.cls := findClass_of_methodNamed B.named
  have hlocks := B.notSynchronized
  have hN := AA.old hI hB
  have hS : va_S (AA A 156 s.heap.size) s.heap s.heap [] := va_S.rf
  have hl := lv_entry ([.ref (A 0), .ref (A 76), .int (iI zn)]) (n := 4) (Nat.le_of_ble_eq_true rfl)
  rw [lg_entry_eq]
  generalize (lg_sl ([.ref (A 0), .ref (A 76), .int (iI zn)]) ++ List.replicate (4 - (lg_sl ([.ref (A 0), .ref (A 76), .int (iI zn)])).length) Slot.unset).toArray = ls at hl ⊢
  have hl : lv_has ls 4 [(0, .ref (A 0)), (1, .ref (A 76)), (2, .int (iI zn))] := hl
  subst eF
  refine lv_aload_n hx hb dX0_daysOf_0 rfl (lv_at hl 0 rfl) ?_
  refine r_get (ci := 0) (k := 4) (v := .ref (A 56)) (C := RX0) (T := TX0) (N := 16) Z hB hx hb hts hown rfl in_X0 hW.obj (by decide) q797 rfl dX0_daysOf_1 ?_
  refine lv_aload_n hx hb dX0_daysOf_4 rfl (lv_at hl 1 rfl) ?_
  refine cmV (va_runV (As := [.ref (A 76)]) (rest := []) ⟨hx, hb, hml, hown, hts⟩ (mX1_takes Z (fa A 1) (hI.fa (by omega)) (S 21) (fa A 2) (S 22) (fa_apart hI (f := 1) (g := 2) (by omega) (by omega) (by omega)) s.heap.size) (cwV 1 hts (lw_V q424 q425 q426 q80 q427) rfl rfl rfl (by decide +kernel) ⟨Nat.le_of_ble_eq_true rfl, Nat.le_of_ble_eq_true rfl⟩) (pvM (BornH.S hB hN hS) (OBJ.recv Z hB ((hW.fw (f := 1) (by omega) (F := (S 21)) rfl)).1 (q := (RX1, TX1, 8)) rfl) (⟨(hW.fw (f := 1) (by omega) (F := (S 21)) rfl), (hW.fw (f := 2) (by omega) (F := (S 22)) rfl)⟩)) rfl rfl hl.1 rfl (lv_room (Nat.le_of_ble_eq_true rfl)) dX0_daysOf_5 ⟨Nat.zero_le _, Nat.zero_le _⟩) hS (AA.fa (by omega) hS.1) (fun H1 locs hW1 hz1 hk1 hS => ?_)
  have hW := hW.joinF hI (f := 1) (by omega) hk1 hW1
  clear hW1 hk1 hz1
  generalize H1 = H at hW hS ⊢
  refine ii_const hx hb dX0_daysOf_8 ?_
  refine lv_istore_n (lv' := [(3, .int (iI 0)), (0, .ref (A 0)), (1, .ref (A 76)), (2, .int (iI zn))]) hx hb dX0_daysOf_9 rfl hl (by decide) rfl (fun ls hl => ?_)
  have loop_10 : ∀ (fu : Nat) (i : Nat) (zi : Int), (zi = (i : Int)) → (i ≤ n) → (61 - i) < fu → ∀ (H : Heap) (locs : List Loc), (CW G A (up S 21 (daysS (S 22) i)) R) H → va_S (AA A 156 s.heap.size) s.heap H locs → ∀ (ls : Array Slot), lv_has ls 4 [(3, .int (iI zi)), (0, .ref (A 0)), (1, .ref (A 76)), (2, .int (iI zn))] → W p l e (headSpec (ws_ yX0_daysOf cX0_daysOf 4 none) ({ frames := 6, cells := 0, slots := 0, locals := 129 } : Room)).room s m ([.ref (A 0), .ref (A 76), .int (iI zn)] : List Value).toArray below meth c H locs 0 0 (MQ below (mV (CW G A (up S 21 (daysS (S 22) n)) R) (AA A 156 s.heap.size)) ([.ref (A 0), .ref (A 76), .int (iI zn)] : List Value).toArray s 0 0 (AA A 156 s.heap.size)) (F0 m 10 ls []) := by
    intro fu
    induction fu with
    | zero => intro i zi ezi hi hmu; exact absurd hmu (Nat.not_lt_zero _)
    | succ fu ih10 =>
      intro i zi ezi hi hmu H locs hW hS ls hl
      have hwd := daysS_wf hF2 i (by omega)
      have hdd := (daysS_day hF2 i (by omega)).2
      refine lv_iload_n hx hb dX0_daysOf_10 rfl (lv_at hl 0 rfl) ?_
      refine lv_iload_n hx hb dX0_daysOf_11 rfl (lv_at hl 3 rfl) ?_
      refine ii_icmp_ge (tgt := 28) hx hb dX0_daysOf_12 (by decide) (by omega) (by omega) (fun c_1 => ?_) (fun c_1 => ?_)
      · -- 12 -> 28
        have ex_i : n = i := by omega
        subst ex_i
        have hpw9 : (CW G A (up S 21 (daysS (S 22) n)) R) H := hW
        exact W.vret hx hb hr (fun t ht hW9 => ⟨⟨(), rfl, trivial, by show (CW G A (up S 21 (daysS (S 22) n)) R) t.heap; rw [ht]; exact hpw9⟩, hS.F ht⟩) hS.2.2 dX0_daysOf_28
      · -- 12 -> 15
        refine lv_aload_n hx hb dX0_daysOf_15 rfl (lv_at hl 1 rfl) ?_
        refine r_get (ci := 0) (k := 4) (v := .ref (A 56)) (C := RX0) (T := TX0) (N := 16) Z hB hx hb hts hown rfl in_X0 hW.obj (by decide) q797 rfl dX0_daysOf_16 ?_
        refine cmV (va_runV (As := []) (rest := []) ⟨hx, hb, hml, hown, hts⟩ (mX1_dayGoes Z (fa A 1) (hI.fa (by omega)) (daysS (S 22) i) hwd  H.size) (cwV 0 hts (lw_V q564 q565 q566 q80 q567) rfl rfl rfl (by decide +kernel) ⟨Nat.le_of_ble_eq_true rfl, Nat.le_of_ble_eq_true rfl⟩) (pvM (BornH.S hB hN hS) (OBJ.recv Z hB ((hW.fw (f := 1) (by omega) (F := (daysS (S 22) i)) (up_s _ _ _))).1 (q := (RX1, TX1, 8)) rfl) (hW.fw (f := 1) (by omega) (F := (daysS (S 22) i)) (up_s _ _ _))) rfl rfl hl.1 rfl (lv_room (Nat.le_of_ble_eq_true rfl)) dX0_daysOf_19 ⟨Nat.zero_le _, Nat.zero_le _⟩) hS (AA.fa (by omega) hS.1) (fun H1 locs hW1 hz1 hk1 hS => ?_)
        have hW := hW.joinF hI (f := 1) (by omega) hk1 hW1
        clear hW1 hk1 hz1
        generalize H1 = H at hW hS ⊢
        have hW := hW.eqS (S' := (up S 21 (dayS (daysS (S 22) i)))) (by
            funext a
            by_cases h21 : a = 21
            · subst h21; rfl
            simp only [up, if_neg h21])
        have hwf_2 := dayS_wf hwd (by omega)
        refine ii_iinc (k := 0) (lv' := [(3, .int (iI (zi + 1))), (0, .ref (A 0)), (1, .ref (A 76)), (2, .int (iI zn))]) hx hb dX0_daysOf_22 hl rfl (by decide) rfl (fun ls hl => ?_)
        refine lv_goto (tgt := 10) hx hb dX0_daysOf_25 (by decide) ?_
        exact ih10 (i + 1) (zi + 1) (by omega) (by omega) (by omega) _ _ hW hS ls (lv_sub hl [0, 1, 2, 3] rfl)
  exact loop_10 _ 0 0 (by omega) (by omega) (Nat.lt_succ_self _) _ _ hW hS ls (lv_sub hl [0, 1, 2, 3] rfl)

set_option maxHeartbeats 1000000 in
set_option maxRecDepth 100000 in
theorem mX0_spreadBehind_0 {l : Launch} {G : GG} {s0 : State} {b0 : Nat} (Z : ZZ l G s0 b0) (A : Nat → Nat) (hI : Own s0 A 156) (S : Sta) (R : Nat → Option Nat) (hF0 : WF (S 20)) (F : Nat → Int) (eF : S 20 = F) (hd : F 54 ≤ 2000) (n : Nat) (zn : Int) (hzn : zn = (n : Int)) (hn : n ≤ 60) (sz : Nat) : Met l yX0_spreadBehind (ws_ yX0_spreadBehind cX0_spreadBehind 3 (some .int)) ({ frames := 7, cells := 0, slots := 0, locals := 152 } : Room) (pcM s0 sz (CW G A S R) [.ref (A 0), .ref (A 36), .int (iI zn)]) (mI (spd F n) (CW G A (up S 21 (daysS F n)) R) (AA A 156 sz)) 0 0 (AA A 156 sz) := by
  refine Met.ofW (cc := cX0_spreadBehind) (maxL := 3) (ret := (some .int)) (by decide) rfl ?_
  intro p e s m args below meth c s₁ B hml hv
  obtain ⟨rfl, hsz, hW, hB⟩ := hv
  subst hsz
  have hx := B.exec
  have hb := B.bytes
  have hr := B.returns
  have hts := atoms_spec (ws := (ws_ yX0_spreadBehind cX0_spreadBehind 3 (some .int))) B.pre
  have hts : ∀ w ∈ lw_all, w.before _ s = true := fun w h => hts w (List.mem_cons_of_mem _ h)
  have hown : s.vm.findClass RX0 = some m.cls := findClass_of_methodNamed B.named
  have hlocks := B.notSynchronized
  have hN := AA.old hI hB
  have hS : va_S (AA A 156 s.heap.size) s.heap s.heap [] := va_S.rf
  have hl := lv_entry ([.ref (A 0), .ref (A 36), .int (iI zn)]) (n := 3) (Nat.le_of_ble_eq_true rfl)
  rw [lg_entry_eq]
  generalize (lg_sl ([.ref (A 0), .ref (A 36), .int (iI zn)]) ++ List.replicate (3 - (lg_sl ([.ref (A 0), .ref (A 36), .int (iI zn)])).length) Slot.unset).toArray = ls at hl ⊢
  have hl : lv_has ls 3 [(0, .ref (A 0)), (1, .ref (A 36)), (2, .int (iI zn))] := hl
  subst eF
  refine lv_aload_n hx hb dX0_spreadBehind_0 rfl (lv_at hl 0 rfl) ?_
  refine lv_aload_n hx hb dX0_spreadBehind_1 rfl (lv_at hl 1 rfl) ?_
  refine lv_iload_n hx hb dX0_spreadBehind_2 rfl (lv_at hl 2 rfl) ?_
  have hd_1 : (S 20) 54 ≤ 2000 := by omega
  refine cmV (va_runV (As := [.ref (A 36), .int (iI zn)]) (rest := []) ⟨hx, hb, hml, hown, hts⟩ (mX0_daysOf_0 Z A hI S R hF0 (S 20) rfl hd_1 n zn (by omega) (by omega) s.heap.size) (cwV 2 hts (lw_V q605 q607 qs22 q79 q608) rfl rfl rfl (by decide +kernel) ⟨Nat.le_of_ble_eq_true rfl, Nat.le_of_ble_eq_true rfl⟩) (pvM (BornH.S hB hN hS) (OBJ.recv Z hB hW.obj (q := (RX0, TX0, 16)) rfl) hW) rfl rfl hl.1 rfl (lv_room (Nat.le_of_ble_eq_true rfl)) dX0_spreadBehind_3 ⟨Nat.zero_le _, Nat.zero_le _⟩) hS (AA.le hS.1) (fun H1 locs hW1 hz1 hk1 hS => ?_)
  have hW := hW1
  clear hW1 hk1 hz1
  generalize H1 = H at hW hS ⊢
  have hwf_2 : WF (daysS (S 20) n) := daysS_wf hF0 n (by omega)
  refine lv_aload_n hx hb dX0_spreadBehind_6 rfl (lv_at hl 0 rfl) ?_
  refine r_get (ci := 0) (k := 4) (v := .ref (A 56)) (C := RX0) (T := TX0) (N := 16) Z hB hx hb hts hown rfl in_X0 hW.obj (by decide) q797 rfl dX0_spreadBehind_7 ?_
  refine cqI (va_runV (As := []) (rest := []) ⟨hx, hb, hml, hown, hts⟩ (mX1_spread Z (fa A 1) (daysS (S 20) n) hwf_2 ) (cwV 0 hts (lw_V q437 q438 q439 q80 q440) rfl rfl rfl (by decide +kernel) ⟨Nat.le_of_ble_eq_true rfl, Nat.le_of_ble_eq_true rfl⟩) (pvR (BornH.S hB hN hS) (OBJ.recv Z hB (((hW.fw (f := 1) (by omega) (F := (daysS (S 20) n)) (up_s _ _ _))).1) (q := (RX1, TX1, 8)) rfl) (hW.fw (f := 1) (by omega) (F := (daysS (S 20) n)) (up_s _ _ _))) rfl rfl hl.1 rfl (lv_room (Nat.le_of_ble_eq_true rfl)) dX0_spreadBehind_10 ⟨Nat.zero_le _, Nat.zero_le _⟩) ?_
  have b_562 := lowS_in hwf_2 ((daysS (S 20) n) 76).toNat (by have := hwf_2.n; omega)
  have b_563 := highS_in hwf_2 ((daysS (S 20) n) 76).toNat (by have := hwf_2.n; omega)
  have hpw9 : (CW G A (up S 21 (daysS (S 20) n)) R) H := hW
  have he9 : (max 0 (highS (daysS (S 20) n) ((daysS (S 20) n) 76).toNat - lowS (daysS (S 20) n) ((daysS (S 20) n) 76).toNat)) = (spd (S 20) n) := rfl
  exact W.iret hx hb hr (fun t ht hW9 => ⟨⟨_, (), rfl, congrArg iI he9, by show (CW G A (up S 21 (daysS (S 20) n)) R) t.heap; rw [ht]; exact hpw9⟩, hS.F ht⟩) hS.2.2 dX0_spreadBehind_13

set_option maxHeartbeats 1000000 in
set_option maxRecDepth 100000 in
theorem mX0_spreadBehind_2 {l : Launch} {G : GG} {s0 : State} {b0 : Nat} (Z : ZZ l G s0 b0) (A : Nat → Nat) (hI : Own s0 A 156) (S : Sta) (R : Nat → Option Nat) (hF0 : WF (S 20)) (F : Nat → Int) (eF : S 22 = F) (hF2 : WF F) (hd : F 54 ≤ 2000) (n : Nat) (zn : Int) (hzn : zn = (n : Int)) (hn : n ≤ 60) (sz : Nat) : Met l yX0_spreadBehind (ws_ yX0_spreadBehind cX0_spreadBehind 3 (some .int)) ({ frames := 7, cells := 0, slots := 0, locals := 152 } : Room) (pcM s0 sz (CW G A S R) [.ref (A 0), .ref (A 76), .int (iI zn)]) (mI (spd F n) (CW G A (up S 21 (daysS F n)) R) (AA A 156 sz)) 0 0 (AA A 156 sz) := by
  refine Met.ofW (cc := cX0_spreadBehind) (maxL := 3) (ret := (some .int)) (by decide) rfl ?_
  intro p e s m args below meth c s₁ B hml hv
  obtain ⟨rfl, hsz, hW, hB⟩ := hv
  subst hsz
  have hx := B.exec
  have hb := B.bytes
  have hr := B.returns
  have hts := atoms_spec (ws := (ws_ yX0_spreadBehind cX0_spreadBehind 3 (some .int))) B.pre
  have hts : ∀ w ∈ lw_all, w.before _ s = true := fun w h => hts w (List.mem_cons_of_mem _ h)
  have hown : s.vm.findClass RX0 = some m.cls := findClass_of_methodNamed B.named
  have hlocks := B.notSynchronized
  have hN := AA.old hI hB
  have hS : va_S (AA A 156 s.heap.size) s.heap s.heap [] := va_S.rf
  have hl := lv_entry ([.ref (A 0), .ref (A 76), .int (iI zn)]) (n := 3) (Nat.le_of_ble_eq_true rfl)
  rw [lg_entry_eq]
  generalize (lg_sl ([.ref (A 0), .ref (A 76), .int (iI zn)]) ++ List.replicate (3 - (lg_sl ([.ref (A 0), .ref (A 76), .int (iI zn)])).length) Slot.unset).toArray = ls at hl ⊢
  have hl : lv_has ls 3 [(0, .ref (A 0)), (1, .ref (A 76)), (2, .int (iI zn))] := hl
  subst eF
  refine lv_aload_n hx hb dX0_spreadBehind_0 rfl (lv_at hl 0 rfl) ?_
  refine lv_aload_n hx hb dX0_spreadBehind_1 rfl (lv_at hl 1 rfl) ?_
  refine lv_iload_n hx hb dX0_spreadBehind_2 rfl (lv_at hl 2 rfl) ?_
  have hd_1 : (S 22) 54 ≤ 2000 := by omega
  refine cmV (va_runV (As := [.ref (A 76), .int (iI zn)]) (rest := []) ⟨hx, hb, hml, hown, hts⟩ (mX0_daysOf_2 Z A hI S R hF0 (S 22) rfl hF2 hd_1 n zn (by omega) (by omega) s.heap.size) (cwV 2 hts (lw_V q605 q607 qs22 q79 q608) rfl rfl rfl (by decide +kernel) ⟨Nat.le_of_ble_eq_true rfl, Nat.le_of_ble_eq_true rfl⟩) (pvM (BornH.S hB hN hS) (OBJ.recv Z hB hW.obj (q := (RX0, TX0, 16)) rfl) hW) rfl rfl hl.1 rfl (lv_room (Nat.le_of_ble_eq_true rfl)) dX0_spreadBehind_3 ⟨Nat.zero_le _, Nat.zero_le _⟩) hS (AA.le hS.1) (fun H1 locs hW1 hz1 hk1 hS => ?_)
  have hW := hW1
  clear hW1 hk1 hz1
  generalize H1 = H at hW hS ⊢
  have hwf_2 : WF (daysS (S 22) n) := daysS_wf hF2 n (by omega)
  refine lv_aload_n hx hb dX0_spreadBehind_6 rfl (lv_at hl 0 rfl) ?_
  refine r_get (ci := 0) (k := 4) (v := .ref (A 56)) (C := RX0) (T := TX0) (N := 16) Z hB hx hb hts hown rfl in_X0 hW.obj (by decide) q797 rfl dX0_spreadBehind_7 ?_
  refine cqI (va_runV (As := []) (rest := []) ⟨hx, hb, hml, hown, hts⟩ (mX1_spread Z (fa A 1) (daysS (S 22) n) hwf_2 ) (cwV 0 hts (lw_V q437 q438 q439 q80 q440) rfl rfl rfl (by decide +kernel) ⟨Nat.le_of_ble_eq_true rfl, Nat.le_of_ble_eq_true rfl⟩) (pvR (BornH.S hB hN hS) (OBJ.recv Z hB (((hW.fw (f := 1) (by omega) (F := (daysS (S 22) n)) (up_s _ _ _))).1) (q := (RX1, TX1, 8)) rfl) (hW.fw (f := 1) (by omega) (F := (daysS (S 22) n)) (up_s _ _ _))) rfl rfl hl.1 rfl (lv_room (Nat.le_of_ble_eq_true rfl)) dX0_spreadBehind_10 ⟨Nat.zero_le _, Nat.zero_le _⟩) ?_
  have b_568 := lowS_in hwf_2 ((daysS (S 22) n) 76).toNat (by have := hwf_2.n; omega)
  have b_569 := highS_in hwf_2 ((daysS (S 22) n) 76).toNat (by have := hwf_2.n; omega)
  have hpw9 : (CW G A (up S 21 (daysS (S 22) n)) R) H := hW
  have he9 : (max 0 (highS (daysS (S 22) n) ((daysS (S 22) n) 76).toNat - lowS (daysS (S 22) n) ((daysS (S 22) n) 76).toNat)) = (spd (S 22) n) := rfl
  exact W.iret hx hb hr (fun t ht hW9 => ⟨⟨_, (), rfl, congrArg iI he9, by show (CW G A (up S 21 (daysS (S 22) n)) R) t.heap; rw [ht]; exact hpw9⟩, hS.F ht⟩) hS.2.2 dX0_spreadBehind_13

set_option maxHeartbeats 1000000 in
set_option maxRecDepth 100000 in
theorem mX0_bumpsOf_0 {l : Launch} {G : GG} {s0 : State} {b0 : Nat} (Z : ZZ l G s0 b0) (A : Nat → Nat) (hI : Own s0 A 156) (S : Sta) (R : Nat → Option Nat) (hF0 : WF (S 20)) (F : Nat → Int) (eF : S 20 = F) (hd : F 54 ≤ 2000) (F0 : Nat → Int) (eF0 : S 20 = F0) (sz : Nat) : Met l yX0_bumpsOf (ws_ yX0_bumpsOf cX0_bumpsOf 2 (some .int)) ({ frames := 7, cells := 0, slots := 0, locals := 152 } : Room) (pcM s0 sz (CW G A S R) [.ref (A 0), .ref (A 36)]) (mI (bmp F0 F) (CW G A (up S 21 (daysS F 30)) R) (AA A 156 sz)) 0 0 (AA A 156 sz) := by
  refine Met.ofW (cc := cX0_bumpsOf) (maxL := 2) (ret := (some .int)) (by decide) rfl ?_
  intro p e s m args below meth c s₁ B hml hv
  obtain ⟨rfl, hsz, hW, hB⟩ := hv
  subst hsz
  have hx := B.exec
  have hb := B.bytes
  have hr := B.returns
  have hts := atoms_spec (ws := (ws_ yX0_bumpsOf cX0_bumpsOf 2 (some .int))) B.pre
  have hts : ∀ w ∈ lw_all, w.before _ s = true := fun w h => hts w (List.mem_cons_of_mem _ h)
  have hown : s.vm.findClass RX0 = some m.cls := findClass_of_methodNamed B.named
  have hlocks := B.notSynchronized
  have hN := AA.old hI hB
  have hS : va_S (AA A 156 s.heap.size) s.heap s.heap [] := va_S.rf
  have hl := lv_entry ([.ref (A 0), .ref (A 36)]) (n := 2) (Nat.le_of_ble_eq_true rfl)
  rw [lg_entry_eq]
  generalize (lg_sl ([.ref (A 0), .ref (A 36)]) ++ List.replicate (2 - (lg_sl ([.ref (A 0), .ref (A 36)])).length) Slot.unset).toArray = ls at hl ⊢
  have hl : lv_has ls 2 [(0, .ref (A 0)), (1, .ref (A 36))] := hl
  subst eF
  subst eF0
  refine lv_aload_n hx hb dX0_bumpsOf_0 rfl (lv_at hl 0 rfl) ?_
  refine lv_aload_n hx hb dX0_bumpsOf_1 rfl (lv_at hl 1 rfl) ?_
  refine ii_bipush hx hb dX0_bumpsOf_2 (by decide) ?_
  have hd_1 : (S 20) 54 ≤ 2000 := by omega
  refine cmV (va_runV (As := [.ref (A 36), .int (iI 30)]) (rest := []) ⟨hx, hb, hml, hown, hts⟩ (mX0_daysOf_0 Z A hI S R hF0 (S 20) rfl hd_1 30 30 (by omega) (by omega) s.heap.size) (cwV 2 hts (lw_V q605 q607 qs22 q79 q608) rfl rfl rfl (by decide +kernel) ⟨Nat.le_of_ble_eq_true rfl, Nat.le_of_ble_eq_true rfl⟩) (pvM (BornH.S hB hN hS) (OBJ.recv Z hB hW.obj (q := (RX0, TX0, 16)) rfl) hW) rfl rfl hl.1 rfl (lv_room (Nat.le_of_ble_eq_true rfl)) dX0_bumpsOf_4 ⟨Nat.zero_le _, Nat.zero_le _⟩) hS (AA.le hS.1) (fun H1 locs hW1 hz1 hk1 hS => ?_)
  have hW := hW1
  clear hW1 hk1 hz1
  generalize H1 = H at hW hS ⊢
  have hwf_2 : WF (daysS (S 20) 30) := daysS_wf hF0 30 (by omega)
  refine lv_aload_n hx hb dX0_bumpsOf_7 rfl (lv_at hl 0 rfl) ?_
  refine r_get (ci := 0) (k := 4) (v := .ref (A 56)) (C := RX0) (T := TX0) (N := 16) Z hB hx hb hts hown rfl in_X0 hW.obj (by decide) q797 rfl dX0_bumpsOf_8 ?_
  refine r_getN (ci := 1) (k := 7) (v := .int (iI ((daysS (S 20) 30) 56))) (C := RX1) (T := TX1) (N := 8) Z hB hx hb hts hown rfl in_X1 (((hW.fw (f := 1) (by omega) (F := (daysS (S 20) 30)) (up_s _ _ _))).1) (by decide) q157 rfl dX0_bumpsOf_11 ?_
  refine lv_aload_n hx hb dX0_bumpsOf_14 rfl (lv_at hl 0 rfl) ?_
  refine r_get (ci := 0) (k := 3) (v := .ref (A 36)) (C := RX0) (T := TX0) (N := 16) Z hB hx hb hts hown rfl in_X0 hW.obj (by decide) q796 rfl dX0_bumpsOf_15 ?_
  refine r_getN (ci := 1) (k := 7) (v := .int (iI ((S 20) 56))) (C := RX1) (T := TX1) (N := 8) Z hB hx hb hts hown rfl in_X1 (((hW.fw (f := 0) (by omega) (F := (S 20)) rfl)).1) (by decide) q157 rfl dX0_bumpsOf_18 ?_
  refine ii_sub hx hb dX0_bumpsOf_21 ?_
  have hpw9 : (CW G A (up S 21 (daysS (S 20) 30)) R) H := hW
  have he9 : (((daysS (S 20) 30) 56) - ((S 20) 56)) = (bmp (S 20) (S 20)) := rfl
  exact W.iret hx hb hr (fun t ht hW9 => ⟨⟨_, (), rfl, congrArg iI he9, by show (CW G A (up S 21 (daysS (S 20) 30)) R) t.heap; rw [ht]; exact hpw9⟩, hS.F ht⟩) hS.2.2 dX0_bumpsOf_22

set_option maxHeartbeats 1000000 in
set_option maxRecDepth 100000 in
theorem mX0_bumpsOf_2 {l : Launch} {G : GG} {s0 : State} {b0 : Nat} (Z : ZZ l G s0 b0) (A : Nat → Nat) (hI : Own s0 A 156) (S : Sta) (R : Nat → Option Nat) (hF0 : WF (S 20)) (F : Nat → Int) (eF : S 22 = F) (hF2 : WF F) (hd : F 54 ≤ 2000) (F0 : Nat → Int) (eF0 : S 20 = F0) (sz : Nat) : Met l yX0_bumpsOf (ws_ yX0_bumpsOf cX0_bumpsOf 2 (some .int)) ({ frames := 7, cells := 0, slots := 0, locals := 152 } : Room) (pcM s0 sz (CW G A S R) [.ref (A 0), .ref (A 76)]) (mI (bmp F0 F) (CW G A (up S 21 (daysS F 30)) R) (AA A 156 sz)) 0 0 (AA A 156 sz) := by
  refine Met.ofW (cc := cX0_bumpsOf) (maxL := 2) (ret := (some .int)) (by decide) rfl ?_
  intro p e s m args below meth c s₁ B hml hv
  obtain ⟨rfl, hsz, hW, hB⟩ := hv
  subst hsz
  have hx := B.exec
  have hb := B.bytes
  have hr := B.returns
  have hts := atoms_spec (ws := (ws_ yX0_bumpsOf cX0_bumpsOf 2 (some .int))) B.pre
  have hts : ∀ w ∈ lw_all, w.before _ s = true := fun w h => hts w (List.mem_cons_of_mem _ h)
  have hown : s.vm.findClass RX0 = some m.cls := findClass_of_methodNamed B.named
  have hlocks := B.notSynchronized
  have hN := AA.old hI hB
  have hS : va_S (AA A 156 s.heap.size) s.heap s.heap [] := va_S.rf
  have hl := lv_entry ([.ref (A 0), .ref (A 76)]) (n := 2) (Nat.le_of_ble_eq_true rfl)
  rw [lg_entry_eq]
  generalize (lg_sl ([.ref (A 0), .ref (A 76)]) ++ List.replicate (2 - (lg_sl ([.ref (A 0), .ref (A 76)])).length) Slot.unset).toArray = ls at hl ⊢
  have hl : lv_has ls 2 [(0, .ref (A 0)), (1, .ref (A 76))] := hl
  subst eF
  subst eF0
  refine lv_aload_n hx hb dX0_bumpsOf_0 rfl (lv_at hl 0 rfl) ?_
  refine lv_aload_n hx hb dX0_bumpsOf_1 rfl (lv_at hl 1 rfl) ?_
  refine ii_bipush hx hb dX0_bumpsOf_2 (by decide) ?_
  have hd_1 : (S 22) 54 ≤ 2000 := by omega
  refine cmV (va_runV (As := [.ref (A 76), .int (iI 30)]) (rest := []) ⟨hx, hb, hml, hown, hts⟩ (mX0_daysOf_2 Z A hI S R hF0 (S 22) rfl hF2 hd_1 30 30 (by omega) (by omega) s.heap.size) (cwV 2 hts (lw_V q605 q607 qs22 q79 q608) rfl rfl rfl (by decide +kernel) ⟨Nat.le_of_ble_eq_true rfl, Nat.le_of_ble_eq_true rfl⟩) (pvM (BornH.S hB hN hS) (OBJ.recv Z hB hW.obj (q := (RX0, TX0, 16)) rfl) hW) rfl rfl hl.1 rfl (lv_room (Nat.le_of_ble_eq_true rfl)) dX0_bumpsOf_4 ⟨Nat.zero_le _, Nat.zero_le _⟩) hS (AA.le hS.1) (fun H1 locs hW1 hz1 hk1 hS => ?_)
  have hW := hW1
  clear hW1 hk1 hz1
  generalize H1 = H at hW hS ⊢
  have hwf_2 : WF (daysS (S 22) 30) := daysS_wf hF2 30 (by omega)
  refine lv_aload_n hx hb dX0_bumpsOf_7 rfl (lv_at hl 0 rfl) ?_
  refine r_get (ci := 0) (k := 4) (v := .ref (A 56)) (C := RX0) (T := TX0) (N := 16) Z hB hx hb hts hown rfl in_X0 hW.obj (by decide) q797 rfl dX0_bumpsOf_8 ?_
  refine r_getN (ci := 1) (k := 7) (v := .int (iI ((daysS (S 22) 30) 56))) (C := RX1) (T := TX1) (N := 8) Z hB hx hb hts hown rfl in_X1 (((hW.fw (f := 1) (by omega) (F := (daysS (S 22) 30)) (up_s _ _ _))).1) (by decide) q157 rfl dX0_bumpsOf_11 ?_
  refine lv_aload_n hx hb dX0_bumpsOf_14 rfl (lv_at hl 0 rfl) ?_
  refine r_get (ci := 0) (k := 3) (v := .ref (A 36)) (C := RX0) (T := TX0) (N := 16) Z hB hx hb hts hown rfl in_X0 hW.obj (by decide) q796 rfl dX0_bumpsOf_15 ?_
  refine r_getN (ci := 1) (k := 7) (v := .int (iI ((S 20) 56))) (C := RX1) (T := TX1) (N := 8) Z hB hx hb hts hown rfl in_X1 (((hW.fw (f := 0) (by omega) (F := (S 20)) rfl)).1) (by decide) q157 rfl dX0_bumpsOf_18 ?_
  refine ii_sub hx hb dX0_bumpsOf_21 ?_
  have hpw9 : (CW G A (up S 21 (daysS (S 22) 30)) R) H := hW
  have he9 : (((daysS (S 22) 30) 56) - ((S 20) 56)) = (bmp (S 20) (S 22)) := rfl
  exact W.iret hx hb hr (fun t ht hW9 => ⟨⟨_, (), rfl, congrArg iI he9, by show (CW G A (up S 21 (daysS (S 22) 30)) R) t.heap; rw [ht]; exact hpw9⟩, hS.F ht⟩) hS.2.2 dX0_bumpsOf_22

set_option maxHeartbeats 1000000 in
set_option maxRecDepth 100000 in
theorem mX0_isLess {l : Launch} {G : GG} {s0 : State} {b0 : Nat} (Z : ZZ l G s0 b0) (A : Nat → Nat) (hI : Own s0 A 156) (S : Sta) (R : Nat → Option Nat) (v : Int) (hv : inR v) (hle : inR (S 0 2)) (sz : Nat) : Met l yX0_isLess (ws_ yX0_isLess cX0_isLess 3 (some .boolean)) ({ frames := 1, cells := 0, slots := 0, locals := 14 } : Room) (pcM s0 sz (CW G A S R) [.ref (A 0), .int (iI v)]) (mI (b2 (v < S 0 2)) (CW G A (up S 0 (up (S 0) 2 (min (S 0 2) v))) R) (AA A 156 sz)) 0 0 (AA A 156 sz) := by
  refine Met.ofW (cc := cX0_isLess) (maxL := 3) (ret := (some .boolean)) (by decide) rfl ?_
  intro p e s m args below meth c s₁ B hml hv
  obtain ⟨rfl, hsz, hW, hB⟩ := hv
  subst hsz
  have hx := B.exec
  have hb := B.bytes
  have hr := B.returns
  have hts := atoms_spec (ws := (ws_ yX0_isLess cX0_isLess 3 (some .boolean))) B.pre
  have hts : ∀ w ∈ lw_all, w.before _ s = true := fun w h => hts w (List.mem_cons_of_mem _ h)
  have hown : s.vm.findClass RX0 = some m.cls := findClass_of_methodNamed B.named
  have hlocks := B.notSynchronized
  have hN := AA.old hI hB
  have hS : va_S (AA A 156 s.heap.size) s.heap s.heap [] := va_S.rf
  have hl := lv_entry ([.ref (A 0), .int (iI v)]) (n := 3) (Nat.le_of_ble_eq_true rfl)
  rw [lg_entry_eq]
  generalize (lg_sl ([.ref (A 0), .int (iI v)]) ++ List.replicate (3 - (lg_sl ([.ref (A 0), .int (iI v)])).length) Slot.unset).toArray = ls at hl ⊢
  have hl : lv_has ls 3 [(0, .ref (A 0)), (1, .int (iI v))] := hl
  refine lv_iload_n hx hb dX0_isLess_0 rfl (lv_at hl 1 rfl) ?_
  refine lv_aload_n hx hb dX0_isLess_1 rfl (lv_at hl 0 rfl) ?_
  refine r_get (ci := 0) (k := 6) (v := .int (iI ((S 0) 2))) (C := RX0) (T := TX0) (N := 16) Z hB hx hb hts hown rfl in_X0 hW.obj (by decide) q799 rfl dX0_isLess_2 ?_
  refine ii_icmp_ge (tgt := 12) hx hb dX0_isLess_5 (by decide) (by omega) (by omega) (fun c_1 => ?_) (fun c_1 => ?_)
  · -- 5 -> 12
    refine ii_const hx hb dX0_isLess_12 ?_
    refine lv_istore_n (lv' := [(2, .int (iI 0)), (0, .ref (A 0)), (1, .int (iI v))]) hx hb dX0_isLess_13 rfl hl (by decide) rfl (fun ls hl => ?_)
    refine lv_aload_n hx hb dX0_isLess_14 rfl (lv_at hl 1 rfl) ?_
    refine lv_aload_n hx hb dX0_isLess_15 rfl (lv_at hl 1 rfl) ?_
    refine r_get (ci := 0) (k := 6) (v := .int (iI ((S 0) 2))) (C := RX0) (T := TX0) (N := 16) Z hB hx hb hts hown rfl in_X0 hW.obj (by decide) q799 rfl dX0_isLess_16 ?_
    refine lv_iload_n hx hb dX0_isLess_19 rfl (lv_at hl 2 rfl) ?_
    refine ii_min hx hb (hml.trans hl.1.symm) hts hown q595 (Nat.le_of_ble_eq_true rfl) (Nat.le_of_ble_eq_true rfl) (Nat.zero_le _) (Nat.zero_le _) (by omega) (by omega) dX0_isLess_20 ?_
    refine r_put (ci := 0) (k := 6) (C := RX0) (T := TX0) (N := 16) Z hB hx hb hts hown rfl in_X0 tyX0 tyX0_ok nmX0 hW.obj hS (Or.inl ⟨0, by omega, rfl⟩) (by decide) q799 rfl rfl rfl rfl (Nat.le_of_ble_eq_true rfl) dX0_isLess_23 (CW G A (up S 0 (up (S 0) 2 (min ((S 0) 2) v))) R) (fun H1 hz oq ho => hW.setO hI (k := 2) (by omega) oq ho) (fun H locs hW hS => ?_)
    refine lv_iload_n hx hb dX0_isLess_26 rfl (lv_at hl 0 rfl) ?_
    have hpw9 : (CW G A (up S 0 (up (S 0) 2 (min (S 0 2) v))) R) H := hW
    have he9 : 0 = (b2 (v < S 0 2)) := by first | exact (b2_t (by omega)).symm | exact (b2_f (by omega)).symm
    exact W.zret (ty := .boolean) hx hb hr (by first | rfl | exact b2_nar _) (fun t ht hW9 => ⟨⟨_, (), rfl, congrArg iI he9, by show (CW G A (up S 0 (up (S 0) 2 (min (S 0 2) v))) R) t.heap; rw [ht]; exact hpw9⟩, hS.F ht⟩) hS.2.2 dX0_isLess_27
  · -- 5 -> 8
    refine ii_const hx hb dX0_isLess_8 ?_
    refine lv_goto (tgt := 13) hx hb dX0_isLess_9 (by decide) ?_
    refine lv_istore_n (lv' := [(2, .int (iI 1)), (0, .ref (A 0)), (1, .int (iI v))]) hx hb dX0_isLess_13 rfl hl (by decide) rfl (fun ls hl => ?_)
    refine lv_aload_n hx hb dX0_isLess_14 rfl (lv_at hl 1 rfl) ?_
    refine lv_aload_n hx hb dX0_isLess_15 rfl (lv_at hl 1 rfl) ?_
    refine r_get (ci := 0) (k := 6) (v := .int (iI ((S 0) 2))) (C := RX0) (T := TX0) (N := 16) Z hB hx hb hts hown rfl in_X0 hW.obj (by decide) q799 rfl dX0_isLess_16 ?_
    refine lv_iload_n hx hb dX0_isLess_19 rfl (lv_at hl 2 rfl) ?_
    refine ii_min hx hb (hml.trans hl.1.symm) hts hown q595 (Nat.le_of_ble_eq_true rfl) (Nat.le_of_ble_eq_true rfl) (Nat.zero_le _) (Nat.zero_le _) (by omega) (by omega) dX0_isLess_20 ?_
    refine r_put (ci := 0) (k := 6) (C := RX0) (T := TX0) (N := 16) Z hB hx hb hts hown rfl in_X0 tyX0 tyX0_ok nmX0 hW.obj hS (Or.inl ⟨0, by omega, rfl⟩) (by decide) q799 rfl rfl rfl rfl (Nat.le_of_ble_eq_true rfl) dX0_isLess_23 (CW G A (up S 0 (up (S 0) 2 (min ((S 0) 2) v))) R) (fun H1 hz oq ho => hW.setO hI (k := 2) (by omega) oq ho) (fun H locs hW hS => ?_)
    refine lv_iload_n hx hb dX0_isLess_26 rfl (lv_at hl 0 rfl) ?_
    have hpw9 : (CW G A (up S 0 (up (S 0) 2 (min (S 0 2) v))) R) H := hW
    have he9 : 1 = (b2 (v < S 0 2)) := by first | exact (b2_t (by omega)).symm | exact (b2_f (by omega)).symm
    exact W.zret (ty := .boolean) hx hb hr (by first | rfl | exact b2_nar _) (fun t ht hW9 => ⟨⟨_, (), rfl, congrArg iI he9, by show (CW G A (up S 0 (up (S 0) 2 (min (S 0 2) v))) R) t.heap; rw [ht]; exact hpw9⟩, hS.F ht⟩) hS.2.2 dX0_isLess_27

set_option maxHeartbeats 1000000 in
set_option maxRecDepth 100000 in
theorem mX0_looses {l : Launch} {G : GG} {s0 : State} {b0 : Nat} (Z : ZZ l G s0 b0) (A : Nat → Nat) (hI : Own s0 A 156) (S : Sta) (R : Nat → Option Nat) (hF0 : WF (S 20)) (k : Nat) (zk : Int) (hzk : zk = (k : Int)) (hk : (k : Int) < S 20 53) (sz : Nat) : Met l yX0_looses (ws_ yX0_looses cX0_looses 3 none) ({ frames := 2, cells := 0, slots := 0, locals := 40 } : Room) (pcM s0 sz (CW G A S R) [.ref (A 0), .int (iI zk)]) (mV (CW G A (up S 22 (frayF (S 20) k)) R) (AA A 156 sz)) 0 0 (AA A 156 sz) := by
  refine Met.ofW (cc := cX0_looses) (maxL := 3) (ret := none) (by decide) rfl ?_
  intro p e s m args below meth c s₁ B hml hv
  obtain ⟨rfl, hsz, hW, hB⟩ := hv
  subst hsz
  have hx := B.exec
  have hb := B.bytes
  have hr := B.returns
  have hts := atoms_spec (ws := (ws_ yX0_looses cX0_looses 3 none)) B.pre
  have hts : ∀ w ∈ lw_all, w.before _ s = true := fun w h => hts w (List.mem_cons_of_mem _ h)
  have hown : s.vm.findClass RX0 = some m.cls := findClass_of_methodNamed B.named
  have hlocks := B.notSynchronized
  have hN := AA.old hI hB
  have hS : va_S (AA A 156 s.heap.size) s.heap s.heap [] := va_S.rf
  have hl := lv_entry ([.ref (A 0), .int (iI zk)]) (n := 3) (Nat.le_of_ble_eq_true rfl)
  rw [lg_entry_eq]
  generalize (lg_sl ([.ref (A 0), .int (iI zk)]) ++ List.replicate (3 - (lg_sl ([.ref (A 0), .int (iI zk)])).length) Slot.unset).toArray = ls at hl ⊢
  have hl : lv_has ls 3 [(0, .ref (A 0)), (1, .int (iI zk))] := hl
  have hr6 := hF0.rm
  refine lv_aload_n hx hb dX0_looses_0 rfl (lv_at hl 0 rfl) ?_
  refine r_get (ci := 0) (k := 5) (v := .ref (A 76)) (C := RX0) (T := TX0) (N := 16) Z hB hx hb hts hown rfl in_X0 hW.obj (by decide) q798 rfl dX0_looses_1 ?_
  refine lv_aload_n hx hb dX0_looses_4 rfl (lv_at hl 0 rfl) ?_
  refine r_get (ci := 0) (k := 3) (v := .ref (A 36)) (C := RX0) (T := TX0) (N := 16) Z hB hx hb hts hown rfl in_X0 hW.obj (by decide) q796 rfl dX0_looses_5 ?_
  refine cmV (va_runV (As := [.ref (A 36)]) (rest := []) ⟨hx, hb, hml, hown, hts⟩ (mX1_takes Z (fa A 2) (hI.fa (by omega)) (S 22) (fa A 0) (S 20) (fa_apart hI (f := 2) (g := 0) (by omega) (by omega) (by omega)) s.heap.size) (cwV 1 hts (lw_V q424 q425 q426 q80 q427) rfl rfl rfl (by decide +kernel) ⟨Nat.le_of_ble_eq_true rfl, Nat.le_of_ble_eq_true rfl⟩) (pvM (BornH.S hB hN hS) (OBJ.recv Z hB ((hW.fw (f := 2) (by omega) (F := (S 22)) rfl)).1 (q := (RX1, TX1, 8)) rfl) (⟨(hW.fw (f := 2) (by omega) (F := (S 22)) rfl), (hW.fw (f := 0) (by omega) (F := (S 20)) rfl)⟩)) rfl rfl hl.1 rfl (lv_room (Nat.le_of_ble_eq_true rfl)) dX0_looses_8 ⟨Nat.zero_le _, Nat.zero_le _⟩) hS (AA.fa (by omega) hS.1) (fun H1 locs hW1 hz1 hk1 hS => ?_)
  have hW := hW.joinF hI (f := 2) (by omega) hk1 hW1
  clear hW1 hk1 hz1
  generalize H1 = H at hW hS ⊢
  refine lv_iload_n hx hb dX0_looses_11 rfl (lv_at hl 1 rfl) ?_
  refine ii_const hx hb dX0_looses_12 ?_
  refine ii_add hx hb dX0_looses_13 ?_
  refine lv_istore_n (lv' := [(2, .int (iI (zk + 1))), (0, .ref (A 0)), (1, .int (iI zk))]) hx hb dX0_looses_14 rfl hl (by decide) rfl (fun ls hl => ?_)
  have loop_15 : ∀ (fu : Nat) (q : Nat) (zi : Int), (zi = ((k + 1 + q : Nat) : Int)) → (k + 1 + q ≤ (S 20 53).toNat) → (7 - q) < fu → ∀ (H : Heap) (locs : List Loc), (CW G A (up S 22 (shS (S 20) k (k + 1 + q))) R) H → va_S (AA A 156 s.heap.size) s.heap H locs → ∀ (ls : Array Slot), lv_has ls 3 [(2, .int (iI zi)), (0, .ref (A 0)), (1, .int (iI zk))] → W p l e (headSpec (ws_ yX0_looses cX0_looses 3 none) ({ frames := 2, cells := 0, slots := 0, locals := 40 } : Room)).room s m ([.ref (A 0), .int (iI zk)] : List Value).toArray below meth c H locs 0 0 (MQ below (mV (CW G A (up S 22 (frayF (S 20) k)) R) (AA A 156 s.heap.size)) ([.ref (A 0), .int (iI zk)] : List Value).toArray s 0 0 (AA A 156 s.heap.size)) (F0 m 15 ls []) := by
    intro fu
    induction fu with
    | zero => intro q zi ezi hc hmu; exact absurd hmu (Nat.not_lt_zero _)
    | succ fu ih15 =>
      intro q zi ezi hc hmu H locs hW hS ls hl
      refine lv_iload_n hx hb dX0_looses_15 rfl (lv_at hl 0 rfl) ?_
      refine lv_aload_n hx hb dX0_looses_16 rfl (lv_at hl 1 rfl) ?_
      refine r_get (ci := 0) (k := 3) (v := .ref (A 36)) (C := RX0) (T := TX0) (N := 16) Z hB hx hb hts hown rfl in_X0 hW.obj (by decide) q796 rfl dX0_looses_17 ?_
      have b_587 := hF0.rm 
      refine r_getN (ci := 1) (k := 4) (v := .int (iI ((S 20) 53))) (C := RX1) (T := TX1) (N := 8) Z hB hx hb hts hown rfl in_X1 (((hW.fw (f := 0) (by omega) (F := (S 20)) rfl)).1) (by decide) q149 rfl dX0_looses_20 ?_
      refine ii_icmp_ge (tgt := 58) hx hb dX0_looses_23 (by decide) (by omega) (by omega) (fun c_1 => ?_) (fun c_1 => ?_)
      · -- 23 -> 58
        have ek : k + 1 + q = (S 20 53).toNat := by omega
        rw [ek] at hW
        refine lv_aload_n hx hb dX0_looses_58 rfl (lv_at hl 1 rfl) ?_
        refine r_get (ci := 0) (k := 5) (v := .ref (A 76)) (C := RX0) (T := TX0) (N := 16) Z hB hx hb hts hown rfl in_X0 hW.obj (by decide) q798 rfl dX0_looses_59 ?_
        refine lv_dup hx hb dX0_looses_62 rfl ?_
        refine r_getN (ci := 1) (k := 4) (v := .int (iI ((shS (S 20) k (S 20 53).toNat) 53))) (C := RX1) (T := TX1) (N := 8) Z hB hx hb hts hown rfl in_X1 (((hW.fw (f := 2) (by omega) (F := (shS (S 20) k (S 20 53).toNat)) (up_s _ _ _))).1) (by decide) q149 rfl dX0_looses_63 ?_
        refine ii_const hx hb dX0_looses_66 ?_
        refine ii_sub hx hb dX0_looses_67 ?_
        refine r_putN (ci := 1) (k := 4) (C := RX1) (T := TX1) (N := 8) Z hB hx hb hts hown rfl in_X1 tyX1 tyX1_ok nmX1 (((hW.fw (f := 2) (by omega) (F := (shS (S 20) k (S 20 53).toNat)) (up_s _ _ _))).1) hS (Or.inl ⟨36 + 20 * 2 + (0), by omega, rfl⟩) (by decide) q149 rfl rfl rfl rfl (Nat.le_of_ble_eq_true rfl) dX0_looses_68 (CW G A (up (up S 22 (shS (S 20) k (S 20 53).toNat)) 22 (up (shS (S 20) k (S 20 53).toNat) 53 (((shS (S 20) k (S 20 53).toNat) 53) - 1))) R) (fun H1 hz oq ho => hW.storeF hI (f := 2) (c := 0) (by omega) (by omega) oq (FW.setO ((hW.fw (f := 2) (by omega) (F := (shS (S 20) k (S 20 53).toNat)) (up_s _ _ _))) (hI.fa (f := 2) (by omega)) (k := 53) (by omega) oq ho)) (fun H locs hW hS => ?_)
        have hW := hW.eqS (S' := (up S 22 (up (shS (S 20) k (S 20 53).toNat) 53 (((shS (S 20) k (S 20 53).toNat) 53) - 1)))) (by
            funext a
            by_cases h22 : a = 22
            · subst h22; rfl
            simp only [up, if_neg h22])
        have hpw9 : (CW G A (up S 22 (frayF (S 20) k)) R) H := (by have h9 := hW; rw [shS_o (S 20) k (by omega) (by omega)] at h9; exact h9)
        exact W.vret hx hb hr (fun t ht hW9 => ⟨⟨(), rfl, trivial, by show (CW G A (up S 22 (frayF (S 20) k)) R) t.heap; rw [ht]; exact hpw9⟩, hS.F ht⟩) hS.2.2 dX0_looses_71
      · -- 23 -> 26
        refine lv_aload_n hx hb dX0_looses_26 rfl (lv_at hl 1 rfl) ?_
        refine r_get (ci := 0) (k := 3) (v := .ref (A 36)) (C := RX0) (T := TX0) (N := 16) Z hB hx hb hts hown rfl in_X0 hW.obj (by decide) q796 rfl dX0_looses_27 ?_
        refine r_getN (ci := 1) (k := 2) (v := .ref ((fa A 0) 13)) (C := RX1) (T := TX1) (N := 8) Z hB hx hb hts hown rfl in_X1 (((hW.fw (f := 0) (by omega) (F := (S 20)) rfl)).1) (by decide) q144 rfl dX0_looses_30 ?_
        refine lv_iload_n hx hb dX0_looses_33 rfl (lv_at hl 0 rfl) ?_
        refine r_aald (t := 1) (ty := .array .int) (k := (k + 1 + q)) Z hB hx hb rfl rfl (((hW.fw (f := 0) (by omega) (F := (S 20)) rfl)).2.2.2.2.2.1) (by omega) (by omega) (by omega) rfl dX0_looses_34 ?_
        refine ii_const hx hb dX0_looses_35 ?_
        refine lv_aload_n hx hb dX0_looses_36 rfl (lv_at hl 1 rfl) ?_
        refine r_get (ci := 0) (k := 5) (v := .ref (A 76)) (C := RX0) (T := TX0) (N := 16) Z hB hx hb hts hown rfl in_X0 hW.obj (by decide) q798 rfl dX0_looses_37 ?_
        refine r_getN (ci := 1) (k := 2) (v := .ref ((fa A 2) 13)) (C := RX1) (T := TX1) (N := 8) Z hB hx hb hts hown rfl in_X1 (((hW.fw (f := 2) (by omega) (F := (shS (S 20) k (k + 1 + q))) (up_s _ _ _))).1) (by decide) q144 rfl dX0_looses_40 ?_
        refine lv_iload_n hx hb dX0_looses_43 rfl (lv_at hl 0 rfl) ?_
        refine ii_const hx hb dX0_looses_44 ?_
        refine ii_sub hx hb dX0_looses_45 ?_
        refine r_aald (t := 1) (ty := .array .int) (k := (k + q)) Z hB hx hb rfl rfl (((hW.fw (f := 2) (by omega) (F := (shS (S 20) k (k + 1 + q))) (up_s _ _ _))).2.2.2.2.2.1) (by omega) (by omega) (by omega) rfl dX0_looses_46 ?_
        refine ii_const hx hb dX0_looses_47 ?_
        refine ii_const hx hb dX0_looses_48 ?_
        refine r_copy (t := 0) (ty := .int) (n := 3) Z hB hx hb (hml.trans hl.1.symm) hts hown q118 rfl rfl (((hW.fw (f := 0) (by omega) (F := (S 20)) rfl)).2.2.2.2.2.2 (k + 1 + q) (by omega)) (((hW.fw (f := 2) (by omega) (F := (shS (S 20) k (k + 1 + q))) (up_s _ _ _))).2.2.2.2.2.2 (k + q) (by omega)) hS (Or.inl ⟨36 + 20 * 2 + (14 + (k + q)), by omega, rfl⟩) rfl rfl (by omega) (by omega) (by omega) (by omega) (fun i hi => rfl) (Nat.le_of_ble_eq_true rfl) (Nat.le_of_ble_eq_true rfl) dX0_looses_49 (CW G A (up (up S 22 (shS (S 20) k (k + 1 + q))) 22 (shS (S 20) k (k + 1 + (q + 1)))) R) (fun H1 hz oq ha => hW.storeF hI (f := 2) (c := 14 + (k + q)) (by omega) (by omega) oq (FW.rowR (i := k + q) (hW.fw (f := 2) (by omega) rfl) (hI.fa (f := 2) (by omega)) (by omega) oq ha shS_e1 shS_e2)) (fun H locs hW hS => ?_)
        have hW := hW.eqS (S' := (up S 22 (shS (S 20) k (k + 1 + (q + 1))))) (by
            funext a
            by_cases h22 : a = 22
            · subst h22; rfl
            simp only [up, if_neg h22])
        refine ii_iinc (k := 0) (lv' := [(2, .int (iI (zi + 1))), (0, .ref (A 0)), (1, .int (iI zk))]) hx hb dX0_looses_52 hl rfl (by decide) rfl (fun ls hl => ?_)
        refine lv_goto (tgt := 15) hx hb dX0_looses_55 (by decide) ?_
        exact ih15 (q + 1) (zi + 1) (by omega) (by omega) (by omega) _ _ hW hS ls (lv_sub hl [0, 1, 2] rfl)
  exact loop_15 _ 0 (zk + 1) (by omega) (by omega) (Nat.lt_succ_self _) _ _ (by rw [shS_0]; exact hW) hS ls (lv_sub hl [0, 1, 2] rfl)
