/-! COMPONENT: days tried, 2 (written by gen/comp4.py) -/
set_option maxRecDepth 100000
set_option maxHeartbeats 1000000 in
set_option maxRecDepth 100000 in
theorem mX0_days {l : Launch} {G : GG} {s0 : State} {b0 : Nat} (Z : ZZ l G s0 b0) (A : Nat → Nat) (hI : Own s0 A 156) (S : Sta) (R : Nat → Option Nat) (hF0 : WF (S 20)) (n : Int) (hn : inR n) (sz : Nat) : Met l yX0_days (ws_ yX0_days cX0_days 4 (some .int)) ({ frames := 6, cells := 0, slots := 0, locals := 129 } : Room) (pcM s0 sz (CW G A S R) [.ref (A 0), .int (iI n)]) (mI (daysA (S 20) n) (CW G A (up S 20 (daysF (S 20) n)) R) (AA A 156 sz)) 0 0 (AA A 156 sz) := by
  refine Met.ofW (cc := cX0_days) (maxL := 4) (ret := (some .int)) (by decide) rfl ?_
  intro p e s m args below meth c s₁ B hml hv
  obtain ⟨rfl, hsz, hW, hB⟩ := hv
  subst hsz
  have hx := B.exec
  have hb := B.bytes
  have hr := B.returns
  have hts := atoms_spec (ws := (ws_ yX0_days cX0_days 4 (some .int))) B.pre
  have hts : ∀ w ∈ lw_all, w.before _ s = true := fun w h => hts w (List.mem_cons_of_mem _ h)
  have hown : s.vm.findClass RX0 = some m.cls := findClass_of_methodNamed B.named
  have hlocks := B.notSynchronized
  have hN := AA.old hI hB
  have hS : va_S (AA A 156 s.heap.size) s.heap s.heap [] := va_S.rf
  have hl := lv_entry ([.ref (A 0), .int (iI n)]) (n := 4) (Nat.le_of_ble_eq_true rfl)
  rw [lg_entry_eq]
  generalize (lg_sl ([.ref (A 0), .int (iI n)]) ++ List.replicate (4 - (lg_sl ([.ref (A 0), .int (iI n)])).length) Slot.unset).toArray = ls at hl ⊢
  have hl : lv_has ls 4 [(0, .ref (A 0)), (1, .int (iI n))] := hl
  have hn5 := hF0.n
  refine lv_iload_n hx hb dX0_days_0 rfl (lv_at hl 1 rfl) ?_
  refine ii_i2l hx hb (by omega) dX0_days_1 ?_
  refine ii_lconst (z := 0) hx hb dX0_days_2 rfl ?_
  refine ii_ldc2 (z := 30) hx hb hts hown q545 dX0_days_3 (by decide) ?_
  refine cqI (va_runS (As := [.long (lI n), .long (lI 0), .long (lI 30)]) (rest := []) ⟨hx, hb, hml, hown, hts⟩ (mX0_isIn Z n (by omega) 0 (by omega) 30 (by omega)) (va_cwS 3 hts (lw_S q106 q107 q79 q108) rfl rfl rfl (by decide +kernel) ⟨Nat.le_of_ble_eq_true rfl, Nat.le_of_ble_eq_true rfl⟩) (psR (BornH.S hB hN hS) trivial) rfl rfl hl.1 rfl (lv_room (Nat.le_of_ble_eq_true rfl)) dX0_days_6 ⟨Nat.zero_le _, Nat.zero_le _⟩) ?_
  refine bb_if_ne (P := 0 ≤ n ∧ n ≤ 30) (tgt := 14) hx hb dX0_days_9 (by decide) (fun c_1 => ?_) (fun c_1 => ?_)
  · -- 9 -> 14
    refine lv_aload_n hx hb dX0_days_14 rfl (lv_at hl 0 rfl) ?_
    refine r_get (ci := 0) (k := 3) (v := .ref (A 36)) (C := RX0) (T := TX0) (N := 16) Z hB hx hb hts hown rfl in_X0 hW.obj (by decide) q796 rfl dX0_days_15 ?_
    have b_597 := hF0.day 
    refine r_getN (ci := 1) (k := 6) (v := .int (iI ((S 20) 54))) (C := RX1) (T := TX1) (N := 8) Z hB hx hb hts hown rfl in_X1 (((hW.fw (f := 0) (by omega) (F := (S 20)) rfl)).1) (by decide) q155 rfl dX0_days_18 ?_
    refine lv_iload_n hx hb dX0_days_21 rfl (lv_at hl 1 rfl) ?_
    refine ii_add hx hb dX0_days_22 ?_
    refine ii_sipush hx hb dX0_days_23 (by decide) ?_
    refine ii_icmp_le (tgt := 32) hx hb dX0_days_26 (by decide) (by omega) (by omega) (fun c_2 => ?_) (fun c_2 => ?_)
    · -- 26 -> 32
      refine lv_aload_n hx hb dX0_days_32 rfl (lv_at hl 0 rfl) ?_
      refine r_get (ci := 0) (k := 3) (v := .ref (A 36)) (C := RX0) (T := TX0) (N := 16) Z hB hx hb hts hown rfl in_X0 hW.obj (by decide) q796 rfl dX0_days_33 ?_
      refine r_getN (ci := 1) (k := 7) (v := .int (iI ((S 20) 56))) (C := RX1) (T := TX1) (N := 8) Z hB hx hb hts hown rfl in_X1 (((hW.fw (f := 0) (by omega) (F := (S 20)) rfl)).1) (by decide) q157 rfl dX0_days_36 ?_
      refine lv_istore_n (lv' := [(2, .int (iI ((S 20) 56))), (0, .ref (A 0)), (1, .int (iI n))]) hx hb dX0_days_39 rfl hl (by decide) rfl (fun ls hl => ?_)
      refine ii_const hx hb dX0_days_40 ?_
      refine lv_istore_n (lv' := [(3, .int (iI 0)), (2, .int (iI ((S 20) 56))), (0, .ref (A 0)), (1, .int (iI n))]) hx hb dX0_days_41 rfl hl (by decide) rfl (fun ls hl => ?_)
      have loop_42 : ∀ (fu : Nat) (i : Nat) (zi : Int), (zi = (i : Int)) → (i ≤ n.toNat) → (61 - i) < fu → ∀ (H : Heap) (locs : List Loc), (CW G A (up S 20 (daysS (S 20) i)) R) H → va_S (AA A 156 s.heap.size) s.heap H locs → ∀ (ls : Array Slot), lv_has ls 4 [(3, .int (iI zi)), (2, .int (iI ((S 20) 56))), (0, .ref (A 0)), (1, .int (iI n))] → W p l e (headSpec (ws_ yX0_days cX0_days 4 (some .int)) ({ frames := 6, cells := 0, slots := 0, locals := 129 } : Room)).room s m ([.ref (A 0), .int (iI n)] : List Value).toArray below meth c H locs 0 0 (MQ below (mI (daysA (S 20) n) (CW G A (up S 20 (daysF (S 20) n)) R) (AA A 156 s.heap.size)) ([.ref (A 0), .int (iI n)] : List Value).toArray s 0 0 (AA A 156 s.heap.size)) (F0 m 42 ls []) := by
        intro fu
        induction fu with
        | zero => intro i zi ezi hi hmu; exact absurd hmu (Nat.not_lt_zero _)
        | succ fu ih42 =>
          intro i zi ezi hi hmu H locs hW hS ls hl
          have hwd := daysS_wf hF0 i (by omega)
          have hdd := (daysS_day hF0 i (by omega)).2
          refine lv_iload_n hx hb dX0_days_42 rfl (lv_at hl 0 rfl) ?_
          refine lv_iload_n hx hb dX0_days_43 rfl (lv_at hl 3 rfl) ?_
          refine ii_icmp_ge (tgt := 60) hx hb dX0_days_44 (by decide) (by omega) (by omega) (fun c_3 => ?_) (fun c_3 => ?_)
          · -- 44 -> 60
            have ex_i : n.toNat = i := by omega
            subst ex_i
            refine lv_aload_n hx hb dX0_days_60 rfl (lv_at hl 2 rfl) ?_
            refine r_get (ci := 0) (k := 3) (v := .ref (A 36)) (C := RX0) (T := TX0) (N := 16) Z hB hx hb hts hown rfl in_X0 hW.obj (by decide) q796 rfl dX0_days_61 ?_
            refine r_getN (ci := 1) (k := 7) (v := .int (iI ((daysS (S 20) n.toNat) 56))) (C := RX1) (T := TX1) (N := 8) Z hB hx hb hts hown rfl in_X1 (((hW.fw (f := 0) (by omega) (F := (daysS (S 20) n.toNat)) (up_s _ _ _))).1) (by decide) q157 rfl dX0_days_64 ?_
            refine lv_iload_n hx hb dX0_days_67 rfl (lv_at hl 1 rfl) ?_
            refine ii_sub hx hb dX0_days_68 ?_
            have hpw9 : (CW G A (up S 20 (daysF (S 20) n)) R) H := (by rw [show (up S 20 (daysF (S 20) n)) = (up S 20 (daysS (S 20) n.toNat)) by unfold daysF; (repeat' split) <;> first | rfl | omega | (simp only [up_self20])]; exact hW)
            have he9 : (((daysS (S 20) n.toNat) 56) - ((S 20) 56)) = (daysA (S 20) n) := by unfold daysA; (repeat' split) <;> first | rfl | omega
            exact W.iret hx hb hr (fun t ht hW9 => ⟨⟨_, (), rfl, congrArg iI he9, by show (CW G A (up S 20 (daysF (S 20) n)) R) t.heap; rw [ht]; exact hpw9⟩, hS.F ht⟩) hS.2.2 dX0_days_69
          · -- 44 -> 47
            refine lv_aload_n hx hb dX0_days_47 rfl (lv_at hl 2 rfl) ?_
            refine r_get (ci := 0) (k := 3) (v := .ref (A 36)) (C := RX0) (T := TX0) (N := 16) Z hB hx hb hts hown rfl in_X0 hW.obj (by decide) q796 rfl dX0_days_48 ?_
            refine cmV (va_runV (As := []) (rest := []) ⟨hx, hb, hml, hown, hts⟩ (mX1_dayGoes Z (fa A 0) (hI.fa (by omega)) (daysS (S 20) i) hwd  H.size) (cwV 0 hts (lw_V q564 q565 q566 q80 q567) rfl rfl rfl (by decide +kernel) ⟨Nat.le_of_ble_eq_true rfl, Nat.le_of_ble_eq_true rfl⟩) (pvM (BornH.S hB hN hS) (OBJ.recv Z hB ((hW.fw (f := 0) (by omega) (F := (daysS (S 20) i)) (up_s _ _ _))).1 (q := (RX1, TX1, 8)) rfl) (hW.fw (f := 0) (by omega) (F := (daysS (S 20) i)) (up_s _ _ _))) rfl rfl hl.1 rfl (lv_room (Nat.le_of_ble_eq_true rfl)) dX0_days_51 ⟨Nat.zero_le _, Nat.zero_le _⟩) hS (AA.fa (by omega) hS.1) (fun H1 locs hW1 hz1 hk1 hS => ?_)
            have hW := hW.joinF hI (f := 0) (by omega) hk1 hW1
            clear hW1 hk1 hz1
            generalize H1 = H at hW hS ⊢
            have hW := hW.eqS (S' := (up S 20 (dayS (daysS (S 20) i)))) (by
                funext a
                by_cases h20 : a = 20
                · subst h20; rfl
                simp only [up, if_neg h20])
            have hwf_4 := dayS_wf hwd (by omega)
            refine ii_iinc (k := 0) (lv' := [(3, .int (iI (zi + 1))), (2, .int (iI ((S 20) 56))), (0, .ref (A 0)), (1, .int (iI n))]) hx hb dX0_days_54 hl rfl (by decide) rfl (fun ls hl => ?_)
            refine lv_goto (tgt := 42) hx hb dX0_days_57 (by decide) ?_
            exact ih42 (i + 1) (zi + 1) (by omega) (by omega) (by omega) _ _ hW hS ls (lv_sub hl [0, 1, 2, 3] rfl)
      exact loop_42 _ 0 0 (by omega) (by omega) (Nat.lt_succ_self _) _ _ (by rw [show up S 20 (daysS (S 20) 0) = S from up_id S 20]; exact hW) hS ls (lv_sub hl [0, 1, 2, 3] rfl)
    · -- 26 -> 29
      refine ii_bipush hx hb dX0_days_29 (by decide) ?_
      have hpw9 : (CW G A (up S 20 (daysF (S 20) n)) R) s.heap := (by rw [show (up S 20 (daysF (S 20) n)) = S by unfold daysF; (repeat' split) <;> first | rfl | omega | (simp only [up_self20])]; exact hW)
      have he9 : (-3) = (daysA (S 20) n) := by unfold daysA; (repeat' split) <;> first | rfl | omega
      exact W.iret hx hb hr (fun t ht hW9 => ⟨⟨_, (), rfl, congrArg iI he9, by show (CW G A (up S 20 (daysF (S 20) n)) R) t.heap; rw [ht]; exact hpw9⟩, hS.F ht⟩) hS.2.2 dX0_days_31
  · -- 9 -> 12
    refine ii_const hx hb dX0_days_12 ?_
    have hpw9 : (CW G A (up S 20 (daysF (S 20) n)) R) s.heap := (by rw [show (up S 20 (daysF (S 20) n)) = S by unfold daysF; (repeat' split) <;> first | rfl | omega | (simp only [up_self20])]; exact hW)
    have he9 : (-1) = (daysA (S 20) n) := by unfold daysA; (repeat' split) <;> first | rfl | omega
    exact W.iret hx hb hr (fun t ht hW9 => ⟨⟨_, (), rfl, congrArg iI he9, by show (CW G A (up S 20 (daysF (S 20) n)) R) t.heap; rw [ht]; exact hpw9⟩, hS.F ht⟩) hS.2.2 dX0_days_13

set_option maxHeartbeats 1000000 in
set_option maxRecDepth 100000 in
theorem mX0_runs {l : Launch} {G : GG} {s0 : State} {b0 : Nat} (Z : ZZ l G s0 b0) (A : Nat → Nat) (hI : Own s0 A 156) (S : Sta) (R : Nat → Option Nat) (hF0 : WF (S 20)) (hd : S 20 54 ≤ 2000) (h56 : 0 ≤ S 20 56 ∧ S 20 56 ≤ 1000000) (n : Int) (hn : inR n) (what : Int) (hwhat : inR what) (sz : Nat) : Met l yX0_runs (ws_ yX0_runs cX0_runs 5 (some .int)) ({ frames := 6, cells := 0, slots := 0, locals := 129 } : Room) (pcM s0 sz (CW G A S R) [.ref (A 0), .int (iI n), .int (iI what)]) (mI (runsA (S 20) n what) (CWx G A S R) (AA A 156 sz)) 0 0 (AA A 156 sz) := by
  refine Met.ofW (cc := cX0_runs) (maxL := 5) (ret := (some .int)) (by decide) rfl ?_
  intro p e s m args below meth c s₁ B hml hv
  obtain ⟨rfl, hsz, hW, hB⟩ := hv
  subst hsz
  have hx := B.exec
  have hb := B.bytes
  have hr := B.returns
  have hts := atoms_spec (ws := (ws_ yX0_runs cX0_runs 5 (some .int))) B.pre
  have hts : ∀ w ∈ lw_all, w.before _ s = true := fun w h => hts w (List.mem_cons_of_mem _ h)
  have hown : s.vm.findClass RX0 = some m.cls := findClass_of_methodNamed B.named
  have hlocks := B.notSynchronized
  have hN := AA.old hI hB
  have hS : va_S (AA A 156 s.heap.size) s.heap s.heap [] := va_S.rf
  have hl := lv_entry ([.ref (A 0), .int (iI n), .int (iI what)]) (n := 5) (Nat.le_of_ble_eq_true rfl)
  rw [lg_entry_eq]
  generalize (lg_sl ([.ref (A 0), .int (iI n), .int (iI what)]) ++ List.replicate (5 - (lg_sl ([.ref (A 0), .int (iI n), .int (iI what)])).length) Slot.unset).toArray = ls at hl ⊢
  have hl : lv_has ls 5 [(0, .ref (A 0)), (1, .int (iI n)), (2, .int (iI what))] := hl
  have hn5 := hF0.n
  have hr6 := hF0.rm
  refine lv_iload_n hx hb dX0_runs_0 rfl (lv_at hl 1 rfl) ?_
  refine cqI (va_runS (As := [.int (iI n)]) (rest := []) ⟨hx, hb, hml, hown, hts⟩ (mX0_isLong Z n (by omega)) (va_cwS 1 hts (lw_S q591 q592 q79 q593) rfl rfl rfl (by decide +kernel) ⟨Nat.le_of_ble_eq_true rfl, Nat.le_of_ble_eq_true rfl⟩) (psR (BornH.S hB hN hS) trivial) rfl rfl hl.1 rfl (lv_room (Nat.le_of_ble_eq_true rfl)) dX0_runs_1 ⟨Nat.zero_le _, Nat.zero_le _⟩) ?_
  refine bb_if_eq (P := 0 ≤ n ∧ n ≤ 60) (tgt := 19) hx hb dX0_runs_4 (by decide) (fun c_1 => ?_) (fun c_1 => ?_)
  · -- 4 -> 19
    refine ii_const hx hb dX0_runs_19 ?_
    have hpw9 : (CWx G A S R) s.heap := (hW.x (fun a h0 h3 h1 h2 h4 => by first | rfl | simp only [up, if_neg h0, if_neg h3, if_neg h1, if_neg h2, if_neg h4]) (fun j h2 h5 h6 => by first | rfl | simp [up, h2]))
    have he9 : (-1) = (runsA (S 20) n what) := by unfold runsA; (repeat' split) <;> first | rfl | omega
    exact W.iret hx hb hr (fun t ht hW9 => ⟨⟨_, (), rfl, congrArg iI he9, by show (CWx G A S R) t.heap; rw [ht]; exact hpw9⟩, hS.F ht⟩) hS.2.2 dX0_runs_20
  · -- 4 -> 7
    refine lv_iload_n hx hb dX0_runs_7 rfl (lv_at hl 2 rfl) ?_
    refine ii_i2l hx hb (by omega) dX0_runs_8 ?_
    refine ii_lconst (z := 0) hx hb dX0_runs_9 rfl ?_
    refine ii_ldc2 (z := 3) hx hb hts hown q528 dX0_runs_10 (by decide) ?_
    refine cqI (va_runS (As := [.long (lI what), .long (lI 0), .long (lI 3)]) (rest := []) ⟨hx, hb, hml, hown, hts⟩ (mX0_isIn Z what (by omega) 0 (by omega) 3 (by omega)) (va_cwS 3 hts (lw_S q106 q107 q79 q108) rfl rfl rfl (by decide +kernel) ⟨Nat.le_of_ble_eq_true rfl, Nat.le_of_ble_eq_true rfl⟩) (psR (BornH.S hB hN hS) trivial) rfl rfl hl.1 rfl (lv_room (Nat.le_of_ble_eq_true rfl)) dX0_runs_13 ⟨Nat.zero_le _, Nat.zero_le _⟩) ?_
    refine bb_if_ne (P := 0 ≤ what ∧ what ≤ 3) (tgt := 21) hx hb dX0_runs_16 (by decide) (fun c_2 => ?_) (fun c_2 => ?_)
    · -- 16 -> 21
      refine lv_aload_n hx hb dX0_runs_21 rfl (lv_at hl 0 rfl) ?_
      refine r_get (ci := 0) (k := 4) (v := .ref (A 56)) (C := RX0) (T := TX0) (N := 16) Z hB hx hb hts hown rfl in_X0 hW.obj (by decide) q797 rfl dX0_runs_22 ?_
      refine lv_aload_n hx hb dX0_runs_25 rfl (lv_at hl 0 rfl) ?_
      refine r_get (ci := 0) (k := 3) (v := .ref (A 36)) (C := RX0) (T := TX0) (N := 16) Z hB hx hb hts hown rfl in_X0 hW.obj (by decide) q796 rfl dX0_runs_26 ?_
      refine cmV (va_runV (As := [.ref (A 36)]) (rest := []) ⟨hx, hb, hml, hown, hts⟩ (mX1_takes Z (fa A 1) (hI.fa (by omega)) (S 21) (fa A 0) (S 20) (fa_apart hI (f := 1) (g := 0) (by omega) (by omega) (by omega)) s.heap.size) (cwV 1 hts (lw_V q424 q425 q426 q80 q427) rfl rfl rfl (by decide +kernel) ⟨Nat.le_of_ble_eq_true rfl, Nat.le_of_ble_eq_true rfl⟩) (pvM (BornH.S hB hN hS) (OBJ.recv Z hB ((hW.fw (f := 1) (by omega) (F := (S 21)) rfl)).1 (q := (RX1, TX1, 8)) rfl) (⟨(hW.fw (f := 1) (by omega) (F := (S 21)) rfl), (hW.fw (f := 0) (by omega) (F := (S 20)) rfl)⟩)) rfl rfl hl.1 rfl (lv_room (Nat.le_of_ble_eq_true rfl)) dX0_runs_29 ⟨Nat.zero_le _, Nat.zero_le _⟩) hS (AA.fa (by omega) hS.1) (fun H1 locs hW1 hz1 hk1 hS => ?_)
      have hW := hW.joinF hI (f := 1) (by omega) hk1 hW1
      clear hW1 hk1 hz1
      generalize H1 = H at hW hS ⊢
      refine lv_aload_n hx hb dX0_runs_32 rfl (lv_at hl 0 rfl) ?_
      refine r_get (ci := 0) (k := 4) (v := .ref (A 56)) (C := RX0) (T := TX0) (N := 16) Z hB hx hb hts hown rfl in_X0 hW.obj (by decide) q797 rfl dX0_runs_33 ?_
      refine cqI (va_runV (As := []) (rest := []) ⟨hx, hb, hml, hown, hts⟩ (mX1_spread Z (fa A 1) (S 20) hF0 ) (cwV 0 hts (lw_V q437 q438 q439 q80 q440) rfl rfl rfl (by decide +kernel) ⟨Nat.le_of_ble_eq_true rfl, Nat.le_of_ble_eq_true rfl⟩) (pvR (BornH.S hB hN hS) (OBJ.recv Z hB (((hW.fw (f := 1) (by omega) (F := (S 20)) (up_s _ _ _))).1) (q := (RX1, TX1, 8)) rfl) (hW.fw (f := 1) (by omega) (F := (S 20)) (up_s _ _ _))) rfl rfl hl.1 rfl (lv_room (Nat.le_of_ble_eq_true rfl)) dX0_runs_36 ⟨Nat.zero_le _, Nat.zero_le _⟩) ?_
      have b_610 := lowS_in hF0 ((S 20) 76).toNat (by have := hF0.n; omega)
      have b_611 := highS_in hF0 ((S 20) 76).toNat (by have := hF0.n; omega)
      refine lv_istore_n (lv' := [(3, .int (iI (max 0 (highS (S 20) ((S 20) 76).toNat - lowS (S 20) ((S 20) 76).toNat)))), (0, .ref (A 0)), (1, .int (iI n)), (2, .int (iI what))]) hx hb dX0_runs_39 rfl hl (by decide) rfl (fun ls hl => ?_)
      refine ii_const hx hb dX0_runs_40 ?_
      refine lv_istore (lv' := [(4, .int (iI 0)), (3, .int (iI (max 0 (highS (S 20) ((S 20) 76).toNat - lowS (S 20) ((S 20) 76).toNat)))), (0, .ref (A 0)), (1, .int (iI n)), (2, .int (iI what))]) hx hb dX0_runs_41 hl (by decide) rfl (fun ls hl => ?_)
      have loop_43 : ∀ (fu : Nat) (i : Nat) (zi : Int), (zi = (i : Int)) → (i ≤ n.toNat) → (61 - i) < fu → ∀ (H : Heap) (locs : List Loc), (CW G A (up S 21 (daysS (S 20) i)) R) H → va_S (AA A 156 s.heap.size) s.heap H locs → ∀ (ls : Array Slot), lv_has ls 5 [(4, .int (iI zi)), (3, .int (iI (rlS (S 20) i))), (0, .ref (A 0)), (1, .int (iI n)), (2, .int (iI what))] → W p l e (headSpec (ws_ yX0_runs cX0_runs 5 (some .int)) ({ frames := 6, cells := 0, slots := 0, locals := 129 } : Room)).room s m ([.ref (A 0), .int (iI n), .int (iI what)] : List Value).toArray below meth c H locs 0 0 (MQ below (mI (runsA (S 20) n what) (CWx G A S R) (AA A 156 s.heap.size)) ([.ref (A 0), .int (iI n), .int (iI what)] : List Value).toArray s 0 0 (AA A 156 s.heap.size)) (F0 m 43 ls []) := by
        intro fu
        induction fu with
        | zero => intro i zi ezi hi hmu; exact absurd hmu (Nat.not_lt_zero _)
        | succ fu ih43 =>
          intro i zi ezi hi hmu H locs hW hS ls hl
          have hwd := daysS_wf hF0 i (by omega)
          have hrl := rlS_in hF0 i (by omega)
          have hdd := (daysS_day hF0 i (by omega)).2
          refine lv_iload hx hb dX0_runs_43 (lv_at hl 0 rfl) ?_
          refine lv_iload_n hx hb dX0_runs_45 rfl (lv_at hl 3 rfl) ?_
          refine ii_icmp_ge (tgt := 74) hx hb dX0_runs_46 (by decide) (by omega) (by omega) (fun c_3 => ?_) (fun c_3 => ?_)
          · -- 46 -> 74
            have ex_i : n.toNat = i := by omega
            subst ex_i
            refine lv_iload_n hx hb dX0_runs_74 rfl (lv_at hl 4 rfl) ?_
            refine ii_if_ne (tgt := 88) hx hb dX0_runs_75 (by decide) (by omega) (fun c_4 => ?_) (fun c_4 => ?_)
            · -- 75 -> 88
              refine lv_iload_n hx hb dX0_runs_88 rfl (lv_at hl 4 rfl) ?_
              refine ii_const hx hb dX0_runs_89 ?_
              refine ii_icmp_ne (tgt := 111) hx hb dX0_runs_90 (by decide) (by omega) (by omega) (fun c_5 => ?_) (fun c_5 => ?_)
              · -- 90 -> 111
                refine lv_iload_n hx hb dX0_runs_111 rfl (lv_at hl 4 rfl) ?_
                refine ii_const hx hb dX0_runs_112 ?_
                refine ii_icmp_ne (tgt := 120) hx hb dX0_runs_113 (by decide) (by omega) (by omega) (fun c_6 => ?_) (fun c_6 => ?_)
                · -- 113 -> 120
                  refine lv_aload_n hx hb dX0_runs_120 rfl (lv_at hl 2 rfl) ?_
                  refine cqI (va_runV (As := []) (rest := []) ⟨hx, hb, hml, hown, hts⟩ (mX0_movedMany Z A (up S 21 (daysS (S 20) n.toNat)) R hF0 hwd) (cwV 0 hts (lw_V q596 q598 qs21 q79 q599) rfl rfl rfl (by decide +kernel) ⟨Nat.le_of_ble_eq_true rfl, Nat.le_of_ble_eq_true rfl⟩) (pvR (BornH.S hB hN hS) (OBJ.recv Z hB hW.obj (q := (RX0, TX0, 16)) rfl) hW) rfl rfl hl.1 rfl (lv_room (Nat.le_of_ble_eq_true rfl)) dX0_runs_121 ⟨Nat.zero_le _, Nat.zero_le _⟩) ?_
                  have hpw9 : (CWx G A S R) H := (hW.x (fun a h0 h3 h1 h2 h4 => by first | rfl | simp only [up, if_neg h0, if_neg h3, if_neg h1, if_neg h2, if_neg h4]) (fun j h2 h5 h6 => by first | rfl | simp [up, h2]))
                  have he9 : (movS (S 20) (daysS (S 20) n.toNat) ((S 20) 76).toNat) = (runsA (S 20) n what) := by unfold runsA; (repeat' split) <;> first | rfl | omega
                  exact W.iret hx hb hr (fun t ht hW9 => ⟨⟨_, (), rfl, congrArg iI he9, by show (CWx G A S R) t.heap; rw [ht]; exact hpw9⟩, hS.F ht⟩) hS.2.2 dX0_runs_124
                · -- 113 -> 116
                  refine lv_iload_n hx hb dX0_runs_116 rfl (lv_at hl 1 rfl) ?_
                  refine lv_goto (tgt := 124) hx hb dX0_runs_117 (by decide) ?_
                  have hpw9 : (CWx G A S R) H := (hW.x (fun a h0 h3 h1 h2 h4 => by first | rfl | simp only [up, if_neg h0, if_neg h3, if_neg h1, if_neg h2, if_neg h4]) (fun j h2 h5 h6 => by first | rfl | simp [up, h2]))
                  have he9 : (rlS (S 20) n.toNat) = (runsA (S 20) n what) := by unfold runsA; (repeat' split) <;> first | rfl | omega
                  exact W.iret hx hb hr (fun t ht hW9 => ⟨⟨_, (), rfl, congrArg iI he9, by show (CWx G A S R) t.heap; rw [ht]; exact hpw9⟩, hS.F ht⟩) hS.2.2 dX0_runs_124
              · -- 90 -> 93
                refine lv_aload_n hx hb dX0_runs_93 rfl (lv_at hl 2 rfl) ?_
                refine r_get (ci := 0) (k := 4) (v := .ref (A 56)) (C := RX0) (T := TX0) (N := 16) Z hB hx hb hts hown rfl in_X0 hW.obj (by decide) q797 rfl dX0_runs_94 ?_
                refine r_getN (ci := 1) (k := 7) (v := .int (iI ((daysS (S 20) n.toNat) 56))) (C := RX1) (T := TX1) (N := 8) Z hB hx hb hts hown rfl in_X1 (((hW.fw (f := 1) (by omega) (F := (daysS (S 20) n.toNat)) (up_s _ _ _))).1) (by decide) q157 rfl dX0_runs_97 ?_
                refine lv_aload_n hx hb dX0_runs_100 rfl (lv_at hl 2 rfl) ?_
                refine r_get (ci := 0) (k := 3) (v := .ref (A 36)) (C := RX0) (T := TX0) (N := 16) Z hB hx hb hts hown rfl in_X0 hW.obj (by decide) q796 rfl dX0_runs_101 ?_
                refine r_getN (ci := 1) (k := 7) (v := .int (iI ((S 20) 56))) (C := RX1) (T := TX1) (N := 8) Z hB hx hb hts hown rfl in_X1 (((hW.fw (f := 0) (by omega) (F := (S 20)) rfl)).1) (by decide) q157 rfl dX0_runs_104 ?_
                refine ii_sub hx hb dX0_runs_107 ?_
                refine lv_goto (tgt := 124) hx hb dX0_runs_108 (by decide) ?_
                have hpw9 : (CWx G A S R) H := (hW.x (fun a h0 h3 h1 h2 h4 => by first | rfl | simp only [up, if_neg h0, if_neg h3, if_neg h1, if_neg h2, if_neg h4]) (fun j h2 h5 h6 => by first | rfl | simp [up, h2]))
                have he9 : (((daysS (S 20) n.toNat) 56) - ((S 20) 56)) = (runsA (S 20) n what) := by unfold runsA; (repeat' split) <;> first | rfl | omega
                exact W.iret hx hb hr (fun t ht hW9 => ⟨⟨_, (), rfl, congrArg iI he9, by show (CWx G A S R) t.heap; rw [ht]; exact hpw9⟩, hS.F ht⟩) hS.2.2 dX0_runs_124
            · -- 75 -> 78
              refine lv_aload_n hx hb dX0_runs_78 rfl (lv_at hl 2 rfl) ?_
              refine r_get (ci := 0) (k := 4) (v := .ref (A 56)) (C := RX0) (T := TX0) (N := 16) Z hB hx hb hts hown rfl in_X0 hW.obj (by decide) q797 rfl dX0_runs_79 ?_
              refine cqI (va_runV (As := []) (rest := []) ⟨hx, hb, hml, hown, hts⟩ (mX1_spread Z (fa A 1) (daysS (S 20) n.toNat) hwd ) (cwV 0 hts (lw_V q437 q438 q439 q80 q440) rfl rfl rfl (by decide +kernel) ⟨Nat.le_of_ble_eq_true rfl, Nat.le_of_ble_eq_true rfl⟩) (pvR (BornH.S hB hN hS) (OBJ.recv Z hB (((hW.fw (f := 1) (by omega) (F := (daysS (S 20) n.toNat)) (up_s _ _ _))).1) (q := (RX1, TX1, 8)) rfl) (hW.fw (f := 1) (by omega) (F := (daysS (S 20) n.toNat)) (up_s _ _ _))) rfl rfl hl.1 rfl (lv_room (Nat.le_of_ble_eq_true rfl)) dX0_runs_82 ⟨Nat.zero_le _, Nat.zero_le _⟩) ?_
              have b_624 := lowS_in hwd ((daysS (S 20) n.toNat) 76).toNat (by have := hwd.n; omega)
              have b_625 := highS_in hwd ((daysS (S 20) n.toNat) 76).toNat (by have := hwd.n; omega)
              refine lv_goto (tgt := 124) hx hb dX0_runs_85 (by decide) ?_
              have hpw9 : (CWx G A S R) H := (hW.x (fun a h0 h3 h1 h2 h4 => by first | rfl | simp only [up, if_neg h0, if_neg h3, if_neg h1, if_neg h2, if_neg h4]) (fun j h2 h5 h6 => by first | rfl | simp [up, h2]))
              have he9 : (max 0 (highS (daysS (S 20) n.toNat) ((daysS (S 20) n.toNat) 76).toNat - lowS (daysS (S 20) n.toNat) ((daysS (S 20) n.toNat) 76).toNat)) = (runsA (S 20) n what) := by unfold runsA; (repeat' split) <;> first | rfl | omega
              exact W.iret hx hb hr (fun t ht hW9 => ⟨⟨_, (), rfl, congrArg iI he9, by show (CWx G A S R) t.heap; rw [ht]; exact hpw9⟩, hS.F ht⟩) hS.2.2 dX0_runs_124
          · -- 46 -> 49
            refine lv_aload_n hx hb dX0_runs_49 rfl (lv_at hl 2 rfl) ?_
            refine r_get (ci := 0) (k := 4) (v := .ref (A 56)) (C := RX0) (T := TX0) (N := 16) Z hB hx hb hts hown rfl in_X0 hW.obj (by decide) q797 rfl dX0_runs_50 ?_
            refine cmV (va_runV (As := []) (rest := []) ⟨hx, hb, hml, hown, hts⟩ (mX1_dayGoes Z (fa A 1) (hI.fa (by omega)) (daysS (S 20) i) hwd  H.size) (cwV 0 hts (lw_V q564 q565 q566 q80 q567) rfl rfl rfl (by decide +kernel) ⟨Nat.le_of_ble_eq_true rfl, Nat.le_of_ble_eq_true rfl⟩) (pvM (BornH.S hB hN hS) (OBJ.recv Z hB ((hW.fw (f := 1) (by omega) (F := (daysS (S 20) i)) (up_s _ _ _))).1 (q := (RX1, TX1, 8)) rfl) (hW.fw (f := 1) (by omega) (F := (daysS (S 20) i)) (up_s _ _ _))) rfl rfl hl.1 rfl (lv_room (Nat.le_of_ble_eq_true rfl)) dX0_runs_53 ⟨Nat.zero_le _, Nat.zero_le _⟩) hS (AA.fa (by omega) hS.1) (fun H1 locs hW1 hz1 hk1 hS => ?_)
            have hW := hW.joinF hI (f := 1) (by omega) hk1 hW1
            clear hW1 hk1 hz1
            generalize H1 = H at hW hS ⊢
            have hW := hW.eqS (S' := (up S 21 (dayS (daysS (S 20) i)))) (by
                funext a
                by_cases h21 : a = 21
                · subst h21; rfl
                simp only [up, if_neg h21])
            have hwf_7 := dayS_wf hwd (by omega)
            refine lv_iload_n hx hb dX0_runs_56 rfl (lv_at hl 1 rfl) ?_
            refine lv_aload_n hx hb dX0_runs_57 rfl (lv_at hl 2 rfl) ?_
            refine r_get (ci := 0) (k := 4) (v := .ref (A 56)) (C := RX0) (T := TX0) (N := 16) Z hB hx hb hts hown rfl in_X0 hW.obj (by decide) q797 rfl dX0_runs_58 ?_
            refine cqI (va_runV (As := []) (rest := [.int (iI (rlS (S 20) i))]) ⟨hx, hb, hml, hown, hts⟩ (mX1_spread Z (fa A 1) (dayS (daysS (S 20) i)) hwf_7 ) (cwV 0 hts (lw_V q437 q438 q439 q80 q440) rfl rfl rfl (by decide +kernel) ⟨Nat.le_of_ble_eq_true rfl, Nat.le_of_ble_eq_true rfl⟩) (pvR (BornH.S hB hN hS) (OBJ.recv Z hB (((hW.fw (f := 1) (by omega) (F := (dayS (daysS (S 20) i))) (up_s _ _ _))).1) (q := (RX1, TX1, 8)) rfl) (hW.fw (f := 1) (by omega) (F := (dayS (daysS (S 20) i))) (up_s _ _ _))) rfl rfl hl.1 rfl (lv_room (Nat.le_of_ble_eq_true rfl)) dX0_runs_61 ⟨Nat.zero_le _, Nat.zero_le _⟩) ?_
            have b_630 := lowS_in hwf_7 ((dayS (daysS (S 20) i)) 76).toNat (by have := hwf_7.n; omega)
            have b_631 := highS_in hwf_7 ((dayS (daysS (S 20) i)) 76).toNat (by have := hwf_7.n; omega)
            refine ii_min hx hb (hml.trans hl.1.symm) hts hown q595 (Nat.le_of_ble_eq_true rfl) (Nat.le_of_ble_eq_true rfl) (Nat.zero_le _) (Nat.zero_le _) (by omega) (by omega) dX0_runs_64 ?_
            refine lv_istore_n (lv' := [(3, .int (iI (min (rlS (S 20) i) (max 0 (highS (dayS (daysS (S 20) i)) ((dayS (daysS (S 20) i)) 76).toNat - lowS (dayS (daysS (S 20) i)) ((dayS (daysS (S 20) i)) 76).toNat))))), (4, .int (iI zi)), (0, .ref (A 0)), (1, .int (iI n)), (2, .int (iI what))]) hx hb dX0_runs_67 rfl hl (by decide) rfl (fun ls hl => ?_)
            refine ii_iinc (k := 1) (lv' := [(4, .int (iI (zi + 1))), (3, .int (iI (min (rlS (S 20) i) (max 0 (highS (dayS (daysS (S 20) i)) ((dayS (daysS (S 20) i)) 76).toNat - lowS (dayS (daysS (S 20) i)) ((dayS (daysS (S 20) i)) 76).toNat))))), (0, .ref (A 0)), (1, .int (iI n)), (2, .int (iI what))]) hx hb dX0_runs_68 hl rfl (by decide) rfl (fun ls hl => ?_)
            refine lv_goto (tgt := 43) hx hb dX0_runs_71 (by decide) ?_
            have e_8 : (rlS (S 20) (i + 1)) = (min (rlS (S 20) i) (max 0 (highS (dayS (daysS (S 20) i)) ((dayS (daysS (S 20) i)) 76).toNat - lowS (dayS (daysS (S 20) i)) ((dayS (daysS (S 20) i)) 76).toNat))) := rfl
            exact ih43 (i + 1) (zi + 1) (by omega) (by omega) (by omega) _ _ hW hS ls (by rw [e_8]; exact lv_sub hl [0, 1, 2, 3, 4] rfl)
      have e_9 : (rlS (S 20) 0) = (max 0 (highS (S 20) ((S 20) 76).toNat - lowS (S 20) ((S 20) 76).toNat)) := rfl
      exact loop_43 _ 0 0 (by omega) (by omega) (Nat.lt_succ_self _) _ _ hW hS ls (by rw [e_9]; exact lv_sub hl [0, 1, 2, 3, 4] rfl)
    · -- 16 -> 19
      refine ii_const hx hb dX0_runs_19 ?_
      have hpw9 : (CWx G A S R) s.heap := (hW.x (fun a h0 h3 h1 h2 h4 => by first | rfl | simp only [up, if_neg h0, if_neg h3, if_neg h1, if_neg h2, if_neg h4]) (fun j h2 h5 h6 => by first | rfl | simp [up, h2]))
      have he9 : (-1) = (runsA (S 20) n what) := by unfold runsA; (repeat' split) <;> first | rfl | omega
      exact W.iret hx hb hr (fun t ht hW9 => ⟨⟨_, (), rfl, congrArg iI he9, by show (CWx G A S R) t.heap; rw [ht]; exact hpw9⟩, hS.F ht⟩) hS.2.2 dX0_runs_20

set_option maxHeartbeats 1000000 in
set_option maxRecDepth 100000 in
theorem mX0_ahead {l : Launch} {G : GG} {s0 : State} {b0 : Nat} (Z : ZZ l G s0 b0) (A : Nat → Nat) (hI : Own s0 A 156) (S : Sta) (R : Nat → Option Nat) (hF0 : WF (S 20)) (hd : S 20 54 ≤ 2000) (h56 : 0 ≤ S 20 56 ∧ S 20 56 ≤ 1000000) (i : Int) (hi : inR i) (n : Int) (hn : inR n) (sz : Nat) : Met l yX0_ahead (ws_ yX0_ahead cX0_ahead 3 (some .int)) ({ frames := 7, cells := 0, slots := 0, locals := 152 } : Room) (pcM s0 sz (CW G A S R) [.ref (A 0), .int (iI i), .int (iI n)]) (mI (aheadA (S 20) i n) (CWx G A S R) (AA A 156 sz)) 0 0 (AA A 156 sz) := by
  refine Met.ofW (cc := cX0_ahead) (maxL := 3) (ret := (some .int)) (by decide) rfl ?_
  intro p e s m args below meth c s₁ B hml hv
  obtain ⟨rfl, hsz, hW, hB⟩ := hv
  subst hsz
  have hx := B.exec
  have hb := B.bytes
  have hr := B.returns
  have hts := atoms_spec (ws := (ws_ yX0_ahead cX0_ahead 3 (some .int))) B.pre
  have hts : ∀ w ∈ lw_all, w.before _ s = true := fun w h => hts w (List.mem_cons_of_mem _ h)
  have hown : s.vm.findClass RX0 = some m.cls := findClass_of_methodNamed B.named
  have hlocks := B.notSynchronized
  have hN := AA.old hI hB
  have hS : va_S (AA A 156 s.heap.size) s.heap s.heap [] := va_S.rf
  have hl := lv_entry ([.ref (A 0), .int (iI i), .int (iI n)]) (n := 3) (Nat.le_of_ble_eq_true rfl)
  rw [lg_entry_eq]
  generalize (lg_sl ([.ref (A 0), .int (iI i), .int (iI n)]) ++ List.replicate (3 - (lg_sl ([.ref (A 0), .int (iI i), .int (iI n)])).length) Slot.unset).toArray = ls at hl ⊢
  have hl : lv_has ls 3 [(0, .ref (A 0)), (1, .int (iI i)), (2, .int (iI n))] := hl
  have hn5 := hF0.n
  have hr6 := hF0.rm
  refine lv_aload_n hx hb dX0_ahead_0 rfl (lv_at hl 0 rfl) ?_
  refine lv_iload_n hx hb dX0_ahead_1 rfl (lv_at hl 1 rfl) ?_
  refine cqI (va_runV (As := [.int (iI i)]) (rest := []) ⟨hx, hb, hml, hown, hts⟩ (mX0_isIsle Z A S R hF0 i (by omega)) (cwV 1 hts (lw_V q449 q451 qs14 q79 q453) rfl rfl rfl (by decide +kernel) ⟨Nat.le_of_ble_eq_true rfl, Nat.le_of_ble_eq_true rfl⟩) (pvR (BornH.S hB hN hS) (OBJ.recv Z hB hW.obj (q := (RX0, TX0, 16)) rfl) hW) rfl rfl hl.1 rfl (lv_room (Nat.le_of_ble_eq_true rfl)) dX0_ahead_2 ⟨Nat.zero_le _, Nat.zero_le _⟩) ?_
  refine bb_if_eq (P := okI (S 20) i) (tgt := 15) hx hb dX0_ahead_5 (by decide) (fun c_1 => ?_) (fun c_1 => ?_)
  · -- 5 -> 15
    refine ii_const hx hb dX0_ahead_15 ?_
    have hpw9 : (CWx G A S R) s.heap := (hW.x (fun a h0 h3 h1 h2 h4 => by first | rfl | simp only [up, if_neg h0, if_neg h3, if_neg h1, if_neg h2, if_neg h4]) (fun j h2 h5 h6 => by first | rfl | simp [up, h2]))
    have he9 : (-1) = (aheadA (S 20) i n) := by unfold aheadA; (repeat' split) <;> first | rfl | omega
    exact W.iret hx hb hr (fun t ht hW9 => ⟨⟨_, (), rfl, congrArg iI he9, by show (CWx G A S R) t.heap; rw [ht]; exact hpw9⟩, hS.F ht⟩) hS.2.2 dX0_ahead_16
  · -- 5 -> 8
    refine lv_iload_n hx hb dX0_ahead_8 rfl (lv_at hl 2 rfl) ?_
    refine cqI (va_runS (As := [.int (iI n)]) (rest := []) ⟨hx, hb, hml, hown, hts⟩ (mX0_isLong Z n (by omega)) (va_cwS 1 hts (lw_S q591 q592 q79 q593) rfl rfl rfl (by decide +kernel) ⟨Nat.le_of_ble_eq_true rfl, Nat.le_of_ble_eq_true rfl⟩) (psR (BornH.S hB hN hS) trivial) rfl rfl hl.1 rfl (lv_room (Nat.le_of_ble_eq_true rfl)) dX0_ahead_9 ⟨Nat.zero_le _, Nat.zero_le _⟩) ?_
    refine bb_if_ne (P := 0 ≤ n ∧ n ≤ 60) (tgt := 17) hx hb dX0_ahead_12 (by decide) (fun c_2 => ?_) (fun c_2 => ?_)
    · -- 12 -> 17
      refine lv_aload_n hx hb dX0_ahead_17 rfl (lv_at hl 0 rfl) ?_
      refine lv_aload_n hx hb dX0_ahead_18 rfl (lv_at hl 0 rfl) ?_
      refine r_get (ci := 0) (k := 3) (v := .ref (A 36)) (C := RX0) (T := TX0) (N := 16) Z hB hx hb hts hown rfl in_X0 hW.obj (by decide) q796 rfl dX0_ahead_19 ?_
      refine lv_iload_n hx hb dX0_ahead_22 rfl (lv_at hl 2 rfl) ?_
      have hd_3 : (S 20) 54 ≤ 2000 := by omega
      refine cmV (va_runV (As := [.ref (A 36), .int (iI n)]) (rest := []) ⟨hx, hb, hml, hown, hts⟩ (mX0_daysOf_0 Z A hI S R hF0 (S 20) rfl hd_3 (n).toNat n (by omega) (by omega) s.heap.size) (cwV 2 hts (lw_V q605 q607 qs22 q79 q608) rfl rfl rfl (by decide +kernel) ⟨Nat.le_of_ble_eq_true rfl, Nat.le_of_ble_eq_true rfl⟩) (pvM (BornH.S hB hN hS) (OBJ.recv Z hB hW.obj (q := (RX0, TX0, 16)) rfl) hW) rfl rfl hl.1 rfl (lv_room (Nat.le_of_ble_eq_true rfl)) dX0_ahead_23 ⟨Nat.zero_le _, Nat.zero_le _⟩) hS (AA.le hS.1) (fun H1 locs hW1 hz1 hk1 hS => ?_)
      have hW := hW1
      clear hW1 hk1 hz1
      generalize H1 = H at hW hS ⊢
      have hwf_4 : WF (daysS (S 20) (n).toNat) := daysS_wf hF0 (n).toNat (by omega)
      refine lv_aload_n hx hb dX0_ahead_26 rfl (lv_at hl 0 rfl) ?_
      refine r_get (ci := 0) (k := 4) (v := .ref (A 56)) (C := RX0) (T := TX0) (N := 16) Z hB hx hb hts hown rfl in_X0 hW.obj (by decide) q797 rfl dX0_ahead_27 ?_
      refine lv_iload_n hx hb dX0_ahead_30 rfl (lv_at hl 1 rfl) ?_
      refine cqI (va_runV (As := [.int (iI i)]) (rest := []) ⟨hx, hb, hml, hown, hts⟩ (mX1_at Z (fa A 1) (daysS (S 20) (n).toNat) hwf_4 (i).toNat i (by omega) (by omega)) (cwV 1 hts (lw_V q600 q387 q388 q80 q389) rfl rfl rfl (by decide +kernel) ⟨Nat.le_of_ble_eq_true rfl, Nat.le_of_ble_eq_true rfl⟩) (pvR (BornH.S hB hN hS) (OBJ.recv Z hB (((hW.fw (f := 1) (by omega) (F := (daysS (S 20) (n).toNat)) (up_s _ _ _))).1) (q := (RX1, TX1, 8)) rfl) (hW.fw (f := 1) (by omega) (F := (daysS (S 20) (n).toNat)) (up_s _ _ _))) rfl rfl hl.1 rfl (lv_room (Nat.le_of_ble_eq_true rfl)) dX0_ahead_31 ⟨Nat.zero_le _, Nat.zero_le _⟩) ?_
      have b_636 := hwf_4.pl (i).toNat (by omega)
      have hpw9 : (CWx G A S R) H := (hW.x (fun a h0 h3 h1 h2 h4 => by first | rfl | simp only [up, if_neg h0, if_neg h3, if_neg h1, if_neg h2, if_neg h4]) (fun j h2 h5 h6 => by first | rfl | simp [up, h2]))
      have he9 : ((daysS (S 20) (n).toNat) (2 * (i).toNat + 1)) = (aheadA (S 20) i n) := by unfold aheadA; (repeat' split) <;> first | rfl | omega
      exact W.iret hx hb hr (fun t ht hW9 => ⟨⟨_, (), rfl, congrArg iI he9, by show (CWx G A S R) t.heap; rw [ht]; exact hpw9⟩, hS.F ht⟩) hS.2.2 dX0_ahead_34
    · -- 12 -> 15
      refine ii_const hx hb dX0_ahead_15 ?_
      have hpw9 : (CWx G A S R) s.heap := (hW.x (fun a h0 h3 h1 h2 h4 => by first | rfl | simp only [up, if_neg h0, if_neg h3, if_neg h1, if_neg h2, if_neg h4]) (fun j h2 h5 h6 => by first | rfl | simp [up, h2]))
      have he9 : (-1) = (aheadA (S 20) i n) := by unfold aheadA; (repeat' split) <;> first | rfl | omega
      exact W.iret hx hb hr (fun t ht hW9 => ⟨⟨_, (), rfl, congrArg iI he9, by show (CWx G A S R) t.heap; rw [ht]; exact hpw9⟩, hS.F ht⟩) hS.2.2 dX0_ahead_16

set_option maxHeartbeats 1000000 in
set_option maxRecDepth 100000 in
theorem mX0_within {l : Launch} {G : GG} {s0 : State} {b0 : Nat} (Z : ZZ l G s0 b0) (A : Nat → Nat) (hI : Own s0 A 156) (S : Sta) (R : Nat → Option Nat) (hF0 : WF (S 20)) (hd : S 20 54 ≤ 2000) (h56 : 0 ≤ S 20 56 ∧ S 20 56 ≤ 1000000) (v : Int) (hv : inR v) (sz : Nat) : Met l yX0_within (ws_ yX0_within cX0_within 3 (some .int)) ({ frames := 6, cells := 0, slots := 0, locals := 129 } : Room) (pcM s0 sz (CW G A S R) [.ref (A 0), .int (iI v)]) (mI (withinA (S 20) v) (CWx G A S R) (AA A 156 sz)) 0 0 (AA A 156 sz) := by
  refine Met.ofW (cc := cX0_within) (maxL := 3) (ret := (some .int)) (by decide) rfl ?_
  intro p e s m args below meth c s₁ B hml hv
  obtain ⟨rfl, hsz, hW, hB⟩ := hv
  subst hsz
  have hx := B.exec
  have hb := B.bytes
  have hr := B.returns
  have hts := atoms_spec (ws := (ws_ yX0_within cX0_within 3 (some .int))) B.pre
  have hts : ∀ w ∈ lw_all, w.before _ s = true := fun w h => hts w (List.mem_cons_of_mem _ h)
  have hown : s.vm.findClass RX0 = some m.cls := findClass_of_methodNamed B.named
  have hlocks := B.notSynchronized
  have hN := AA.old hI hB
  have hS : va_S (AA A 156 s.heap.size) s.heap s.heap [] := va_S.rf
  have hl := lv_entry ([.ref (A 0), .int (iI v)]) (n := 3) (Nat.le_of_ble_eq_true rfl)
  rw [lg_entry_eq]
  generalize (lg_sl ([.ref (A 0), .int (iI v)]) ++ List.replicate (3 - (lg_sl ([.ref (A 0), .int (iI v)])).length) Slot.unset).toArray = ls at hl ⊢
  have hl : lv_has ls 3 [(0, .ref (A 0)), (1, .int (iI v))] := hl
  have hn5 := hF0.n
  have hr6 := hF0.rm
  refine lv_iload_n hx hb dX0_within_0 rfl (lv_at hl 1 rfl) ?_
  refine cqI (va_runS (As := [.int (iI v)]) (rest := []) ⟨hx, hb, hml, hown, hts⟩ (mX0_isFathom Z v (by omega)) (va_cwS 1 hts (lw_S q529 q530 q79 q531) rfl rfl rfl (by decide +kernel) ⟨Nat.le_of_ble_eq_true rfl, Nat.le_of_ble_eq_true rfl⟩) (psR (BornH.S hB hN hS) trivial) rfl rfl hl.1 rfl (lv_room (Nat.le_of_ble_eq_true rfl)) dX0_within_1 ⟨Nat.zero_le _, Nat.zero_le _⟩) ?_
  refine bb_if_ne (P := 0 ≤ v ∧ v ≤ 99) (tgt := 9) hx hb dX0_within_4 (by decide) (fun c_1 => ?_) (fun c_1 => ?_)
  · -- 4 -> 9
    refine lv_aload_n hx hb dX0_within_9 rfl (lv_at hl 0 rfl) ?_
    refine r_get (ci := 0) (k := 4) (v := .ref (A 56)) (C := RX0) (T := TX0) (N := 16) Z hB hx hb hts hown rfl in_X0 hW.obj (by decide) q797 rfl dX0_within_10 ?_
    refine lv_aload_n hx hb dX0_within_13 rfl (lv_at hl 0 rfl) ?_
    refine r_get (ci := 0) (k := 3) (v := .ref (A 36)) (C := RX0) (T := TX0) (N := 16) Z hB hx hb hts hown rfl in_X0 hW.obj (by decide) q796 rfl dX0_within_14 ?_
    refine cmV (va_runV (As := [.ref (A 36)]) (rest := []) ⟨hx, hb, hml, hown, hts⟩ (mX1_takes Z (fa A 1) (hI.fa (by omega)) (S 21) (fa A 0) (S 20) (fa_apart hI (f := 1) (g := 0) (by omega) (by omega) (by omega)) s.heap.size) (cwV 1 hts (lw_V q424 q425 q426 q80 q427) rfl rfl rfl (by decide +kernel) ⟨Nat.le_of_ble_eq_true rfl, Nat.le_of_ble_eq_true rfl⟩) (pvM (BornH.S hB hN hS) (OBJ.recv Z hB ((hW.fw (f := 1) (by omega) (F := (S 21)) rfl)).1 (q := (RX1, TX1, 8)) rfl) (⟨(hW.fw (f := 1) (by omega) (F := (S 21)) rfl), (hW.fw (f := 0) (by omega) (F := (S 20)) rfl)⟩)) rfl rfl hl.1 rfl (lv_room (Nat.le_of_ble_eq_true rfl)) dX0_within_17 ⟨Nat.zero_le _, Nat.zero_le _⟩) hS (AA.fa (by omega) hS.1) (fun H1 locs hW1 hz1 hk1 hS => ?_)
    have hW := hW.joinF hI (f := 1) (by omega) hk1 hW1
    clear hW1 hk1 hz1
    generalize H1 = H at hW hS ⊢
    refine ii_const hx hb dX0_within_20 ?_
    refine lv_istore_n (lv' := [(2, .int (iI 0)), (0, .ref (A 0)), (1, .int (iI v))]) hx hb dX0_within_21 rfl hl (by decide) rfl (fun ls hl => ?_)
    have loop_22 : ∀ (fu : Nat) (t : Nat) (zt : Int), (zt = (t : Int)) → (t ≤ 61) → (wiS (S 20) v 61 0 = wiS (S 20) v (61 - t) t) → (62 - t) < fu → ∀ (H : Heap) (locs : List Loc), (CW G A (up S 21 (daysS (S 20) t)) R) H → va_S (AA A 156 s.heap.size) s.heap H locs → ∀ (ls : Array Slot), lv_has ls 3 [(2, .int (iI zt)), (0, .ref (A 0)), (1, .int (iI v))] → W p l e (headSpec (ws_ yX0_within cX0_within 3 (some .int)) ({ frames := 6, cells := 0, slots := 0, locals := 129 } : Room)).room s m ([.ref (A 0), .int (iI v)] : List Value).toArray below meth c H locs 0 0 (MQ below (mI (withinA (S 20) v) (CWx G A S R) (AA A 156 s.heap.size)) ([.ref (A 0), .int (iI v)] : List Value).toArray s 0 0 (AA A 156 s.heap.size)) (F0 m 22 ls []) := by
      intro fu
      induction fu with
      | zero => intro t zt ezt ht hw hmu; exact absurd hmu (Nat.not_lt_zero _)
      | succ fu ih22 =>
        intro t zt ezt ht hw hmu H locs hW hS ls hl
        have hwd := daysS_wf hF0 t (by omega)
        have hdd := (daysS_day hF0 t (by omega)).2
        refine lv_iload_n hx hb dX0_within_22 rfl (lv_at hl 0 rfl) ?_
        refine ii_bipush hx hb dX0_within_23 (by decide) ?_
        refine ii_icmp_gt (tgt := 54) hx hb dX0_within_25 (by decide) (by omega) (by omega) (fun c_2 => ?_) (fun c_2 => ?_)
        · -- 25 -> 54
          refine ii_bipush hx hb dX0_within_54 (by decide) ?_
          have hpw9 : (CWx G A S R) H := (hW.x (fun a h0 h3 h1 h2 h4 => by first | rfl | simp only [up, if_neg h0, if_neg h3, if_neg h1, if_neg h2, if_neg h4]) (fun j h2 h5 h6 => by first | rfl | simp [up, h2]))
          have he9 : (-4) = (withinA (S 20) v) := by unfold withinA; rw [if_neg (by omega), hw, show t = 61 by omega]; rfl
          exact W.iret hx hb hr (fun t ht hW9 => ⟨⟨_, (), rfl, congrArg iI he9, by show (CWx G A S R) t.heap; rw [ht]; exact hpw9⟩, hS.F ht⟩) hS.2.2 dX0_within_56
        · -- 25 -> 28
          refine lv_aload_n hx hb dX0_within_28 rfl (lv_at hl 1 rfl) ?_
          refine r_get (ci := 0) (k := 4) (v := .ref (A 56)) (C := RX0) (T := TX0) (N := 16) Z hB hx hb hts hown rfl in_X0 hW.obj (by decide) q797 rfl dX0_within_29 ?_
          refine cqI (va_runV (As := []) (rest := []) ⟨hx, hb, hml, hown, hts⟩ (mX1_spread Z (fa A 1) (daysS (S 20) t) hwd ) (cwV 0 hts (lw_V q437 q438 q439 q80 q440) rfl rfl rfl (by decide +kernel) ⟨Nat.le_of_ble_eq_true rfl, Nat.le_of_ble_eq_true rfl⟩) (pvR (BornH.S hB hN hS) (OBJ.recv Z hB (((hW.fw (f := 1) (by omega) (F := (daysS (S 20) t)) (up_s _ _ _))).1) (q := (RX1, TX1, 8)) rfl) (hW.fw (f := 1) (by omega) (F := (daysS (S 20) t)) (up_s _ _ _))) rfl rfl hl.1 rfl (lv_room (Nat.le_of_ble_eq_true rfl)) dX0_within_32 ⟨Nat.zero_le _, Nat.zero_le _⟩) ?_
          have b_641 := lowS_in hwd ((daysS (S 20) t) 76).toNat (by have := hwd.n; omega)
          have b_642 := highS_in hwd ((daysS (S 20) t) 76).toNat (by have := hwd.n; omega)
          refine lv_iload_n hx hb dX0_within_35 rfl (lv_at hl 2 rfl) ?_
          refine ii_icmp_gt (tgt := 41) hx hb dX0_within_36 (by decide) (by omega) (by omega) (fun c_3 => ?_) (fun c_3 => ?_)
          · -- 36 -> 41
            refine lv_aload_n hx hb dX0_within_41 rfl (lv_at hl 1 rfl) ?_
            refine r_get (ci := 0) (k := 4) (v := .ref (A 56)) (C := RX0) (T := TX0) (N := 16) Z hB hx hb hts hown rfl in_X0 hW.obj (by decide) q797 rfl dX0_within_42 ?_
            refine cmV (va_runV (As := []) (rest := []) ⟨hx, hb, hml, hown, hts⟩ (mX1_dayGoes Z (fa A 1) (hI.fa (by omega)) (daysS (S 20) t) hwd  H.size) (cwV 0 hts (lw_V q564 q565 q566 q80 q567) rfl rfl rfl (by decide +kernel) ⟨Nat.le_of_ble_eq_true rfl, Nat.le_of_ble_eq_true rfl⟩) (pvM (BornH.S hB hN hS) (OBJ.recv Z hB ((hW.fw (f := 1) (by omega) (F := (daysS (S 20) t)) (up_s _ _ _))).1 (q := (RX1, TX1, 8)) rfl) (hW.fw (f := 1) (by omega) (F := (daysS (S 20) t)) (up_s _ _ _))) rfl rfl hl.1 rfl (lv_room (Nat.le_of_ble_eq_true rfl)) dX0_within_45 ⟨Nat.zero_le _, Nat.zero_le _⟩) hS (AA.fa (by omega) hS.1) (fun H1 locs hW1 hz1 hk1 hS => ?_)
            have hW := hW.joinF hI (f := 1) (by omega) hk1 hW1
            clear hW1 hk1 hz1
            generalize H1 = H at hW hS ⊢
            have hW := hW.eqS (S' := (up S 21 (dayS (daysS (S 20) t)))) (by
                funext a
                by_cases h21 : a = 21
                · subst h21; rfl
                simp only [up, if_neg h21])
            have hwf_4 := dayS_wf hwd (by omega)
            refine ii_iinc (k := 0) (lv' := [(2, .int (iI (zt + 1))), (0, .ref (A 0)), (1, .int (iI v))]) hx hb dX0_within_48 hl rfl (by decide) rfl (fun ls hl => ?_)
            refine lv_goto (tgt := 22) hx hb dX0_within_51 (by decide) ?_
            exact ih22 (t + 1) (zt + 1) (by omega) (by omega) (wiS_n (by omega) hw (Int.not_le.mpr (by assumption))) (by omega) _ _ hW hS ls (lv_sub hl [0, 1, 2] rfl)
          · -- 36 -> 39
            refine lv_iload_n hx hb dX0_within_39 rfl (lv_at hl 0 rfl) ?_
            have hpw9 : (CWx G A S R) H := (hW.x (fun a h0 h3 h1 h2 h4 => by first | rfl | simp only [up, if_neg h0, if_neg h3, if_neg h1, if_neg h2, if_neg h4]) (fun j h2 h5 h6 => by first | rfl | simp [up, h2]))
            have he9 : zt = (withinA (S 20) v) := by unfold withinA; rw [if_neg (by omega), wiS_y (by omega) hw (by assumption)]; exact ezt
            exact W.iret hx hb hr (fun t ht hW9 => ⟨⟨_, (), rfl, congrArg iI he9, by show (CWx G A S R) t.heap; rw [ht]; exact hpw9⟩, hS.F ht⟩) hS.2.2 dX0_within_40
    exact loop_22 _ 0 0 (by omega) (by omega) (rfl) (Nat.lt_succ_self _) _ _ hW hS ls (lv_sub hl [0, 1, 2] rfl)
  · -- 4 -> 7
    refine ii_const hx hb dX0_within_7 ?_
    have hpw9 : (CWx G A S R) s.heap := (hW.x (fun a h0 h3 h1 h2 h4 => by first | rfl | simp only [up, if_neg h0, if_neg h3, if_neg h1, if_neg h2, if_neg h4]) (fun j h2 h5 h6 => by first | rfl | simp [up, h2]))
    have he9 : (-1) = (withinA (S 20) v) := by unfold withinA; exact (if_pos (by omega)).symm
    exact W.iret hx hb hr (fun t ht hW9 => ⟨⟨_, (), rfl, congrArg iI he9, by show (CWx G A S R) t.heap; rw [ht]; exact hpw9⟩, hS.F ht⟩) hS.2.2 dX0_within_8

set_option maxHeartbeats 1000000 in
set_option maxRecDepth 100000 in
theorem mX0_slack {l : Launch} {G : GG} {s0 : State} {b0 : Nat} (Z : ZZ l G s0 b0) (A : Nat → Nat) (hI : Own s0 A 156) (S : Sta) (R : Nat → Option Nat) (hF0 : WF (S 20)) (hd : S 20 54 ≤ 2000) (h56 : 0 ≤ S 20 56 ∧ S 20 56 ≤ 1000000) (k : Int) (hk : inR k) (n : Int) (hn : inR n) (v : Int) (hv : inR v) (sz : Nat) : Met l yX0_slack (ws_ yX0_slack cX0_slack 5 (some .int)) ({ frames := 8, cells := 0, slots := 0, locals := 174 } : Room) (pcM s0 sz (CW G A S R) [.ref (A 0), .int (iI k), .int (iI n), .int (iI v)]) (mI (slackA (S 20) k n v) (CWx G A S R) (AA A 156 sz)) 0 0 (AA A 156 sz) := by
  refine Met.ofW (cc := cX0_slack) (maxL := 5) (ret := (some .int)) (by decide) rfl ?_
  intro p e s m args below meth c s₁ B hml hv
  obtain ⟨rfl, hsz, hW, hB⟩ := hv
  subst hsz
  have hx := B.exec
  have hb := B.bytes
  have hr := B.returns
  have hts := atoms_spec (ws := (ws_ yX0_slack cX0_slack 5 (some .int))) B.pre
  have hts : ∀ w ∈ lw_all, w.before _ s = true := fun w h => hts w (List.mem_cons_of_mem _ h)
  have hown : s.vm.findClass RX0 = some m.cls := findClass_of_methodNamed B.named
  have hlocks := B.notSynchronized
  have hN := AA.old hI hB
  have hS : va_S (AA A 156 s.heap.size) s.heap s.heap [] := va_S.rf
  have hl := lv_entry ([.ref (A 0), .int (iI k), .int (iI n), .int (iI v)]) (n := 5) (Nat.le_of_ble_eq_true rfl)
  rw [lg_entry_eq]
  generalize (lg_sl ([.ref (A 0), .int (iI k), .int (iI n), .int (iI v)]) ++ List.replicate (5 - (lg_sl ([.ref (A 0), .int (iI k), .int (iI n), .int (iI v)])).length) Slot.unset).toArray = ls at hl ⊢
  have hl : lv_has ls 5 [(0, .ref (A 0)), (1, .int (iI k)), (2, .int (iI n)), (3, .int (iI v))] := hl
  have hn5 := hF0.n
  have hr6 := hF0.rm
  refine lv_aload_n hx hb dX0_slack_0 rfl (lv_at hl 0 rfl) ?_
  refine lv_iload_n hx hb dX0_slack_1 rfl (lv_at hl 1 rfl) ?_
  refine cqI (va_runV (As := [.int (iI k)]) (rest := []) ⟨hx, hb, hml, hown, hts⟩ (mX0_isRope Z A S R hF0 k (by omega)) (cwV 1 hts (lw_V q513 q515 qs16 q79 q516) rfl rfl rfl (by decide +kernel) ⟨Nat.le_of_ble_eq_true rfl, Nat.le_of_ble_eq_true rfl⟩) (pvR (BornH.S hB hN hS) (OBJ.recv Z hB hW.obj (q := (RX0, TX0, 16)) rfl) hW) rfl rfl hl.1 rfl (lv_room (Nat.le_of_ble_eq_true rfl)) dX0_slack_2 ⟨Nat.zero_le _, Nat.zero_le _⟩) ?_
  refine bb_if_eq (P := okR (S 20) k) (tgt := 22) hx hb dX0_slack_5 (by decide) (fun c_1 => ?_) (fun c_1 => ?_)
  · -- 5 -> 22
    refine ii_const hx hb dX0_slack_22 ?_
    have hpw9 : (CWx G A S R) s.heap := (hW.x (fun a h0 h3 h1 h2 h4 => by first | rfl | simp only [up, if_neg h0, if_neg h3, if_neg h1, if_neg h2, if_neg h4]) (fun j h2 h5 h6 => by first | rfl | simp [up, h2]))
    have he9 : (-1) = (slackA (S 20) k n v) := by unfold slackA; exact (if_pos (by omega)).symm
    exact W.iret hx hb hr (fun t ht hW9 => ⟨⟨_, (), rfl, congrArg iI he9, by show (CWx G A S R) t.heap; rw [ht]; exact hpw9⟩, hS.F ht⟩) hS.2.2 dX0_slack_23
  · -- 5 -> 8
    refine lv_iload_n hx hb dX0_slack_8 rfl (lv_at hl 2 rfl) ?_
    refine cqI (va_runS (As := [.int (iI n)]) (rest := []) ⟨hx, hb, hml, hown, hts⟩ (mX0_isLong Z n (by omega)) (va_cwS 1 hts (lw_S q591 q592 q79 q593) rfl rfl rfl (by decide +kernel) ⟨Nat.le_of_ble_eq_true rfl, Nat.le_of_ble_eq_true rfl⟩) (psR (BornH.S hB hN hS) trivial) rfl rfl hl.1 rfl (lv_room (Nat.le_of_ble_eq_true rfl)) dX0_slack_9 ⟨Nat.zero_le _, Nat.zero_le _⟩) ?_
    refine bb_if_eq (P := 0 ≤ n ∧ n ≤ 60) (tgt := 22) hx hb dX0_slack_12 (by decide) (fun c_2 => ?_) (fun c_2 => ?_)
    · -- 12 -> 22
      refine ii_const hx hb dX0_slack_22 ?_
      have hpw9 : (CWx G A S R) s.heap := (hW.x (fun a h0 h3 h1 h2 h4 => by first | rfl | simp only [up, if_neg h0, if_neg h3, if_neg h1, if_neg h2, if_neg h4]) (fun j h2 h5 h6 => by first | rfl | simp [up, h2]))
      have he9 : (-1) = (slackA (S 20) k n v) := by unfold slackA; exact (if_pos (by omega)).symm
      exact W.iret hx hb hr (fun t ht hW9 => ⟨⟨_, (), rfl, congrArg iI he9, by show (CWx G A S R) t.heap; rw [ht]; exact hpw9⟩, hS.F ht⟩) hS.2.2 dX0_slack_23
    · -- 12 -> 15
      refine lv_iload_n hx hb dX0_slack_15 rfl (lv_at hl 3 rfl) ?_
      refine cqI (va_runS (As := [.int (iI v)]) (rest := []) ⟨hx, hb, hml, hown, hts⟩ (mX0_isFathom Z v (by omega)) (va_cwS 1 hts (lw_S q529 q530 q79 q531) rfl rfl rfl (by decide +kernel) ⟨Nat.le_of_ble_eq_true rfl, Nat.le_of_ble_eq_true rfl⟩) (psR (BornH.S hB hN hS) trivial) rfl rfl hl.1 rfl (lv_room (Nat.le_of_ble_eq_true rfl)) dX0_slack_16 ⟨Nat.zero_le _, Nat.zero_le _⟩) ?_
      refine bb_if_ne (P := 0 ≤ v ∧ v ≤ 99) (tgt := 24) hx hb dX0_slack_19 (by decide) (fun c_3 => ?_) (fun c_3 => ?_)
      · -- 19 -> 24
        refine lv_aload_n hx hb dX0_slack_24 rfl (lv_at hl 0 rfl) ?_
        refine r_get (ci := 0) (k := 5) (v := .ref (A 76)) (C := RX0) (T := TX0) (N := 16) Z hB hx hb hts hown rfl in_X0 hW.obj (by decide) q798 rfl dX0_slack_25 ?_
        refine lv_aload_n hx hb dX0_slack_28 rfl (lv_at hl 0 rfl) ?_
        refine r_get (ci := 0) (k := 3) (v := .ref (A 36)) (C := RX0) (T := TX0) (N := 16) Z hB hx hb hts hown rfl in_X0 hW.obj (by decide) q796 rfl dX0_slack_29 ?_
        refine cmV (va_runV (As := [.ref (A 36)]) (rest := []) ⟨hx, hb, hml, hown, hts⟩ (mX1_takes Z (fa A 2) (hI.fa (by omega)) (S 22) (fa A 0) (S 20) (fa_apart hI (f := 2) (g := 0) (by omega) (by omega) (by omega)) s.heap.size) (cwV 1 hts (lw_V q424 q425 q426 q80 q427) rfl rfl rfl (by decide +kernel) ⟨Nat.le_of_ble_eq_true rfl, Nat.le_of_ble_eq_true rfl⟩) (pvM (BornH.S hB hN hS) (OBJ.recv Z hB ((hW.fw (f := 2) (by omega) (F := (S 22)) rfl)).1 (q := (RX1, TX1, 8)) rfl) (⟨(hW.fw (f := 2) (by omega) (F := (S 22)) rfl), (hW.fw (f := 0) (by omega) (F := (S 20)) rfl)⟩)) rfl rfl hl.1 rfl (lv_room (Nat.le_of_ble_eq_true rfl)) dX0_slack_32 ⟨Nat.zero_le _, Nat.zero_le _⟩) hS (AA.fa (by omega) hS.1) (fun H1 locs hW1 hz1 hk1 hS => ?_)
        have hW := hW.joinF hI (f := 2) (by omega) hk1 hW1
        clear hW1 hk1 hz1
        generalize H1 = H at hW hS ⊢
        refine ii_bipush hx hb dX0_slack_35 (by decide) ?_
        refine lv_istore (lv' := [(4, .int (iI 30)), (0, .ref (A 0)), (1, .int (iI k)), (2, .int (iI n)), (3, .int (iI v))]) hx hb dX0_slack_37 hl (by decide) rfl (fun ls hl => ?_)
        have loop_39 : ∀ (fu : Nat) (L : Nat) (zL : Int) (F1 : Nat → Int) (F2 : Nat → Int), (zL = (L : Int)) → (L ≤ 30) → (slO (S 20) k.toNat n.toNat v 30 = slO (S 20) k.toNat n.toNat v L) → (∀ v9 : Int, up F2 (35 + 3 * k.toNat + 2) v9 = up (S 20) (35 + 3 * k.toNat + 2) v9) → L < fu → ∀ (H : Heap) (locs : List Loc), (CW G A (up (up S 21 F1) 22 F2) R) H → va_S (AA A 156 s.heap.size) s.heap H locs → ∀ (ls : Array Slot), lv_has ls 5 [(4, .int (iI zL)), (0, .ref (A 0)), (1, .int (iI k)), (2, .int (iI n)), (3, .int (iI v))] → W p l e (headSpec (ws_ yX0_slack cX0_slack 5 (some .int)) ({ frames := 8, cells := 0, slots := 0, locals := 174 } : Room)).room s m ([.ref (A 0), .int (iI k), .int (iI n), .int (iI v)] : List Value).toArray below meth c H locs 0 0 (MQ below (mI (slackA (S 20) k n v) (CWx G A S R) (AA A 156 s.heap.size)) ([.ref (A 0), .int (iI k), .int (iI n), .int (iI v)] : List Value).toArray s 0 0 (AA A 156 s.heap.size)) (F0 m 39 ls []) := by
          intro fu
          induction fu with
          | zero => intro L zL F1 F2 ezL hL hs hF2e hmu; exact absurd hmu (Nat.not_lt_zero _)
          | succ fu ih39 =>
            intro L zL F1 F2 ezL hL hs hF2e hmu H locs hW hS ls hl
            refine lv_iload hx hb dX0_slack_39 (lv_at hl 0 rfl) ?_
            refine ii_if_le (tgt := 79) hx hb dX0_slack_41 (by decide) (by omega) (fun c_4 => ?_) (fun c_4 => ?_)
            · -- 41 -> 79
              refine ii_bipush hx hb dX0_slack_79 (by decide) ?_
              have hpw9 : (CWx G A S R) H := (hW.x (fun a h0 h3 h1 h2 h4 => by first | rfl | simp only [up, if_neg h0, if_neg h3, if_neg h1, if_neg h2, if_neg h4]) (fun j h2 h5 h6 => by first | rfl | simp [up, h2]))
              have he9 : (-4) = (slackA (S 20) k n v) := by unfold slackA; rw [if_neg (by omega), hs, show L = 0 by omega]; rfl
              exact W.iret hx hb hr (fun t ht hW9 => ⟨⟨_, (), rfl, congrArg iI he9, by show (CWx G A S R) t.heap; rw [ht]; exact hpw9⟩, hS.F ht⟩) hS.2.2 dX0_slack_81
            · -- 41 -> 44
              obtain ⟨L1, rfl⟩ : ∃ L1 : Nat, L = L1 + 1 := ⟨L - 1, by omega⟩
              refine lv_aload_n hx hb dX0_slack_44 rfl (lv_at hl 1 rfl) ?_
              refine r_get (ci := 0) (k := 5) (v := .ref (A 76)) (C := RX0) (T := TX0) (N := 16) Z hB hx hb hts hown rfl in_X0 hW.obj (by decide) q798 rfl dX0_slack_45 ?_
              refine r_getN (ci := 1) (k := 2) (v := .ref ((fa A 2) 13)) (C := RX1) (T := TX1) (N := 8) Z hB hx hb hts hown rfl in_X1 (((hW.fw (f := 2) (by omega) (F := F2) (up_s _ _ _))).1) (by decide) q144 rfl dX0_slack_48 ?_
              refine lv_iload_n hx hb dX0_slack_51 rfl (lv_at hl 2 rfl) ?_
              refine r_aald (t := 1) (ty := .array .int) (k := (k).toNat) Z hB hx hb rfl rfl (((hW.fw (f := 2) (by omega) (F := F2) (up_s _ _ _))).2.2.2.2.2.1) (by omega) (by omega) (by omega) rfl dX0_slack_52 ?_
              refine ii_const hx hb dX0_slack_53 ?_
              refine lv_iload hx hb dX0_slack_54 (lv_at hl 0 rfl) ?_
              refine r_iast (k := 2) Z hB hx hb (((hW.fw (f := 2) (by omega) (F := F2) (up_s _ _ _))).2.2.2.2.2.2 (k).toNat (by omega)) hS (Or.inl ⟨36 + 20 * 2 + (14 + (k).toNat), by omega, rfl⟩) (by omega) (by omega) (by omega) dX0_slack_56 (CW G A (up (up (up S 21 F1) 22 F2) 22 (up F2 (35 + 3 * (k).toNat + 2) zL)) R) (fun H1 hz oq ha => hW.storeF hI (f := 2) (c := 14 + (k).toNat) (by omega) (by omega) oq (FW.setR ((hW.fw (f := 2) (by omega) (F := F2) (up_s _ _ _))) (hI.fa (f := 2) (by omega)) (by omega) (by omega) oq ha)) (fun H locs hW hS => ?_)
              have hW := hW.eqS (S' := (up (up S 21 F1) 22 (up F2 (35 + 3 * (k).toNat + 2) zL))) (by
                  funext a
                  by_cases h21 : a = 21
                  · subst h21; rfl
                  by_cases h22 : a = 22
                  · subst h22; rfl
                  simp only [up, if_neg h21, if_neg h22])
              rw [hF2e] at hW
              have h22 : WF (up (S 20) (35 + 3 * k.toNat + 2) zL) := hF0.setRp (by omega) (by omega) (by omega)
              have h54 : (up (S 20) (35 + 3 * k.toNat + 2) zL) 54 = S 20 54 := up_n _ _ (by omega)
              refine lv_aload_n hx hb dX0_slack_57 rfl (lv_at hl 1 rfl) ?_
              refine lv_aload_n hx hb dX0_slack_58 rfl (lv_at hl 1 rfl) ?_
              refine r_get (ci := 0) (k := 5) (v := .ref (A 76)) (C := RX0) (T := TX0) (N := 16) Z hB hx hb hts hown rfl in_X0 hW.obj (by decide) q798 rfl dX0_slack_59 ?_
              refine lv_iload_n hx hb dX0_slack_62 rfl (lv_at hl 3 rfl) ?_
              have hd_5 : (up (S 20) (35 + 3 * k.toNat + 2) zL) 54 ≤ 2000 := by omega
              refine cmI (va_runV (As := [.ref (A 76), .int (iI n)]) (rest := []) ⟨hx, hb, hml, hown, hts⟩ (mX0_spreadBehind_2 Z A hI (up (up S 21 F1) 22 (up (S 20) (35 + 3 * k.toNat + 2) zL)) R hF0 (up (S 20) (35 + 3 * k.toNat + 2) zL) rfl h22 hd_5 (n).toNat n (by omega) (by omega) H.size) (cwV 2 hts (lw_V q620 q622 qs23 q79 q623) rfl rfl rfl (by decide +kernel) ⟨Nat.le_of_ble_eq_true rfl, Nat.le_of_ble_eq_true rfl⟩) (pvM (BornH.S hB hN hS) (OBJ.recv Z hB hW.obj (q := (RX0, TX0, 16)) rfl) hW) rfl rfl hl.1 rfl (lv_room (Nat.le_of_ble_eq_true rfl)) dX0_slack_63 ⟨Nat.zero_le _, Nat.zero_le _⟩) hS (AA.le hS.1) (fun H1 locs hW1 hz1 hk1 hS => ?_)
              have hW := hW1
              clear hW1 hk1 hz1
              generalize H1 = H at hW hS ⊢
              have hwf_6 : WF (daysS (up (S 20) (35 + 3 * k.toNat + 2) zL) (n).toNat) := daysS_wf h22 (n).toNat (by omega)
              have hW := hW.eqS (S' := (up (up S 21 (daysS (up (S 20) (35 + 3 * k.toNat + 2) zL) (n).toNat)) 22 (up (S 20) (35 + 3 * k.toNat + 2) zL))) (by
                  funext a
                  by_cases h21 : a = 21
                  · subst h21; rfl
                  by_cases h22 : a = 22
                  · subst h22; rfl
                  simp only [up, if_neg h21, if_neg h22])
              have b_643 := spd_in h22 (n).toNat (by omega)
              refine lv_iload_n hx hb dX0_slack_66 rfl (lv_at hl 4 rfl) ?_
              refine ii_icmp_gt (tgt := 73) hx hb dX0_slack_67 (by decide) (by omega) (by omega) (fun c_7 => ?_) (fun c_7 => ?_)
              · -- 67 -> 73
                refine ii_iinc (k := 0) (lv' := [(4, .int (iI (zL + (-1)))), (0, .ref (A 0)), (1, .int (iI k)), (2, .int (iI n)), (3, .int (iI v))]) hx hb dX0_slack_73 hl rfl (by decide) rfl (fun ls hl => ?_)
                refine lv_goto (tgt := 39) hx hb dX0_slack_76 (by decide) ?_
                exact ih39 L1 (zL + (-1)) (daysS (up (S 20) (35 + 3 * k.toNat + 2) zL) (n).toNat) (up (S 20) (35 + 3 * k.toNat + 2) zL) (by omega) (by omega) (slO_n ezL hs (by omega)) (fun v9 => up_up _ _ _ _) (by omega) _ _ hW hS ls (lv_sub hl [0, 1, 2, 3, 4] rfl)
              · -- 67 -> 70
                refine lv_iload hx hb dX0_slack_70 (lv_at hl 0 rfl) ?_
                have hpw9 : (CWx G A S R) H := (hW.x (fun a h0 h3 h1 h2 h4 => by first | rfl | simp only [up, if_neg h0, if_neg h3, if_neg h1, if_neg h2, if_neg h4]) (fun j h2 h5 h6 => by first | rfl | simp [up, h2]))
                have he9 : zL = (slackA (S 20) k n v) := by unfold slackA; rw [if_neg (by omega), slO_y ezL hs (by assumption)]
                exact W.iret hx hb hr (fun t ht hW9 => ⟨⟨_, (), rfl, congrArg iI he9, by show (CWx G A S R) t.heap; rw [ht]; exact hpw9⟩, hS.F ht⟩) hS.2.2 dX0_slack_72
        have hW := hW.eqS (S' := (up (up S 21 (S 21)) 22 (S 20))) (by
            funext a
            by_cases h21 : a = 21
            · subst h21; rfl
            by_cases h22 : a = 22
            · subst h22; rfl
            simp only [up, if_neg h21, if_neg h22])
        exact loop_39 _ 30 30 (S 21) (S 20) (by omega) (by omega) (rfl) (fun v9 => rfl) (Nat.lt_succ_self _) _ _ hW hS ls (lv_sub hl [0, 1, 2, 3, 4] rfl)
      · -- 19 -> 22
        refine ii_const hx hb dX0_slack_22 ?_
        have hpw9 : (CWx G A S R) s.heap := (hW.x (fun a h0 h3 h1 h2 h4 => by first | rfl | simp only [up, if_neg h0, if_neg h3, if_neg h1, if_neg h2, if_neg h4]) (fun j h2 h5 h6 => by first | rfl | simp [up, h2]))
        have he9 : (-1) = (slackA (S 20) k n v) := by unfold slackA; exact (if_pos (by omega)).symm
        exact W.iret hx hb hr (fun t ht hW9 => ⟨⟨_, (), rfl, congrArg iI he9, by show (CWx G A S R) t.heap; rw [ht]; exact hpw9⟩, hS.F ht⟩) hS.2.2 dX0_slack_23
