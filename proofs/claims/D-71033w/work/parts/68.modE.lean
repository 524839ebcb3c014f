/-! MODEL: what is asked, 1 (written by gen/mod4.py) -/
set_option maxRecDepth 100000
set_option maxHeartbeats 1000000 in
set_option maxRecDepth 100000 in
theorem mX4_rule {l : Launch} {G : GG} {s0 : State} {b0 : Nat} (Z : ZZ l G s0 b0) (K : Nat → Nat) (hI : Own s0 K 12) (T : Sta) (F : Nat → Int) (eF : T 1 = F) (hF : WF F) (what : Int) (hwhat : inR what) (sz : Nat) : Met l yX4_rule (ws_ yX4_rule cX4_rule 2 (some .int)) ({ frames := 3, cells := 0, slots := 0, locals := 66 } : Room) (pcM s0 sz (MW G K T) [.ref (K 0), .int (iI what)]) (mI (ruleS F what) (MWx G K T) (AA K 12 sz)) 0 0 (AA K 12 sz) := by
  refine Met.ofW (cc := cX4_rule) (maxL := 2) (ret := (some .int)) (by decide) rfl ?_
  intro p e s m args below meth c s₁ B hml hv
  obtain ⟨rfl, hsz, hW, hB⟩ := hv
  subst hsz
  have hx := B.exec
  have hb := B.bytes
  have hr := B.returns
  have hts := atoms_spec (ws := (ws_ yX4_rule cX4_rule 2 (some .int))) B.pre
  have hts : ∀ w ∈ lw_all, w.before _ s = true := fun w h => hts w (List.mem_cons_of_mem _ h)
  have hown : s.vm.findClass RX4 = some m.cls := findClass_of_methodNamed B.named
  have hlocks := B.notSynchronized
  have hN := AA.old hI hB
  have hS : va_S (AA K 12 s.heap.size) s.heap s.heap [] := va_S.rf
  have hl := lv_entry ([.ref (K 0), .int (iI what)]) (n := 2) (Nat.le_of_ble_eq_true rfl)
  rw [lg_entry_eq]
  generalize (lg_sl ([.ref (K 0), .int (iI what)]) ++ List.replicate (2 - (lg_sl ([.ref (K 0), .int (iI what)])).length) Slot.unset).toArray = ls at hl ⊢
  have hl : lv_has ls 2 [(0, .ref (K 0)), (1, .int (iI what))] := hl
  subst eF
  have hn5 := hF.n
  have hrm := hF.rm
  have hday := hF.day
  refine lv_aload_n hx hb dX4_rule_0 rfl (lv_at hl 0 rfl) ?_
  refine cmV (va_runV (As := []) (rest := []) ⟨hx, hb, hml, hown, hts⟩ (mX4_starts Z K hI T (T 1) rfl s.heap.size) (cwV 0 hts (lw_V q1151 q1153 qs48 q83 q1154) rfl rfl rfl (by decide +kernel) ⟨Nat.le_of_ble_eq_true rfl, Nat.le_of_ble_eq_true rfl⟩) (pvM (BornH.S hB hN hS) (OBJ.recv Z hB hW.obj (q := (RX4, TX4, 29)) rfl) hW) rfl rfl hl.1 rfl (lv_room (Nat.le_of_ble_eq_true rfl)) dX4_rule_1 ⟨Nat.zero_le _, Nat.zero_le _⟩) hS (AA.le hS.1) (fun H1 locs hW1 hz1 hk1 hS => ?_)
  have hW := hW1
  clear hW1 hk1 hz1
  generalize H1 = H at hW hS ⊢
  refine lv_iload_n hx hb dX4_rule_4 rfl (lv_at hl 1 rfl) ?_
  by_cases c_1_0 : what = 0
  · --
    refine lv_tableIn (off := 39) (tgt := 44) hx hb dX4_rule_5 (by rw [iI_toInt (by omega)]; omega) (by rw [iI_toInt (by omega)]; omega) (by rw [iI_toInt (by omega), c_1_0]; rfl) (by decide) ?_
    refine lv_aload_n hx hb dX4_rule_44 rfl (lv_at hl 0 rfl) ?_
    refine r_get (ci := 4) (k := 3) (v := .int (iI ((T 1) 76))) (C := RX4) (T := TX4) (N := 29) Z hB hx hb hts hown rfl in_X4 hW.obj (by decide) q981 rfl dX4_rule_45 ?_
    have hpw9 : (MWx G K T) H := (hW.x (fun a h0 h2 h6 h7 h11 => by first | rfl | simp only [up, if_neg h0, if_neg h2, if_neg h6, if_neg h7, if_neg h11]) (fun j h1 h2 h3 h4 h5 => by first | rfl | simp [up, h1, h2]))
    have he9 : ((T 1) 76) = (ruleS (T 1) what) := by unfold ruleS; (repeat' split) <;> first | rfl | omega
    exact W.iret hx hb hr (fun t ht hW9 => ⟨⟨_, (), rfl, congrArg iI he9, by show (MWx G K T) t.heap; rw [ht]; exact hpw9⟩, hS.F ht⟩) hS.2.2 dX4_rule_48
  by_cases c_1_1 : what = 1
  · --
    refine lv_tableIn (off := 44) (tgt := 49) hx hb dX4_rule_5 (by rw [iI_toInt (by omega)]; omega) (by rw [iI_toInt (by omega)]; omega) (by rw [iI_toInt (by omega), c_1_1]; rfl) (by decide) ?_
    refine lv_aload_n hx hb dX4_rule_49 rfl (lv_at hl 0 rfl) ?_
    refine r_get (ci := 4) (k := 0) (v := .ref (K 1)) (C := RX4) (T := TX4) (N := 29) Z hB hx hb hts hown rfl in_X4 hW.obj (by decide) q978 rfl dX4_rule_50 ?_
    refine ii_bipush hx hb dX4_rule_53 (by decide) ?_
    have b_731 := hF.rm
    refine r_iald (k := 53) (f := (stF (up T 2 (T 1)))) Z hB hx hb hW.st (by omega) (by omega) (by omega) dX4_rule_55 ?_
    rw [show stF (up T 2 (T 1)) 53 = (T 1) 53 from stF_lo _ (by omega)]
    have hpw9 : (MWx G K T) H := (hW.x (fun a h0 h2 h6 h7 h11 => by first | rfl | simp only [up, if_neg h0, if_neg h2, if_neg h6, if_neg h7, if_neg h11]) (fun j h1 h2 h3 h4 h5 => by first | rfl | simp [up, h1, h2]))
    have he9 : ((T 1) 53) = (ruleS (T 1) what) := by unfold ruleS; (repeat' split) <;> first | rfl | omega
    exact W.iret hx hb hr (fun t ht hW9 => ⟨⟨_, (), rfl, congrArg iI he9, by show (MWx G K T) t.heap; rw [ht]; exact hpw9⟩, hS.F ht⟩) hS.2.2 dX4_rule_56
  by_cases c_1_2 : what = 2
  · --
    refine lv_tableIn (off := 52) (tgt := 57) hx hb dX4_rule_5 (by rw [iI_toInt (by omega)]; omega) (by rw [iI_toInt (by omega)]; omega) (by rw [iI_toInt (by omega), c_1_2]; rfl) (by decide) ?_
    refine lv_aload_n hx hb dX4_rule_57 rfl (lv_at hl 0 rfl) ?_
    refine r_get (ci := 4) (k := 0) (v := .ref (K 1)) (C := RX4) (T := TX4) (N := 29) Z hB hx hb hts hown rfl in_X4 hW.obj (by decide) q978 rfl dX4_rule_58 ?_
    refine ii_bipush hx hb dX4_rule_61 (by decide) ?_
    have b_732 := hF.day
    refine r_iald (k := 54) (f := (stF (up T 2 (T 1)))) Z hB hx hb hW.st (by omega) (by omega) (by omega) dX4_rule_63 ?_
    rw [show stF (up T 2 (T 1)) 54 = (T 1) 54 from stF_lo _ (by omega)]
    have hpw9 : (MWx G K T) H := (hW.x (fun a h0 h2 h6 h7 h11 => by first | rfl | simp only [up, if_neg h0, if_neg h2, if_neg h6, if_neg h7, if_neg h11]) (fun j h1 h2 h3 h4 h5 => by first | rfl | simp [up, h1, h2]))
    have he9 : ((T 1) 54) = (ruleS (T 1) what) := by unfold ruleS; (repeat' split) <;> first | rfl | omega
    exact W.iret hx hb hr (fun t ht hW9 => ⟨⟨_, (), rfl, congrArg iI he9, by show (MWx G K T) t.heap; rw [ht]; exact hpw9⟩, hS.F ht⟩) hS.2.2 dX4_rule_64
  by_cases c_1_3 : what = 3
  · --
    refine lv_tableIn (off := 60) (tgt := 65) hx hb dX4_rule_5 (by rw [iI_toInt (by omega)]; omega) (by rw [iI_toInt (by omega)]; omega) (by rw [iI_toInt (by omega), c_1_3]; rfl) (by decide) ?_
    refine lv_aload_n hx hb dX4_rule_65 rfl (lv_at hl 0 rfl) ?_
    refine r_get (ci := 4) (k := 0) (v := .ref (K 1)) (C := RX4) (T := TX4) (N := 29) Z hB hx hb hts hown rfl in_X4 hW.obj (by decide) q978 rfl dX4_rule_66 ?_
    refine ii_bipush hx hb dX4_rule_69 (by decide) ?_
    have b_733 := hF.fe
    refine r_iald (k := 55) (f := (stF (up T 2 (T 1)))) Z hB hx hb hW.st (by omega) (by omega) (by omega) dX4_rule_71 ?_
    rw [show stF (up T 2 (T 1)) 55 = (T 1) 55 from stF_lo _ (by omega)]
    have hpw9 : (MWx G K T) H := (hW.x (fun a h0 h2 h6 h7 h11 => by first | rfl | simp only [up, if_neg h0, if_neg h2, if_neg h6, if_neg h7, if_neg h11]) (fun j h1 h2 h3 h4 h5 => by first | rfl | simp [up, h1, h2]))
    have he9 : ((T 1) 55) = (ruleS (T 1) what) := by unfold ruleS; (repeat' split) <;> first | rfl | omega
    exact W.iret hx hb hr (fun t ht hW9 => ⟨⟨_, (), rfl, congrArg iI he9, by show (MWx G K T) t.heap; rw [ht]; exact hpw9⟩, hS.F ht⟩) hS.2.2 dX4_rule_72
  by_cases c_1_4 : what = 4
  · --
    refine lv_tableIn (off := 68) (tgt := 73) hx hb dX4_rule_5 (by rw [iI_toInt (by omega)]; omega) (by rw [iI_toInt (by omega)]; omega) (by rw [iI_toInt (by omega), c_1_4]; rfl) (by decide) ?_
    refine lv_aload_n hx hb dX4_rule_73 rfl (lv_at hl 0 rfl) ?_
    refine r_get (ci := 4) (k := 0) (v := .ref (K 1)) (C := RX4) (T := TX4) (N := 29) Z hB hx hb hts hown rfl in_X4 hW.obj (by decide) q978 rfl dX4_rule_74 ?_
    refine ii_bipush hx hb dX4_rule_77 (by decide) ?_
    refine r_iald (k := 56) (f := (stF (up T 2 (T 1)))) Z hB hx hb hW.st (by omega) (by omega) (by omega) dX4_rule_79 ?_
    rw [show stF (up T 2 (T 1)) 56 = (T 1) 56 from stF_lo _ (by omega)]
    have hpw9 : (MWx G K T) H := (hW.x (fun a h0 h2 h6 h7 h11 => by first | rfl | simp only [up, if_neg h0, if_neg h2, if_neg h6, if_neg h7, if_neg h11]) (fun j h1 h2 h3 h4 h5 => by first | rfl | simp [up, h1, h2]))
    have he9 : ((T 1) 56) = (ruleS (T 1) what) := by unfold ruleS; (repeat' split) <;> first | rfl | omega
    exact W.iret hx hb hr (fun t ht hW9 => ⟨⟨_, (), rfl, congrArg iI he9, by show (MWx G K T) t.heap; rw [ht]; exact hpw9⟩, hS.F ht⟩) hS.2.2 dX4_rule_80
  by_cases c_1_5 : what = 5
  · --
    refine lv_tableIn (off := 76) (tgt := 81) hx hb dX4_rule_5 (by rw [iI_toInt (by omega)]; omega) (by rw [iI_toInt (by omega)]; omega) (by rw [iI_toInt (by omega), c_1_5]; rfl) (by decide) ?_
    refine lv_aload_n hx hb dX4_rule_81 rfl (lv_at hl 0 rfl) ?_
    have hn_2 : (T 1) 76 = (T 1) 76 := by first | rfl | omega
    refine cqI (va_runV (As := []) (rest := []) ⟨hx, hb, hml, hown, hts⟩ (mX4_spread Z K (up T 2 (T 1)) (T 1) rfl hF hn_2 ) (cwV 0 hts (lw_V q1155 q1157 qs49 q83 q1158) rfl rfl rfl (by decide +kernel) ⟨Nat.le_of_ble_eq_true rfl, Nat.le_of_ble_eq_true rfl⟩) (pvR (BornH.S hB hN hS) (OBJ.recv Z hB hW.obj (q := (RX4, TX4, 29)) rfl) hW) rfl rfl hl.1 rfl (lv_room (Nat.le_of_ble_eq_true rfl)) dX4_rule_82 ⟨Nat.zero_le _, Nat.zero_le _⟩) ?_
    have b_734 := spS_in hF
    have hpw9 : (MWx G K T) H := (hW.x (fun a h0 h2 h6 h7 h11 => by first | rfl | simp only [up, if_neg h0, if_neg h2, if_neg h6, if_neg h7, if_neg h11]) (fun j h1 h2 h3 h4 h5 => by first | rfl | simp [up, h1, h2]))
    have he9 : (spS (T 1)) = (ruleS (T 1) what) := by unfold ruleS; (repeat' split) <;> first | rfl | omega
    exact W.iret hx hb hr (fun t ht hW9 => ⟨⟨_, (), rfl, congrArg iI he9, by show (MWx G K T) t.heap; rw [ht]; exact hpw9⟩, hS.F ht⟩) hS.2.2 dX4_rule_85
  refine lv_tableOut (tgt := 86) hx hb dX4_rule_5 (by rw [iI_toInt (by omega)]; omega) (by decide) ?_
  refine ii_const hx hb dX4_rule_86 ?_
  have hpw9 : (MWx G K T) H := (hW.x (fun a h0 h2 h6 h7 h11 => by first | rfl | simp only [up, if_neg h0, if_neg h2, if_neg h6, if_neg h7, if_neg h11]) (fun j h1 h2 h3 h4 h5 => by first | rfl | simp [up, h1, h2]))
  have he9 : (-1) = (ruleS (T 1) what) := by unfold ruleS; (repeat' split) <;> first | rfl | omega
  exact W.iret hx hb hr (fun t ht hW9 => ⟨⟨_, (), rfl, congrArg iI he9, by show (MWx G K T) t.heap; rw [ht]; exact hpw9⟩, hS.F ht⟩) hS.2.2 dX4_rule_87

set_option maxHeartbeats 1000000 in
set_option maxRecDepth 100000 in
theorem mX4_far {l : Launch} {G : GG} {s0 : State} {b0 : Nat} (Z : ZZ l G s0 b0) (K : Nat → Nat) (hI : Own s0 K 12) (T : Sta) (F : Nat → Int) (eF : T 1 = F) (hF : WF F) (i : Int) (hi : inR i) (j : Int) (hj : inR j) (sz : Nat) : Met l yX4_far (ws_ yX4_far cX4_far 3 (some .int)) ({ frames := 3, cells := 0, slots := 0, locals := 68 } : Room) (pcM s0 sz (MW G K T) [.ref (K 0), .int (iI i), .int (iI j)]) (mI (farS F i j) (MWx G K T) (AA K 12 sz)) 0 0 (AA K 12 sz) := by
  refine Met.ofW (cc := cX4_far) (maxL := 3) (ret := (some .int)) (by decide) rfl ?_
  intro p e s m args below meth c s₁ B hml hv
  obtain ⟨rfl, hsz, hW, hB⟩ := hv
  subst hsz
  have hx := B.exec
  have hb := B.bytes
  have hr := B.returns
  have hts := atoms_spec (ws := (ws_ yX4_far cX4_far 3 (some .int))) B.pre
  have hts : ∀ w ∈ lw_all, w.before _ s = true := fun w h => hts w (List.mem_cons_of_mem _ h)
  have hown : s.vm.findClass RX4 = some m.cls := findClass_of_methodNamed B.named
  have hlocks := B.notSynchronized
  have hN := AA.old hI hB
  have hS : va_S (AA K 12 s.heap.size) s.heap s.heap [] := va_S.rf
  have hl := lv_entry ([.ref (K 0), .int (iI i), .int (iI j)]) (n := 3) (Nat.le_of_ble_eq_true rfl)
  rw [lg_entry_eq]
  generalize (lg_sl ([.ref (K 0), .int (iI i), .int (iI j)]) ++ List.replicate (3 - (lg_sl ([.ref (K 0), .int (iI i), .int (iI j)])).length) Slot.unset).toArray = ls at hl ⊢
  have hl : lv_has ls 3 [(0, .ref (K 0)), (1, .int (iI i)), (2, .int (iI j))] := hl
  subst eF
  have hn5 := hF.n
  have hrm := hF.rm
  have hday := hF.day
  refine lv_aload_n hx hb dX4_far_0 rfl (lv_at hl 0 rfl) ?_
  refine lv_iload_n hx hb dX4_far_1 rfl (lv_at hl 1 rfl) ?_
  refine lv_iload_n hx hb dX4_far_2 rfl (lv_at hl 2 rfl) ?_
  refine cqI (va_runV (As := [.int (iI i), .int (iI j)]) (rest := []) ⟨hx, hb, hml, hown, hts⟩ (mX4_areTwo Z K T (T 1) rfl hF i (by omega) j (by omega)) (cwV 2 hts (lw_V q1201 q1203 qs57 q83 q1204) rfl rfl rfl (by decide +kernel) ⟨Nat.le_of_ble_eq_true rfl, Nat.le_of_ble_eq_true rfl⟩) (pvR (BornH.S hB hN hS) (OBJ.recv Z hB hW.obj (q := (RX4, TX4, 29)) rfl) hW) rfl rfl hl.1 rfl (lv_room (Nat.le_of_ble_eq_true rfl)) dX4_far_3 ⟨Nat.zero_le _, Nat.zero_le _⟩) ?_
  refine bb_if_ne (P := ok2 (T 1) i j) (tgt := 11) hx hb dX4_far_6 (by decide) (fun c_1 => ?_) (fun c_1 => ?_)
  · -- 6 -> 11
    refine lv_aload_n hx hb dX4_far_11 rfl (lv_at hl 0 rfl) ?_
    refine cmV (va_runV (As := []) (rest := []) ⟨hx, hb, hml, hown, hts⟩ (mX4_starts Z K hI T (T 1) rfl s.heap.size) (cwV 0 hts (lw_V q1151 q1153 qs48 q83 q1154) rfl rfl rfl (by decide +kernel) ⟨Nat.le_of_ble_eq_true rfl, Nat.le_of_ble_eq_true rfl⟩) (pvM (BornH.S hB hN hS) (OBJ.recv Z hB hW.obj (q := (RX4, TX4, 29)) rfl) hW) rfl rfl hl.1 rfl (lv_room (Nat.le_of_ble_eq_true rfl)) dX4_far_12 ⟨Nat.zero_le _, Nat.zero_le _⟩) hS (AA.le hS.1) (fun H1 locs hW1 hz1 hk1 hS => ?_)
    have hW := hW1
    clear hW1 hk1 hz1
    generalize H1 = H at hW hS ⊢
    refine lv_aload_n hx hb dX4_far_15 rfl (lv_at hl 0 rfl) ?_
    refine lv_iload_n hx hb dX4_far_16 rfl (lv_at hl 1 rfl) ?_
    refine lv_iload_n hx hb dX4_far_17 rfl (lv_at hl 2 rfl) ?_
    have hn_2 : (T 1) 76 = (T 1) 76 := by first | rfl | omega
    refine cqI (va_runV (As := [.int (iI i), .int (iI j)]) (rest := []) ⟨hx, hb, hml, hown, hts⟩ (mX4_apart Z K (up T 2 (T 1)) (T 1) rfl hF hn_2 i.toNat i (by omega) (by omega) j.toNat j (by omega) (by omega)) (cwV 2 hts (lw_V q1159 q1161 qs50 q83 q1162) rfl rfl rfl (by decide +kernel) ⟨Nat.le_of_ble_eq_true rfl, Nat.le_of_ble_eq_true rfl⟩) (pvR (BornH.S hB hN hS) (OBJ.recv Z hB hW.obj (q := (RX4, TX4, 29)) rfl) hW) rfl rfl hl.1 rfl (lv_room (Nat.le_of_ble_eq_true rfl)) dX4_far_18 ⟨Nat.zero_le _, Nat.zero_le _⟩) ?_
    have b_735 := apS_in hF i.toNat j.toNat (by omega) (by omega)
    have hpw9 : (MWx G K T) H := (hW.x (fun a h0 h2 h6 h7 h11 => by first | rfl | simp only [up, if_neg h0, if_neg h2, if_neg h6, if_neg h7, if_neg h11]) (fun j h1 h2 h3 h4 h5 => by first | rfl | simp [up, h1, h2]))
    have he9 : (apS (T 1) i.toNat j.toNat) = (farS (T 1) i j) := by unfold farS; (repeat' split) <;> first | rfl | omega
    exact W.iret hx hb hr (fun t ht hW9 => ⟨⟨_, (), rfl, congrArg iI he9, by show (MWx G K T) t.heap; rw [ht]; exact hpw9⟩, hS.F ht⟩) hS.2.2 dX4_far_21
  · -- 6 -> 9
    refine ii_const hx hb dX4_far_9 ?_
    have hpw9 : (MWx G K T) s.heap := ⟨T, ⟨fun _ _ _ _ _ _ => rfl, fun _ _ _ _ _ _ => rfl⟩, hW⟩
    have he9 : (-1) = (farS (T 1) i j) := by unfold farS; (repeat' split) <;> first | rfl | omega
    exact W.iret hx hb hr (fun t ht hW9 => ⟨⟨_, (), rfl, congrArg iI he9, by show (MWx G K T) t.heap; rw [ht]; exact hpw9⟩, hS.F ht⟩) hS.2.2 dX4_far_10

set_option maxHeartbeats 1000000 in
set_option maxRecDepth 100000 in
theorem mX4_ahead {l : Launch} {G : GG} {s0 : State} {b0 : Nat} (Z : ZZ l G s0 b0) (K : Nat → Nat) (hI : Own s0 K 12) (T : Sta) (F : Nat → Int) (eF : T 1 = F) (hF : WF F) (hD : Dia F) (hd : F 54 ≤ 2000) (i : Int) (hi : inR i) (n : Int) (hn : inR n) (sz : Nat) : Met l yX4_ahead (ws_ yX4_ahead cX4_ahead 3 (some .int)) ({ frames := 6, cells := 0, slots := 0, locals := 141 } : Room) (pcM s0 sz (MW G K T) [.ref (K 0), .int (iI i), .int (iI n)]) (mI (aheadA F i n) (MWx G K T) (AA K 12 sz)) 0 0 (AA K 12 sz) := by
  refine Met.ofW (cc := cX4_ahead) (maxL := 3) (ret := (some .int)) (by decide) rfl ?_
  intro p e s m args below meth c s₁ B hml hv
  obtain ⟨rfl, hsz, hW, hB⟩ := hv
  subst hsz
  have hx := B.exec
  have hb := B.bytes
  have hr := B.returns
  have hts := atoms_spec (ws := (ws_ yX4_ahead cX4_ahead 3 (some .int))) B.pre
  have hts : ∀ w ∈ lw_all, w.before _ s = true := fun w h => hts w (List.mem_cons_of_mem _ h)
  have hown : s.vm.findClass RX4 = some m.cls := findClass_of_methodNamed B.named
  have hlocks := B.notSynchronized
  have hN := AA.old hI hB
  have hS : va_S (AA K 12 s.heap.size) s.heap s.heap [] := va_S.rf
  have hl := lv_entry ([.ref (K 0), .int (iI i), .int (iI n)]) (n := 3) (Nat.le_of_ble_eq_true rfl)
  rw [lg_entry_eq]
  generalize (lg_sl ([.ref (K 0), .int (iI i), .int (iI n)]) ++ List.replicate (3 - (lg_sl ([.ref (K 0), .int (iI i), .int (iI n)])).length) Slot.unset).toArray = ls at hl ⊢
  have hl : lv_has ls 3 [(0, .ref (K 0)), (1, .int (iI i)), (2, .int (iI n))] := hl
  subst eF
  have hn5 := hF.n
  have hrm := hF.rm
  have hday := hF.day
  refine lv_aload_n hx hb dX4_ahead_0 rfl (lv_at hl 0 rfl) ?_
  refine lv_iload_n hx hb dX4_ahead_1 rfl (lv_at hl 1 rfl) ?_
  refine cqI (va_runV (As := [.int (iI i)]) (rest := []) ⟨hx, hb, hml, hown, hts⟩ (mX4_isIsle Z K T (T 1) rfl hF i (by omega)) (cwV 1 hts (lw_V q1174 q1176 qs52 q83 q1177) rfl rfl rfl (by decide +kernel) ⟨Nat.le_of_ble_eq_true rfl, Nat.le_of_ble_eq_true rfl⟩) (pvR (BornH.S hB hN hS) (OBJ.recv Z hB hW.obj (q := (RX4, TX4, 29)) rfl) hW) rfl rfl hl.1 rfl (lv_room (Nat.le_of_ble_eq_true rfl)) dX4_ahead_2 ⟨Nat.zero_le _, Nat.zero_le _⟩) ?_
  refine bb_if_eq (P := okI (T 1) i) (tgt := 15) hx hb dX4_ahead_5 (by decide) (fun c_1 => ?_) (fun c_1 => ?_)
  · -- 5 -> 15
    refine ii_const hx hb dX4_ahead_15 ?_
    have hpw9 : (MWx G K T) s.heap := ⟨T, ⟨fun _ _ _ _ _ _ => rfl, fun _ _ _ _ _ _ => rfl⟩, hW⟩
    have he9 : (-1) = (aheadA (T 1) i n) := by unfold aheadA; (repeat' split) <;> first | rfl | omega
    exact W.iret hx hb hr (fun t ht hW9 => ⟨⟨_, (), rfl, congrArg iI he9, by show (MWx G K T) t.heap; rw [ht]; exact hpw9⟩, hS.F ht⟩) hS.2.2 dX4_ahead_16
  · -- 5 -> 8
    refine lv_iload_n hx hb dX4_ahead_8 rfl (lv_at hl 2 rfl) ?_
    refine cqI (va_runS (As := [.int (iI n)]) (rest := []) ⟨hx, hb, hml, hown, hts⟩ (mX4_isFar Z n (by omega)) (va_cwS 1 hts (lw_S q1297 q1298 q83 q1299) rfl rfl rfl (by decide +kernel) ⟨Nat.le_of_ble_eq_true rfl, Nat.le_of_ble_eq_true rfl⟩) (psR (BornH.S hB hN hS) trivial) rfl rfl hl.1 rfl (lv_room (Nat.le_of_ble_eq_true rfl)) dX4_ahead_9 ⟨Nat.zero_le _, Nat.zero_le _⟩) ?_
    refine bb_if_ne (P := 0 ≤ n ∧ n ≤ 60) (tgt := 17) hx hb dX4_ahead_12 (by decide) (fun c_2 => ?_) (fun c_2 => ?_)
    · -- 12 -> 17
      refine lv_aload_n hx hb dX4_ahead_17 rfl (lv_at hl 0 rfl) ?_
      refine cmV (va_runV (As := []) (rest := []) ⟨hx, hb, hml, hown, hts⟩ (mX4_starts Z K hI T (T 1) rfl s.heap.size) (cwV 0 hts (lw_V q1151 q1153 qs48 q83 q1154) rfl rfl rfl (by decide +kernel) ⟨Nat.le_of_ble_eq_true rfl, Nat.le_of_ble_eq_true rfl⟩) (pvM (BornH.S hB hN hS) (OBJ.recv Z hB hW.obj (q := (RX4, TX4, 29)) rfl) hW) rfl rfl hl.1 rfl (lv_room (Nat.le_of_ble_eq_true rfl)) dX4_ahead_18 ⟨Nat.zero_le _, Nat.zero_le _⟩) hS (AA.le hS.1) (fun H1 locs hW1 hz1 hk1 hS => ?_)
      have hW := hW1
      clear hW1 hk1 hz1
      generalize H1 = H at hW hS ⊢
      refine lv_aload_n hx hb dX4_ahead_21 rfl (lv_at hl 0 rfl) ?_
      refine lv_iload_n hx hb dX4_ahead_22 rfl (lv_at hl 2 rfl) ?_
      have hd_3 : (T 1) 54 + (n.toNat : Int) ≤ 100000 := by omega
      have hn_4 : (T 1) 76 = (T 1) 76 := by first | rfl | omega
      refine cmV (va_runV (As := [.int (iI n)]) (rest := []) ⟨hx, hb, hml, hown, hts⟩ (mX4_daysGo Z K hI (up T 2 (T 1)) (T 1) rfl hF hn_4 hD n.toNat n (by omega) hd_3 H.size) (cwV 1 hts (lw_V q1269 q1271 qs63 q83 q1272) rfl rfl rfl (by decide +kernel) ⟨Nat.le_of_ble_eq_true rfl, Nat.le_of_ble_eq_true rfl⟩) (pvM (BornH.S hB hN hS) (OBJ.recv Z hB hW.obj (q := (RX4, TX4, 29)) rfl) hW) rfl rfl hl.1 rfl (lv_room (Nat.le_of_ble_eq_true rfl)) dX4_ahead_23 ⟨Nat.zero_le _, Nat.zero_le _⟩) hS (AA.le hS.1) (fun H1 locs hW1 hz1 hk1 hS => ?_)
      have hW := hW1
      clear hW1 hk1 hz1
      generalize H1 = H at hW hS ⊢
      have hW := hW.eqS (S' := (up T 2 (daysS (T 1) n.toNat))) (by
          funext a
          by_cases h2 : a = 2
          · subst h2; rfl
          simp only [up, if_neg h2])
      have hwf_5 : WF (daysS (T 1) n.toNat) := (daysS_wf hF n.toNat (by omega))
      have b_736 : daysS (T 1) n.toNat 76 = (T 1) 76 := daysS_same hF (by omega) (by omega) (by omega) n.toNat (by omega)
      refine lv_aload_n hx hb dX4_ahead_26 rfl (lv_at hl 0 rfl) ?_
      refine lv_iload_n hx hb dX4_ahead_27 rfl (lv_at hl 1 rfl) ?_
      have hn_6 : (T 1) 76 = (daysS (T 1) n.toNat) 76 := by first | rfl | omega
      refine cqI (va_runV (As := [.int (iI i)]) (rest := []) ⟨hx, hb, hml, hown, hts⟩ (mX4_place Z K (up T 2 (daysS (T 1) n.toNat)) (daysS (T 1) n.toNat) rfl hwf_5 hn_6 i.toNat i (by omega) (by omega)) (cwV 1 hts (lw_V q1163 q1165 qs51 q83 q1166) rfl rfl rfl (by decide +kernel) ⟨Nat.le_of_ble_eq_true rfl, Nat.le_of_ble_eq_true rfl⟩) (pvR (BornH.S hB hN hS) (OBJ.recv Z hB hW.obj (q := (RX4, TX4, 29)) rfl) hW) rfl rfl hl.1 rfl (lv_room (Nat.le_of_ble_eq_true rfl)) dX4_ahead_28 ⟨Nat.zero_le _, Nat.zero_le _⟩) ?_
      have b_737 := hwf_5.pl i.toNat (by omega)
      have hpw9 : (MWx G K T) H := (hW.x (fun a h0 h2 h6 h7 h11 => by first | rfl | simp only [up, if_neg h0, if_neg h2, if_neg h6, if_neg h7, if_neg h11]) (fun j h1 h2 h3 h4 h5 => by first | rfl | simp [up, h1, h2]))
      have he9 : ((daysS (T 1) n.toNat) (2 * i.toNat + 1)) = (aheadA (T 1) i n) := by unfold aheadA; (repeat' split) <;> first | rfl | omega
      exact W.iret hx hb hr (fun t ht hW9 => ⟨⟨_, (), rfl, congrArg iI he9, by show (MWx G K T) t.heap; rw [ht]; exact hpw9⟩, hS.F ht⟩) hS.2.2 dX4_ahead_31
    · -- 12 -> 15
      refine ii_const hx hb dX4_ahead_15 ?_
      have hpw9 : (MWx G K T) s.heap := ⟨T, ⟨fun _ _ _ _ _ _ => rfl, fun _ _ _ _ _ _ => rfl⟩, hW⟩
      have he9 : (-1) = (aheadA (T 1) i n) := by unfold aheadA; (repeat' split) <;> first | rfl | omega
      exact W.iret hx hb hr (fun t ht hW9 => ⟨⟨_, (), rfl, congrArg iI he9, by show (MWx G K T) t.heap; rw [ht]; exact hpw9⟩, hS.F ht⟩) hS.2.2 dX4_ahead_16

set_option maxHeartbeats 1000000 in
set_option maxRecDepth 100000 in
theorem mX4_isle {l : Launch} {G : GG} {s0 : State} {b0 : Nat} (Z : ZZ l G s0 b0) (K : Nat → Nat) (hI : Own s0 K 12) (T : Sta) (F : Nat → Int) (eF : T 1 = F) (hF : WF F) (hD : Dia F) (hd : F 54 ≤ 2000) (i : Int) (hi : inR i) (what : Int) (hwhat : inR what) (sz : Nat) : Met l yX4_isle (ws_ yX4_isle cX4_isle 3 (some .int)) ({ frames := 3, cells := 0, slots := 0, locals := 68 } : Room) (pcM s0 sz (MW G K T) [.ref (K 0), .int (iI i), .int (iI what)]) (mI (isleS F i what) (MWx G K T) (AA K 12 sz)) 0 0 (AA K 12 sz) := by
  refine Met.ofW (cc := cX4_isle) (maxL := 3) (ret := (some .int)) (by decide) rfl ?_
  intro p e s m args below meth c s₁ B hml hv
  obtain ⟨rfl, hsz, hW, hB⟩ := hv
  subst hsz
  have hx := B.exec
  have hb := B.bytes
  have hr := B.returns
  have hts := atoms_spec (ws := (ws_ yX4_isle cX4_isle 3 (some .int))) B.pre
  have hts : ∀ w ∈ lw_all, w.before _ s = true := fun w h => hts w (List.mem_cons_of_mem _ h)
  have hown : s.vm.findClass RX4 = some m.cls := findClass_of_methodNamed B.named
  have hlocks := B.notSynchronized
  have hN := AA.old hI hB
  have hS : va_S (AA K 12 s.heap.size) s.heap s.heap [] := va_S.rf
  have hl := lv_entry ([.ref (K 0), .int (iI i), .int (iI what)]) (n := 3) (Nat.le_of_ble_eq_true rfl)
  rw [lg_entry_eq]
  generalize (lg_sl ([.ref (K 0), .int (iI i), .int (iI what)]) ++ List.replicate (3 - (lg_sl ([.ref (K 0), .int (iI i), .int (iI what)])).length) Slot.unset).toArray = ls at hl ⊢
  have hl : lv_has ls 3 [(0, .ref (K 0)), (1, .int (iI i)), (2, .int (iI what))] := hl
  subst eF
  have hn5 := hF.n
  have hrm := hF.rm
  have hday := hF.day
  refine lv_aload_n hx hb dX4_isle_0 rfl (lv_at hl 0 rfl) ?_
  refine lv_iload_n hx hb dX4_isle_1 rfl (lv_at hl 1 rfl) ?_
  refine cqI (va_runV (As := [.int (iI i)]) (rest := []) ⟨hx, hb, hml, hown, hts⟩ (mX4_isIsle Z K T (T 1) rfl hF i (by omega)) (cwV 1 hts (lw_V q1174 q1176 qs52 q83 q1177) rfl rfl rfl (by decide +kernel) ⟨Nat.le_of_ble_eq_true rfl, Nat.le_of_ble_eq_true rfl⟩) (pvR (BornH.S hB hN hS) (OBJ.recv Z hB hW.obj (q := (RX4, TX4, 29)) rfl) hW) rfl rfl hl.1 rfl (lv_room (Nat.le_of_ble_eq_true rfl)) dX4_isle_2 ⟨Nat.zero_le _, Nat.zero_le _⟩) ?_
  refine bb_if_ne (P := okI (T 1) i) (tgt := 10) hx hb dX4_isle_5 (by decide) (fun c_1 => ?_) (fun c_1 => ?_)
  · -- 5 -> 10
    refine lv_aload_n hx hb dX4_isle_10 rfl (lv_at hl 0 rfl) ?_
    refine cmV (va_runV (As := []) (rest := []) ⟨hx, hb, hml, hown, hts⟩ (mX4_starts Z K hI T (T 1) rfl s.heap.size) (cwV 0 hts (lw_V q1151 q1153 qs48 q83 q1154) rfl rfl rfl (by decide +kernel) ⟨Nat.le_of_ble_eq_true rfl, Nat.le_of_ble_eq_true rfl⟩) (pvM (BornH.S hB hN hS) (OBJ.recv Z hB hW.obj (q := (RX4, TX4, 29)) rfl) hW) rfl rfl hl.1 rfl (lv_room (Nat.le_of_ble_eq_true rfl)) dX4_isle_11 ⟨Nat.zero_le _, Nat.zero_le _⟩) hS (AA.le hS.1) (fun H1 locs hW1 hz1 hk1 hS => ?_)
    have hW := hW1
    clear hW1 hk1 hz1
    generalize H1 = H at hW hS ⊢
    refine lv_iload_n hx hb dX4_isle_14 rfl (lv_at hl 2 rfl) ?_
    by_cases c_2_0 : what = 0
    · --
      refine lv_tableIn (off := 37) (tgt := 52) hx hb dX4_isle_15 (by rw [iI_toInt (by omega)]; omega) (by rw [iI_toInt (by omega)]; omega) (by rw [iI_toInt (by omega), c_2_0]; rfl) (by decide) ?_
      refine lv_aload_n hx hb dX4_isle_52 rfl (lv_at hl 0 rfl) ?_
      refine r_get (ci := 4) (k := 1) (v := .ref (K 2)) (C := RX4) (T := TX4) (N := 29) Z hB hx hb hts hown rfl in_X4 hW.obj (by decide) q979 rfl dX4_isle_53 ?_
      refine ii_const hx hb dX4_isle_56 ?_
      refine lv_iload_n hx hb dX4_isle_57 rfl (lv_at hl 1 rfl) ?_
      refine ii_mul hx hb dX4_isle_58 ?_
      refine lv_iload_n hx hb dX4_isle_59 rfl (lv_at hl 2 rfl) ?_
      refine ii_add hx hb dX4_isle_60 ?_
      refine r_iald (k := ((2 * i.toNat) + what.toNat)) (f := (T 1)) Z hB hx hb hW.now (by omega) (by omega) (by omega) dX4_isle_61 ?_
      have hpw9 : (MWx G K T) H := (hW.x (fun a h0 h2 h6 h7 h11 => by first | rfl | simp only [up, if_neg h0, if_neg h2, if_neg h6, if_neg h7, if_neg h11]) (fun j h1 h2 h3 h4 h5 => by first | rfl | simp [up, h1, h2]))
      have he9 : ((T 1) ((2 * i.toNat) + what.toNat)) = (isleS (T 1) i what) := by unfold isleS fathF; (repeat' split) <;> first | rfl | omega | (exfalso; have mp := mdr_pos (s := sulkS (T 1) i.toNat (T 1 76).toNat) (hF.kd i.toNat (by omega)); omega) | (rw [(mdr_is (hF.kd i.toNat (by omega))).1]) | (rw [show what.toNat = 0 by omega]) | (rw [show what.toNat = 1 by omega])
      exact W.iret hx hb hr (fun t ht hW9 => ⟨⟨_, (), rfl, congrArg iI he9, by show (MWx G K T) t.heap; rw [ht]; exact hpw9⟩, hS.F ht⟩) hS.2.2 dX4_isle_62
    by_cases c_2_1 : what = 1
    · --
      refine lv_tableIn (off := 37) (tgt := 52) hx hb dX4_isle_15 (by rw [iI_toInt (by omega)]; omega) (by rw [iI_toInt (by omega)]; omega) (by rw [iI_toInt (by omega), c_2_1]; rfl) (by decide) ?_
      refine lv_aload_n hx hb dX4_isle_52 rfl (lv_at hl 0 rfl) ?_
      refine r_get (ci := 4) (k := 1) (v := .ref (K 2)) (C := RX4) (T := TX4) (N := 29) Z hB hx hb hts hown rfl in_X4 hW.obj (by decide) q979 rfl dX4_isle_53 ?_
      refine ii_const hx hb dX4_isle_56 ?_
      refine lv_iload_n hx hb dX4_isle_57 rfl (lv_at hl 1 rfl) ?_
      refine ii_mul hx hb dX4_isle_58 ?_
      refine lv_iload_n hx hb dX4_isle_59 rfl (lv_at hl 2 rfl) ?_
      refine ii_add hx hb dX4_isle_60 ?_
      refine r_iald (k := ((2 * i.toNat) + what.toNat)) (f := (T 1)) Z hB hx hb hW.now (by omega) (by omega) (by omega) dX4_isle_61 ?_
      have hpw9 : (MWx G K T) H := (hW.x (fun a h0 h2 h6 h7 h11 => by first | rfl | simp only [up, if_neg h0, if_neg h2, if_neg h6, if_neg h7, if_neg h11]) (fun j h1 h2 h3 h4 h5 => by first | rfl | simp [up, h1, h2]))
      have he9 : ((T 1) ((2 * i.toNat) + what.toNat)) = (isleS (T 1) i what) := by unfold isleS fathF; (repeat' split) <;> first | rfl | omega | (exfalso; have mp := mdr_pos (s := sulkS (T 1) i.toNat (T 1 76).toNat) (hF.kd i.toNat (by omega)); omega) | (rw [(mdr_is (hF.kd i.toNat (by omega))).1]) | (rw [show what.toNat = 0 by omega]) | (rw [show what.toNat = 1 by omega])
      exact W.iret hx hb hr (fun t ht hW9 => ⟨⟨_, (), rfl, congrArg iI he9, by show (MWx G K T) t.heap; rw [ht]; exact hpw9⟩, hS.F ht⟩) hS.2.2 dX4_isle_62
    by_cases c_2_2 : what = 2
    · --
      refine lv_tableIn (off := 48) (tgt := 63) hx hb dX4_isle_15 (by rw [iI_toInt (by omega)]; omega) (by rw [iI_toInt (by omega)]; omega) (by rw [iI_toInt (by omega), c_2_2]; rfl) (by decide) ?_
      refine lv_aload_n hx hb dX4_isle_63 rfl (lv_at hl 0 rfl) ?_
      refine lv_iload_n hx hb dX4_isle_64 rfl (lv_at hl 1 rfl) ?_
      refine cqI (va_runV (As := [.int (iI i)]) (rest := []) ⟨hx, hb, hml, hown, hts⟩ (mX4_ropesOf Z K (up T 2 (T 1)) (T 1) rfl hF i.toNat i (by omega) (by omega)) (cwV 1 hts (lw_V q1178 q1180 qs53 q83 q1181) rfl rfl rfl (by decide +kernel) ⟨Nat.le_of_ble_eq_true rfl, Nat.le_of_ble_eq_true rfl⟩) (pvR (BornH.S hB hN hS) (OBJ.recv Z hB hW.obj (q := (RX4, TX4, 29)) rfl) hW) rfl rfl hl.1 rfl (lv_room (Nat.le_of_ble_eq_true rfl)) dX4_isle_65 ⟨Nat.zero_le _, Nat.zero_le _⟩) ?_
      have b_738 := ropesS_in (T 1) i.toNat ((T 1) 53).toNat
      have hpw9 : (MWx G K T) H := (hW.x (fun a h0 h2 h6 h7 h11 => by first | rfl | simp only [up, if_neg h0, if_neg h2, if_neg h6, if_neg h7, if_neg h11]) (fun j h1 h2 h3 h4 h5 => by first | rfl | simp [up, h1, h2]))
      have he9 : (ropesS (T 1) i.toNat ((T 1) 53).toNat) = (isleS (T 1) i what) := by unfold isleS fathF; (repeat' split) <;> first | rfl | omega | (exfalso; have mp := mdr_pos (s := sulkS (T 1) i.toNat (T 1 76).toNat) (hF.kd i.toNat (by omega)); omega) | (rw [(mdr_is (hF.kd i.toNat (by omega))).1]) | (rw [show what.toNat = 0 by omega]) | (rw [show what.toNat = 1 by omega])
      exact W.iret hx hb hr (fun t ht hW9 => ⟨⟨_, (), rfl, congrArg iI he9, by show (MWx G K T) t.heap; rw [ht]; exact hpw9⟩, hS.F ht⟩) hS.2.2 dX4_isle_68
    by_cases c_2_3 : what = 3
    · --
      refine lv_tableIn (off := 54) (tgt := 69) hx hb dX4_isle_15 (by rw [iI_toInt (by omega)]; omega) (by rw [iI_toInt (by omega)]; omega) (by rw [iI_toInt (by omega), c_2_3]; rfl) (by decide) ?_
      refine lv_aload_n hx hb dX4_isle_69 rfl (lv_at hl 0 rfl) ?_
      refine lv_iload_n hx hb dX4_isle_70 rfl (lv_at hl 1 rfl) ?_
      have hn_3 : (T 1) 76 = (T 1) 76 := by first | rfl | omega
      refine cqI (va_runV (As := [.int (iI i)]) (rest := []) ⟨hx, hb, hml, hown, hts⟩ (mX4_driftOf Z K (up T 2 (T 1)) (T 1) rfl hF hn_3 i.toNat i (by omega) (by omega) hD) (cwV 1 hts (lw_V q1185 q1187 qs54 q83 q1188) rfl rfl rfl (by decide +kernel) ⟨Nat.le_of_ble_eq_true rfl, Nat.le_of_ble_eq_true rfl⟩) (pvR (BornH.S hB hN hS) (OBJ.recv Z hB hW.obj (q := (RX4, TX4, 29)) rfl) hW) rfl rfl hl.1 rfl (lv_room (Nat.le_of_ble_eq_true rfl)) dX4_isle_71 ⟨Nat.zero_le _, Nat.zero_le _⟩) ?_
      have b_739 := mdr_in (s := sulkS (T 1) i.toNat ((T 1) 76).toNat) (hF.kd i.toNat (by omega)) (by have q := sulkS_in hF i.toNat (by omega) ((T 1) 76).toNat (by have := hF.n; omega); have := hF.n; omega)
      refine cqI (va_runS (As := [.int (iI (mdr ((T 1) (2 * i.toNat + 0)) (sulkS (T 1) i.toNat ((T 1) 76).toNat)))]) (rest := []) ⟨hx, hb, hml, hown, hts⟩ (mX4_sizeOf Z (mdr ((T 1) (2 * i.toNat + 0)) (sulkS (T 1) i.toNat ((T 1) 76).toNat)) (by omega)) (va_cwS 1 hts (lw_S q1167 q1168 q83 q1169) rfl rfl rfl (by decide +kernel) ⟨Nat.le_of_ble_eq_true rfl, Nat.le_of_ble_eq_true rfl⟩) (psR (BornH.S hB hN hS) trivial) rfl rfl hl.1 rfl (lv_room (Nat.le_of_ble_eq_true rfl)) dX4_isle_74 ⟨Nat.zero_le _, Nat.zero_le _⟩) ?_
      have b_740 := az_in (mdr ((T 1) (2 * i.toNat + 0)) (sulkS (T 1) i.toNat ((T 1) 76).toNat))
      have hpw9 : (MWx G K T) H := (hW.x (fun a h0 h2 h6 h7 h11 => by first | rfl | simp only [up, if_neg h0, if_neg h2, if_neg h6, if_neg h7, if_neg h11]) (fun j h1 h2 h3 h4 h5 => by first | rfl | simp [up, h1, h2]))
      have he9 : (az (mdr ((T 1) (2 * i.toNat + 0)) (sulkS (T 1) i.toNat ((T 1) 76).toNat))) = (isleS (T 1) i what) := by unfold isleS fathF; (repeat' split) <;> first | rfl | omega | (exfalso; have mp := mdr_pos (s := sulkS (T 1) i.toNat (T 1 76).toNat) (hF.kd i.toNat (by omega)); omega) | (rw [(mdr_is (hF.kd i.toNat (by omega))).1]) | (rw [show what.toNat = 0 by omega]) | (rw [show what.toNat = 1 by omega])
      exact W.iret hx hb hr (fun t ht hW9 => ⟨⟨_, (), rfl, congrArg iI he9, by show (MWx G K T) t.heap; rw [ht]; exact hpw9⟩, hS.F ht⟩) hS.2.2 dX4_isle_77
    by_cases c_2_4 : what = 4
    · --
      refine lv_tableIn (off := 63) (tgt := 78) hx hb dX4_isle_15 (by rw [iI_toInt (by omega)]; omega) (by rw [iI_toInt (by omega)]; omega) (by rw [iI_toInt (by omega), c_2_4]; rfl) (by decide) ?_
      refine lv_aload_n hx hb dX4_isle_78 rfl (lv_at hl 0 rfl) ?_
      refine lv_iload_n hx hb dX4_isle_79 rfl (lv_at hl 1 rfl) ?_
      have hn_4 : (T 1) 76 = (T 1) 76 := by first | rfl | omega
      refine cqI (va_runV (As := [.int (iI i)]) (rest := []) ⟨hx, hb, hml, hown, hts⟩ (mX4_driftOf Z K (up T 2 (T 1)) (T 1) rfl hF hn_4 i.toNat i (by omega) (by omega) hD) (cwV 1 hts (lw_V q1185 q1187 qs54 q83 q1188) rfl rfl rfl (by decide +kernel) ⟨Nat.le_of_ble_eq_true rfl, Nat.le_of_ble_eq_true rfl⟩) (pvR (BornH.S hB hN hS) (OBJ.recv Z hB hW.obj (q := (RX4, TX4, 29)) rfl) hW) rfl rfl hl.1 rfl (lv_room (Nat.le_of_ble_eq_true rfl)) dX4_isle_80 ⟨Nat.zero_le _, Nat.zero_le _⟩) ?_
      have b_741 := mdr_in (s := sulkS (T 1) i.toNat ((T 1) 76).toNat) (hF.kd i.toNat (by omega)) (by have q := sulkS_in hF i.toNat (by omega) ((T 1) 76).toNat (by have := hF.n; omega); have := hF.n; omega)
      refine ii_if_le (tgt := 90) hx hb dX4_isle_83 (by decide) (by omega) (fun c_5 => ?_) (fun c_5 => ?_)
      · -- 83 -> 90
        refine ii_const hx hb dX4_isle_90 ?_
        refine cqI (va_runS (As := [.int (iI 0)]) (rest := []) ⟨hx, hb, hml, hown, hts⟩ (mX4_flag Z 0 (by omega)) (va_cwS 1 hts (lw_S q1182 q1183 q83 q1184) rfl rfl rfl (by decide +kernel) ⟨Nat.le_of_ble_eq_true rfl, Nat.le_of_ble_eq_true rfl⟩) (psR (BornH.S hB hN hS) trivial) rfl rfl hl.1 rfl (lv_room (Nat.le_of_ble_eq_true rfl)) dX4_isle_91 ⟨Nat.zero_le _, Nat.zero_le _⟩) ?_
        have hpw9 : (MWx G K T) H := (hW.x (fun a h0 h2 h6 h7 h11 => by first | rfl | simp only [up, if_neg h0, if_neg h2, if_neg h6, if_neg h7, if_neg h11]) (fun j h1 h2 h3 h4 h5 => by first | rfl | simp [up, h1, h2]))
        have he9 : 0 = (isleS (T 1) i what) := by unfold isleS fathF; (repeat' split) <;> first | rfl | omega | (exfalso; have mp := mdr_pos (s := sulkS (T 1) i.toNat (T 1 76).toNat) (hF.kd i.toNat (by omega)); omega) | (rw [(mdr_is (hF.kd i.toNat (by omega))).1]) | (rw [show what.toNat = 0 by omega]) | (rw [show what.toNat = 1 by omega])
        exact W.iret hx hb hr (fun t ht hW9 => ⟨⟨_, (), rfl, congrArg iI he9, by show (MWx G K T) t.heap; rw [ht]; exact hpw9⟩, hS.F ht⟩) hS.2.2 dX4_isle_94
      · -- 83 -> 86
        refine ii_const hx hb dX4_isle_86 ?_
        refine lv_goto (tgt := 91) hx hb dX4_isle_87 (by decide) ?_
        refine cqI (va_runS (As := [.int (iI 1)]) (rest := []) ⟨hx, hb, hml, hown, hts⟩ (mX4_flag Z 1 (by omega)) (va_cwS 1 hts (lw_S q1182 q1183 q83 q1184) rfl rfl rfl (by decide +kernel) ⟨Nat.le_of_ble_eq_true rfl, Nat.le_of_ble_eq_true rfl⟩) (psR (BornH.S hB hN hS) trivial) rfl rfl hl.1 rfl (lv_room (Nat.le_of_ble_eq_true rfl)) dX4_isle_91 ⟨Nat.zero_le _, Nat.zero_le _⟩) ?_
        have hpw9 : (MWx G K T) H := (hW.x (fun a h0 h2 h6 h7 h11 => by first | rfl | simp only [up, if_neg h0, if_neg h2, if_neg h6, if_neg h7, if_neg h11]) (fun j h1 h2 h3 h4 h5 => by first | rfl | simp [up, h1, h2]))
        have he9 : 1 = (isleS (T 1) i what) := by unfold isleS fathF; (repeat' split) <;> first | rfl | omega | (exfalso; have mp := mdr_pos (s := sulkS (T 1) i.toNat (T 1 76).toNat) (hF.kd i.toNat (by omega)); omega) | (rw [(mdr_is (hF.kd i.toNat (by omega))).1]) | (rw [show what.toNat = 0 by omega]) | (rw [show what.toNat = 1 by omega])
        exact W.iret hx hb hr (fun t ht hW9 => ⟨⟨_, (), rfl, congrArg iI he9, by show (MWx G K T) t.heap; rw [ht]; exact hpw9⟩, hS.F ht⟩) hS.2.2 dX4_isle_94
    by_cases c_2_5 : what = 5
    · --
      refine lv_tableIn (off := 80) (tgt := 95) hx hb dX4_isle_15 (by rw [iI_toInt (by omega)]; omega) (by rw [iI_toInt (by omega)]; omega) (by rw [iI_toInt (by omega), c_2_5]; rfl) (by decide) ?_
      refine lv_aload_n hx hb dX4_isle_95 rfl (lv_at hl 0 rfl) ?_
      refine lv_iload_n hx hb dX4_isle_96 rfl (lv_at hl 1 rfl) ?_
      have hn_6 : (T 1) 76 = (T 1) 76 := by first | rfl | omega
      refine cqI (va_runV (As := [.int (iI i)]) (rest := []) ⟨hx, hb, hml, hown, hts⟩ (mX4_nearest Z K (up T 2 (T 1)) (T 1) rfl hF hn_6 i.toNat i (by omega) (by omega)) (cwV 1 hts (lw_V q1193 q1195 qs56 q83 q1196) rfl rfl rfl (by decide +kernel) ⟨Nat.le_of_ble_eq_true rfl, Nat.le_of_ble_eq_true rfl⟩) (pvR (BornH.S hB hN hS) (OBJ.recv Z hB hW.obj (q := (RX4, TX4, 29)) rfl) hW) rfl rfl hl.1 rfl (lv_room (Nat.le_of_ble_eq_true rfl)) dX4_isle_97 ⟨Nat.zero_le _, Nat.zero_le _⟩) ?_
      have b_742 := nearS_in (T 1) i.toNat ((T 1) 76).toNat
      have hpw9 : (MWx G K T) H := (hW.x (fun a h0 h2 h6 h7 h11 => by first | rfl | simp only [up, if_neg h0, if_neg h2, if_neg h6, if_neg h7, if_neg h11]) (fun j h1 h2 h3 h4 h5 => by first | rfl | simp [up, h1, h2]))
      have he9 : (nearS (T 1) i.toNat ((T 1) 76).toNat) = (isleS (T 1) i what) := by unfold isleS fathF; (repeat' split) <;> first | rfl | omega | (exfalso; have mp := mdr_pos (s := sulkS (T 1) i.toNat (T 1 76).toNat) (hF.kd i.toNat (by omega)); omega) | (rw [(mdr_is (hF.kd i.toNat (by omega))).1]) | (rw [show what.toNat = 0 by omega]) | (rw [show what.toNat = 1 by omega])
      exact W.iret hx hb hr (fun t ht hW9 => ⟨⟨_, (), rfl, congrArg iI he9, by show (MWx G K T) t.heap; rw [ht]; exact hpw9⟩, hS.F ht⟩) hS.2.2 dX4_isle_100
    refine lv_tableOut (tgt := 101) hx hb dX4_isle_15 (by rw [iI_toInt (by omega)]; omega) (by decide) ?_
    refine ii_const hx hb dX4_isle_101 ?_
    have hpw9 : (MWx G K T) H := (hW.x (fun a h0 h2 h6 h7 h11 => by first | rfl | simp only [up, if_neg h0, if_neg h2, if_neg h6, if_neg h7, if_neg h11]) (fun j h1 h2 h3 h4 h5 => by first | rfl | simp [up, h1, h2]))
    have he9 : (-1) = (isleS (T 1) i what) := by unfold isleS fathF; (repeat' split) <;> first | rfl | omega | (exfalso; have mp := mdr_pos (s := sulkS (T 1) i.toNat (T 1 76).toNat) (hF.kd i.toNat (by omega)); omega) | (rw [(mdr_is (hF.kd i.toNat (by omega))).1]) | (rw [show what.toNat = 0 by omega]) | (rw [show what.toNat = 1 by omega])
    exact W.iret hx hb hr (fun t ht hW9 => ⟨⟨_, (), rfl, congrArg iI he9, by show (MWx G K T) t.heap; rw [ht]; exact hpw9⟩, hS.F ht⟩) hS.2.2 dX4_isle_102
  · -- 5 -> 8
    refine ii_const hx hb dX4_isle_8 ?_
    have hpw9 : (MWx G K T) s.heap := ⟨T, ⟨fun _ _ _ _ _ _ => rfl, fun _ _ _ _ _ _ => rfl⟩, hW⟩
    have he9 : (-1) = (isleS (T 1) i what) := by unfold isleS fathF; (repeat' split) <;> first | rfl | omega | (exfalso; have mp := mdr_pos (s := sulkS (T 1) i.toNat (T 1 76).toNat) (hF.kd i.toNat (by omega)); omega) | (rw [(mdr_is (hF.kd i.toNat (by omega))).1]) | (rw [show what.toNat = 0 by omega]) | (rw [show what.toNat = 1 by omega])
    exact W.iret hx hb hr (fun t ht hW9 => ⟨⟨_, (), rfl, congrArg iI he9, by show (MWx G K T) t.heap; rw [ht]; exact hpw9⟩, hS.F ht⟩) hS.2.2 dX4_isle_9

set_option maxHeartbeats 1000000 in
set_option maxRecDepth 100000 in
theorem mX4_within {l : Launch} {G : GG} {s0 : State} {b0 : Nat} (Z : ZZ l G s0 b0) (K : Nat → Nat) (hI : Own s0 K 12) (T : Sta) (F : Nat → Int) (eF : T 1 = F) (hF : WF F) (hD : Dia F) (hd : F 54 ≤ 2000) (v : Int) (hv : inR v) (sz : Nat) : Met l yX4_within (ws_ yX4_within cX4_within 3 (some .int)) ({ frames := 5, cells := 0, slots := 0, locals := 119 } : Room) (pcM s0 sz (MW G K T) [.ref (K 0), .int (iI v)]) (mI (withinA F v) (MWx G K T) (AA K 12 sz)) 0 0 (AA K 12 sz) := by
  refine Met.ofW (cc := cX4_within) (maxL := 3) (ret := (some .int)) (by decide) rfl ?_
  intro p e s m args below meth c s₁ B hml hv
  obtain ⟨rfl, hsz, hW, hB⟩ := hv
  subst hsz
  have hx := B.exec
  have hb := B.bytes
  have hr := B.returns
  have hts := atoms_spec (ws := (ws_ yX4_within cX4_within 3 (some .int))) B.pre
  have hts : ∀ w ∈ lw_all, w.before _ s = true := fun w h => hts w (List.mem_cons_of_mem _ h)
  have hown : s.vm.findClass RX4 = some m.cls := findClass_of_methodNamed B.named
  have hlocks := B.notSynchronized
  have hN := AA.old hI hB
  have hS : va_S (AA K 12 s.heap.size) s.heap s.heap [] := va_S.rf
  have hl := lv_entry ([.ref (K 0), .int (iI v)]) (n := 3) (Nat.le_of_ble_eq_true rfl)
  rw [lg_entry_eq]
  generalize (lg_sl ([.ref (K 0), .int (iI v)]) ++ List.replicate (3 - (lg_sl ([.ref (K 0), .int (iI v)])).length) Slot.unset).toArray = ls at hl ⊢
  have hl : lv_has ls 3 [(0, .ref (K 0)), (1, .int (iI v))] := hl
  subst eF
  have hn5 := hF.n
  have hrm := hF.rm
  have hday := hF.day
  refine lv_iload_n hx hb dX4_within_0 rfl (lv_at hl 1 rfl) ?_
  refine cqI (va_runS (As := [.int (iI v)]) (rest := []) ⟨hx, hb, hml, hown, hts⟩ (mX4_isFathom Z v (by omega)) (va_cwS 1 hts (lw_S q1223 q1224 q83 q1225) rfl rfl rfl (by decide +kernel) ⟨Nat.le_of_ble_eq_true rfl, Nat.le_of_ble_eq_true rfl⟩) (psR (BornH.S hB hN hS) trivial) rfl rfl hl.1 rfl (lv_room (Nat.le_of_ble_eq_true rfl)) dX4_within_1 ⟨Nat.zero_le _, Nat.zero_le _⟩) ?_
  refine bb_if_ne (P := 0 ≤ v ∧ v ≤ 99) (tgt := 9) hx hb dX4_within_4 (by decide) (fun c_1 => ?_) (fun c_1 => ?_)
  · -- 4 -> 9
    refine lv_aload_n hx hb dX4_within_9 rfl (lv_at hl 0 rfl) ?_
    refine cmV (va_runV (As := []) (rest := []) ⟨hx, hb, hml, hown, hts⟩ (mX4_starts Z K hI T (T 1) rfl s.heap.size) (cwV 0 hts (lw_V q1151 q1153 qs48 q83 q1154) rfl rfl rfl (by decide +kernel) ⟨Nat.le_of_ble_eq_true rfl, Nat.le_of_ble_eq_true rfl⟩) (pvM (BornH.S hB hN hS) (OBJ.recv Z hB hW.obj (q := (RX4, TX4, 29)) rfl) hW) rfl rfl hl.1 rfl (lv_room (Nat.le_of_ble_eq_true rfl)) dX4_within_10 ⟨Nat.zero_le _, Nat.zero_le _⟩) hS (AA.le hS.1) (fun H1 locs hW1 hz1 hk1 hS => ?_)
    have hW := hW1
    clear hW1 hk1 hz1
    generalize H1 = H at hW hS ⊢
    refine ii_const hx hb dX4_within_13 ?_
    refine lv_istore_n (lv' := [(2, .int (iI 0)), (0, .ref (K 0)), (1, .int (iI v))]) hx hb dX4_within_14 rfl hl (by decide) rfl (fun ls hl => ?_)
    have loop_15 : ∀ (fu : Nat) (t : Nat) (zt : Int), (zt = (t : Int)) → (t ≤ 61) → (wiS (T 1) v 61 0 = wiS (T 1) v (61 - t) t) → (62 - t) < fu → ∀ (H : Heap) (locs : List Loc), (MW G K (up T 2 (daysS (T 1) t))) H → va_S (AA K 12 s.heap.size) s.heap H locs → ∀ (ls : Array Slot), lv_has ls 3 [(2, .int (iI zt)), (0, .ref (K 0)), (1, .int (iI v))] → W p l e (headSpec (ws_ yX4_within cX4_within 3 (some .int)) ({ frames := 5, cells := 0, slots := 0, locals := 119 } : Room)).room s m ([.ref (K 0), .int (iI v)] : List Value).toArray below meth c H locs 0 0 (MQ below (mI (withinA (T 1) v) (MWx G K T) (AA K 12 s.heap.size)) ([.ref (K 0), .int (iI v)] : List Value).toArray s 0 0 (AA K 12 s.heap.size)) (F0 m 15 ls []) := by
      intro fu
      induction fu with
      | zero => intro t zt ezt ht hw hmu; exact absurd hmu (Nat.not_lt_zero _)
      | succ fu ih15 =>
        intro t zt ezt ht hw hmu H locs hW hS ls hl
        have hwd := daysS_wf hF t (by omega)
        have hDd := Dia.days hF hD t (by omega)
        have h76 : daysS (T 1) t 76 = T 1 76 := daysS_same hF (by omega) (by omega) (by omega) t (by omega)
        refine lv_iload_n hx hb dX4_within_15 rfl (lv_at hl 0 rfl) ?_
        refine ii_bipush hx hb dX4_within_16 (by decide) ?_
        refine ii_icmp_gt (tgt := 42) hx hb dX4_within_18 (by decide) (by omega) (by omega) (fun c_2 => ?_) (fun c_2 => ?_)
        · -- 18 -> 42
          refine ii_bipush hx hb dX4_within_42 (by decide) ?_
          have hpw9 : (MWx G K T) H := (hW.x (fun a h0 h2 h6 h7 h11 => by first | rfl | simp only [up, if_neg h0, if_neg h2, if_neg h6, if_neg h7, if_neg h11]) (fun j h1 h2 h3 h4 h5 => by first | rfl | simp [up, h1, h2]))
          have he9 : (-4) = (withinA (T 1) v) := by unfold withinA; rw [if_neg (by omega), hw, show t = 61 by omega]; rfl
          exact W.iret hx hb hr (fun t ht hW9 => ⟨⟨_, (), rfl, congrArg iI he9, by show (MWx G K T) t.heap; rw [ht]; exact hpw9⟩, hS.F ht⟩) hS.2.2 dX4_within_44
        · -- 18 -> 21
          refine lv_aload_n hx hb dX4_within_21 rfl (lv_at hl 1 rfl) ?_
          have hn_3 : (T 1) 76 = (daysS (T 1) t) 76 := by first | rfl | omega
          refine cqI (va_runV (As := []) (rest := []) ⟨hx, hb, hml, hown, hts⟩ (mX4_spread Z K (up T 2 (daysS (T 1) t)) (daysS (T 1) t) rfl hwd hn_3 ) (cwV 0 hts (lw_V q1155 q1157 qs49 q83 q1158) rfl rfl rfl (by decide +kernel) ⟨Nat.le_of_ble_eq_true rfl, Nat.le_of_ble_eq_true rfl⟩) (pvR (BornH.S hB hN hS) (OBJ.recv Z hB hW.obj (q := (RX4, TX4, 29)) rfl) hW) rfl rfl hl.1 rfl (lv_room (Nat.le_of_ble_eq_true rfl)) dX4_within_22 ⟨Nat.zero_le _, Nat.zero_le _⟩) ?_
          have b_743 := spS_in hwd
          refine lv_iload_n hx hb dX4_within_25 rfl (lv_at hl 2 rfl) ?_
          refine ii_icmp_gt (tgt := 31) hx hb dX4_within_26 (by decide) (by omega) (by omega) (fun c_4 => ?_) (fun c_4 => ?_)
          · -- 26 -> 31
            refine lv_aload_n hx hb dX4_within_31 rfl (lv_at hl 1 rfl) ?_
            refine ii_const hx hb dX4_within_32 ?_
            have hn_5 : (T 1) 76 = (daysS (T 1) t) 76 := by first | rfl | omega
            refine cmV (va_runV (As := [.int (iI 0)]) (rest := []) ⟨hx, hb, hml, hown, hts⟩ (mX4_dayGoes Z K hI (up T 2 (daysS (T 1) t)) (daysS (T 1) t) rfl hwd hn_5 0 (by omega) hDd H.size) (cwV 1 hts (lw_V q1273 q1275 qs64 q83 q1276) rfl rfl rfl (by decide +kernel) ⟨Nat.le_of_ble_eq_true rfl, Nat.le_of_ble_eq_true rfl⟩) (pvM (BornH.S hB hN hS) (OBJ.recv Z hB hW.obj (q := (RX4, TX4, 29)) rfl) hW) rfl rfl hl.1 rfl (lv_room (Nat.le_of_ble_eq_true rfl)) dX4_within_33 ⟨Nat.zero_le _, Nat.zero_le _⟩) hS (AA.le hS.1) (fun H1 locs hW1 hz1 hk1 hS => ?_)
            have hW := hW1
            clear hW1 hk1 hz1
            generalize H1 = H at hW hS ⊢
            have hW := hW.eqS (S' := (up T 2 (dayS (daysS (T 1) t)))) (by
                funext a
                by_cases h2 : a = 2
                · subst h2; rfl
                simp only [up, if_neg h2])
            refine ii_iinc (k := 0) (lv' := [(2, .int (iI (zt + 1))), (0, .ref (K 0)), (1, .int (iI v))]) hx hb dX4_within_36 hl rfl (by decide) rfl (fun ls hl => ?_)
            refine lv_goto (tgt := 15) hx hb dX4_within_39 (by decide) ?_
            exact ih15 (t + 1) (zt + 1) (by omega) (by omega) (wiS_n (by omega) hw (Int.not_le.mpr (by assumption))) (by omega) _ _ hW hS ls (lv_sub hl [0, 1, 2] rfl)
          · -- 26 -> 29
            refine lv_iload_n hx hb dX4_within_29 rfl (lv_at hl 0 rfl) ?_
            have hpw9 : (MWx G K T) H := (hW.x (fun a h0 h2 h6 h7 h11 => by first | rfl | simp only [up, if_neg h0, if_neg h2, if_neg h6, if_neg h7, if_neg h11]) (fun j h1 h2 h3 h4 h5 => by first | rfl | simp [up, h1, h2]))
            have he9 : zt = (withinA (T 1) v) := by unfold withinA; rw [if_neg (by omega), wiS_y (by omega) hw (by assumption)]; exact ezt
            exact W.iret hx hb hr (fun t ht hW9 => ⟨⟨_, (), rfl, congrArg iI he9, by show (MWx G K T) t.heap; rw [ht]; exact hpw9⟩, hS.F ht⟩) hS.2.2 dX4_within_30
    exact loop_15 _ 0 0 (by omega) (by omega) (rfl) (Nat.lt_succ_self _) _ _ hW hS ls (lv_sub hl [0, 1, 2] rfl)
  · -- 4 -> 7
    refine ii_const hx hb dX4_within_7 ?_
    have hpw9 : (MWx G K T) s.heap := ⟨T, ⟨fun _ _ _ _ _ _ => rfl, fun _ _ _ _ _ _ => rfl⟩, hW⟩
    have he9 : (-1) = (withinA (T 1) v) := by unfold withinA; exact (if_pos (by omega)).symm
    exact W.iret hx hb hr (fun t ht hW9 => ⟨⟨_, (), rfl, congrArg iI he9, by show (MWx G K T) t.heap; rw [ht]; exact hpw9⟩, hS.F ht⟩) hS.2.2 dX4_within_8
