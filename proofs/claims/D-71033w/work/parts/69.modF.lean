/-! MODEL: wed, days, runs (written by gen/mod5.py) -/
set_option maxRecDepth 100000
set_option maxHeartbeats 1000000 in
set_option maxRecDepth 100000 in
theorem mX4_wed {l : Launch} {G : GG} {s0 : State} {b0 : Nat} (Z : ZZ l G s0 b0) (K : Nat → Nat) (hI : Own s0 K 12) (T : Sta) (F : Nat → Int) (eF : T 1 = F) (hF : WF F) (i : Int) (hi : inR i) (j : Int) (hj : inR j) (n : Int) (hn : inR n) (sz : Nat) : Met l yX4_wed (ws_ yX4_wed cX4_wed 4 (some .int)) ({ frames := 3, cells := 0, slots := 0, locals := 68 } : Room) (pcM s0 sz (MW G K T) [.ref (K 0), .int (iI i), .int (iI j), .int (iI n)]) (mI (wedA F i j n) (MWx G K (up T 1 (wedF F i j n))) (AA K 12 sz)) 0 0 (AA K 12 sz) := by
  refine Met.ofW (cc := cX4_wed) (maxL := 4) (ret := (some .int)) (by decide) rfl ?_
  intro p e s m args below meth c s₁ B hml hv
  obtain ⟨rfl, hsz, hW, hB⟩ := hv
  subst hsz
  have hx := B.exec
  have hb := B.bytes
  have hr := B.returns
  have hts := atoms_spec (ws := (ws_ yX4_wed cX4_wed 4 (some .int))) B.pre
  have hts : ∀ w ∈ lw_all, w.before _ s = true := fun w h => hts w (List.mem_cons_of_mem _ h)
  have hown : s.vm.findClass RX4 = some m.cls := findClass_of_methodNamed B.named
  have hlocks := B.notSynchronized
  have hN := AA.old hI hB
  have hS : va_S (AA K 12 s.heap.size) s.heap s.heap [] := va_S.rf
  have hl := lv_entry ([.ref (K 0), .int (iI i), .int (iI j), .int (iI n)]) (n := 4) (Nat.le_of_ble_eq_true rfl)
  rw [lg_entry_eq]
  generalize (lg_sl ([.ref (K 0), .int (iI i), .int (iI j), .int (iI n)]) ++ List.replicate (4 - (lg_sl ([.ref (K 0), .int (iI i), .int (iI j), .int (iI n)])).length) Slot.unset).toArray = ls at hl ⊢
  have hl : lv_has ls 4 [(0, .ref (K 0)), (1, .int (iI i)), (2, .int (iI j)), (3, .int (iI n))] := hl
  subst eF
  have hn5 := hF.n
  have hrm := hF.rm
  have hday := hF.day
  refine lv_aload_n hx hb dX4_wed_0 rfl (lv_at hl 0 rfl) ?_
  refine lv_iload_n hx hb dX4_wed_1 rfl (lv_at hl 1 rfl) ?_
  refine lv_iload_n hx hb dX4_wed_2 rfl (lv_at hl 2 rfl) ?_
  refine cqI (va_runV (As := [.int (iI i), .int (iI j)]) (rest := []) ⟨hx, hb, hml, hown, hts⟩ (mX4_areTwo Z K T (T 1) rfl hF i (by omega) j (by omega)) (cwV 2 hts (lw_V q1201 q1203 qs57 q83 q1204) rfl rfl rfl (by decide +kernel) ⟨Nat.le_of_ble_eq_true rfl, Nat.le_of_ble_eq_true rfl⟩) (pvR (BornH.S hB hN hS) (OBJ.recv Z hB hW.obj (q := (RX4, TX4, 29)) rfl) hW) rfl rfl hl.1 rfl (lv_room (Nat.le_of_ble_eq_true rfl)) dX4_wed_3 ⟨Nat.zero_le _, Nat.zero_le _⟩) ?_
  refine bb_if_eq (P := ok2 (T 1) i j) (tgt := 21) hx hb dX4_wed_6 (by decide) (fun c_1 => ?_) (fun c_1 => ?_)
  · -- 6 -> 21
    refine ii_const hx hb dX4_wed_21 ?_
    have hpw9 : (MWx G K (up T 1 (wedF (T 1) i j n))) s.heap := (by rw [show wedF (T 1) i j n = (T 1) by unfold wedF; (repeat' split) <;> first | rfl | omega, show up T 1 (T 1) = T from up_id T 1]; exact ⟨T, ⟨fun _ _ _ _ _ _ => rfl, fun _ _ _ _ _ _ => rfl⟩, hW⟩)
    have he9 : (-1) = (wedA (T 1) i j n) := by unfold wedA; (repeat' split) <;> first | rfl | omega
    exact W.iret hx hb hr (fun t ht hW9 => ⟨⟨_, (), rfl, congrArg iI he9, by show (MWx G K (up T 1 (wedF (T 1) i j n))) t.heap; rw [ht]; exact hpw9⟩, hS.F ht⟩) hS.2.2 dX4_wed_22
  · -- 6 -> 9
    refine lv_iload_n hx hb dX4_wed_9 rfl (lv_at hl 3 rfl) ?_
    refine ii_i2l hx hb (by omega) dX4_wed_10 ?_
    refine ii_lconst (z := 1) hx hb dX4_wed_11 rfl ?_
    refine ii_ldc2 (z := 30) hx hb hts hown q1243 dX4_wed_12 (by decide) ?_
    refine cqI (va_runS (As := [.long (lI n), .long (lI 1), .long (lI 30)]) (rest := []) ⟨hx, hb, hml, hown, hts⟩ (mX4_in Z n (by omega) 1 (by omega) 30 (by omega)) (va_cwS 3 hts (lw_S q1072 q1073 q83 q1074) rfl rfl rfl (by decide +kernel) ⟨Nat.le_of_ble_eq_true rfl, Nat.le_of_ble_eq_true rfl⟩) (psR (BornH.S hB hN hS) trivial) rfl rfl hl.1 rfl (lv_room (Nat.le_of_ble_eq_true rfl)) dX4_wed_15 ⟨Nat.zero_le _, Nat.zero_le _⟩) ?_
    refine bb_if_ne (P := 1 ≤ n ∧ n ≤ 30) (tgt := 23) hx hb dX4_wed_18 (by decide) (fun c_2 => ?_) (fun c_2 => ?_)
    · -- 18 -> 23
      refine lv_aload_n hx hb dX4_wed_23 rfl (lv_at hl 0 rfl) ?_
      refine r_get (ci := 4) (k := 0) (v := .ref (K 1)) (C := RX4) (T := TX4) (N := 29) Z hB hx hb hts hown rfl in_X4 hW.obj (by decide) q978 rfl dX4_wed_24 ?_
      refine ii_bipush hx hb dX4_wed_27 (by decide) ?_
      have b_744 := hF.rm
      refine r_iald (k := 53) (f := (stF T)) Z hB hx hb hW.st (by omega) (by omega) (by omega) dX4_wed_29 ?_
      rw [show stF T 53 = (T 1) 53 from stF_lo _ (by omega)]
      refine ii_bipush hx hb dX4_wed_30 (by decide) ?_
      refine ii_icmp_ne (tgt := 38) hx hb dX4_wed_32 (by decide) (by omega) (by omega) (fun c_3 => ?_) (fun c_3 => ?_)
      · -- 32 -> 38
        refine lv_aload_n hx hb dX4_wed_38 rfl (lv_at hl 0 rfl) ?_
        refine cmV (va_runV (As := []) (rest := []) ⟨hx, hb, hml, hown, hts⟩ (mX4_starts Z K hI T (T 1) rfl s.heap.size) (cwV 0 hts (lw_V q1151 q1153 qs48 q83 q1154) rfl rfl rfl (by decide +kernel) ⟨Nat.le_of_ble_eq_true rfl, Nat.le_of_ble_eq_true rfl⟩) (pvM (BornH.S hB hN hS) (OBJ.recv Z hB hW.obj (q := (RX4, TX4, 29)) rfl) hW) rfl rfl hl.1 rfl (lv_room (Nat.le_of_ble_eq_true rfl)) dX4_wed_39 ⟨Nat.zero_le _, Nat.zero_le _⟩) hS (AA.le hS.1) (fun H1 locs hW1 hz1 hk1 hS => ?_)
        have hW := hW1
        clear hW1 hk1 hz1
        generalize H1 = H at hW hS ⊢
        refine lv_aload_n hx hb dX4_wed_42 rfl (lv_at hl 0 rfl) ?_
        refine lv_iload_n hx hb dX4_wed_43 rfl (lv_at hl 1 rfl) ?_
        refine lv_iload_n hx hb dX4_wed_44 rfl (lv_at hl 2 rfl) ?_
        refine lv_iload_n hx hb dX4_wed_45 rfl (lv_at hl 3 rfl) ?_
        refine cmV (va_runV (As := [.int (iI i), .int (iI j), .int (iI n)]) (rest := []) ⟨hx, hb, hml, hown, hts⟩ (mX4_ties Z K hI (up T 2 (T 1)) (T 1) rfl hF i j n (by omega) H.size) (cwV 3 hts (lw_V q1248 q1250 qs61 q83 q1251) rfl rfl rfl (by decide +kernel) ⟨Nat.le_of_ble_eq_true rfl, Nat.le_of_ble_eq_true rfl⟩) (pvM (BornH.S hB hN hS) (OBJ.recv Z hB hW.obj (q := (RX4, TX4, 29)) rfl) hW) rfl rfl hl.1 rfl (lv_room (Nat.le_of_ble_eq_true rfl)) dX4_wed_46 ⟨Nat.zero_le _, Nat.zero_le _⟩) hS (AA.le hS.1) (fun H1 locs hW1 hz1 hk1 hS => ?_)
        have hW := hW1
        clear hW1 hk1 hz1
        generalize H1 = H at hW hS ⊢
        have hW := hW.eqS (S' := (up T 2 (wedS (T 1) i j n))) (by
            funext a
            by_cases h2 : a = 2
            · subst h2; rfl
            simp only [up, if_neg h2])
        refine lv_aload_n hx hb dX4_wed_49 rfl (lv_at hl 0 rfl) ?_
        have hw76 : (wedS (T 1) i j n) 76 = T 1 76 := wedS_same hF (by omega) _ _ _ (by omega) (by omega)
        have hn_4 : (T 1) 76 = (wedS (T 1) i j n) 76 := by first | rfl | omega
        refine cmV (va_runV (As := []) (rest := []) ⟨hx, hb, hml, hown, hts⟩ (mX4_settles Z K hI (up T 2 (wedS (T 1) i j n)) (wedS (T 1) i j n) rfl hn_4 H.size) (cwV 0 hts (lw_V q1252 q1254 qs62 q83 q1255) rfl rfl rfl (by decide +kernel) ⟨Nat.le_of_ble_eq_true rfl, Nat.le_of_ble_eq_true rfl⟩) (pvM (BornH.S hB hN hS) (OBJ.recv Z hB hW.obj (q := (RX4, TX4, 29)) rfl) hW) rfl rfl hl.1 rfl (lv_room (Nat.le_of_ble_eq_true rfl)) dX4_wed_50 ⟨Nat.zero_le _, Nat.zero_le _⟩) hS (AA.le hS.1) (fun H1 locs hW1 hz1 hk1 hS => ?_)
        have hW := hW1
        clear hW1 hk1 hz1
        generalize H1 = H at hW hS ⊢
        have hW := hW.eqS (S' := (up (up T 1 (wedS (T 1) i j n)) 2 (wedS (T 1) i j n))) (by
            funext a
            by_cases h1 : a = 1
            · subst h1; rfl
            by_cases h2 : a = 2
            · subst h2; rfl
            simp only [up, if_neg h1, if_neg h2])
        refine lv_aload_n hx hb dX4_wed_53 rfl (lv_at hl 0 rfl) ?_
        refine r_get (ci := 4) (k := 0) (v := .ref (K 1)) (C := RX4) (T := TX4) (N := 29) Z hB hx hb hts hown rfl in_X4 hW.obj (by decide) q978 rfl dX4_wed_54 ?_
        refine ii_bipush hx hb dX4_wed_57 (by decide) ?_
        refine r_iald (k := 53) (f := (stF (up (up T 1 (wedS (T 1) i j n)) 2 (wedS (T 1) i j n)))) Z hB hx hb hW.st (by omega) (by omega) (by omega) dX4_wed_59 ?_
        rw [show stF (up (up T 1 (wedS (T 1) i j n)) 2 (wedS (T 1) i j n)) 53 = (wedS (T 1) i j n) 53 from stF_lo _ (by omega)]
        have hpw9 : (MWx G K (up T 1 (wedF (T 1) i j n))) H := (by rw [show wedF (T 1) i j n = (wedS (T 1) i j n) by unfold wedF; (repeat' split) <;> first | rfl | omega]; exact (hW.x (fun a h0 h2 h6 h7 h11 => by first | rfl | simp only [up, if_neg h0, if_neg h2, if_neg h6, if_neg h7, if_neg h11]) (fun j h1 h2 h3 h4 h5 => by first | rfl | simp [up, h1, h2])))
        have he9 : ((wedS (T 1) i j n) 53) = (wedA (T 1) i j n) := by unfold wedA; (repeat' split) <;> first | rfl | omega
        exact W.iret hx hb hr (fun t ht hW9 => ⟨⟨_, (), rfl, congrArg iI he9, by show (MWx G K (up T 1 (wedF (T 1) i j n))) t.heap; rw [ht]; exact hpw9⟩, hS.F ht⟩) hS.2.2 dX4_wed_60
      · -- 32 -> 35
        refine ii_bipush hx hb dX4_wed_35 (by decide) ?_
        have hpw9 : (MWx G K (up T 1 (wedF (T 1) i j n))) s.heap := (by rw [show wedF (T 1) i j n = (T 1) by unfold wedF; (repeat' split) <;> first | rfl | omega, show up T 1 (T 1) = T from up_id T 1]; exact ⟨T, ⟨fun _ _ _ _ _ _ => rfl, fun _ _ _ _ _ _ => rfl⟩, hW⟩)
        have he9 : (-3) = (wedA (T 1) i j n) := by unfold wedA; (repeat' split) <;> first | rfl | omega
        exact W.iret hx hb hr (fun t ht hW9 => ⟨⟨_, (), rfl, congrArg iI he9, by show (MWx G K (up T 1 (wedF (T 1) i j n))) t.heap; rw [ht]; exact hpw9⟩, hS.F ht⟩) hS.2.2 dX4_wed_37
    · -- 18 -> 21
      refine ii_const hx hb dX4_wed_21 ?_
      have hpw9 : (MWx G K (up T 1 (wedF (T 1) i j n))) s.heap := (by rw [show wedF (T 1) i j n = (T 1) by unfold wedF; (repeat' split) <;> first | rfl | omega, show up T 1 (T 1) = T from up_id T 1]; exact ⟨T, ⟨fun _ _ _ _ _ _ => rfl, fun _ _ _ _ _ _ => rfl⟩, hW⟩)
      have he9 : (-1) = (wedA (T 1) i j n) := by unfold wedA; (repeat' split) <;> first | rfl | omega
      exact W.iret hx hb hr (fun t ht hW9 => ⟨⟨_, (), rfl, congrArg iI he9, by show (MWx G K (up T 1 (wedF (T 1) i j n))) t.heap; rw [ht]; exact hpw9⟩, hS.F ht⟩) hS.2.2 dX4_wed_22

set_option maxHeartbeats 1000000 in
set_option maxRecDepth 100000 in
theorem mX4_days {l : Launch} {G : GG} {s0 : State} {b0 : Nat} (Z : ZZ l G s0 b0) (K : Nat → Nat) (hI : Own s0 K 12) (T : Sta) (F : Nat → Int) (eF : T 1 = F) (hF : WF F) (hD : Dia F) (hd : F 54 ≤ 2000) (n : Int) (hn : inR n) (sz : Nat) : Met l yX4_days (ws_ yX4_days cX4_days 3 (some .int)) ({ frames := 6, cells := 0, slots := 0, locals := 141 } : Room) (pcM s0 sz (MW G K T) [.ref (K 0), .int (iI n)]) (mI (daysA F n) (MWx G K (up T 1 (daysF F n))) (AA K 12 sz)) 0 0 (AA K 12 sz) := by
  refine Met.ofW (cc := cX4_days) (maxL := 3) (ret := (some .int)) (by decide) rfl ?_
  intro p e s m args below meth c s₁ B hml hv
  obtain ⟨rfl, hsz, hW, hB⟩ := hv
  subst hsz
  have hx := B.exec
  have hb := B.bytes
  have hr := B.returns
  have hts := atoms_spec (ws := (ws_ yX4_days cX4_days 3 (some .int))) B.pre
  have hts : ∀ w ∈ lw_all, w.before _ s = true := fun w h => hts w (List.mem_cons_of_mem _ h)
  have hown : s.vm.findClass RX4 = some m.cls := findClass_of_methodNamed B.named
  have hlocks := B.notSynchronized
  have hN := AA.old hI hB
  have hS : va_S (AA K 12 s.heap.size) s.heap s.heap [] := va_S.rf
  have hl := lv_entry ([.ref (K 0), .int (iI n)]) (n := 3) (Nat.le_of_ble_eq_true rfl)
  rw [lg_entry_eq]
  generalize (lg_sl ([.ref (K 0), .int (iI n)]) ++ List.replicate (3 - (lg_sl ([.ref (K 0), .int (iI n)])).length) Slot.unset).toArray = ls at hl ⊢
  have hl : lv_has ls 3 [(0, .ref (K 0)), (1, .int (iI n))] := hl
  subst eF
  have hn5 := hF.n
  have hrm := hF.rm
  have hday := hF.day
  refine lv_iload_n hx hb dX4_days_0 rfl (lv_at hl 1 rfl) ?_
  refine ii_i2l hx hb (by omega) dX4_days_1 ?_
  refine ii_lconst (z := 0) hx hb dX4_days_2 rfl ?_
  refine ii_ldc2 (z := 30) hx hb hts hown q1243 dX4_days_3 (by decide) ?_
  refine cqI (va_runS (As := [.long (lI n), .long (lI 0), .long (lI 30)]) (rest := []) ⟨hx, hb, hml, hown, hts⟩ (mX4_in Z n (by omega) 0 (by omega) 30 (by omega)) (va_cwS 3 hts (lw_S q1072 q1073 q83 q1074) rfl rfl rfl (by decide +kernel) ⟨Nat.le_of_ble_eq_true rfl, Nat.le_of_ble_eq_true rfl⟩) (psR (BornH.S hB hN hS) trivial) rfl rfl hl.1 rfl (lv_room (Nat.le_of_ble_eq_true rfl)) dX4_days_6 ⟨Nat.zero_le _, Nat.zero_le _⟩) ?_
  refine bb_if_ne (P := 0 ≤ n ∧ n ≤ 30) (tgt := 14) hx hb dX4_days_9 (by decide) (fun c_1 => ?_) (fun c_1 => ?_)
  · -- 9 -> 14
    refine lv_aload_n hx hb dX4_days_14 rfl (lv_at hl 0 rfl) ?_
    refine r_get (ci := 4) (k := 0) (v := .ref (K 1)) (C := RX4) (T := TX4) (N := 29) Z hB hx hb hts hown rfl in_X4 hW.obj (by decide) q978 rfl dX4_days_15 ?_
    refine ii_bipush hx hb dX4_days_18 (by decide) ?_
    have b_745 := hF.day
    refine r_iald (k := 54) (f := (stF T)) Z hB hx hb hW.st (by omega) (by omega) (by omega) dX4_days_20 ?_
    rw [show stF T 54 = (T 1) 54 from stF_lo _ (by omega)]
    refine lv_iload_n hx hb dX4_days_21 rfl (lv_at hl 1 rfl) ?_
    refine ii_add hx hb dX4_days_22 ?_
    refine ii_sipush hx hb dX4_days_23 (by decide) ?_
    refine ii_icmp_le (tgt := 32) hx hb dX4_days_26 (by decide) (by omega) (by omega) (fun c_2 => ?_) (fun c_2 => ?_)
    · -- 26 -> 32
      refine lv_aload_n hx hb dX4_days_32 rfl (lv_at hl 0 rfl) ?_
      refine cmV (va_runV (As := []) (rest := []) ⟨hx, hb, hml, hown, hts⟩ (mX4_starts Z K hI T (T 1) rfl s.heap.size) (cwV 0 hts (lw_V q1151 q1153 qs48 q83 q1154) rfl rfl rfl (by decide +kernel) ⟨Nat.le_of_ble_eq_true rfl, Nat.le_of_ble_eq_true rfl⟩) (pvM (BornH.S hB hN hS) (OBJ.recv Z hB hW.obj (q := (RX4, TX4, 29)) rfl) hW) rfl rfl hl.1 rfl (lv_room (Nat.le_of_ble_eq_true rfl)) dX4_days_33 ⟨Nat.zero_le _, Nat.zero_le _⟩) hS (AA.le hS.1) (fun H1 locs hW1 hz1 hk1 hS => ?_)
      have hW := hW1
      clear hW1 hk1 hz1
      generalize H1 = H at hW hS ⊢
      refine lv_aload_n hx hb dX4_days_36 rfl (lv_at hl 0 rfl) ?_
      refine lv_iload_n hx hb dX4_days_37 rfl (lv_at hl 1 rfl) ?_
      have hd_3 : (T 1) 54 + (n.toNat : Int) ≤ 100000 := by omega
      have hn_4 : (T 1) 76 = (T 1) 76 := by first | rfl | omega
      refine cmV (va_runV (As := [.int (iI n)]) (rest := []) ⟨hx, hb, hml, hown, hts⟩ (mX4_daysGo Z K hI (up T 2 (T 1)) (T 1) rfl hF hn_4 hD n.toNat n (by omega) hd_3 H.size) (cwV 1 hts (lw_V q1269 q1271 qs63 q83 q1272) rfl rfl rfl (by decide +kernel) ⟨Nat.le_of_ble_eq_true rfl, Nat.le_of_ble_eq_true rfl⟩) (pvM (BornH.S hB hN hS) (OBJ.recv Z hB hW.obj (q := (RX4, TX4, 29)) rfl) hW) rfl rfl hl.1 rfl (lv_room (Nat.le_of_ble_eq_true rfl)) dX4_days_38 ⟨Nat.zero_le _, Nat.zero_le _⟩) hS (AA.le hS.1) (fun H1 locs hW1 hz1 hk1 hS => ?_)
      have hW := hW1
      clear hW1 hk1 hz1
      generalize H1 = H at hW hS ⊢
      have hW := hW.eqS (S' := (up T 2 (daysS (T 1) n.toNat))) (by
          funext a
          by_cases h2 : a = 2
          · subst h2; rfl
          simp only [up, if_neg h2])
      have hwf_5 : WF (daysS (T 1) n.toNat) := (daysS_wf hF n.toNat (by omega))
      have b_746 : daysS (T 1) n.toNat 76 = (T 1) 76 := daysS_same hF (by omega) (by omega) (by omega) n.toNat (by omega)
      refine lv_aload_n hx hb dX4_days_41 rfl (lv_at hl 0 rfl) ?_
      refine cqI (va_runV (As := []) (rest := []) ⟨hx, hb, hml, hown, hts⟩ (mX4_bumpsSince Z K (up T 2 (daysS (T 1) n.toNat)) (daysS (T 1) n.toNat) (T 1) rfl rfl) (cwV 0 hts (lw_V q1289 q1291 qs68 q83 q1292) rfl rfl rfl (by decide +kernel) ⟨Nat.le_of_ble_eq_true rfl, Nat.le_of_ble_eq_true rfl⟩) (pvR (BornH.S hB hN hS) (OBJ.recv Z hB hW.obj (q := (RX4, TX4, 29)) rfl) hW) rfl rfl hl.1 rfl (lv_room (Nat.le_of_ble_eq_true rfl)) dX4_days_42 ⟨Nat.zero_le _, Nat.zero_le _⟩) ?_
      refine lv_istore_n (lv' := [(2, .int (iI ((daysS (T 1) n.toNat) 56 - (T 1) 56))), (0, .ref (K 0)), (1, .int (iI n))]) hx hb dX4_days_45 rfl hl (by decide) rfl (fun ls hl => ?_)
      refine lv_aload_n hx hb dX4_days_46 rfl (lv_at hl 1 rfl) ?_
      have hn_6 : (T 1) 76 = (daysS (T 1) n.toNat) 76 := by first | rfl | omega
      refine cmV (va_runV (As := []) (rest := []) ⟨hx, hb, hml, hown, hts⟩ (mX4_settles Z K hI (up T 2 (daysS (T 1) n.toNat)) (daysS (T 1) n.toNat) rfl hn_6 H.size) (cwV 0 hts (lw_V q1252 q1254 qs62 q83 q1255) rfl rfl rfl (by decide +kernel) ⟨Nat.le_of_ble_eq_true rfl, Nat.le_of_ble_eq_true rfl⟩) (pvM (BornH.S hB hN hS) (OBJ.recv Z hB hW.obj (q := (RX4, TX4, 29)) rfl) hW) rfl rfl hl.1 rfl (lv_room (Nat.le_of_ble_eq_true rfl)) dX4_days_47 ⟨Nat.zero_le _, Nat.zero_le _⟩) hS (AA.le hS.1) (fun H1 locs hW1 hz1 hk1 hS => ?_)
      have hW := hW1
      clear hW1 hk1 hz1
      generalize H1 = H at hW hS ⊢
      have hW := hW.eqS (S' := (up (up T 1 (daysS (T 1) n.toNat)) 2 (daysS (T 1) n.toNat))) (by
          funext a
          by_cases h1 : a = 1
          · subst h1; rfl
          by_cases h2 : a = 2
          · subst h2; rfl
          simp only [up, if_neg h1, if_neg h2])
      refine lv_iload_n hx hb dX4_days_50 rfl (lv_at hl 0 rfl) ?_
      have hpw9 : (MWx G K (up T 1 (daysF (T 1) n))) H := (by rw [show daysF (T 1) n = (daysS (T 1) n.toNat) by unfold daysF; (repeat' split) <;> first | rfl | omega]; exact (hW.x (fun a h0 h2 h6 h7 h11 => by first | rfl | simp only [up, if_neg h0, if_neg h2, if_neg h6, if_neg h7, if_neg h11]) (fun j h1 h2 h3 h4 h5 => by first | rfl | simp [up, h1, h2])))
      have he9 : ((daysS (T 1) n.toNat) 56 - (T 1) 56) = (daysA (T 1) n) := by unfold daysA; (repeat' split) <;> first | rfl | omega
      exact W.iret hx hb hr (fun t ht hW9 => ⟨⟨_, (), rfl, congrArg iI he9, by show (MWx G K (up T 1 (daysF (T 1) n))) t.heap; rw [ht]; exact hpw9⟩, hS.F ht⟩) hS.2.2 dX4_days_51
    · -- 26 -> 29
      refine ii_bipush hx hb dX4_days_29 (by decide) ?_
      have hpw9 : (MWx G K (up T 1 (daysF (T 1) n))) s.heap := (by rw [show daysF (T 1) n = (T 1) by unfold daysF; (repeat' split) <;> first | rfl | omega, show up T 1 (T 1) = T from up_id T 1]; exact ⟨T, ⟨fun _ _ _ _ _ _ => rfl, fun _ _ _ _ _ _ => rfl⟩, hW⟩)
      have he9 : (-3) = (daysA (T 1) n) := by unfold daysA; (repeat' split) <;> first | rfl | omega
      exact W.iret hx hb hr (fun t ht hW9 => ⟨⟨_, (), rfl, congrArg iI he9, by show (MWx G K (up T 1 (daysF (T 1) n))) t.heap; rw [ht]; exact hpw9⟩, hS.F ht⟩) hS.2.2 dX4_days_31
  · -- 9 -> 12
    refine ii_const hx hb dX4_days_12 ?_
    have hpw9 : (MWx G K (up T 1 (daysF (T 1) n))) s.heap := (by rw [show daysF (T 1) n = (T 1) by unfold daysF; (repeat' split) <;> first | rfl | omega, show up T 1 (T 1) = T from up_id T 1]; exact ⟨T, ⟨fun _ _ _ _ _ _ => rfl, fun _ _ _ _ _ _ => rfl⟩, hW⟩)
    have he9 : (-1) = (daysA (T 1) n) := by unfold daysA; (repeat' split) <;> first | rfl | omega
    exact W.iret hx hb hr (fun t ht hW9 => ⟨⟨_, (), rfl, congrArg iI he9, by show (MWx G K (up T 1 (daysF (T 1) n))) t.heap; rw [ht]; exact hpw9⟩, hS.F ht⟩) hS.2.2 dX4_days_13

set_option maxHeartbeats 1000000 in
set_option maxRecDepth 100000 in
theorem mX4_runs {l : Launch} {G : GG} {s0 : State} {b0 : Nat} (Z : ZZ l G s0 b0) (K : Nat → Nat) (hI : Own s0 K 12) (T : Sta) (F : Nat → Int) (eF : T 1 = F) (hF : WF F) (hD : Dia F) (hd : F 54 ≤ 2000) (n : Int) (hn : inR n) (what : Int) (hwhat : inR what) (sz : Nat) : Met l yX4_runs (ws_ yX4_runs cX4_runs 6 (some .int)) ({ frames := 5, cells := 0, slots := 0, locals := 119 } : Room) (pcM s0 sz (MW G K T) [.ref (K 0), .int (iI n), .int (iI what)]) (mI (runsA F n what) (MWx G K T) (AA K 12 sz)) 0 0 (AA K 12 sz) := by
  refine Met.ofW (cc := cX4_runs) (maxL := 6) (ret := (some .int)) (by decide) rfl ?_
  intro p e s m args below meth c s₁ B hml hv
  obtain ⟨rfl, hsz, hW, hB⟩ := hv
  subst hsz
  have hx := B.exec
  have hb := B.bytes
  have hr := B.returns
  have hts := atoms_spec (ws := (ws_ yX4_runs cX4_runs 6 (some .int))) B.pre
  have hts : ∀ w ∈ lw_all, w.before _ s = true := fun w h => hts w (List.mem_cons_of_mem _ h)
  have hown : s.vm.findClass RX4 = some m.cls := findClass_of_methodNamed B.named
  have hlocks := B.notSynchronized
  have hN := AA.old hI hB
  have hS : va_S (AA K 12 s.heap.size) s.heap s.heap [] := va_S.rf
  have hl := lv_entry ([.ref (K 0), .int (iI n), .int (iI what)]) (n := 6) (Nat.le_of_ble_eq_true rfl)
  rw [lg_entry_eq]
  generalize (lg_sl ([.ref (K 0), .int (iI n), .int (iI what)]) ++ List.replicate (6 - (lg_sl ([.ref (K 0), .int (iI n), .int (iI what)])).length) Slot.unset).toArray = ls at hl ⊢
  have hl : lv_has ls 6 [(0, .ref (K 0)), (1, .int (iI n)), (2, .int (iI what))] := hl
  subst eF
  have hn5 := hF.n
  have hrm := hF.rm
  have hday := hF.day
  refine lv_iload_n hx hb dX4_runs_0 rfl (lv_at hl 1 rfl) ?_
  refine cqI (va_runS (As := [.int (iI n)]) (rest := []) ⟨hx, hb, hml, hown, hts⟩ (mX4_isFar Z n (by omega)) (va_cwS 1 hts (lw_S q1297 q1298 q83 q1299) rfl rfl rfl (by decide +kernel) ⟨Nat.le_of_ble_eq_true rfl, Nat.le_of_ble_eq_true rfl⟩) (psR (BornH.S hB hN hS) trivial) rfl rfl hl.1 rfl (lv_room (Nat.le_of_ble_eq_true rfl)) dX4_runs_1 ⟨Nat.zero_le _, Nat.zero_le _⟩) ?_
  refine bb_if_eq (P := 0 ≤ n ∧ n ≤ 60) (tgt := 19) hx hb dX4_runs_4 (by decide) (fun c_1 => ?_) (fun c_1 => ?_)
  · -- 4 -> 19
    refine ii_const hx hb dX4_runs_19 ?_
    have hpw9 : (MWx G K T) s.heap := ⟨T, ⟨fun _ _ _ _ _ _ => rfl, fun _ _ _ _ _ _ => rfl⟩, hW⟩
    have he9 : (-1) = (runsA (T 1) n what) := by unfold runsA; (repeat' split) <;> first | rfl | omega
    exact W.iret hx hb hr (fun t ht hW9 => ⟨⟨_, (), rfl, congrArg iI he9, by show (MWx G K T) t.heap; rw [ht]; exact hpw9⟩, hS.F ht⟩) hS.2.2 dX4_runs_20
  · -- 4 -> 7
    refine lv_iload_n hx hb dX4_runs_7 rfl (lv_at hl 2 rfl) ?_
    refine ii_i2l hx hb (by omega) dX4_runs_8 ?_
    refine ii_lconst (z := 0) hx hb dX4_runs_9 rfl ?_
    refine ii_ldc2 (z := 3) hx hb hts hown q1222 dX4_runs_10 (by decide) ?_
    refine cqI (va_runS (As := [.long (lI what), .long (lI 0), .long (lI 3)]) (rest := []) ⟨hx, hb, hml, hown, hts⟩ (mX4_in Z what (by omega) 0 (by omega) 3 (by omega)) (va_cwS 3 hts (lw_S q1072 q1073 q83 q1074) rfl rfl rfl (by decide +kernel) ⟨Nat.le_of_ble_eq_true rfl, Nat.le_of_ble_eq_true rfl⟩) (psR (BornH.S hB hN hS) trivial) rfl rfl hl.1 rfl (lv_room (Nat.le_of_ble_eq_true rfl)) dX4_runs_13 ⟨Nat.zero_le _, Nat.zero_le _⟩) ?_
    refine bb_if_ne (P := 0 ≤ what ∧ what ≤ 3) (tgt := 21) hx hb dX4_runs_16 (by decide) (fun c_2 => ?_) (fun c_2 => ?_)
    · -- 16 -> 21
      refine lv_aload_n hx hb dX4_runs_21 rfl (lv_at hl 0 rfl) ?_
      refine cmV (va_runV (As := []) (rest := []) ⟨hx, hb, hml, hown, hts⟩ (mX4_starts Z K hI T (T 1) rfl s.heap.size) (cwV 0 hts (lw_V q1151 q1153 qs48 q83 q1154) rfl rfl rfl (by decide +kernel) ⟨Nat.le_of_ble_eq_true rfl, Nat.le_of_ble_eq_true rfl⟩) (pvM (BornH.S hB hN hS) (OBJ.recv Z hB hW.obj (q := (RX4, TX4, 29)) rfl) hW) rfl rfl hl.1 rfl (lv_room (Nat.le_of_ble_eq_true rfl)) dX4_runs_22 ⟨Nat.zero_le _, Nat.zero_le _⟩) hS (AA.le hS.1) (fun H1 locs hW1 hz1 hk1 hS => ?_)
      have hW := hW1
      clear hW1 hk1 hz1
      generalize H1 = H at hW hS ⊢
      refine lv_aload_n hx hb dX4_runs_25 rfl (lv_at hl 0 rfl) ?_
      have hn_3 : (T 1) 76 = (T 1) 76 := by first | rfl | omega
      refine cqI (va_runV (As := []) (rest := []) ⟨hx, hb, hml, hown, hts⟩ (mX4_spread Z K (up T 2 (T 1)) (T 1) rfl hF hn_3 ) (cwV 0 hts (lw_V q1155 q1157 qs49 q83 q1158) rfl rfl rfl (by decide +kernel) ⟨Nat.le_of_ble_eq_true rfl, Nat.le_of_ble_eq_true rfl⟩) (pvR (BornH.S hB hN hS) (OBJ.recv Z hB hW.obj (q := (RX4, TX4, 29)) rfl) hW) rfl rfl hl.1 rfl (lv_room (Nat.le_of_ble_eq_true rfl)) dX4_runs_26 ⟨Nat.zero_le _, Nat.zero_le _⟩) ?_
      have b_747 := spS_in hF
      refine lv_istore_n (lv' := [(3, .int (iI (spS (T 1)))), (0, .ref (K 0)), (1, .int (iI n)), (2, .int (iI what))]) hx hb dX4_runs_29 rfl hl (by decide) rfl (fun ls hl => ?_)
      refine ii_const hx hb dX4_runs_30 ?_
      refine lv_istore (lv' := [(4, .int (iI 0)), (3, .int (iI (spS (T 1)))), (0, .ref (K 0)), (1, .int (iI n)), (2, .int (iI what))]) hx hb dX4_runs_31 hl (by decide) rfl (fun ls hl => ?_)
      refine ii_const hx hb dX4_runs_33 ?_
      refine lv_istore (lv' := [(5, .int (iI 0)), (4, .int (iI 0)), (3, .int (iI (spS (T 1)))), (0, .ref (K 0)), (1, .int (iI n)), (2, .int (iI what))]) hx hb dX4_runs_34 hl (by decide) rfl (fun ls hl => ?_)
      have loop_36 : ∀ (fu : Nat) (t : Nat) (zt : Int), (zt = (t : Int)) → (t ≤ n.toNat) → (61 - t) < fu → ∀ (H : Heap) (locs : List Loc), (MW G K (up T 2 (daysS (T 1) t))) H → va_S (AA K 12 s.heap.size) s.heap H locs → ∀ (ls : Array Slot), lv_has ls 6 [(5, .int (iI zt)), (4, .int (iI 0)), (3, .int (iI (rlS (T 1) t))), (0, .ref (K 0)), (1, .int (iI n)), (2, .int (iI what))] → W p l e (headSpec (ws_ yX4_runs cX4_runs 6 (some .int)) ({ frames := 5, cells := 0, slots := 0, locals := 119 } : Room)).room s m ([.ref (K 0), .int (iI n), .int (iI what)] : List Value).toArray below meth c H locs 0 0 (MQ below (mI (runsA (T 1) n what) (MWx G K T) (AA K 12 s.heap.size)) ([.ref (K 0), .int (iI n), .int (iI what)] : List Value).toArray s 0 0 (AA K 12 s.heap.size)) (F0 m 36 ls []) := by
        intro fu
        induction fu with
        | zero => intro t zt ezt ht hmu; exact absurd hmu (Nat.not_lt_zero _)
        | succ fu ih36 =>
          intro t zt ezt ht hmu H locs hW hS ls hl
          have hwd := daysS_wf hF t (by omega)
          have hDd := Dia.days hF hD t (by omega)
          have h76 : daysS (T 1) t 76 = T 1 76 := daysS_same hF (by omega) (by omega) (by omega) t (by omega)
          have hrl := rlS_in hF t (by omega)
          refine lv_iload hx hb dX4_runs_36 (lv_at hl 0 rfl) ?_
          refine lv_iload_n hx hb dX4_runs_38 rfl (lv_at hl 4 rfl) ?_
          refine ii_icmp_ge (tgt := 62) hx hb dX4_runs_39 (by decide) (by omega) (by omega) (fun c_4 => ?_) (fun c_4 => ?_)
          · -- 39 -> 62
            have ex_t : n.toNat = t := by omega
            subst ex_t
            refine ii_const hx hb dX4_runs_62 ?_
            refine lv_istore (lv' := [(5, .int (iI 0)), (4, .int (iI 0)), (3, .int (iI (rlS (T 1) n.toNat))), (0, .ref (K 0)), (1, .int (iI n)), (2, .int (iI what))]) hx hb dX4_runs_63 hl (by decide) rfl (fun ls hl => ?_)
            have loop_65 : ∀ (fu : Nat) (i : Nat) (zi : Int), (zi = (i : Int)) → (i ≤ ((T 1) 76).toNat) → (6 - i) < fu → ∀ (H : Heap) (locs : List Loc), (MW G K (up T 2 (daysS (T 1) n.toNat))) H → va_S (AA K 12 s.heap.size) s.heap H locs → ∀ (ls : Array Slot), lv_has ls 6 [(5, .int (iI zi)), (4, .int (iI (movS (T 1) (daysS (T 1) n.toNat) i))), (3, .int (iI (rlS (T 1) n.toNat))), (0, .ref (K 0)), (1, .int (iI n)), (2, .int (iI what))] → W p l e (headSpec (ws_ yX4_runs cX4_runs 6 (some .int)) ({ frames := 5, cells := 0, slots := 0, locals := 119 } : Room)).room s m ([.ref (K 0), .int (iI n), .int (iI what)] : List Value).toArray below meth c H locs 0 0 (MQ below (mI (runsA (T 1) n what) (MWx G K T) (AA K 12 s.heap.size)) ([.ref (K 0), .int (iI n), .int (iI what)] : List Value).toArray s 0 0 (AA K 12 s.heap.size)) (F0 m 65 ls []) := by
              intro fu
              induction fu with
              | zero => intro i zi ezi hi hmu; exact absurd hmu (Nat.not_lt_zero _)
              | succ fu ih65 =>
                intro i zi ezi hi hmu H locs hW hS ls hl
                refine lv_iload hx hb dX4_runs_65 (lv_at hl 0 rfl) ?_
                refine lv_aload_n hx hb dX4_runs_67 rfl (lv_at hl 3 rfl) ?_
                refine r_get (ci := 4) (k := 3) (v := .int (iI ((T 1) 76))) (C := RX4) (T := TX4) (N := 29) Z hB hx hb hts hown rfl in_X4 hW.obj (by decide) q981 rfl dX4_runs_68 ?_
                refine ii_icmp_ge (tgt := 113) hx hb dX4_runs_71 (by decide) (by omega) (by omega) (fun c_5 => ?_) (fun c_5 => ?_)
                · -- 71 -> 113
                  have ex_i : ((T 1) 76).toNat = i := by omega
                  subst ex_i
                  refine lv_iload_n hx hb dX4_runs_113 rfl (lv_at hl 5 rfl) ?_
                  refine ii_if_ne (tgt := 124) hx hb dX4_runs_114 (by decide) (by omega) (fun c_6 => ?_) (fun c_6 => ?_)
                  · -- 114 -> 124
                    refine lv_iload_n hx hb dX4_runs_124 rfl (lv_at hl 5 rfl) ?_
                    refine ii_const hx hb dX4_runs_125 ?_
                    refine ii_icmp_ne (tgt := 136) hx hb dX4_runs_126 (by decide) (by omega) (by omega) (fun c_7 => ?_) (fun c_7 => ?_)
                    · -- 126 -> 136
                      refine lv_iload_n hx hb dX4_runs_136 rfl (lv_at hl 5 rfl) ?_
                      refine ii_const hx hb dX4_runs_137 ?_
                      refine ii_icmp_ne (tgt := 145) hx hb dX4_runs_138 (by decide) (by omega) (by omega) (fun c_8 => ?_) (fun c_8 => ?_)
                      · -- 138 -> 145
                        refine lv_iload hx hb dX4_runs_145 (lv_at hl 1 rfl) ?_
                        have hpw9 : (MWx G K T) H := (hW.x (fun a h0 h2 h6 h7 h11 => by first | rfl | simp only [up, if_neg h0, if_neg h2, if_neg h6, if_neg h7, if_neg h11]) (fun j h1 h2 h3 h4 h5 => by first | rfl | simp [up, h1, h2]))
                        have he9 : (movS (T 1) (daysS (T 1) n.toNat) ((T 1) 76).toNat) = (runsA (T 1) n what) := by unfold runsA; (repeat' split) <;> first | rfl | omega
                        exact W.iret hx hb hr (fun t ht hW9 => ⟨⟨_, (), rfl, congrArg iI he9, by show (MWx G K T) t.heap; rw [ht]; exact hpw9⟩, hS.F ht⟩) hS.2.2 dX4_runs_147
                      · -- 138 -> 141
                        refine lv_iload_n hx hb dX4_runs_141 rfl (lv_at hl 2 rfl) ?_
                        refine lv_goto (tgt := 147) hx hb dX4_runs_142 (by decide) ?_
                        have hpw9 : (MWx G K T) H := (hW.x (fun a h0 h2 h6 h7 h11 => by first | rfl | simp only [up, if_neg h0, if_neg h2, if_neg h6, if_neg h7, if_neg h11]) (fun j h1 h2 h3 h4 h5 => by first | rfl | simp [up, h1, h2]))
                        have he9 : (rlS (T 1) n.toNat) = (runsA (T 1) n what) := by unfold runsA; (repeat' split) <;> first | rfl | omega
                        exact W.iret hx hb hr (fun t ht hW9 => ⟨⟨_, (), rfl, congrArg iI he9, by show (MWx G K T) t.heap; rw [ht]; exact hpw9⟩, hS.F ht⟩) hS.2.2 dX4_runs_147
                    · -- 126 -> 129
                      refine lv_aload_n hx hb dX4_runs_129 rfl (lv_at hl 3 rfl) ?_
                      refine cqI (va_runV (As := []) (rest := []) ⟨hx, hb, hml, hown, hts⟩ (mX4_bumpsSince Z K (up T 2 (daysS (T 1) n.toNat)) (daysS (T 1) n.toNat) (T 1) rfl rfl) (cwV 0 hts (lw_V q1289 q1291 qs68 q83 q1292) rfl rfl rfl (by decide +kernel) ⟨Nat.le_of_ble_eq_true rfl, Nat.le_of_ble_eq_true rfl⟩) (pvR (BornH.S hB hN hS) (OBJ.recv Z hB hW.obj (q := (RX4, TX4, 29)) rfl) hW) rfl rfl hl.1 rfl (lv_room (Nat.le_of_ble_eq_true rfl)) dX4_runs_130 ⟨Nat.zero_le _, Nat.zero_le _⟩) ?_
                      refine lv_goto (tgt := 147) hx hb dX4_runs_133 (by decide) ?_
                      have hpw9 : (MWx G K T) H := (hW.x (fun a h0 h2 h6 h7 h11 => by first | rfl | simp only [up, if_neg h0, if_neg h2, if_neg h6, if_neg h7, if_neg h11]) (fun j h1 h2 h3 h4 h5 => by first | rfl | simp [up, h1, h2]))
                      have he9 : ((daysS (T 1) n.toNat) 56 - (T 1) 56) = (runsA (T 1) n what) := by unfold runsA; (repeat' split) <;> first | rfl | omega
                      exact W.iret hx hb hr (fun t ht hW9 => ⟨⟨_, (), rfl, congrArg iI he9, by show (MWx G K T) t.heap; rw [ht]; exact hpw9⟩, hS.F ht⟩) hS.2.2 dX4_runs_147
                  · -- 114 -> 117
                    refine lv_aload_n hx hb dX4_runs_117 rfl (lv_at hl 3 rfl) ?_
                    have hn_9 : (T 1) 76 = (daysS (T 1) n.toNat) 76 := by first | rfl | omega
                    refine cqI (va_runV (As := []) (rest := []) ⟨hx, hb, hml, hown, hts⟩ (mX4_spread Z K (up T 2 (daysS (T 1) n.toNat)) (daysS (T 1) n.toNat) rfl hwd hn_9 ) (cwV 0 hts (lw_V q1155 q1157 qs49 q83 q1158) rfl rfl rfl (by decide +kernel) ⟨Nat.le_of_ble_eq_true rfl, Nat.le_of_ble_eq_true rfl⟩) (pvR (BornH.S hB hN hS) (OBJ.recv Z hB hW.obj (q := (RX4, TX4, 29)) rfl) hW) rfl rfl hl.1 rfl (lv_room (Nat.le_of_ble_eq_true rfl)) dX4_runs_118 ⟨Nat.zero_le _, Nat.zero_le _⟩) ?_
                    have b_748 := spS_in hwd
                    refine lv_goto (tgt := 147) hx hb dX4_runs_121 (by decide) ?_
                    have hpw9 : (MWx G K T) H := (hW.x (fun a h0 h2 h6 h7 h11 => by first | rfl | simp only [up, if_neg h0, if_neg h2, if_neg h6, if_neg h7, if_neg h11]) (fun j h1 h2 h3 h4 h5 => by first | rfl | simp [up, h1, h2]))
                    have he9 : (spS (daysS (T 1) n.toNat)) = (runsA (T 1) n what) := by unfold runsA; (repeat' split) <;> first | rfl | omega
                    exact W.iret hx hb hr (fun t ht hW9 => ⟨⟨_, (), rfl, congrArg iI he9, by show (MWx G K T) t.heap; rw [ht]; exact hpw9⟩, hS.F ht⟩) hS.2.2 dX4_runs_147
                · -- 71 -> 74
                  refine lv_iload hx hb dX4_runs_74 (lv_at hl 1 rfl) ?_
                  refine lv_aload_n hx hb dX4_runs_76 rfl (lv_at hl 3 rfl) ?_
                  refine lv_iload hx hb dX4_runs_77 (lv_at hl 0 rfl) ?_
                  have hn_10 : (T 1) 76 = (daysS (T 1) n.toNat) 76 := by first | rfl | omega
                  refine cqI (va_runV (As := [.int (iI zi)]) (rest := [.int (iI (movS (T 1) (daysS (T 1) n.toNat) i))]) ⟨hx, hb, hml, hown, hts⟩ (mX4_place Z K (up T 2 (daysS (T 1) n.toNat)) (daysS (T 1) n.toNat) rfl hwd hn_10 i zi (by omega) (by omega)) (cwV 1 hts (lw_V q1163 q1165 qs51 q83 q1166) rfl rfl rfl (by decide +kernel) ⟨Nat.le_of_ble_eq_true rfl, Nat.le_of_ble_eq_true rfl⟩) (pvR (BornH.S hB hN hS) (OBJ.recv Z hB hW.obj (q := (RX4, TX4, 29)) rfl) hW) rfl rfl hl.1 rfl (lv_room (Nat.le_of_ble_eq_true rfl)) dX4_runs_79 ⟨Nat.zero_le _, Nat.zero_le _⟩) ?_
                  have b_749 := hwd.pl i (by omega)
                  refine lv_aload_n hx hb dX4_runs_82 rfl (lv_at hl 3 rfl) ?_
                  refine r_get (ci := 4) (k := 0) (v := .ref (K 1)) (C := RX4) (T := TX4) (N := 29) Z hB hx hb hts hown rfl in_X4 hW.obj (by decide) q978 rfl dX4_runs_83 ?_
                  refine ii_const hx hb dX4_runs_86 ?_
                  refine lv_iload hx hb dX4_runs_87 (lv_at hl 0 rfl) ?_
                  refine ii_mul hx hb dX4_runs_89 ?_
                  refine ii_const hx hb dX4_runs_90 ?_
                  refine ii_add hx hb dX4_runs_91 ?_
                  have b_750 := hF.pl i (by omega)
                  refine r_iald (k := (2 * i + 1)) (f := (stF (up T 2 (daysS (T 1) n.toNat)))) Z hB hx hb hW.st (by omega) (by omega) (by omega) dX4_runs_92 ?_
                  rw [show stF (up T 2 (daysS (T 1) n.toNat)) (2 * i + 1) = (T 1) (2 * i + 1) from stF_lo _ (by omega)]
                  refine ii_icmp_eq (tgt := 100) hx hb dX4_runs_93 (by decide) (by omega) (by omega) (fun c_11 => ?_) (fun c_11 => ?_)
                  · -- 93 -> 100
                    refine ii_const hx hb dX4_runs_100 ?_
                    refine cqI (va_runS (As := [.int (iI 0)]) (rest := [.int (iI (movS (T 1) (daysS (T 1) n.toNat) i))]) ⟨hx, hb, hml, hown, hts⟩ (mX4_flag Z 0 (by omega)) (va_cwS 1 hts (lw_S q1182 q1183 q83 q1184) rfl rfl rfl (by decide +kernel) ⟨Nat.le_of_ble_eq_true rfl, Nat.le_of_ble_eq_true rfl⟩) (psR (BornH.S hB hN hS) trivial) rfl rfl hl.1 rfl (lv_room (Nat.le_of_ble_eq_true rfl)) dX4_runs_101 ⟨Nat.zero_le _, Nat.zero_le _⟩) ?_
                    refine ii_add hx hb dX4_runs_104 ?_
                    refine lv_istore (lv' := [(4, .int (iI ((movS (T 1) (daysS (T 1) n.toNat) i) + 0))), (5, .int (iI zi)), (3, .int (iI (rlS (T 1) n.toNat))), (0, .ref (K 0)), (1, .int (iI n)), (2, .int (iI what))]) hx hb dX4_runs_105 hl (by decide) rfl (fun ls hl => ?_)
                    refine ii_iinc (k := 1) (lv' := [(5, .int (iI (zi + 1))), (4, .int (iI ((movS (T 1) (daysS (T 1) n.toNat) i) + 0))), (3, .int (iI (rlS (T 1) n.toNat))), (0, .ref (K 0)), (1, .int (iI n)), (2, .int (iI what))]) hx hb dX4_runs_107 hl rfl (by decide) rfl (fun ls hl => ?_)
                    refine lv_goto (tgt := 65) hx hb dX4_runs_110 (by decide) ?_
                    have e_12 : (movS (T 1) (daysS (T 1) n.toNat) (i + 1)) = ((movS (T 1) (daysS (T 1) n.toNat) i) + 0) := by simp only [movS]; split <;> omega
                    exact ih65 (i + 1) (zi + 1) (by omega) (by omega) (by omega) _ _ hW hS ls (by rw [e_12]; exact lv_sub hl [0, 1, 2, 3, 4, 5] rfl)
                  · -- 93 -> 96
                    refine ii_const hx hb dX4_runs_96 ?_
                    refine lv_goto (tgt := 101) hx hb dX4_runs_97 (by decide) ?_
                    refine cqI (va_runS (As := [.int (iI 1)]) (rest := [.int (iI (movS (T 1) (daysS (T 1) n.toNat) i))]) ⟨hx, hb, hml, hown, hts⟩ (mX4_flag Z 1 (by omega)) (va_cwS 1 hts (lw_S q1182 q1183 q83 q1184) rfl rfl rfl (by decide +kernel) ⟨Nat.le_of_ble_eq_true rfl, Nat.le_of_ble_eq_true rfl⟩) (psR (BornH.S hB hN hS) trivial) rfl rfl hl.1 rfl (lv_room (Nat.le_of_ble_eq_true rfl)) dX4_runs_101 ⟨Nat.zero_le _, Nat.zero_le _⟩) ?_
                    refine ii_add hx hb dX4_runs_104 ?_
                    refine lv_istore (lv' := [(4, .int (iI ((movS (T 1) (daysS (T 1) n.toNat) i) + 1))), (5, .int (iI zi)), (3, .int (iI (rlS (T 1) n.toNat))), (0, .ref (K 0)), (1, .int (iI n)), (2, .int (iI what))]) hx hb dX4_runs_105 hl (by decide) rfl (fun ls hl => ?_)
                    refine ii_iinc (k := 1) (lv' := [(5, .int (iI (zi + 1))), (4, .int (iI ((movS (T 1) (daysS (T 1) n.toNat) i) + 1))), (3, .int (iI (rlS (T 1) n.toNat))), (0, .ref (K 0)), (1, .int (iI n)), (2, .int (iI what))]) hx hb dX4_runs_107 hl rfl (by decide) rfl (fun ls hl => ?_)
                    refine lv_goto (tgt := 65) hx hb dX4_runs_110 (by decide) ?_
                    have e_13 : (movS (T 1) (daysS (T 1) n.toNat) (i + 1)) = ((movS (T 1) (daysS (T 1) n.toNat) i) + 1) := by simp only [movS]; split <;> omega
                    exact ih65 (i + 1) (zi + 1) (by omega) (by omega) (by omega) _ _ hW hS ls (by rw [e_13]; exact lv_sub hl [0, 1, 2, 3, 4, 5] rfl)
            have e_14 : (movS (T 1) (daysS (T 1) n.toNat) 0) = 0 := rfl
            exact loop_65 _ 0 0 (by omega) (by omega) (Nat.lt_succ_self _) _ _ hW hS ls (by rw [e_14]; exact lv_sub hl [0, 1, 2, 3, 4, 5] rfl)
          · -- 39 -> 42
            refine lv_aload_n hx hb dX4_runs_42 rfl (lv_at hl 3 rfl) ?_
            refine ii_const hx hb dX4_runs_43 ?_
            have hn_15 : (T 1) 76 = (daysS (T 1) t) 76 := by first | rfl | omega
            refine cmV (va_runV (As := [.int (iI 0)]) (rest := []) ⟨hx, hb, hml, hown, hts⟩ (mX4_dayGoes Z K hI (up T 2 (daysS (T 1) t)) (daysS (T 1) t) rfl hwd hn_15 0 (by omega) hDd H.size) (cwV 1 hts (lw_V q1273 q1275 qs64 q83 q1276) rfl rfl rfl (by decide +kernel) ⟨Nat.le_of_ble_eq_true rfl, Nat.le_of_ble_eq_true rfl⟩) (pvM (BornH.S hB hN hS) (OBJ.recv Z hB hW.obj (q := (RX4, TX4, 29)) rfl) hW) rfl rfl hl.1 rfl (lv_room (Nat.le_of_ble_eq_true rfl)) dX4_runs_44 ⟨Nat.zero_le _, Nat.zero_le _⟩) hS (AA.le hS.1) (fun H1 locs hW1 hz1 hk1 hS => ?_)
            have hW := hW1
            clear hW1 hk1 hz1
            generalize H1 = H at hW hS ⊢
            have hW := hW.eqS (S' := (up T 2 (dayS (daysS (T 1) t)))) (by
                funext a
                by_cases h2 : a = 2
                · subst h2; rfl
                simp only [up, if_neg h2])
            have hdd := (daysS_day hF t (by omega)).2
            have hwx : WF (dayS (daysS (T 1) t)) := dayS_wf hwd (by omega)
            have h76x : dayS (daysS (T 1) t) 76 = T 1 76 := (dayS_same hwd (by omega) (by omega) (by omega)).trans h76
            refine lv_iload_n hx hb dX4_runs_47 rfl (lv_at hl 2 rfl) ?_
            refine lv_aload_n hx hb dX4_runs_48 rfl (lv_at hl 3 rfl) ?_
            have hn_16 : (T 1) 76 = (dayS (daysS (T 1) t)) 76 := by first | rfl | omega
            refine cqI (va_runV (As := []) (rest := [.int (iI (rlS (T 1) t))]) ⟨hx, hb, hml, hown, hts⟩ (mX4_spread Z K (up T 2 (dayS (daysS (T 1) t))) (dayS (daysS (T 1) t)) rfl hwx hn_16 ) (cwV 0 hts (lw_V q1155 q1157 qs49 q83 q1158) rfl rfl rfl (by decide +kernel) ⟨Nat.le_of_ble_eq_true rfl, Nat.le_of_ble_eq_true rfl⟩) (pvR (BornH.S hB hN hS) (OBJ.recv Z hB hW.obj (q := (RX4, TX4, 29)) rfl) hW) rfl rfl hl.1 rfl (lv_room (Nat.le_of_ble_eq_true rfl)) dX4_runs_49 ⟨Nat.zero_le _, Nat.zero_le _⟩) ?_
            have b_751 := spS_in hwx
            refine cqI (va_runS (As := [.int (iI (rlS (T 1) t)), .int (iI (spS (dayS (daysS (T 1) t))))]) (rest := []) ⟨hx, hb, hml, hown, hts⟩ (mX4_lesser Z (rlS (T 1) t) (spS (dayS (daysS (T 1) t))) (by omega) (by omega)) (va_cwS 2 hts (lw_S q1301 q1302 q83 q1303) rfl rfl rfl (by decide +kernel) ⟨Nat.le_of_ble_eq_true rfl, Nat.le_of_ble_eq_true rfl⟩) (psR (BornH.S hB hN hS) trivial) rfl rfl hl.1 rfl (lv_room (Nat.le_of_ble_eq_true rfl)) dX4_runs_52 ⟨Nat.zero_le _, Nat.zero_le _⟩) ?_
            refine lv_istore_n (lv' := [(3, .int (iI (min (rlS (T 1) t) (spS (dayS (daysS (T 1) t)))))), (5, .int (iI zt)), (4, .int (iI 0)), (0, .ref (K 0)), (1, .int (iI n)), (2, .int (iI what))]) hx hb dX4_runs_55 rfl hl (by decide) rfl (fun ls hl => ?_)
            refine ii_iinc (k := 1) (lv' := [(5, .int (iI (zt + 1))), (3, .int (iI (min (rlS (T 1) t) (spS (dayS (daysS (T 1) t)))))), (4, .int (iI 0)), (0, .ref (K 0)), (1, .int (iI n)), (2, .int (iI what))]) hx hb dX4_runs_56 hl rfl (by decide) rfl (fun ls hl => ?_)
            refine lv_goto (tgt := 36) hx hb dX4_runs_59 (by decide) ?_
            have e_17 : (rlS (T 1) (t + 1)) = (min (rlS (T 1) t) (spS (dayS (daysS (T 1) t)))) := rfl
            exact ih36 (t + 1) (zt + 1) (by omega) (by omega) (by omega) _ _ hW hS ls (by rw [e_17]; exact lv_sub hl [0, 2, 1, 3, 4, 5] rfl)
      have e_18 : (rlS (T 1) 0) = (spS (T 1)) := rfl
      exact loop_36 _ 0 0 (by omega) (by omega) (Nat.lt_succ_self _) _ _ hW hS ls (by rw [e_18]; exact lv_sub hl [0, 1, 2, 3, 4, 5] rfl)
    · -- 16 -> 19
      refine ii_const hx hb dX4_runs_19 ?_
      have hpw9 : (MWx G K T) s.heap := ⟨T, ⟨fun _ _ _ _ _ _ => rfl, fun _ _ _ _ _ _ => rfl⟩, hW⟩
      have he9 : (-1) = (runsA (T 1) n what) := by unfold runsA; (repeat' split) <;> first | rfl | omega
      exact W.iret hx hb hr (fun t ht hW9 => ⟨⟨_, (), rfl, congrArg iI he9, by show (MWx G K T) t.heap; rw [ht]; exact hpw9⟩, hS.F ht⟩) hS.2.2 dX4_runs_20
