/-! MODEL: a text read, 4 (written by gen/mod19.py) -/
set_option maxRecDepth 100000
set_option maxHeartbeats 1000000 in
set_option maxRecDepth 100000 in
theorem mX4_readCross {l : Launch} {G : GG} {s0 : State} {b0 : Nat} (Z : ZZ l G s0 b0) (K : Nat → Nat) (hI : Own s0 K 12) (T : Sta) (P D : Nat → Int) (eP : T 0 = P) (eD : T 4 = D) (hP : PI P) (h8 : P8 P) (hD : WF D) (t : Nat → Int) (et : T 5 = t) (ht : TapeOK t) (sz : Nat) : Met l yX4_readCross (ws_ yX4_readCross cX4_readCross 3 none) ({ frames := 3, cells := 0, slots := 0, locals := 70 } : Room) (pcM s0 sz (MW G K T) [.ref (K 0)]) (mV (MW G K (up (up T 0 (rcP t P)) 4 (rcD t P D))) (AA K 12 sz)) 0 0 (AA K 12 sz) := by
  refine Met.ofW (cc := cX4_readCross) (maxL := 3) (ret := none) (by decide) rfl ?_
  intro p e s m args below meth c s₁ B hml hv
  obtain ⟨rfl, hsz, hW, hB⟩ := hv
  subst hsz
  have hx := B.exec
  have hb := B.bytes
  have hr := B.returns
  have hts := atoms_spec (ws := (ws_ yX4_readCross cX4_readCross 3 none)) B.pre
  have hts : ∀ w ∈ lw_all, w.before _ s = true := fun w h => hts w (List.mem_cons_of_mem _ h)
  have hown : s.vm.findClass RX4 = some m.cls := findClass_of_methodNamed B.named
  have hlocks := B.notSynchronized
  have hN := AA.old hI hB
  have hS : va_S (AA K 12 s.heap.size) s.heap s.heap [] := va_S.rf
  have hl := lv_entry ([.ref (K 0)]) (n := 3) (Nat.le_of_ble_eq_true rfl)
  rw [lg_entry_eq]
  generalize (lg_sl ([.ref (K 0)]) ++ List.replicate (3 - (lg_sl ([.ref (K 0)])).length) Slot.unset).toArray = ls at hl ⊢
  have hl : lv_has ls 3 [(0, .ref (K 0))] := hl
  subst eP
  subst eD
  subst et
  have hn5 := hD.n
  have hrm := hD.rm
  have h89 : -4 ≤ T 0 8 ∧ T 0 8 ≤ 4 := h8
  refine lv_aload_n hx hb dX4_readCross_0 rfl (lv_at hl 0 rfl) ?_
  refine ii_const hx hb dX4_readCross_1 ?_
  refine ii_const hx hb dX4_readCross_2 ?_
  refine cmI (va_runV (As := [.int (iI 0), .int (iI 4)]) (rest := []) ⟨hx, hb, hml, hown, hts⟩ (mX4_readNumber Z K hI T (T 0) rfl hP (T 5) rfl ht 0 (by omega) 4 (by omega) (by omega) s.heap.size) (cwV 2 hts (lw_V q1123 q1125 qs43 q83 q1126) rfl rfl rfl (by decide +kernel) ⟨Nat.le_of_ble_eq_true rfl, Nat.le_of_ble_eq_true rfl⟩) (pvM (BornH.S hB hN hS) (OBJ.recv Z hB hW.obj (q := (RX4, TX4, 29)) rfl) hW) rfl rfl hl.1 rfl (lv_room (Nat.le_of_ble_eq_true rfl)) dX4_readCross_3 ⟨Nat.zero_le _, Nat.zero_le _⟩) hS (AA.le hS.1) (fun H1 locs hW1 hz1 hk1 hS => ?_)
  have hW := hW1
  clear hW1 hk1 hz1
  generalize H1 = H at hW hS ⊢
  have b_1 := lk_in (P := (T 0)) (lo := 0) (hi := 4) (by omega)
  have hp_2 : PI (rnP (T 5) (T 0) 0 4) := tkP_pi ht (lkP_pi hP _ _)
  have ho_3 : (rnP (T 5) (T 0) 0 4) 6 = ((T 0) 6) := ((tkP_o _ _ (by omega)).trans (lkP_o _ _ _ (by omega) (by omega))).trans (by rfl)
  have ho_4 : (rnP (T 5) (T 0) 0 4) 7 = ((T 0) 7) := ((tkP_o _ _ (by omega)).trans (lkP_o _ _ _ (by omega) (by omega))).trans (by rfl)
  have ho_5 : (rnP (T 5) (T 0) 0 4) 8 = ((T 0) 8) := ((tkP_o _ _ (by omega)).trans (lkP_o _ _ _ (by omega) (by omega))).trans (by rfl)
  have ho_6 : (rnP (T 5) (T 0) 0 4) 10 = ((T 0) 10) := ((tkP_o _ _ (by omega)).trans (lkP_o _ _ _ (by omega) (by omega))).trans (by rfl)
  generalize eX1 : (rnP (T 5) (T 0) 0 4) = X1 at hp_2 ho_3 ho_4 ho_5 ho_6 hW
  refine lv_istore_n (lv' := [(1, .int (iI (lkV (T 0) 0 4))), (0, .ref (K 0))]) hx hb dX4_readCross_6 rfl hl (by decide) rfl (fun ls hl => ?_)
  refine lv_aload_n hx hb dX4_readCross_7 rfl (lv_at hl 1 rfl) ?_
  refine ii_const hx hb dX4_readCross_8 ?_
  refine ii_const hx hb dX4_readCross_9 ?_
  refine cmI (va_runV (As := [.int (iI 0), .int (iI 4)]) (rest := []) ⟨hx, hb, hml, hown, hts⟩ (mX4_looked Z K hI (up T 0 X1) X1 rfl hp_2 0 (by omega) 4 (by omega) H.size) (cwV 2 hts (lw_V q1127 q1129 qs44 q83 q1130) rfl rfl rfl (by decide +kernel) ⟨Nat.le_of_ble_eq_true rfl, Nat.le_of_ble_eq_true rfl⟩) (pvM (BornH.S hB hN hS) (OBJ.recv Z hB hW.obj (q := (RX4, TX4, 29)) rfl) hW) rfl rfl hl.1 rfl (lv_room (Nat.le_of_ble_eq_true rfl)) dX4_readCross_10 ⟨Nat.zero_le _, Nat.zero_le _⟩) hS (AA.le hS.1) (fun H1 locs hW1 hz1 hk1 hS => ?_)
  have hW := hW1
  clear hW1 hk1 hz1
  generalize H1 = H at hW hS ⊢
  have hW := hW.eqS (S' := (up T 0 (lkP X1 0 4))) (by
      funext a
      by_cases h0 : a = 0
      · subst h0; rfl
      simp only [up, if_neg h0])
  have b_7 := lk_in (P := X1) (lo := 0) (hi := 4) (by omega)
  have hp_8 : PI (lkP X1 0 4) := lkP_pi hp_2 _ _
  have ho_9 : (lkP X1 0 4) 6 = (X1 6) := (lkP_o _ _ _ (by omega) (by omega)).trans (by rfl)
  have ho_10 : (lkP X1 0 4) 7 = (X1 7) := (lkP_o _ _ _ (by omega) (by omega)).trans (by rfl)
  have ho_11 : (lkP X1 0 4) 8 = (X1 8) := (lkP_o _ _ _ (by omega) (by omega)).trans (by rfl)
  have ho_12 : (lkP X1 0 4) 10 = (X1 10) := (lkP_o _ _ _ (by omega) (by omega)).trans (by rfl)
  generalize eX2 : (lkP X1 0 4) = X2 at hp_8 ho_9 ho_10 ho_11 ho_12 hW
  refine lv_istore_n (lv' := [(2, .int (iI (lkV X1 0 4))), (1, .int (iI (lkV (T 0) 0 4))), (0, .ref (K 0))]) hx hb dX4_readCross_13 rfl hl (by decide) rfl (fun ls hl => ?_)
  refine lv_aload_n hx hb dX4_readCross_14 rfl (lv_at hl 2 rfl) ?_
  refine lv_iload_n hx hb dX4_readCross_15 rfl (lv_at hl 1 rfl) ?_
  refine lv_iload_n hx hb dX4_readCross_16 rfl (lv_at hl 0 rfl) ?_
  refine ii_icmp_eq (tgt := 24) hx hb dX4_readCross_17 (by decide) (by omega) (by omega) (fun c_13 => ?_) (fun c_13 => ?_)
  · -- 17 -> 24
    refine ii_const hx hb dX4_readCross_24 ?_
    refine ii_const hx hb dX4_readCross_25 ?_
    have h15_14 : inR (X2 15) := by have h9 := hp_8; omega
    refine cmV (va_runV (As := [.int (iI 0), .int (iI 3)]) (rest := []) ⟨hx, hb, hml, hown, hts⟩ (mX4_needs Z K hI (up T 0 X2) X2 rfl h15_14 0 3 (by omega) H.size) (cwV 2 hts (lw_V q1095 q1097 qs36 q83 q1098) rfl rfl rfl (by decide +kernel) ⟨Nat.le_of_ble_eq_true rfl, Nat.le_of_ble_eq_true rfl⟩) (pvM (BornH.S hB hN hS) (OBJ.recv Z hB hW.obj (q := (RX4, TX4, 29)) rfl) hW) rfl rfl hl.1 rfl (lv_room (Nat.le_of_ble_eq_true rfl)) dX4_readCross_26 ⟨Nat.zero_le _, Nat.zero_le _⟩) hS (AA.le hS.1) (fun H1 locs hW1 hz1 hk1 hS => ?_)
    have hW := hW1
    clear hW1 hk1 hz1
    generalize H1 = H at hW hS ⊢
    have hW := hW.eqS (S' := (up T 0 (ndS X2 0 3))) (by
        funext a
        by_cases h0 : a = 0
        · subst h0; rfl
        simp only [up, if_neg h0])
    have hf_15 := ndS_f X2 0 3
    have hp_16 : PI (ndS X2 0 3) := ndS_pi hp_8 (by omega)
    have hq_18 : (ndS X2 (b2 ((lkV (T 0) 0 4) ≠ (lkV X1 0 4))) 3) = (ndS X2 0 3) := by first | (rw [b2_t (by omega)]; exact ndS_1 _ (by omega)) | rw [b2_f (by omega)]
    rw [← hq_18] at hW
    have hp_19 : PI (ndS X2 (b2 ((lkV (T 0) 0 4) ≠ (lkV X1 0 4))) 3) := ndS_pi hp_8 (by omega)
    have ho_20 : (ndS X2 (b2 ((lkV (T 0) 0 4) ≠ (lkV X1 0 4))) 3) 6 = (X2 6) := (ndS_o (by omega) (by omega)).trans (by rfl)
    have ho_21 : (ndS X2 (b2 ((lkV (T 0) 0 4) ≠ (lkV X1 0 4))) 3) 7 = (X2 7) := (ndS_o (by omega) (by omega)).trans (by rfl)
    have ho_22 : (ndS X2 (b2 ((lkV (T 0) 0 4) ≠ (lkV X1 0 4))) 3) 8 = (X2 8) := (ndS_o (by omega) (by omega)).trans (by rfl)
    have ho_23 : (ndS X2 (b2 ((lkV (T 0) 0 4) ≠ (lkV X1 0 4))) 3) 10 = (X2 10) := (ndS_o (by omega) (by omega)).trans (by rfl)
    generalize eX3 : (ndS X2 (b2 ((lkV (T 0) 0 4) ≠ (lkV X1 0 4))) 3) = X3 at hp_19 ho_20 ho_21 ho_22 ho_23 hW
    refine lv_aload_n hx hb dX4_readCross_29 rfl (lv_at hl 2 rfl) ?_
    refine lv_aload_n hx hb dX4_readCross_30 rfl (lv_at hl 2 rfl) ?_
    refine r_get (ci := 4) (k := 7) (v := .int (iI (X3 7))) (C := RX4) (T := TX4) (N := 29) Z hB hx hb hts hown rfl in_X4 hW.obj (by decide) q985 rfl dX4_readCross_31 ?_
    refine ii_const hx hb dX4_readCross_34 ?_
    refine lv_iload_n hx hb dX4_readCross_35 rfl (lv_at hl 1 rfl) ?_
    refine ii_mul hx hb dX4_readCross_36 ?_
    refine lv_iload_n hx hb dX4_readCross_37 rfl (lv_at hl 0 rfl) ?_
    refine ii_add hx hb dX4_readCross_38 ?_
    refine ii_bit hx hb (by omega) dX4_readCross_39 dX4_readCross_40 dX4_readCross_41 ?_
    refine bb_if_ne (P := bt (iI (X3 7)) (((5 * (lkV (T 0) 0 4)) + (lkV X1 0 4))).toNat = true) (tgt := 49) hx hb dX4_readCross_42 (by decide) (fun c_24 => ?_) (fun c_24 => ?_)
    · -- 42 -> 49
      refine ii_const hx hb dX4_readCross_49 ?_
      refine ii_const hx hb dX4_readCross_50 ?_
      have h15_25 : inR (X3 15) := by have h9 := hp_19; omega
      refine cmV (va_runV (As := [.int (iI 0), .int (iI 4)]) (rest := []) ⟨hx, hb, hml, hown, hts⟩ (mX4_needs Z K hI (up T 0 X3) X3 rfl h15_25 0 4 (by omega) H.size) (cwV 2 hts (lw_V q1095 q1097 qs36 q83 q1098) rfl rfl rfl (by decide +kernel) ⟨Nat.le_of_ble_eq_true rfl, Nat.le_of_ble_eq_true rfl⟩) (pvM (BornH.S hB hN hS) (OBJ.recv Z hB hW.obj (q := (RX4, TX4, 29)) rfl) hW) rfl rfl hl.1 rfl (lv_room (Nat.le_of_ble_eq_true rfl)) dX4_readCross_51 ⟨Nat.zero_le _, Nat.zero_le _⟩) hS (AA.le hS.1) (fun H1 locs hW1 hz1 hk1 hS => ?_)
      have hW := hW1
      clear hW1 hk1 hz1
      generalize H1 = H at hW hS ⊢
      have hW := hW.eqS (S' := (up T 0 (ndS X3 0 4))) (by
          funext a
          by_cases h0 : a = 0
          · subst h0; rfl
          simp only [up, if_neg h0])
      have hf_26 := ndS_f X3 0 4
      have hp_27 : PI (ndS X3 0 4) := ndS_pi hp_19 (by omega)
      have hq_29 : (ndS X3 (b2 (¬ bt (iI (X3 7)) ((5 * (lkV (T 0) 0 4)) + (lkV X1 0 4)).toNat = true)) 4) = (ndS X3 0 4) := by first | (rw [b2_t (by assumption)]; exact ndS_1 _ (by omega)) | rw [b2_f (fun q => q (by assumption))]
      rw [← hq_29] at hW
      have hp_30 : PI (ndS X3 (b2 (¬ bt (iI (X3 7)) ((5 * (lkV (T 0) 0 4)) + (lkV X1 0 4)).toNat = true)) 4) := ndS_pi hp_19 (by omega)
      have ho_31 : (ndS X3 (b2 (¬ bt (iI (X3 7)) ((5 * (lkV (T 0) 0 4)) + (lkV X1 0 4)).toNat = true)) 4) 6 = (X3 6) := (ndS_o (by omega) (by omega)).trans (by rfl)
      have ho_32 : (ndS X3 (b2 (¬ bt (iI (X3 7)) ((5 * (lkV (T 0) 0 4)) + (lkV X1 0 4)).toNat = true)) 4) 7 = (X3 7) := (ndS_o (by omega) (by omega)).trans (by rfl)
      have ho_33 : (ndS X3 (b2 (¬ bt (iI (X3 7)) ((5 * (lkV (T 0) 0 4)) + (lkV X1 0 4)).toNat = true)) 4) 8 = (X3 8) := (ndS_o (by omega) (by omega)).trans (by rfl)
      have ho_34 : (ndS X3 (b2 (¬ bt (iI (X3 7)) ((5 * (lkV (T 0) 0 4)) + (lkV X1 0 4)).toNat = true)) 4) 10 = (X3 10) := (ndS_o (by omega) (by omega)).trans (by rfl)
      generalize eX4 : (ndS X3 (b2 (¬ bt (iI (X3 7)) ((5 * (lkV (T 0) 0 4)) + (lkV X1 0 4)).toNat = true)) 4) = X4 at hp_30 ho_31 ho_32 ho_33 ho_34 hW
      refine lv_aload_n hx hb dX4_readCross_54 rfl (lv_at hl 2 rfl) ?_
      refine lv_dup hx hb dX4_readCross_55 rfl ?_
      refine r_get (ci := 4) (k := 7) (v := .int (iI (X4 7))) (C := RX4) (T := TX4) (N := 29) Z hB hx hb hts hown rfl in_X4 hW.obj (by decide) q985 rfl dX4_readCross_56 ?_
      refine ii_const hx hb dX4_readCross_59 ?_
      refine ii_const hx hb dX4_readCross_60 ?_
      refine lv_iload_n hx hb dX4_readCross_61 rfl (lv_at hl 1 rfl) ?_
      refine ii_mul hx hb dX4_readCross_62 ?_
      refine lv_iload_n hx hb dX4_readCross_63 rfl (lv_at hl 0 rfl) ?_
      refine ii_add hx hb dX4_readCross_64 ?_
      refine ii_shl1 hx hb (by omega) dX4_readCross_65 ?_
      refine ii_or2 hx hb dX4_readCross_66 ?_
      refine r_put (ci := 4) (k := 7) (C := RX4) (T := TX4) (N := 29) Z hB hx hb hts hown rfl in_X4 tyX4 tyX4_ok nmX4 hW.obj hS (AA.me (by omega)) (by decide) q985 rfl rfl rfl rfl (Nat.le_of_ble_eq_true rfl) dX4_readCross_67 (MW G K (up (up T 0 X4) 0 (up X4 7 (tcS (X4 7) (((5 * (lkV (T 0) 0 4)) + (lkV X1 0 4))).toNat)))) (fun H1 hz oq ho => hW.setO hI (k := 7) oq ho) (fun H locs hW hS => ?_)
      have hW := hW.eqS (S' := (up T 0 (up X4 7 (tcS (X4 7) (((5 * (lkV (T 0) 0 4)) + (lkV X1 0 4))).toNat)))) (by
          funext a
          by_cases h0 : a = 0
          · subst h0
            funext j
            by_cases k0 : j = 7
            · subst k0; rfl
            simp only [up, if_neg k0, if_true, if_false, Nat.reduceEqDiff, reduceIte]
          simp only [up, if_neg h0])
      refine lv_aload_n hx hb dX4_readCross_70 rfl (lv_at hl 2 rfl) ?_
      refine lv_iload_n hx hb dX4_readCross_71 rfl (lv_at hl 1 rfl) ?_
      refine cmV (va_runV (As := [.int (iI (lkV (T 0) 0 4))]) (rest := []) ⟨hx, hb, hml, hown, hts⟩ (mX4_noteHighest Z K hI (up T 0 (up X4 7 (tcS (X4 7) (((5 * (lkV (T 0) 0 4)) + (lkV X1 0 4))).toNat))) (up X4 7 (tcS (X4 7) (((5 * (lkV (T 0) 0 4)) + (lkV X1 0 4))).toNat)) rfl (by show -4 ≤ (X4 8) ∧ (X4 8) ≤ 4; omega) (lkV (T 0) 0 4) (by omega) H.size) (cwV 1 hts (lw_V q1131 q1133 qs45 q83 q1134) rfl rfl rfl (by decide +kernel) ⟨Nat.le_of_ble_eq_true rfl, Nat.le_of_ble_eq_true rfl⟩) (pvM (BornH.S hB hN hS) (OBJ.recv Z hB hW.obj (q := (RX4, TX4, 29)) rfl) hW) rfl rfl hl.1 rfl (lv_room (Nat.le_of_ble_eq_true rfl)) dX4_readCross_72 ⟨Nat.zero_le _, Nat.zero_le _⟩) hS (AA.le hS.1) (fun H1 locs hW1 hz1 hk1 hS => ?_)
      have hW := hW1
      clear hW1 hk1 hz1
      generalize H1 = H at hW hS ⊢
      have hW := hW.eqS (S' := (up T 0 (nhP (up X4 7 (tcS (X4 7) (((5 * (lkV (T 0) 0 4)) + (lkV X1 0 4))).toNat)) (lkV (T 0) 0 4)))) (by
          funext a
          by_cases h0 : a = 0
          · subst h0; rfl
          simp only [up, if_neg h0])
      have hn_36 : -4 ≤ (nhP (up X4 7 (tcS (X4 7) (((5 * (lkV (T 0) 0 4)) + (lkV X1 0 4))).toNat)) (lkV (T 0) 0 4)) 8 ∧ (nhP (up X4 7 (tcS (X4 7) (((5 * (lkV (T 0) 0 4)) + (lkV X1 0 4))).toNat)) (lkV (T 0) 0 4)) 8 ≤ 4 := nhP_8 (by omega) (by show -4 ≤ (X4 8) ∧ (X4 8) ≤ 4; omega)
      have hp_37 : PI (nhP (up X4 7 (tcS (X4 7) (((5 * (lkV (T 0) 0 4)) + (lkV X1 0 4))).toNat)) (lkV (T 0) 0 4)) := nhP_pi hp_30 _
      have ho_38 : (nhP (up X4 7 (tcS (X4 7) (((5 * (lkV (T 0) 0 4)) + (lkV X1 0 4))).toNat)) (lkV (T 0) 0 4)) 6 = (X4 6) := (nhP_o _ _ (by omega)).trans (by rfl)
      have ho_39 : (nhP (up X4 7 (tcS (X4 7) (((5 * (lkV (T 0) 0 4)) + (lkV X1 0 4))).toNat)) (lkV (T 0) 0 4)) 7 = (tcS (X4 7) (((5 * (lkV (T 0) 0 4)) + (lkV X1 0 4))).toNat) := (nhP_o _ _ (by omega)).trans (by rfl)
      have ho_40 : (nhP (up X4 7 (tcS (X4 7) (((5 * (lkV (T 0) 0 4)) + (lkV X1 0 4))).toNat)) (lkV (T 0) 0 4)) 10 = (X4 10) := (nhP_o _ _ (by omega)).trans (by rfl)
      generalize eX5 : (nhP (up X4 7 (tcS (X4 7) (((5 * (lkV (T 0) 0 4)) + (lkV X1 0 4))).toNat)) (lkV (T 0) 0 4)) = X5 at hp_37 hn_36 ho_38 ho_39 ho_40 hW
      refine lv_aload_n hx hb dX4_readCross_75 rfl (lv_at hl 2 rfl) ?_
      refine lv_iload_n hx hb dX4_readCross_76 rfl (lv_at hl 0 rfl) ?_
      refine cmV (va_runV (As := [.int (iI (lkV X1 0 4))]) (rest := []) ⟨hx, hb, hml, hown, hts⟩ (mX4_noteHighest Z K hI (up T 0 X5) X5 rfl (by show -4 ≤ (X5 8) ∧ (X5 8) ≤ 4; omega) (lkV X1 0 4) (by omega) H.size) (cwV 1 hts (lw_V q1131 q1133 qs45 q83 q1134) rfl rfl rfl (by decide +kernel) ⟨Nat.le_of_ble_eq_true rfl, Nat.le_of_ble_eq_true rfl⟩) (pvM (BornH.S hB hN hS) (OBJ.recv Z hB hW.obj (q := (RX4, TX4, 29)) rfl) hW) rfl rfl hl.1 rfl (lv_room (Nat.le_of_ble_eq_true rfl)) dX4_readCross_77 ⟨Nat.zero_le _, Nat.zero_le _⟩) hS (AA.le hS.1) (fun H1 locs hW1 hz1 hk1 hS => ?_)
      have hW := hW1
      clear hW1 hk1 hz1
      generalize H1 = H at hW hS ⊢
      have hW := hW.eqS (S' := (up T 0 (nhP X5 (lkV X1 0 4)))) (by
          funext a
          by_cases h0 : a = 0
          · subst h0; rfl
          simp only [up, if_neg h0])
      have hn_42 : -4 ≤ (nhP X5 (lkV X1 0 4)) 8 ∧ (nhP X5 (lkV X1 0 4)) 8 ≤ 4 := nhP_8 (by omega) (by show -4 ≤ (X5 8) ∧ (X5 8) ≤ 4; omega)
      have hp_43 : PI (nhP X5 (lkV X1 0 4)) := nhP_pi hp_37 _
      have ho_44 : (nhP X5 (lkV X1 0 4)) 6 = (X5 6) := (nhP_o _ _ (by omega)).trans (by rfl)
      have ho_45 : (nhP X5 (lkV X1 0 4)) 7 = (X5 7) := (nhP_o _ _ (by omega)).trans (by rfl)
      have ho_46 : (nhP X5 (lkV X1 0 4)) 10 = (X5 10) := (nhP_o _ _ (by omega)).trans (by rfl)
      generalize eX6 : (nhP X5 (lkV X1 0 4)) = X6 at hp_43 hn_42 ho_44 ho_45 ho_46 hW
      refine lv_aload_n hx hb dX4_readCross_80 rfl (lv_at hl 2 rfl) ?_
      refine cmV (va_runV (As := []) (rest := []) ⟨hx, hb, hml, hown, hts⟩ (mX4_takes Z K hI (up T 0 X6) X6 rfl hp_43 ht H.size) (cwV 0 hts (lw_V q1083 q1085 qs34 q83 q1086) rfl rfl rfl (by decide +kernel) ⟨Nat.le_of_ble_eq_true rfl, Nat.le_of_ble_eq_true rfl⟩) (pvM (BornH.S hB hN hS) (OBJ.recv Z hB hW.obj (q := (RX4, TX4, 29)) rfl) hW) rfl rfl hl.1 rfl (lv_room (Nat.le_of_ble_eq_true rfl)) dX4_readCross_81 ⟨Nat.zero_le _, Nat.zero_le _⟩) hS (AA.le hS.1) (fun H1 locs hW1 hz1 hk1 hS => ?_)
      have hW := hW1
      clear hW1 hk1 hz1
      generalize H1 = H at hW hS ⊢
      have hW := hW.eqS (S' := (up T 0 (tkP (T 5) X6))) (by
          funext a
          by_cases h0 : a = 0
          · subst h0; rfl
          simp only [up, if_neg h0])
      have hp_47 : PI (tkP (T 5) X6) := tkP_pi ht hp_43
      have ho_48 : (tkP (T 5) X6) 6 = (X6 6) := (tkP_o _ _ (by omega)).trans (by rfl)
      have ho_49 : (tkP (T 5) X6) 7 = (X6 7) := (tkP_o _ _ (by omega)).trans (by rfl)
      have ho_50 : (tkP (T 5) X6) 8 = (X6 8) := (tkP_o _ _ (by omega)).trans (by rfl)
      have ho_51 : (tkP (T 5) X6) 10 = (X6 10) := (tkP_o _ _ (by omega)).trans (by rfl)
      generalize eX7 : (tkP (T 5) X6) = X7 at hp_47 ho_48 ho_49 ho_50 ho_51 hW
      refine lv_aload_n hx hb dX4_readCross_84 rfl (lv_at hl 2 rfl) ?_
      refine r_get (ci := 4) (k := 4) (v := .ref (K 4)) (C := RX4) (T := TX4) (N := 29) Z hB hx hb hts hown rfl in_X4 hW.obj (by decide) q982 rfl dX4_readCross_85 ?_
      refine ii_bipush hx hb dX4_readCross_88 (by decide) ?_
      refine ii_const hx hb dX4_readCross_90 ?_
      refine lv_iload_n hx hb dX4_readCross_91 rfl (lv_at hl 1 rfl) ?_
      refine ii_mul hx hb dX4_readCross_92 ?_
      refine ii_add hx hb dX4_readCross_93 ?_
      refine lv_iload_n hx hb dX4_readCross_94 rfl (lv_at hl 0 rfl) ?_
      refine ii_add hx hb dX4_readCross_95 ?_
      refine lv_aload_n hx hb dX4_readCross_96 rfl (lv_at hl 2 rfl) ?_
      refine ii_const hx hb dX4_readCross_97 ?_
      refine ii_const hx hb dX4_readCross_98 ?_
      refine cmI (va_runV (As := [.int (iI 0), .int (iI 3)]) (rest := [.int (iI ((10 + (5 * (lkV (T 0) 0 4))) + (lkV X1 0 4))), .ref (K 4)]) ⟨hx, hb, hml, hown, hts⟩ (mX4_readNumber Z K hI (up T 0 X7) X7 rfl hp_47 (T 5) rfl ht 0 (by omega) 3 (by omega) (by omega) H.size) (cwV 2 hts (lw_V q1123 q1125 qs43 q83 q1126) rfl rfl rfl (by decide +kernel) ⟨Nat.le_of_ble_eq_true rfl, Nat.le_of_ble_eq_true rfl⟩) (pvM (BornH.S hB hN hS) (OBJ.recv Z hB hW.obj (q := (RX4, TX4, 29)) rfl) hW) rfl rfl hl.1 rfl (lv_room (Nat.le_of_ble_eq_true rfl)) dX4_readCross_99 ⟨Nat.zero_le _, Nat.zero_le _⟩) hS (AA.le hS.1) (fun H1 locs hW1 hz1 hk1 hS => ?_)
      have hW := hW1
      clear hW1 hk1 hz1
      generalize H1 = H at hW hS ⊢
      have hW := hW.eqS (S' := (up T 0 (rnP (T 5) X7 0 3))) (by
          funext a
          by_cases h0 : a = 0
          · subst h0; rfl
          simp only [up, if_neg h0])
      have b_52 := lk_in (P := X7) (lo := 0) (hi := 3) (by omega)
      have hp_53 : PI (rnP (T 5) X7 0 3) := tkP_pi ht (lkP_pi hp_47 _ _)
      have ho_54 : (rnP (T 5) X7 0 3) 6 = (X7 6) := ((tkP_o _ _ (by omega)).trans (lkP_o _ _ _ (by omega) (by omega))).trans (by rfl)
      have ho_55 : (rnP (T 5) X7 0 3) 7 = (X7 7) := ((tkP_o _ _ (by omega)).trans (lkP_o _ _ _ (by omega) (by omega))).trans (by rfl)
      have ho_56 : (rnP (T 5) X7 0 3) 8 = (X7 8) := ((tkP_o _ _ (by omega)).trans (lkP_o _ _ _ (by omega) (by omega))).trans (by rfl)
      have ho_57 : (rnP (T 5) X7 0 3) 10 = (X7 10) := ((tkP_o _ _ (by omega)).trans (lkP_o _ _ _ (by omega) (by omega))).trans (by rfl)
      generalize eX8 : (rnP (T 5) X7 0 3) = X8 at hp_53 ho_54 ho_55 ho_56 ho_57 hW
      refine r_iast (k := (10 + 5 * (lkV (T 0) 0 4).toNat + (lkV X1 0 4).toNat)) Z hB hx hb hW.draft hS (AA.me (by omega)) (by omega) (by omega) (by omega) dX4_readCross_102 (MW G K (up (up T 0 X8) 4 (up (T 4) (10 + 5 * (lkV (T 0) 0 4).toNat + (lkV X1 0 4).toNat) (lkV X7 0 3)))) (fun H1 hz oq ha => hW.setA hI (j := 4) (by omega) (by omega) (fun h => up_n _ _ (by omega)) oq ha) (fun H locs hW hS => ?_)
      have hfin : rcP (T 5) (T 0) = X8 := by unfold rcP rc7 rc5 rc4 rc3 rc2 rcJ rcI; rw [eX1, eX2, eX3, eX4, eX5, eX6, eX7, eX8]
      have hfiD : rcD (T 5) (T 0) (T 4) = (up (T 4) (10 + 5 * (lkV (T 0) 0 4).toNat + (lkV X1 0 4).toNat) (lkV X7 0 3)) := by unfold rcD rc7 rc5 rc4 rc3 rc2 rcJ rcI; rw [eX1, eX2, eX3, eX4, eX5, eX6, eX7]
      have hpw9 : (MW G K (up (up T 0 (rcP (T 5) (T 0))) 4 (rcD (T 5) (T 0) (T 4)))) H := (by rw [hfin, hfiD]; exact hW)
      exact W.vret hx hb hr (fun t ht hW9 => ⟨⟨(), rfl, trivial, by show (MW G K (up (up T 0 (rcP (T 5) (T 0))) 4 (rcD (T 5) (T 0) (T 4)))) t.heap; rw [ht]; exact hpw9⟩, hS.F ht⟩) hS.2.2 dX4_readCross_103
    · -- 42 -> 45
      refine ii_const hx hb dX4_readCross_45 ?_
      refine lv_goto (tgt := 50) hx hb dX4_readCross_46 (by decide) ?_
      refine ii_const hx hb dX4_readCross_50 ?_
      have h15_58 : inR (X3 15) := by have h9 := hp_19; omega
      refine cmV (va_runV (As := [.int (iI 1), .int (iI 4)]) (rest := []) ⟨hx, hb, hml, hown, hts⟩ (mX4_needs Z K hI (up T 0 X3) X3 rfl h15_58 1 4 (by omega) H.size) (cwV 2 hts (lw_V q1095 q1097 qs36 q83 q1098) rfl rfl rfl (by decide +kernel) ⟨Nat.le_of_ble_eq_true rfl, Nat.le_of_ble_eq_true rfl⟩) (pvM (BornH.S hB hN hS) (OBJ.recv Z hB hW.obj (q := (RX4, TX4, 29)) rfl) hW) rfl rfl hl.1 rfl (lv_room (Nat.le_of_ble_eq_true rfl)) dX4_readCross_51 ⟨Nat.zero_le _, Nat.zero_le _⟩) hS (AA.le hS.1) (fun H1 locs hW1 hz1 hk1 hS => ?_)
      have hW := hW1
      clear hW1 hk1 hz1
      generalize H1 = H at hW hS ⊢
      have hW := hW.eqS (S' := (up T 0 X3)) (by rw [show ndS X3 1 4 = X3 from ndS_1 _ (by omega)]; first | exact up_id _ 0 | rfl | (exact up_id (up T 0 X3) 0))
      have hq_59 : (ndS X3 (b2 (¬ bt (iI (X3 7)) ((5 * (lkV (T 0) 0 4)) + (lkV X1 0 4)).toNat = true)) 4) = X3 := by first | (rw [b2_t (by assumption)]; exact ndS_1 _ (by omega)) | rw [b2_f (fun q => q (by assumption))]
      rw [← hq_59] at hW
      have hp_60 : PI (ndS X3 (b2 (¬ bt (iI (X3 7)) ((5 * (lkV (T 0) 0 4)) + (lkV X1 0 4)).toNat = true)) 4) := ndS_pi hp_19 (by omega)
      have ho_61 : (ndS X3 (b2 (¬ bt (iI (X3 7)) ((5 * (lkV (T 0) 0 4)) + (lkV X1 0 4)).toNat = true)) 4) 6 = (X3 6) := (ndS_o (by omega) (by omega)).trans (by rfl)
      have ho_62 : (ndS X3 (b2 (¬ bt (iI (X3 7)) ((5 * (lkV (T 0) 0 4)) + (lkV X1 0 4)).toNat = true)) 4) 7 = (X3 7) := (ndS_o (by omega) (by omega)).trans (by rfl)
      have ho_63 : (ndS X3 (b2 (¬ bt (iI (X3 7)) ((5 * (lkV (T 0) 0 4)) + (lkV X1 0 4)).toNat = true)) 4) 8 = (X3 8) := (ndS_o (by omega) (by omega)).trans (by rfl)
      have ho_64 : (ndS X3 (b2 (¬ bt (iI (X3 7)) ((5 * (lkV (T 0) 0 4)) + (lkV X1 0 4)).toNat = true)) 4) 10 = (X3 10) := (ndS_o (by omega) (by omega)).trans (by rfl)
      generalize eX4 : (ndS X3 (b2 (¬ bt (iI (X3 7)) ((5 * (lkV (T 0) 0 4)) + (lkV X1 0 4)).toNat = true)) 4) = X4 at hp_60 ho_61 ho_62 ho_63 ho_64 hW
      refine lv_aload_n hx hb dX4_readCross_54 rfl (lv_at hl 2 rfl) ?_
      refine lv_dup hx hb dX4_readCross_55 rfl ?_
      refine r_get (ci := 4) (k := 7) (v := .int (iI (X4 7))) (C := RX4) (T := TX4) (N := 29) Z hB hx hb hts hown rfl in_X4 hW.obj (by decide) q985 rfl dX4_readCross_56 ?_
      refine ii_const hx hb dX4_readCross_59 ?_
      refine ii_const hx hb dX4_readCross_60 ?_
      refine lv_iload_n hx hb dX4_readCross_61 rfl (lv_at hl 1 rfl) ?_
      refine ii_mul hx hb dX4_readCross_62 ?_
      refine lv_iload_n hx hb dX4_readCross_63 rfl (lv_at hl 0 rfl) ?_
      refine ii_add hx hb dX4_readCross_64 ?_
      refine ii_shl1 hx hb (by omega) dX4_readCross_65 ?_
      refine ii_or2 hx hb dX4_readCross_66 ?_
      refine r_put (ci := 4) (k := 7) (C := RX4) (T := TX4) (N := 29) Z hB hx hb hts hown rfl in_X4 tyX4 tyX4_ok nmX4 hW.obj hS (AA.me (by omega)) (by decide) q985 rfl rfl rfl rfl (Nat.le_of_ble_eq_true rfl) dX4_readCross_67 (MW G K (up (up T 0 X4) 0 (up X4 7 (tcS (X4 7) (((5 * (lkV (T 0) 0 4)) + (lkV X1 0 4))).toNat)))) (fun H1 hz oq ho => hW.setO hI (k := 7) oq ho) (fun H locs hW hS => ?_)
      have hW := hW.eqS (S' := (up T 0 (up X4 7 (tcS (X4 7) (((5 * (lkV (T 0) 0 4)) + (lkV X1 0 4))).toNat)))) (by
          funext a
          by_cases h0 : a = 0
          · subst h0
            funext j
            by_cases k0 : j = 7
            · subst k0; rfl
            simp only [up, if_neg k0, if_true, if_false, Nat.reduceEqDiff, reduceIte]
          simp only [up, if_neg h0])
      refine lv_aload_n hx hb dX4_readCross_70 rfl (lv_at hl 2 rfl) ?_
      refine lv_iload_n hx hb dX4_readCross_71 rfl (lv_at hl 1 rfl) ?_
      refine cmV (va_runV (As := [.int (iI (lkV (T 0) 0 4))]) (rest := []) ⟨hx, hb, hml, hown, hts⟩ (mX4_noteHighest Z K hI (up T 0 (up X4 7 (tcS (X4 7) (((5 * (lkV (T 0) 0 4)) + (lkV X1 0 4))).toNat))) (up X4 7 (tcS (X4 7) (((5 * (lkV (T 0) 0 4)) + (lkV X1 0 4))).toNat)) rfl (by show -4 ≤ (X4 8) ∧ (X4 8) ≤ 4; omega) (lkV (T 0) 0 4) (by omega) H.size) (cwV 1 hts (lw_V q1131 q1133 qs45 q83 q1134) rfl rfl rfl (by decide +kernel) ⟨Nat.le_of_ble_eq_true rfl, Nat.le_of_ble_eq_true rfl⟩) (pvM (BornH.S hB hN hS) (OBJ.recv Z hB hW.obj (q := (RX4, TX4, 29)) rfl) hW) rfl rfl hl.1 rfl (lv_room (Nat.le_of_ble_eq_true rfl)) dX4_readCross_72 ⟨Nat.zero_le _, Nat.zero_le _⟩) hS (AA.le hS.1) (fun H1 locs hW1 hz1 hk1 hS => ?_)
      have hW := hW1
      clear hW1 hk1 hz1
      generalize H1 = H at hW hS ⊢
      have hW := hW.eqS (S' := (up T 0 (nhP (up X4 7 (tcS (X4 7) (((5 * (lkV (T 0) 0 4)) + (lkV X1 0 4))).toNat)) (lkV (T 0) 0 4)))) (by
          funext a
          by_cases h0 : a = 0
          · subst h0; rfl
          simp only [up, if_neg h0])
      have hn_66 : -4 ≤ (nhP (up X4 7 (tcS (X4 7) (((5 * (lkV (T 0) 0 4)) + (lkV X1 0 4))).toNat)) (lkV (T 0) 0 4)) 8 ∧ (nhP (up X4 7 (tcS (X4 7) (((5 * (lkV (T 0) 0 4)) + (lkV X1 0 4))).toNat)) (lkV (T 0) 0 4)) 8 ≤ 4 := nhP_8 (by omega) (by show -4 ≤ (X4 8) ∧ (X4 8) ≤ 4; omega)
      have hp_67 : PI (nhP (up X4 7 (tcS (X4 7) (((5 * (lkV (T 0) 0 4)) + (lkV X1 0 4))).toNat)) (lkV (T 0) 0 4)) := nhP_pi hp_60 _
      have ho_68 : (nhP (up X4 7 (tcS (X4 7) (((5 * (lkV (T 0) 0 4)) + (lkV X1 0 4))).toNat)) (lkV (T 0) 0 4)) 6 = (X4 6) := (nhP_o _ _ (by omega)).trans (by rfl)
      have ho_69 : (nhP (up X4 7 (tcS (X4 7) (((5 * (lkV (T 0) 0 4)) + (lkV X1 0 4))).toNat)) (lkV (T 0) 0 4)) 7 = (tcS (X4 7) (((5 * (lkV (T 0) 0 4)) + (lkV X1 0 4))).toNat) := (nhP_o _ _ (by omega)).trans (by rfl)
      have ho_70 : (nhP (up X4 7 (tcS (X4 7) (((5 * (lkV (T 0) 0 4)) + (lkV X1 0 4))).toNat)) (lkV (T 0) 0 4)) 10 = (X4 10) := (nhP_o _ _ (by omega)).trans (by rfl)
      generalize eX5 : (nhP (up X4 7 (tcS (X4 7) (((5 * (lkV (T 0) 0 4)) + (lkV X1 0 4))).toNat)) (lkV (T 0) 0 4)) = X5 at hp_67 hn_66 ho_68 ho_69 ho_70 hW
      refine lv_aload_n hx hb dX4_readCross_75 rfl (lv_at hl 2 rfl) ?_
      refine lv_iload_n hx hb dX4_readCross_76 rfl (lv_at hl 0 rfl) ?_
      refine cmV (va_runV (As := [.int (iI (lkV X1 0 4))]) (rest := []) ⟨hx, hb, hml, hown, hts⟩ (mX4_noteHighest Z K hI (up T 0 X5) X5 rfl (by show -4 ≤ (X5 8) ∧ (X5 8) ≤ 4; omega) (lkV X1 0 4) (by omega) H.size) (cwV 1 hts (lw_V q1131 q1133 qs45 q83 q1134) rfl rfl rfl (by decide +kernel) ⟨Nat.le_of_ble_eq_true rfl, Nat.le_of_ble_eq_true rfl⟩) (pvM (BornH.S hB hN hS) (OBJ.recv Z hB hW.obj (q := (RX4, TX4, 29)) rfl) hW) rfl rfl hl.1 rfl (lv_room (Nat.le_of_ble_eq_true rfl)) dX4_readCross_77 ⟨Nat.zero_le _, Nat.zero_le _⟩) hS (AA.le hS.1) (fun H1 locs hW1 hz1 hk1 hS => ?_)
      have hW := hW1
      clear hW1 hk1 hz1
      generalize H1 = H at hW hS ⊢
      have hW := hW.eqS (S' := (up T 0 (nhP X5 (lkV X1 0 4)))) (by
          funext a
          by_cases h0 : a = 0
          · subst h0; rfl
          simp only [up, if_neg h0])
      have hn_72 : -4 ≤ (nhP X5 (lkV X1 0 4)) 8 ∧ (nhP X5 (lkV X1 0 4)) 8 ≤ 4 := nhP_8 (by omega) (by show -4 ≤ (X5 8) ∧ (X5 8) ≤ 4; omega)
      have hp_73 : PI (nhP X5 (lkV X1 0 4)) := nhP_pi hp_67 _
      have ho_74 : (nhP X5 (lkV X1 0 4)) 6 = (X5 6) := (nhP_o _ _ (by omega)).trans (by rfl)
      have ho_75 : (nhP X5 (lkV X1 0 4)) 7 = (X5 7) := (nhP_o _ _ (by omega)).trans (by rfl)
      have ho_76 : (nhP X5 (lkV X1 0 4)) 10 = (X5 10) := (nhP_o _ _ (by omega)).trans (by rfl)
      generalize eX6 : (nhP X5 (lkV X1 0 4)) = X6 at hp_73 hn_72 ho_74 ho_75 ho_76 hW
      refine lv_aload_n hx hb dX4_readCross_80 rfl (lv_at hl 2 rfl) ?_
      refine cmV (va_runV (As := []) (rest := []) ⟨hx, hb, hml, hown, hts⟩ (mX4_takes Z K hI (up T 0 X6) X6 rfl hp_73 ht H.size) (cwV 0 hts (lw_V q1083 q1085 qs34 q83 q1086) rfl rfl rfl (by decide +kernel) ⟨Nat.le_of_ble_eq_true rfl, Nat.le_of_ble_eq_true rfl⟩) (pvM (BornH.S hB hN hS) (OBJ.recv Z hB hW.obj (q := (RX4, TX4, 29)) rfl) hW) rfl rfl hl.1 rfl (lv_room (Nat.le_of_ble_eq_true rfl)) dX4_readCross_81 ⟨Nat.zero_le _, Nat.zero_le _⟩) hS (AA.le hS.1) (fun H1 locs hW1 hz1 hk1 hS => ?_)
      have hW := hW1
      clear hW1 hk1 hz1
      generalize H1 = H at hW hS ⊢
      have hW := hW.eqS (S' := (up T 0 (tkP (T 5) X6))) (by
          funext a
          by_cases h0 : a = 0
          · subst h0; rfl
          simp only [up, if_neg h0])
      have hp_77 : PI (tkP (T 5) X6) := tkP_pi ht hp_73
      have ho_78 : (tkP (T 5) X6) 6 = (X6 6) := (tkP_o _ _ (by omega)).trans (by rfl)
      have ho_79 : (tkP (T 5) X6) 7 = (X6 7) := (tkP_o _ _ (by omega)).trans (by rfl)
      have ho_80 : (tkP (T 5) X6) 8 = (X6 8) := (tkP_o _ _ (by omega)).trans (by rfl)
      have ho_81 : (tkP (T 5) X6) 10 = (X6 10) := (tkP_o _ _ (by omega)).trans (by rfl)
      generalize eX7 : (tkP (T 5) X6) = X7 at hp_77 ho_78 ho_79 ho_80 ho_81 hW
      refine lv_aload_n hx hb dX4_readCross_84 rfl (lv_at hl 2 rfl) ?_
      refine r_get (ci := 4) (k := 4) (v := .ref (K 4)) (C := RX4) (T := TX4) (N := 29) Z hB hx hb hts hown rfl in_X4 hW.obj (by decide) q982 rfl dX4_readCross_85 ?_
      refine ii_bipush hx hb dX4_readCross_88 (by decide) ?_
      refine ii_const hx hb dX4_readCross_90 ?_
      refine lv_iload_n hx hb dX4_readCross_91 rfl (lv_at hl 1 rfl) ?_
      refine ii_mul hx hb dX4_readCross_92 ?_
      refine ii_add hx hb dX4_readCross_93 ?_
      refine lv_iload_n hx hb dX4_readCross_94 rfl (lv_at hl 0 rfl) ?_
      refine ii_add hx hb dX4_readCross_95 ?_
      refine lv_aload_n hx hb dX4_readCross_96 rfl (lv_at hl 2 rfl) ?_
      refine ii_const hx hb dX4_readCross_97 ?_
      refine ii_const hx hb dX4_readCross_98 ?_
      refine cmI (va_runV (As := [.int (iI 0), .int (iI 3)]) (rest := [.int (iI ((10 + (5 * (lkV (T 0) 0 4))) + (lkV X1 0 4))), .ref (K 4)]) ⟨hx, hb, hml, hown, hts⟩ (mX4_readNumber Z K hI (up T 0 X7) X7 rfl hp_77 (T 5) rfl ht 0 (by omega) 3 (by omega) (by omega) H.size) (cwV 2 hts (lw_V q1123 q1125 qs43 q83 q1126) rfl rfl rfl (by decide +kernel) ⟨Nat.le_of_ble_eq_true rfl, Nat.le_of_ble_eq_true rfl⟩) (pvM (BornH.S hB hN hS) (OBJ.recv Z hB hW.obj (q := (RX4, TX4, 29)) rfl) hW) rfl rfl hl.1 rfl (lv_room (Nat.le_of_ble_eq_true rfl)) dX4_readCross_99 ⟨Nat.zero_le _, Nat.zero_le _⟩) hS (AA.le hS.1) (fun H1 locs hW1 hz1 hk1 hS => ?_)
      have hW := hW1
      clear hW1 hk1 hz1
      generalize H1 = H at hW hS ⊢
      have hW := hW.eqS (S' := (up T 0 (rnP (T 5) X7 0 3))) (by
          funext a
          by_cases h0 : a = 0
          · subst h0; rfl
          simp only [up, if_neg h0])
      have b_82 := lk_in (P := X7) (lo := 0) (hi := 3) (by omega)
      have hp_83 : PI (rnP (T 5) X7 0 3) := tkP_pi ht (lkP_pi hp_77 _ _)
      have ho_84 : (rnP (T 5) X7 0 3) 6 = (X7 6) := ((tkP_o _ _ (by omega)).trans (lkP_o _ _ _ (by omega) (by omega))).trans (by rfl)
      have ho_85 : (rnP (T 5) X7 0 3) 7 = (X7 7) := ((tkP_o _ _ (by omega)).trans (lkP_o _ _ _ (by omega) (by omega))).trans (by rfl)
      have ho_86 : (rnP (T 5) X7 0 3) 8 = (X7 8) := ((tkP_o _ _ (by omega)).trans (lkP_o _ _ _ (by omega) (by omega))).trans (by rfl)
      have ho_87 : (rnP (T 5) X7 0 3) 10 = (X7 10) := ((tkP_o _ _ (by omega)).trans (lkP_o _ _ _ (by omega) (by omega))).trans (by rfl)
      generalize eX8 : (rnP (T 5) X7 0 3) = X8 at hp_83 ho_84 ho_85 ho_86 ho_87 hW
      refine r_iast (k := (10 + 5 * (lkV (T 0) 0 4).toNat + (lkV X1 0 4).toNat)) Z hB hx hb hW.draft hS (AA.me (by omega)) (by omega) (by omega) (by omega) dX4_readCross_102 (MW G K (up (up T 0 X8) 4 (up (T 4) (10 + 5 * (lkV (T 0) 0 4).toNat + (lkV X1 0 4).toNat) (lkV X7 0 3)))) (fun H1 hz oq ha => hW.setA hI (j := 4) (by omega) (by omega) (fun h => up_n _ _ (by omega)) oq ha) (fun H locs hW hS => ?_)
      have hfin : rcP (T 5) (T 0) = X8 := by unfold rcP rc7 rc5 rc4 rc3 rc2 rcJ rcI; rw [eX1, eX2, eX3, eX4, eX5, eX6, eX7, eX8]
      have hfiD : rcD (T 5) (T 0) (T 4) = (up (T 4) (10 + 5 * (lkV (T 0) 0 4).toNat + (lkV X1 0 4).toNat) (lkV X7 0 3)) := by unfold rcD rc7 rc5 rc4 rc3 rc2 rcJ rcI; rw [eX1, eX2, eX3, eX4, eX5, eX6, eX7]
      have hpw9 : (MW G K (up (up T 0 (rcP (T 5) (T 0))) 4 (rcD (T 5) (T 0) (T 4)))) H := (by rw [hfin, hfiD]; exact hW)
      exact W.vret hx hb hr (fun t ht hW9 => ⟨⟨(), rfl, trivial, by show (MW G K (up (up T 0 (rcP (T 5) (T 0))) 4 (rcD (T 5) (T 0) (T 4)))) t.heap; rw [ht]; exact hpw9⟩, hS.F ht⟩) hS.2.2 dX4_readCross_103
  · -- 17 -> 20
    refine ii_const hx hb dX4_readCross_20 ?_
    refine lv_goto (tgt := 25) hx hb dX4_readCross_21 (by decide) ?_
    refine ii_const hx hb dX4_readCross_25 ?_
    have h15_88 : inR (X2 15) := by have h9 := hp_8; omega
    refine cmV (va_runV (As := [.int (iI 1), .int (iI 3)]) (rest := []) ⟨hx, hb, hml, hown, hts⟩ (mX4_needs Z K hI (up T 0 X2) X2 rfl h15_88 1 3 (by omega) H.size) (cwV 2 hts (lw_V q1095 q1097 qs36 q83 q1098) rfl rfl rfl (by decide +kernel) ⟨Nat.le_of_ble_eq_true rfl, Nat.le_of_ble_eq_true rfl⟩) (pvM (BornH.S hB hN hS) (OBJ.recv Z hB hW.obj (q := (RX4, TX4, 29)) rfl) hW) rfl rfl hl.1 rfl (lv_room (Nat.le_of_ble_eq_true rfl)) dX4_readCross_26 ⟨Nat.zero_le _, Nat.zero_le _⟩) hS (AA.le hS.1) (fun H1 locs hW1 hz1 hk1 hS => ?_)
    have hW := hW1
    clear hW1 hk1 hz1
    generalize H1 = H at hW hS ⊢
    have hW := hW.eqS (S' := (up T 0 X2)) (by rw [show ndS X2 1 3 = X2 from ndS_1 _ (by omega)]; first | exact up_id _ 0 | rfl | (exact up_id (up T 0 X2) 0))
    have hq_89 : (ndS X2 (b2 ((lkV (T 0) 0 4) ≠ (lkV X1 0 4))) 3) = X2 := by first | (rw [b2_t (by omega)]; exact ndS_1 _ (by omega)) | rw [b2_f (by omega)]
    rw [← hq_89] at hW
    have hp_90 : PI (ndS X2 (b2 ((lkV (T 0) 0 4) ≠ (lkV X1 0 4))) 3) := ndS_pi hp_8 (by omega)
    have ho_91 : (ndS X2 (b2 ((lkV (T 0) 0 4) ≠ (lkV X1 0 4))) 3) 6 = (X2 6) := (ndS_o (by omega) (by omega)).trans (by rfl)
    have ho_92 : (ndS X2 (b2 ((lkV (T 0) 0 4) ≠ (lkV X1 0 4))) 3) 7 = (X2 7) := (ndS_o (by omega) (by omega)).trans (by rfl)
    have ho_93 : (ndS X2 (b2 ((lkV (T 0) 0 4) ≠ (lkV X1 0 4))) 3) 8 = (X2 8) := (ndS_o (by omega) (by omega)).trans (by rfl)
    have ho_94 : (ndS X2 (b2 ((lkV (T 0) 0 4) ≠ (lkV X1 0 4))) 3) 10 = (X2 10) := (ndS_o (by omega) (by omega)).trans (by rfl)
    generalize eX3 : (ndS X2 (b2 ((lkV (T 0) 0 4) ≠ (lkV X1 0 4))) 3) = X3 at hp_90 ho_91 ho_92 ho_93 ho_94 hW
    refine lv_aload_n hx hb dX4_readCross_29 rfl (lv_at hl 2 rfl) ?_
    refine lv_aload_n hx hb dX4_readCross_30 rfl (lv_at hl 2 rfl) ?_
    refine r_get (ci := 4) (k := 7) (v := .int (iI (X3 7))) (C := RX4) (T := TX4) (N := 29) Z hB hx hb hts hown rfl in_X4 hW.obj (by decide) q985 rfl dX4_readCross_31 ?_
    refine ii_const hx hb dX4_readCross_34 ?_
    refine lv_iload_n hx hb dX4_readCross_35 rfl (lv_at hl 1 rfl) ?_
    refine ii_mul hx hb dX4_readCross_36 ?_
    refine lv_iload_n hx hb dX4_readCross_37 rfl (lv_at hl 0 rfl) ?_
    refine ii_add hx hb dX4_readCross_38 ?_
    refine ii_bit hx hb (by omega) dX4_readCross_39 dX4_readCross_40 dX4_readCross_41 ?_
    refine bb_if_ne (P := bt (iI (X3 7)) (((5 * (lkV (T 0) 0 4)) + (lkV X1 0 4))).toNat = true) (tgt := 49) hx hb dX4_readCross_42 (by decide) (fun c_95 => ?_) (fun c_95 => ?_)
    · -- 42 -> 49
      refine ii_const hx hb dX4_readCross_49 ?_
      refine ii_const hx hb dX4_readCross_50 ?_
      have h15_96 : inR (X3 15) := by have h9 := hp_90; omega
      refine cmV (va_runV (As := [.int (iI 0), .int (iI 4)]) (rest := []) ⟨hx, hb, hml, hown, hts⟩ (mX4_needs Z K hI (up T 0 X3) X3 rfl h15_96 0 4 (by omega) H.size) (cwV 2 hts (lw_V q1095 q1097 qs36 q83 q1098) rfl rfl rfl (by decide +kernel) ⟨Nat.le_of_ble_eq_true rfl, Nat.le_of_ble_eq_true rfl⟩) (pvM (BornH.S hB hN hS) (OBJ.recv Z hB hW.obj (q := (RX4, TX4, 29)) rfl) hW) rfl rfl hl.1 rfl (lv_room (Nat.le_of_ble_eq_true rfl)) dX4_readCross_51 ⟨Nat.zero_le _, Nat.zero_le _⟩) hS (AA.le hS.1) (fun H1 locs hW1 hz1 hk1 hS => ?_)
      have hW := hW1
      clear hW1 hk1 hz1
      generalize H1 = H at hW hS ⊢
      have hW := hW.eqS (S' := (up T 0 (ndS X3 0 4))) (by
          funext a
          by_cases h0 : a = 0
          · subst h0; rfl
          simp only [up, if_neg h0])
      have hf_97 := ndS_f X3 0 4
      have hp_98 : PI (ndS X3 0 4) := ndS_pi hp_90 (by omega)
      have hq_100 : (ndS X3 (b2 (¬ bt (iI (X3 7)) ((5 * (lkV (T 0) 0 4)) + (lkV X1 0 4)).toNat = true)) 4) = (ndS X3 0 4) := by first | (rw [b2_t (by assumption)]; exact ndS_1 _ (by omega)) | rw [b2_f (fun q => q (by assumption))]
      rw [← hq_100] at hW
      have hp_101 : PI (ndS X3 (b2 (¬ bt (iI (X3 7)) ((5 * (lkV (T 0) 0 4)) + (lkV X1 0 4)).toNat = true)) 4) := ndS_pi hp_90 (by omega)
      have ho_102 : (ndS X3 (b2 (¬ bt (iI (X3 7)) ((5 * (lkV (T 0) 0 4)) + (lkV X1 0 4)).toNat = true)) 4) 6 = (X3 6) := (ndS_o (by omega) (by omega)).trans (by rfl)
      have ho_103 : (ndS X3 (b2 (¬ bt (iI (X3 7)) ((5 * (lkV (T 0) 0 4)) + (lkV X1 0 4)).toNat = true)) 4) 7 = (X3 7) := (ndS_o (by omega) (by omega)).trans (by rfl)
      have ho_104 : (ndS X3 (b2 (¬ bt (iI (X3 7)) ((5 * (lkV (T 0) 0 4)) + (lkV X1 0 4)).toNat = true)) 4) 8 = (X3 8) := (ndS_o (by omega) (by omega)).trans (by rfl)
      have ho_105 : (ndS X3 (b2 (¬ bt (iI (X3 7)) ((5 * (lkV (T 0) 0 4)) + (lkV X1 0 4)).toNat = true)) 4) 10 = (X3 10) := (ndS_o (by omega) (by omega)).trans (by rfl)
      generalize eX4 : (ndS X3 (b2 (¬ bt (iI (X3 7)) ((5 * (lkV (T 0) 0 4)) + (lkV X1 0 4)).toNat = true)) 4) = X4 at hp_101 ho_102 ho_103 ho_104 ho_105 hW
      refine lv_aload_n hx hb dX4_readCross_54 rfl (lv_at hl 2 rfl) ?_
      refine lv_dup hx hb dX4_readCross_55 rfl ?_
      refine r_get (ci := 4) (k := 7) (v := .int (iI (X4 7))) (C := RX4) (T := TX4) (N := 29) Z hB hx hb hts hown rfl in_X4 hW.obj (by decide) q985 rfl dX4_readCross_56 ?_
      refine ii_const hx hb dX4_readCross_59 ?_
      refine ii_const hx hb dX4_readCross_60 ?_
      refine lv_iload_n hx hb dX4_readCross_61 rfl (lv_at hl 1 rfl) ?_
      refine ii_mul hx hb dX4_readCross_62 ?_
      refine lv_iload_n hx hb dX4_readCross_63 rfl (lv_at hl 0 rfl) ?_
      refine ii_add hx hb dX4_readCross_64 ?_
      refine ii_shl1 hx hb (by omega) dX4_readCross_65 ?_
      refine ii_or2 hx hb dX4_readCross_66 ?_
      refine r_put (ci := 4) (k := 7) (C := RX4) (T := TX4) (N := 29) Z hB hx hb hts hown rfl in_X4 tyX4 tyX4_ok nmX4 hW.obj hS (AA.me (by omega)) (by decide) q985 rfl rfl rfl rfl (Nat.le_of_ble_eq_true rfl) dX4_readCross_67 (MW G K (up (up T 0 X4) 0 (up X4 7 (tcS (X4 7) (((5 * (lkV (T 0) 0 4)) + (lkV X1 0 4))).toNat)))) (fun H1 hz oq ho => hW.setO hI (k := 7) oq ho) (fun H locs hW hS => ?_)
      have hW := hW.eqS (S' := (up T 0 (up X4 7 (tcS (X4 7) (((5 * (lkV (T 0) 0 4)) + (lkV X1 0 4))).toNat)))) (by
          funext a
          by_cases h0 : a = 0
          · subst h0
            funext j
            by_cases k0 : j = 7
            · subst k0; rfl
            simp only [up, if_neg k0, if_true, if_false, Nat.reduceEqDiff, reduceIte]
          simp only [up, if_neg h0])
      refine lv_aload_n hx hb dX4_readCross_70 rfl (lv_at hl 2 rfl) ?_
      refine lv_iload_n hx hb dX4_readCross_71 rfl (lv_at hl 1 rfl) ?_
      refine cmV (va_runV (As := [.int (iI (lkV (T 0) 0 4))]) (rest := []) ⟨hx, hb, hml, hown, hts⟩ (mX4_noteHighest Z K hI (up T 0 (up X4 7 (tcS (X4 7) (((5 * (lkV (T 0) 0 4)) + (lkV X1 0 4))).toNat))) (up X4 7 (tcS (X4 7) (((5 * (lkV (T 0) 0 4)) + (lkV X1 0 4))).toNat)) rfl (by show -4 ≤ (X4 8) ∧ (X4 8) ≤ 4; omega) (lkV (T 0) 0 4) (by omega) H.size) (cwV 1 hts (lw_V q1131 q1133 qs45 q83 q1134) rfl rfl rfl (by decide +kernel) ⟨Nat.le_of_ble_eq_true rfl, Nat.le_of_ble_eq_true rfl⟩) (pvM (BornH.S hB hN hS) (OBJ.recv Z hB hW.obj (q := (RX4, TX4, 29)) rfl) hW) rfl rfl hl.1 rfl (lv_room (Nat.le_of_ble_eq_true rfl)) dX4_readCross_72 ⟨Nat.zero_le _, Nat.zero_le _⟩) hS (AA.le hS.1) (fun H1 locs hW1 hz1 hk1 hS => ?_)
      have hW := hW1
      clear hW1 hk1 hz1
      generalize H1 = H at hW hS ⊢
      have hW := hW.eqS (S' := (up T 0 (nhP (up X4 7 (tcS (X4 7) (((5 * (lkV (T 0) 0 4)) + (lkV X1 0 4))).toNat)) (lkV (T 0) 0 4)))) (by
          funext a
          by_cases h0 : a = 0
          · subst h0; rfl
          simp only [up, if_neg h0])
      have hn_107 : -4 ≤ (nhP (up X4 7 (tcS (X4 7) (((5 * (lkV (T 0) 0 4)) + (lkV X1 0 4))).toNat)) (lkV (T 0) 0 4)) 8 ∧ (nhP (up X4 7 (tcS (X4 7) (((5 * (lkV (T 0) 0 4)) + (lkV X1 0 4))).toNat)) (lkV (T 0) 0 4)) 8 ≤ 4 := nhP_8 (by omega) (by show -4 ≤ (X4 8) ∧ (X4 8) ≤ 4; omega)
      have hp_108 : PI (nhP (up X4 7 (tcS (X4 7) (((5 * (lkV (T 0) 0 4)) + (lkV X1 0 4))).toNat)) (lkV (T 0) 0 4)) := nhP_pi hp_101 _
      have ho_109 : (nhP (up X4 7 (tcS (X4 7) (((5 * (lkV (T 0) 0 4)) + (lkV X1 0 4))).toNat)) (lkV (T 0) 0 4)) 6 = (X4 6) := (nhP_o _ _ (by omega)).trans (by rfl)
      have ho_110 : (nhP (up X4 7 (tcS (X4 7) (((5 * (lkV (T 0) 0 4)) + (lkV X1 0 4))).toNat)) (lkV (T 0) 0 4)) 7 = (tcS (X4 7) (((5 * (lkV (T 0) 0 4)) + (lkV X1 0 4))).toNat) := (nhP_o _ _ (by omega)).trans (by rfl)
      have ho_111 : (nhP (up X4 7 (tcS (X4 7) (((5 * (lkV (T 0) 0 4)) + (lkV X1 0 4))).toNat)) (lkV (T 0) 0 4)) 10 = (X4 10) := (nhP_o _ _ (by omega)).trans (by rfl)
      generalize eX5 : (nhP (up X4 7 (tcS (X4 7) (((5 * (lkV (T 0) 0 4)) + (lkV X1 0 4))).toNat)) (lkV (T 0) 0 4)) = X5 at hp_108 hn_107 ho_109 ho_110 ho_111 hW
      refine lv_aload_n hx hb dX4_readCross_75 rfl (lv_at hl 2 rfl) ?_
      refine lv_iload_n hx hb dX4_readCross_76 rfl (lv_at hl 0 rfl) ?_
      refine cmV (va_runV (As := [.int (iI (lkV X1 0 4))]) (rest := []) ⟨hx, hb, hml, hown, hts⟩ (mX4_noteHighest Z K hI (up T 0 X5) X5 rfl (by show -4 ≤ (X5 8) ∧ (X5 8) ≤ 4; omega) (lkV X1 0 4) (by omega) H.size) (cwV 1 hts (lw_V q1131 q1133 qs45 q83 q1134) rfl rfl rfl (by decide +kernel) ⟨Nat.le_of_ble_eq_true rfl, Nat.le_of_ble_eq_true rfl⟩) (pvM (BornH.S hB hN hS) (OBJ.recv Z hB hW.obj (q := (RX4, TX4, 29)) rfl) hW) rfl rfl hl.1 rfl (lv_room (Nat.le_of_ble_eq_true rfl)) dX4_readCross_77 ⟨Nat.zero_le _, Nat.zero_le _⟩) hS (AA.le hS.1) (fun H1 locs hW1 hz1 hk1 hS => ?_)
      have hW := hW1
      clear hW1 hk1 hz1
      generalize H1 = H at hW hS ⊢
      have hW := hW.eqS (S' := (up T 0 (nhP X5 (lkV X1 0 4)))) (by
          funext a
          by_cases h0 : a = 0
          · subst h0; rfl
          simp only [up, if_neg h0])
      have hn_113 : -4 ≤ (nhP X5 (lkV X1 0 4)) 8 ∧ (nhP X5 (lkV X1 0 4)) 8 ≤ 4 := nhP_8 (by omega) (by show -4 ≤ (X5 8) ∧ (X5 8) ≤ 4; omega)
      have hp_114 : PI (nhP X5 (lkV X1 0 4)) := nhP_pi hp_108 _
      have ho_115 : (nhP X5 (lkV X1 0 4)) 6 = (X5 6) := (nhP_o _ _ (by omega)).trans (by rfl)
      have ho_116 : (nhP X5 (lkV X1 0 4)) 7 = (X5 7) := (nhP_o _ _ (by omega)).trans (by rfl)
      have ho_117 : (nhP X5 (lkV X1 0 4)) 10 = (X5 10) := (nhP_o _ _ (by omega)).trans (by rfl)
      generalize eX6 : (nhP X5 (lkV X1 0 4)) = X6 at hp_114 hn_113 ho_115 ho_116 ho_117 hW
      refine lv_aload_n hx hb dX4_readCross_80 rfl (lv_at hl 2 rfl) ?_
      refine cmV (va_runV (As := []) (rest := []) ⟨hx, hb, hml, hown, hts⟩ (mX4_takes Z K hI (up T 0 X6) X6 rfl hp_114 ht H.size) (cwV 0 hts (lw_V q1083 q1085 qs34 q83 q1086) rfl rfl rfl (by decide +kernel) ⟨Nat.le_of_ble_eq_true rfl, Nat.le_of_ble_eq_true rfl⟩) (pvM (BornH.S hB hN hS) (OBJ.recv Z hB hW.obj (q := (RX4, TX4, 29)) rfl) hW) rfl rfl hl.1 rfl (lv_room (Nat.le_of_ble_eq_true rfl)) dX4_readCross_81 ⟨Nat.zero_le _, Nat.zero_le _⟩) hS (AA.le hS.1) (fun H1 locs hW1 hz1 hk1 hS => ?_)
      have hW := hW1
      clear hW1 hk1 hz1
      generalize H1 = H at hW hS ⊢
      have hW := hW.eqS (S' := (up T 0 (tkP (T 5) X6))) (by
          funext a
          by_cases h0 : a = 0
          · subst h0; rfl
          simp only [up, if_neg h0])
      have hp_118 : PI (tkP (T 5) X6) := tkP_pi ht hp_114
      have ho_119 : (tkP (T 5) X6) 6 = (X6 6) := (tkP_o _ _ (by omega)).trans (by rfl)
      have ho_120 : (tkP (T 5) X6) 7 = (X6 7) := (tkP_o _ _ (by omega)).trans (by rfl)
      have ho_121 : (tkP (T 5) X6) 8 = (X6 8) := (tkP_o _ _ (by omega)).trans (by rfl)
      have ho_122 : (tkP (T 5) X6) 10 = (X6 10) := (tkP_o _ _ (by omega)).trans (by rfl)
      generalize eX7 : (tkP (T 5) X6) = X7 at hp_118 ho_119 ho_120 ho_121 ho_122 hW
      refine lv_aload_n hx hb dX4_readCross_84 rfl (lv_at hl 2 rfl) ?_
      refine r_get (ci := 4) (k := 4) (v := .ref (K 4)) (C := RX4) (T := TX4) (N := 29) Z hB hx hb hts hown rfl in_X4 hW.obj (by decide) q982 rfl dX4_readCross_85 ?_
      refine ii_bipush hx hb dX4_readCross_88 (by decide) ?_
      refine ii_const hx hb dX4_readCross_90 ?_
      refine lv_iload_n hx hb dX4_readCross_91 rfl (lv_at hl 1 rfl) ?_
      refine ii_mul hx hb dX4_readCross_92 ?_
      refine ii_add hx hb dX4_readCross_93 ?_
      refine lv_iload_n hx hb dX4_readCross_94 rfl (lv_at hl 0 rfl) ?_
      refine ii_add hx hb dX4_readCross_95 ?_
      refine lv_aload_n hx hb dX4_readCross_96 rfl (lv_at hl 2 rfl) ?_
      refine ii_const hx hb dX4_readCross_97 ?_
      refine ii_const hx hb dX4_readCross_98 ?_
      refine cmI (va_runV (As := [.int (iI 0), .int (iI 3)]) (rest := [.int (iI ((10 + (5 * (lkV (T 0) 0 4))) + (lkV X1 0 4))), .ref (K 4)]) ⟨hx, hb, hml, hown, hts⟩ (mX4_readNumber Z K hI (up T 0 X7) X7 rfl hp_118 (T 5) rfl ht 0 (by omega) 3 (by omega) (by omega) H.size) (cwV 2 hts (lw_V q1123 q1125 qs43 q83 q1126) rfl rfl rfl (by decide +kernel) ⟨Nat.le_of_ble_eq_true rfl, Nat.le_of_ble_eq_true rfl⟩) (pvM (BornH.S hB hN hS) (OBJ.recv Z hB hW.obj (q := (RX4, TX4, 29)) rfl) hW) rfl rfl hl.1 rfl (lv_room (Nat.le_of_ble_eq_true rfl)) dX4_readCross_99 ⟨Nat.zero_le _, Nat.zero_le _⟩) hS (AA.le hS.1) (fun H1 locs hW1 hz1 hk1 hS => ?_)
      have hW := hW1
      clear hW1 hk1 hz1
      generalize H1 = H at hW hS ⊢
      have hW := hW.eqS (S' := (up T 0 (rnP (T 5) X7 0 3))) (by
          funext a
          by_cases h0 : a = 0
          · subst h0; rfl
          simp only [up, if_neg h0])
      have b_123 := lk_in (P := X7) (lo := 0) (hi := 3) (by omega)
      have hp_124 : PI (rnP (T 5) X7 0 3) := tkP_pi ht (lkP_pi hp_118 _ _)
      have ho_125 : (rnP (T 5) X7 0 3) 6 = (X7 6) := ((tkP_o _ _ (by omega)).trans (lkP_o _ _ _ (by omega) (by omega))).trans (by rfl)
      have ho_126 : (rnP (T 5) X7 0 3) 7 = (X7 7) := ((tkP_o _ _ (by omega)).trans (lkP_o _ _ _ (by omega) (by omega))).trans (by rfl)
      have ho_127 : (rnP (T 5) X7 0 3) 8 = (X7 8) := ((tkP_o _ _ (by omega)).trans (lkP_o _ _ _ (by omega) (by omega))).trans (by rfl)
      have ho_128 : (rnP (T 5) X7 0 3) 10 = (X7 10) := ((tkP_o _ _ (by omega)).trans (lkP_o _ _ _ (by omega) (by omega))).trans (by rfl)
      generalize eX8 : (rnP (T 5) X7 0 3) = X8 at hp_124 ho_125 ho_126 ho_127 ho_128 hW
      refine r_iast (k := (10 + 5 * (lkV (T 0) 0 4).toNat + (lkV X1 0 4).toNat)) Z hB hx hb hW.draft hS (AA.me (by omega)) (by omega) (by omega) (by omega) dX4_readCross_102 (MW G K (up (up T 0 X8) 4 (up (T 4) (10 + 5 * (lkV (T 0) 0 4).toNat + (lkV X1 0 4).toNat) (lkV X7 0 3)))) (fun H1 hz oq ha => hW.setA hI (j := 4) (by omega) (by omega) (fun h => up_n _ _ (by omega)) oq ha) (fun H locs hW hS => ?_)
      have hfin : rcP (T 5) (T 0) = X8 := by unfold rcP rc7 rc5 rc4 rc3 rc2 rcJ rcI; rw [eX1, eX2, eX3, eX4, eX5, eX6, eX7, eX8]
      have hfiD : rcD (T 5) (T 0) (T 4) = (up (T 4) (10 + 5 * (lkV (T 0) 0 4).toNat + (lkV X1 0 4).toNat) (lkV X7 0 3)) := by unfold rcD rc7 rc5 rc4 rc3 rc2 rcJ rcI; rw [eX1, eX2, eX3, eX4, eX5, eX6, eX7]
      have hpw9 : (MW G K (up (up T 0 (rcP (T 5) (T 0))) 4 (rcD (T 5) (T 0) (T 4)))) H := (by rw [hfin, hfiD]; exact hW)
      exact W.vret hx hb hr (fun t ht hW9 => ⟨⟨(), rfl, trivial, by show (MW G K (up (up T 0 (rcP (T 5) (T 0))) 4 (rcD (T 5) (T 0) (T 4)))) t.heap; rw [ht]; exact hpw9⟩, hS.F ht⟩) hS.2.2 dX4_readCross_103
    · -- 42 -> 45
      refine ii_const hx hb dX4_readCross_45 ?_
      refine lv_goto (tgt := 50) hx hb dX4_readCross_46 (by decide) ?_
      refine ii_const hx hb dX4_readCross_50 ?_
      have h15_129 : inR (X3 15) := by have h9 := hp_90; omega
      refine cmV (va_runV (As := [.int (iI 1), .int (iI 4)]) (rest := []) ⟨hx, hb, hml, hown, hts⟩ (mX4_needs Z K hI (up T 0 X3) X3 rfl h15_129 1 4 (by omega) H.size) (cwV 2 hts (lw_V q1095 q1097 qs36 q83 q1098) rfl rfl rfl (by decide +kernel) ⟨Nat.le_of_ble_eq_true rfl, Nat.le_of_ble_eq_true rfl⟩) (pvM (BornH.S hB hN hS) (OBJ.recv Z hB hW.obj (q := (RX4, TX4, 29)) rfl) hW) rfl rfl hl.1 rfl (lv_room (Nat.le_of_ble_eq_true rfl)) dX4_readCross_51 ⟨Nat.zero_le _, Nat.zero_le _⟩) hS (AA.le hS.1) (fun H1 locs hW1 hz1 hk1 hS => ?_)
      have hW := hW1
      clear hW1 hk1 hz1
      generalize H1 = H at hW hS ⊢
      have hW := hW.eqS (S' := (up T 0 X3)) (by rw [show ndS X3 1 4 = X3 from ndS_1 _ (by omega)]; first | exact up_id _ 0 | rfl | (exact up_id (up T 0 X3) 0))
      have hq_130 : (ndS X3 (b2 (¬ bt (iI (X3 7)) ((5 * (lkV (T 0) 0 4)) + (lkV X1 0 4)).toNat = true)) 4) = X3 := by first | (rw [b2_t (by assumption)]; exact ndS_1 _ (by omega)) | rw [b2_f (fun q => q (by assumption))]
      rw [← hq_130] at hW
      have hp_131 : PI (ndS X3 (b2 (¬ bt (iI (X3 7)) ((5 * (lkV (T 0) 0 4)) + (lkV X1 0 4)).toNat = true)) 4) := ndS_pi hp_90 (by omega)
      have ho_132 : (ndS X3 (b2 (¬ bt (iI (X3 7)) ((5 * (lkV (T 0) 0 4)) + (lkV X1 0 4)).toNat = true)) 4) 6 = (X3 6) := (ndS_o (by omega) (by omega)).trans (by rfl)
      have ho_133 : (ndS X3 (b2 (¬ bt (iI (X3 7)) ((5 * (lkV (T 0) 0 4)) + (lkV X1 0 4)).toNat = true)) 4) 7 = (X3 7) := (ndS_o (by omega) (by omega)).trans (by rfl)
      have ho_134 : (ndS X3 (b2 (¬ bt (iI (X3 7)) ((5 * (lkV (T 0) 0 4)) + (lkV X1 0 4)).toNat = true)) 4) 8 = (X3 8) := (ndS_o (by omega) (by omega)).trans (by rfl)
      have ho_135 : (ndS X3 (b2 (¬ bt (iI (X3 7)) ((5 * (lkV (T 0) 0 4)) + (lkV X1 0 4)).toNat = true)) 4) 10 = (X3 10) := (ndS_o (by omega) (by omega)).trans (by rfl)
      generalize eX4 : (ndS X3 (b2 (¬ bt (iI (X3 7)) ((5 * (lkV (T 0) 0 4)) + (lkV X1 0 4)).toNat = true)) 4) = X4 at hp_131 ho_132 ho_133 ho_134 ho_135 hW
      refine lv_aload_n hx hb dX4_readCross_54 rfl (lv_at hl 2 rfl) ?_
      refine lv_dup hx hb dX4_readCross_55 rfl ?_
      refine r_get (ci := 4) (k := 7) (v := .int (iI (X4 7))) (C := RX4) (T := TX4) (N := 29) Z hB hx hb hts hown rfl in_X4 hW.obj (by decide) q985 rfl dX4_readCross_56 ?_
      refine ii_const hx hb dX4_readCross_59 ?_
      refine ii_const hx hb dX4_readCross_60 ?_
      refine lv_iload_n hx hb dX4_readCross_61 rfl (lv_at hl 1 rfl) ?_
      refine ii_mul hx hb dX4_readCross_62 ?_
      refine lv_iload_n hx hb dX4_readCross_63 rfl (lv_at hl 0 rfl) ?_
      refine ii_add hx hb dX4_readCross_64 ?_
      refine ii_shl1 hx hb (by omega) dX4_readCross_65 ?_
      refine ii_or2 hx hb dX4_readCross_66 ?_
      refine r_put (ci := 4) (k := 7) (C := RX4) (T := TX4) (N := 29) Z hB hx hb hts hown rfl in_X4 tyX4 tyX4_ok nmX4 hW.obj hS (AA.me (by omega)) (by decide) q985 rfl rfl rfl rfl (Nat.le_of_ble_eq_true rfl) dX4_readCross_67 (MW G K (up (up T 0 X4) 0 (up X4 7 (tcS (X4 7) (((5 * (lkV (T 0) 0 4)) + (lkV X1 0 4))).toNat)))) (fun H1 hz oq ho => hW.setO hI (k := 7) oq ho) (fun H locs hW hS => ?_)
      have hW := hW.eqS (S' := (up T 0 (up X4 7 (tcS (X4 7) (((5 * (lkV (T 0) 0 4)) + (lkV X1 0 4))).toNat)))) (by
          funext a
          by_cases h0 : a = 0
          · subst h0
            funext j
            by_cases k0 : j = 7
            · subst k0; rfl
            simp only [up, if_neg k0, if_true, if_false, Nat.reduceEqDiff, reduceIte]
          simp only [up, if_neg h0])
      refine lv_aload_n hx hb dX4_readCross_70 rfl (lv_at hl 2 rfl) ?_
      refine lv_iload_n hx hb dX4_readCross_71 rfl (lv_at hl 1 rfl) ?_
      refine cmV (va_runV (As := [.int (iI (lkV (T 0) 0 4))]) (rest := []) ⟨hx, hb, hml, hown, hts⟩ (mX4_noteHighest Z K hI (up T 0 (up X4 7 (tcS (X4 7) (((5 * (lkV (T 0) 0 4)) + (lkV X1 0 4))).toNat))) (up X4 7 (tcS (X4 7) (((5 * (lkV (T 0) 0 4)) + (lkV X1 0 4))).toNat)) rfl (by show -4 ≤ (X4 8) ∧ (X4 8) ≤ 4; omega) (lkV (T 0) 0 4) (by omega) H.size) (cwV 1 hts (lw_V q1131 q1133 qs45 q83 q1134) rfl rfl rfl (by decide +kernel) ⟨Nat.le_of_ble_eq_true rfl, Nat.le_of_ble_eq_true rfl⟩) (pvM (BornH.S hB hN hS) (OBJ.recv Z hB hW.obj (q := (RX4, TX4, 29)) rfl) hW) rfl rfl hl.1 rfl (lv_room (Nat.le_of_ble_eq_true rfl)) dX4_readCross_72 ⟨Nat.zero_le _, Nat.zero_le _⟩) hS (AA.le hS.1) (fun H1 locs hW1 hz1 hk1 hS => ?_)
      have hW := hW1
      clear hW1 hk1 hz1
      generalize H1 = H at hW hS ⊢
      have hW := hW.eqS (S' := (up T 0 (nhP (up X4 7 (tcS (X4 7) (((5 * (lkV (T 0) 0 4)) + (lkV X1 0 4))).toNat)) (lkV (T 0) 0 4)))) (by
          funext a
          by_cases h0 : a = 0
          · subst h0; rfl
          simp only [up, if_neg h0])
      have hn_137 : -4 ≤ (nhP (up X4 7 (tcS (X4 7) (((5 * (lkV (T 0) 0 4)) + (lkV X1 0 4))).toNat)) (lkV (T 0) 0 4)) 8 ∧ (nhP (up X4 7 (tcS (X4 7) (((5 * (lkV (T 0) 0 4)) + (lkV X1 0 4))).toNat)) (lkV (T 0) 0 4)) 8 ≤ 4 := nhP_8 (by omega) (by show -4 ≤ (X4 8) ∧ (X4 8) ≤ 4; omega)
      have hp_138 : PI (nhP (up X4 7 (tcS (X4 7) (((5 * (lkV (T 0) 0 4)) + (lkV X1 0 4))).toNat)) (lkV (T 0) 0 4)) := nhP_pi hp_131 _
      have ho_139 : (nhP (up X4 7 (tcS (X4 7) (((5 * (lkV (T 0) 0 4)) + (lkV X1 0 4))).toNat)) (lkV (T 0) 0 4)) 6 = (X4 6) := (nhP_o _ _ (by omega)).trans (by rfl)
      have ho_140 : (nhP (up X4 7 (tcS (X4 7) (((5 * (lkV (T 0) 0 4)) + (lkV X1 0 4))).toNat)) (lkV (T 0) 0 4)) 7 = (tcS (X4 7) (((5 * (lkV (T 0) 0 4)) + (lkV X1 0 4))).toNat) := (nhP_o _ _ (by omega)).trans (by rfl)
      have ho_141 : (nhP (up X4 7 (tcS (X4 7) (((5 * (lkV (T 0) 0 4)) + (lkV X1 0 4))).toNat)) (lkV (T 0) 0 4)) 10 = (X4 10) := (nhP_o _ _ (by omega)).trans (by rfl)
      generalize eX5 : (nhP (up X4 7 (tcS (X4 7) (((5 * (lkV (T 0) 0 4)) + (lkV X1 0 4))).toNat)) (lkV (T 0) 0 4)) = X5 at hp_138 hn_137 ho_139 ho_140 ho_141 hW
      refine lv_aload_n hx hb dX4_readCross_75 rfl (lv_at hl 2 rfl) ?_
      refine lv_iload_n hx hb dX4_readCross_76 rfl (lv_at hl 0 rfl) ?_
      refine cmV (va_runV (As := [.int (iI (lkV X1 0 4))]) (rest := []) ⟨hx, hb, hml, hown, hts⟩ (mX4_noteHighest Z K hI (up T 0 X5) X5 rfl (by show -4 ≤ (X5 8) ∧ (X5 8) ≤ 4; omega) (lkV X1 0 4) (by omega) H.size) (cwV 1 hts (lw_V q1131 q1133 qs45 q83 q1134) rfl rfl rfl (by decide +kernel) ⟨Nat.le_of_ble_eq_true rfl, Nat.le_of_ble_eq_true rfl⟩) (pvM (BornH.S hB hN hS) (OBJ.recv Z hB hW.obj (q := (RX4, TX4, 29)) rfl) hW) rfl rfl hl.1 rfl (lv_room (Nat.le_of_ble_eq_true rfl)) dX4_readCross_77 ⟨Nat.zero_le _, Nat.zero_le _⟩) hS (AA.le hS.1) (fun H1 locs hW1 hz1 hk1 hS => ?_)
      have hW := hW1
      clear hW1 hk1 hz1
      generalize H1 = H at hW hS ⊢
      have hW := hW.eqS (S' := (up T 0 (nhP X5 (lkV X1 0 4)))) (by
          funext a
          by_cases h0 : a = 0
          · subst h0; rfl
          simp only [up, if_neg h0])
      have hn_143 : -4 ≤ (nhP X5 (lkV X1 0 4)) 8 ∧ (nhP X5 (lkV X1 0 4)) 8 ≤ 4 := nhP_8 (by omega) (by show -4 ≤ (X5 8) ∧ (X5 8) ≤ 4; omega)
      have hp_144 : PI (nhP X5 (lkV X1 0 4)) := nhP_pi hp_138 _
      have ho_145 : (nhP X5 (lkV X1 0 4)) 6 = (X5 6) := (nhP_o _ _ (by omega)).trans (by rfl)
      have ho_146 : (nhP X5 (lkV X1 0 4)) 7 = (X5 7) := (nhP_o _ _ (by omega)).trans (by rfl)
      have ho_147 : (nhP X5 (lkV X1 0 4)) 10 = (X5 10) := (nhP_o _ _ (by omega)).trans (by rfl)
      generalize eX6 : (nhP X5 (lkV X1 0 4)) = X6 at hp_144 hn_143 ho_145 ho_146 ho_147 hW
      refine lv_aload_n hx hb dX4_readCross_80 rfl (lv_at hl 2 rfl) ?_
      refine cmV (va_runV (As := []) (rest := []) ⟨hx, hb, hml, hown, hts⟩ (mX4_takes Z K hI (up T 0 X6) X6 rfl hp_144 ht H.size) (cwV 0 hts (lw_V q1083 q1085 qs34 q83 q1086) rfl rfl rfl (by decide +kernel) ⟨Nat.le_of_ble_eq_true rfl, Nat.le_of_ble_eq_true rfl⟩) (pvM (BornH.S hB hN hS) (OBJ.recv Z hB hW.obj (q := (RX4, TX4, 29)) rfl) hW) rfl rfl hl.1 rfl (lv_room (Nat.le_of_ble_eq_true rfl)) dX4_readCross_81 ⟨Nat.zero_le _, Nat.zero_le _⟩) hS (AA.le hS.1) (fun H1 locs hW1 hz1 hk1 hS => ?_)
      have hW := hW1
      clear hW1 hk1 hz1
      generalize H1 = H at hW hS ⊢
      have hW := hW.eqS (S' := (up T 0 (tkP (T 5) X6))) (by
          funext a
          by_cases h0 : a = 0
          · subst h0; rfl
          simp only [up, if_neg h0])
      have hp_148 : PI (tkP (T 5) X6) := tkP_pi ht hp_144
      have ho_149 : (tkP (T 5) X6) 6 = (X6 6) := (tkP_o _ _ (by omega)).trans (by rfl)
      have ho_150 : (tkP (T 5) X6) 7 = (X6 7) := (tkP_o _ _ (by omega)).trans (by rfl)
      have ho_151 : (tkP (T 5) X6) 8 = (X6 8) := (tkP_o _ _ (by omega)).trans (by rfl)
      have ho_152 : (tkP (T 5) X6) 10 = (X6 10) := (tkP_o _ _ (by omega)).trans (by rfl)
      generalize eX7 : (tkP (T 5) X6) = X7 at hp_148 ho_149 ho_150 ho_151 ho_152 hW
      refine lv_aload_n hx hb dX4_readCross_84 rfl (lv_at hl 2 rfl) ?_
      refine r_get (ci := 4) (k := 4) (v := .ref (K 4)) (C := RX4) (T := TX4) (N := 29) Z hB hx hb hts hown rfl in_X4 hW.obj (by decide) q982 rfl dX4_readCross_85 ?_
      refine ii_bipush hx hb dX4_readCross_88 (by decide) ?_
      refine ii_const hx hb dX4_readCross_90 ?_
      refine lv_iload_n hx hb dX4_readCross_91 rfl (lv_at hl 1 rfl) ?_
      refine ii_mul hx hb dX4_readCross_92 ?_
      refine ii_add hx hb dX4_readCross_93 ?_
      refine lv_iload_n hx hb dX4_readCross_94 rfl (lv_at hl 0 rfl) ?_
      refine ii_add hx hb dX4_readCross_95 ?_
      refine lv_aload_n hx hb dX4_readCross_96 rfl (lv_at hl 2 rfl) ?_
      refine ii_const hx hb dX4_readCross_97 ?_
      refine ii_const hx hb dX4_readCross_98 ?_
      refine cmI (va_runV (As := [.int (iI 0), .int (iI 3)]) (rest := [.int (iI ((10 + (5 * (lkV (T 0) 0 4))) + (lkV X1 0 4))), .ref (K 4)]) ⟨hx, hb, hml, hown, hts⟩ (mX4_readNumber Z K hI (up T 0 X7) X7 rfl hp_148 (T 5) rfl ht 0 (by omega) 3 (by omega) (by omega) H.size) (cwV 2 hts (lw_V q1123 q1125 qs43 q83 q1126) rfl rfl rfl (by decide +kernel) ⟨Nat.le_of_ble_eq_true rfl, Nat.le_of_ble_eq_true rfl⟩) (pvM (BornH.S hB hN hS) (OBJ.recv Z hB hW.obj (q := (RX4, TX4, 29)) rfl) hW) rfl rfl hl.1 rfl (lv_room (Nat.le_of_ble_eq_true rfl)) dX4_readCross_99 ⟨Nat.zero_le _, Nat.zero_le _⟩) hS (AA.le hS.1) (fun H1 locs hW1 hz1 hk1 hS => ?_)
      have hW := hW1
      clear hW1 hk1 hz1
      generalize H1 = H at hW hS ⊢
      have hW := hW.eqS (S' := (up T 0 (rnP (T 5) X7 0 3))) (by
          funext a
          by_cases h0 : a = 0
          · subst h0; rfl
          simp only [up, if_neg h0])
      have b_153 := lk_in (P := X7) (lo := 0) (hi := 3) (by omega)
      have hp_154 : PI (rnP (T 5) X7 0 3) := tkP_pi ht (lkP_pi hp_148 _ _)
      have ho_155 : (rnP (T 5) X7 0 3) 6 = (X7 6) := ((tkP_o _ _ (by omega)).trans (lkP_o _ _ _ (by omega) (by omega))).trans (by rfl)
      have ho_156 : (rnP (T 5) X7 0 3) 7 = (X7 7) := ((tkP_o _ _ (by omega)).trans (lkP_o _ _ _ (by omega) (by omega))).trans (by rfl)
      have ho_157 : (rnP (T 5) X7 0 3) 8 = (X7 8) := ((tkP_o _ _ (by omega)).trans (lkP_o _ _ _ (by omega) (by omega))).trans (by rfl)
      have ho_158 : (rnP (T 5) X7 0 3) 10 = (X7 10) := ((tkP_o _ _ (by omega)).trans (lkP_o _ _ _ (by omega) (by omega))).trans (by rfl)
      generalize eX8 : (rnP (T 5) X7 0 3) = X8 at hp_154 ho_155 ho_156 ho_157 ho_158 hW
      refine r_iast (k := (10 + 5 * (lkV (T 0) 0 4).toNat + (lkV X1 0 4).toNat)) Z hB hx hb hW.draft hS (AA.me (by omega)) (by omega) (by omega) (by omega) dX4_readCross_102 (MW G K (up (up T 0 X8) 4 (up (T 4) (10 + 5 * (lkV (T 0) 0 4).toNat + (lkV X1 0 4).toNat) (lkV X7 0 3)))) (fun H1 hz oq ha => hW.setA hI (j := 4) (by omega) (by omega) (fun h => up_n _ _ (by omega)) oq ha) (fun H locs hW hS => ?_)
      have hfin : rcP (T 5) (T 0) = X8 := by unfold rcP rc7 rc5 rc4 rc3 rc2 rcJ rcI; rw [eX1, eX2, eX3, eX4, eX5, eX6, eX7, eX8]
      have hfiD : rcD (T 5) (T 0) (T 4) = (up (T 4) (10 + 5 * (lkV (T 0) 0 4).toNat + (lkV X1 0 4).toNat) (lkV X7 0 3)) := by unfold rcD rc7 rc5 rc4 rc3 rc2 rcJ rcI; rw [eX1, eX2, eX3, eX4, eX5, eX6, eX7]
      have hpw9 : (MW G K (up (up T 0 (rcP (T 5) (T 0))) 4 (rcD (T 5) (T 0) (T 4)))) H := (by rw [hfin, hfiD]; exact hW)
      exact W.vret hx hb hr (fun t ht hW9 => ⟨⟨(), rfl, trivial, by show (MW G K (up (up T 0 (rcP (T 5) (T 0))) 4 (rcD (T 5) (T 0) (T 4)))) t.heap; rw [ht]; exact hpw9⟩, hS.F ht⟩) hS.2.2 dX4_readCross_103

set_option maxHeartbeats 1000000 in
set_option maxRecDepth 100000 in
theorem mX4_readRope {l : Launch} {G : GG} {s0 : State} {b0 : Nat} (Z : ZZ l G s0 b0) (K : Nat → Nat) (hI : Own s0 K 12) (T : Sta) (P D : Nat → Int) (eP : T 0 = P) (eD : T 4 = D) (hP : PI P) (h8 : P8 P) (hD : WF D) (t : Nat → Int) (et : T 5 = t) (ht : TapeOK t) (hd6 : D 53 < 6) (sz : Nat) : Met l yX4_readRope (ws_ yX4_readRope cX4_readRope 4 none) ({ frames := 3, cells := 0, slots := 0, locals := 70 } : Room) (pcM s0 sz (MW G K T) [.ref (K 0)]) (mV (MW G K (up (up T 0 (rpP t P)) 4 (rpD t P D))) (AA K 12 sz)) 0 0 (AA K 12 sz) := by
  refine Met.ofW (cc := cX4_readRope) (maxL := 4) (ret := none) (by decide) rfl ?_
  intro p e s m args below meth c s₁ B hml hv
  obtain ⟨rfl, hsz, hW, hB⟩ := hv
  subst hsz
  have hx := B.exec
  have hb := B.bytes
  have hr := B.returns
  have hts := atoms_spec (ws := (ws_ yX4_readRope cX4_readRope 4 none)) B.pre
  have hts : ∀ w ∈ lw_all, w.before _ s = true := fun w h => hts w (List.mem_cons_of_mem _ h)
  have hown : s.vm.findClass RX4 = some m.cls := findClass_of_methodNamed B.named
  have hlocks := B.notSynchronized
  have hN := AA.old hI hB
  have hS : va_S (AA K 12 s.heap.size) s.heap s.heap [] := va_S.rf
  have hl := lv_entry ([.ref (K 0)]) (n := 4) (Nat.le_of_ble_eq_true rfl)
  rw [lg_entry_eq]
  generalize (lg_sl ([.ref (K 0)]) ++ List.replicate (4 - (lg_sl ([.ref (K 0)])).length) Slot.unset).toArray = ls at hl ⊢
  have hl : lv_has ls 4 [(0, .ref (K 0))] := hl
  subst eP
  subst eD
  subst et
  have hn5 := hD.n
  have hrm := hD.rm
  have h89 : -4 ≤ T 0 8 ∧ T 0 8 ≤ 4 := h8
  refine ii_bipush hx hb dX4_readRope_0 (by decide) ?_
  refine ii_const hx hb dX4_readRope_2 ?_
  refine lv_aload_n hx hb dX4_readRope_3 rfl (lv_at hl 0 rfl) ?_
  refine r_get (ci := 4) (k := 4) (v := .ref (K 4)) (C := RX4) (T := TX4) (N := 29) Z hB hx hb hts hown rfl in_X4 hW.obj (by decide) q982 rfl dX4_readRope_4 ?_
  refine ii_bipush hx hb dX4_readRope_7 (by decide) ?_
  have b_776 := hD.rm
  refine r_iald (k := 53) (f := (T 4)) Z hB hx hb hW.draft (by omega) (by omega) (by omega) dX4_readRope_9 ?_
  refine ii_mul hx hb dX4_readRope_10 ?_
  refine ii_add hx hb dX4_readRope_11 ?_
  refine lv_istore_n (lv' := [(1, .int (iI (35 + (3 * ((T 4) 53))))), (0, .ref (K 0))]) hx hb dX4_readRope_12 rfl hl (by decide) rfl (fun ls hl => ?_)
  refine lv_aload_n hx hb dX4_readRope_13 rfl (lv_at hl 1 rfl) ?_
  refine ii_const hx hb dX4_readRope_14 ?_
  refine ii_const hx hb dX4_readRope_15 ?_
  refine cmI (va_runV (As := [.int (iI 0), .int (iI 4)]) (rest := []) ⟨hx, hb, hml, hown, hts⟩ (mX4_readNumber Z K hI T (T 0) rfl hP (T 5) rfl ht 0 (by omega) 4 (by omega) (by omega) s.heap.size) (cwV 2 hts (lw_V q1123 q1125 qs43 q83 q1126) rfl rfl rfl (by decide +kernel) ⟨Nat.le_of_ble_eq_true rfl, Nat.le_of_ble_eq_true rfl⟩) (pvM (BornH.S hB hN hS) (OBJ.recv Z hB hW.obj (q := (RX4, TX4, 29)) rfl) hW) rfl rfl hl.1 rfl (lv_room (Nat.le_of_ble_eq_true rfl)) dX4_readRope_16 ⟨Nat.zero_le _, Nat.zero_le _⟩) hS (AA.le hS.1) (fun H1 locs hW1 hz1 hk1 hS => ?_)
  have hW := hW1
  clear hW1 hk1 hz1
  generalize H1 = H at hW hS ⊢
  have b_1 := lk_in (P := (T 0)) (lo := 0) (hi := 4) (by omega)
  have hp_2 : PI (rnP (T 5) (T 0) 0 4) := tkP_pi ht (lkP_pi hP _ _)
  have ho_3 : (rnP (T 5) (T 0) 0 4) 6 = ((T 0) 6) := ((tkP_o _ _ (by omega)).trans (lkP_o _ _ _ (by omega) (by omega))).trans (by rfl)
  have ho_4 : (rnP (T 5) (T 0) 0 4) 7 = ((T 0) 7) := ((tkP_o _ _ (by omega)).trans (lkP_o _ _ _ (by omega) (by omega))).trans (by rfl)
  have ho_5 : (rnP (T 5) (T 0) 0 4) 8 = ((T 0) 8) := ((tkP_o _ _ (by omega)).trans (lkP_o _ _ _ (by omega) (by omega))).trans (by rfl)
  have ho_6 : (rnP (T 5) (T 0) 0 4) 10 = ((T 0) 10) := ((tkP_o _ _ (by omega)).trans (lkP_o _ _ _ (by omega) (by omega))).trans (by rfl)
  generalize eX1 : (rnP (T 5) (T 0) 0 4) = X1 at hp_2 ho_3 ho_4 ho_5 ho_6 hW
  refine lv_istore_n (lv' := [(2, .int (iI (lkV (T 0) 0 4))), (1, .int (iI (35 + (3 * ((T 4) 53))))), (0, .ref (K 0))]) hx hb dX4_readRope_19 rfl hl (by decide) rfl (fun ls hl => ?_)
  refine lv_aload_n hx hb dX4_readRope_20 rfl (lv_at hl 2 rfl) ?_
  refine ii_const hx hb dX4_readRope_21 ?_
  refine ii_const hx hb dX4_readRope_22 ?_
  refine cmI (va_runV (As := [.int (iI 0), .int (iI 4)]) (rest := []) ⟨hx, hb, hml, hown, hts⟩ (mX4_looked Z K hI (up T 0 X1) X1 rfl hp_2 0 (by omega) 4 (by omega) H.size) (cwV 2 hts (lw_V q1127 q1129 qs44 q83 q1130) rfl rfl rfl (by decide +kernel) ⟨Nat.le_of_ble_eq_true rfl, Nat.le_of_ble_eq_true rfl⟩) (pvM (BornH.S hB hN hS) (OBJ.recv Z hB hW.obj (q := (RX4, TX4, 29)) rfl) hW) rfl rfl hl.1 rfl (lv_room (Nat.le_of_ble_eq_true rfl)) dX4_readRope_23 ⟨Nat.zero_le _, Nat.zero_le _⟩) hS (AA.le hS.1) (fun H1 locs hW1 hz1 hk1 hS => ?_)
  have hW := hW1
  clear hW1 hk1 hz1
  generalize H1 = H at hW hS ⊢
  have hW := hW.eqS (S' := (up T 0 (lkP X1 0 4))) (by
      funext a
      by_cases h0 : a = 0
      · subst h0; rfl
      simp only [up, if_neg h0])
  have b_7 := lk_in (P := X1) (lo := 0) (hi := 4) (by omega)
  have hp_8 : PI (lkP X1 0 4) := lkP_pi hp_2 _ _
  have ho_9 : (lkP X1 0 4) 6 = (X1 6) := (lkP_o _ _ _ (by omega) (by omega)).trans (by rfl)
  have ho_10 : (lkP X1 0 4) 7 = (X1 7) := (lkP_o _ _ _ (by omega) (by omega)).trans (by rfl)
  have ho_11 : (lkP X1 0 4) 8 = (X1 8) := (lkP_o _ _ _ (by omega) (by omega)).trans (by rfl)
  have ho_12 : (lkP X1 0 4) 10 = (X1 10) := (lkP_o _ _ _ (by omega) (by omega)).trans (by rfl)
  generalize eX2 : (lkP X1 0 4) = X2 at hp_8 ho_9 ho_10 ho_11 ho_12 hW
  refine lv_istore_n (lv' := [(3, .int (iI (lkV X1 0 4))), (2, .int (iI (lkV (T 0) 0 4))), (1, .int (iI (35 + (3 * ((T 4) 53))))), (0, .ref (K 0))]) hx hb dX4_readRope_26 rfl hl (by decide) rfl (fun ls hl => ?_)
  refine lv_aload_n hx hb dX4_readRope_27 rfl (lv_at hl 3 rfl) ?_
  refine lv_iload_n hx hb dX4_readRope_28 rfl (lv_at hl 1 rfl) ?_
  refine lv_iload_n hx hb dX4_readRope_29 rfl (lv_at hl 0 rfl) ?_
  refine ii_icmp_eq (tgt := 37) hx hb dX4_readRope_30 (by decide) (by omega) (by omega) (fun c_13 => ?_) (fun c_13 => ?_)
  · -- 30 -> 37
    refine ii_const hx hb dX4_readRope_37 ?_
    refine ii_const hx hb dX4_readRope_38 ?_
    have h15_14 : inR (X2 15) := by have h9 := hp_8; omega
    refine cmV (va_runV (As := [.int (iI 0), .int (iI 3)]) (rest := []) ⟨hx, hb, hml, hown, hts⟩ (mX4_needs Z K hI (up T 0 X2) X2 rfl h15_14 0 3 (by omega) H.size) (cwV 2 hts (lw_V q1095 q1097 qs36 q83 q1098) rfl rfl rfl (by decide +kernel) ⟨Nat.le_of_ble_eq_true rfl, Nat.le_of_ble_eq_true rfl⟩) (pvM (BornH.S hB hN hS) (OBJ.recv Z hB hW.obj (q := (RX4, TX4, 29)) rfl) hW) rfl rfl hl.1 rfl (lv_room (Nat.le_of_ble_eq_true rfl)) dX4_readRope_39 ⟨Nat.zero_le _, Nat.zero_le _⟩) hS (AA.le hS.1) (fun H1 locs hW1 hz1 hk1 hS => ?_)
    have hW := hW1
    clear hW1 hk1 hz1
    generalize H1 = H at hW hS ⊢
    have hW := hW.eqS (S' := (up T 0 (ndS X2 0 3))) (by
        funext a
        by_cases h0 : a = 0
        · subst h0; rfl
        simp only [up, if_neg h0])
    have hf_15 := ndS_f X2 0 3
    have hp_16 : PI (ndS X2 0 3) := ndS_pi hp_8 (by omega)
    have hq_18 : (ndS X2 (b2 ((lkV (T 0) 0 4) ≠ (lkV X1 0 4))) 3) = (ndS X2 0 3) := by first | (rw [b2_t (by omega)]; exact ndS_1 _ (by omega)) | rw [b2_f (by omega)]
    rw [← hq_18] at hW
    have hp_19 : PI (ndS X2 (b2 ((lkV (T 0) 0 4) ≠ (lkV X1 0 4))) 3) := ndS_pi hp_8 (by omega)
    have ho_20 : (ndS X2 (b2 ((lkV (T 0) 0 4) ≠ (lkV X1 0 4))) 3) 6 = (X2 6) := (ndS_o (by omega) (by omega)).trans (by rfl)
    have ho_21 : (ndS X2 (b2 ((lkV (T 0) 0 4) ≠ (lkV X1 0 4))) 3) 7 = (X2 7) := (ndS_o (by omega) (by omega)).trans (by rfl)
    have ho_22 : (ndS X2 (b2 ((lkV (T 0) 0 4) ≠ (lkV X1 0 4))) 3) 8 = (X2 8) := (ndS_o (by omega) (by omega)).trans (by rfl)
    have ho_23 : (ndS X2 (b2 ((lkV (T 0) 0 4) ≠ (lkV X1 0 4))) 3) 10 = (X2 10) := (ndS_o (by omega) (by omega)).trans (by rfl)
    generalize eX3 : (ndS X2 (b2 ((lkV (T 0) 0 4) ≠ (lkV X1 0 4))) 3) = X3 at hp_19 ho_20 ho_21 ho_22 ho_23 hW
    refine lv_aload_n hx hb dX4_readRope_42 rfl (lv_at hl 3 rfl) ?_
    refine lv_iload_n hx hb dX4_readRope_43 rfl (lv_at hl 1 rfl) ?_
    refine cmV (va_runV (As := [.int (iI (lkV (T 0) 0 4))]) (rest := []) ⟨hx, hb, hml, hown, hts⟩ (mX4_noteHighest Z K hI (up T 0 X3) X3 rfl (by show -4 ≤ (X3 8) ∧ (X3 8) ≤ 4; omega) (lkV (T 0) 0 4) (by omega) H.size) (cwV 1 hts (lw_V q1131 q1133 qs45 q83 q1134) rfl rfl rfl (by decide +kernel) ⟨Nat.le_of_ble_eq_true rfl, Nat.le_of_ble_eq_true rfl⟩) (pvM (BornH.S hB hN hS) (OBJ.recv Z hB hW.obj (q := (RX4, TX4, 29)) rfl) hW) rfl rfl hl.1 rfl (lv_room (Nat.le_of_ble_eq_true rfl)) dX4_readRope_44 ⟨Nat.zero_le _, Nat.zero_le _⟩) hS (AA.le hS.1) (fun H1 locs hW1 hz1 hk1 hS => ?_)
    have hW := hW1
    clear hW1 hk1 hz1
    generalize H1 = H at hW hS ⊢
    have hW := hW.eqS (S' := (up T 0 (nhP X3 (lkV (T 0) 0 4)))) (by
        funext a
        by_cases h0 : a = 0
        · subst h0; rfl
        simp only [up, if_neg h0])
    have hn_25 : -4 ≤ (nhP X3 (lkV (T 0) 0 4)) 8 ∧ (nhP X3 (lkV (T 0) 0 4)) 8 ≤ 4 := nhP_8 (by omega) (by show -4 ≤ (X3 8) ∧ (X3 8) ≤ 4; omega)
    have hp_26 : PI (nhP X3 (lkV (T 0) 0 4)) := nhP_pi hp_19 _
    have ho_27 : (nhP X3 (lkV (T 0) 0 4)) 6 = (X3 6) := (nhP_o _ _ (by omega)).trans (by rfl)
    have ho_28 : (nhP X3 (lkV (T 0) 0 4)) 7 = (X3 7) := (nhP_o _ _ (by omega)).trans (by rfl)
    have ho_29 : (nhP X3 (lkV (T 0) 0 4)) 10 = (X3 10) := (nhP_o _ _ (by omega)).trans (by rfl)
    generalize eX4 : (nhP X3 (lkV (T 0) 0 4)) = X4 at hp_26 hn_25 ho_27 ho_28 ho_29 hW
    refine lv_aload_n hx hb dX4_readRope_47 rfl (lv_at hl 3 rfl) ?_
    refine lv_iload_n hx hb dX4_readRope_48 rfl (lv_at hl 0 rfl) ?_
    refine cmV (va_runV (As := [.int (iI (lkV X1 0 4))]) (rest := []) ⟨hx, hb, hml, hown, hts⟩ (mX4_noteHighest Z K hI (up T 0 X4) X4 rfl (by show -4 ≤ (X4 8) ∧ (X4 8) ≤ 4; omega) (lkV X1 0 4) (by omega) H.size) (cwV 1 hts (lw_V q1131 q1133 qs45 q83 q1134) rfl rfl rfl (by decide +kernel) ⟨Nat.le_of_ble_eq_true rfl, Nat.le_of_ble_eq_true rfl⟩) (pvM (BornH.S hB hN hS) (OBJ.recv Z hB hW.obj (q := (RX4, TX4, 29)) rfl) hW) rfl rfl hl.1 rfl (lv_room (Nat.le_of_ble_eq_true rfl)) dX4_readRope_49 ⟨Nat.zero_le _, Nat.zero_le _⟩) hS (AA.le hS.1) (fun H1 locs hW1 hz1 hk1 hS => ?_)
    have hW := hW1
    clear hW1 hk1 hz1
    generalize H1 = H at hW hS ⊢
    have hW := hW.eqS (S' := (up T 0 (nhP X4 (lkV X1 0 4)))) (by
        funext a
        by_cases h0 : a = 0
        · subst h0; rfl
        simp only [up, if_neg h0])
    have hn_31 : -4 ≤ (nhP X4 (lkV X1 0 4)) 8 ∧ (nhP X4 (lkV X1 0 4)) 8 ≤ 4 := nhP_8 (by omega) (by show -4 ≤ (X4 8) ∧ (X4 8) ≤ 4; omega)
    have hp_32 : PI (nhP X4 (lkV X1 0 4)) := nhP_pi hp_26 _
    have ho_33 : (nhP X4 (lkV X1 0 4)) 6 = (X4 6) := (nhP_o _ _ (by omega)).trans (by rfl)
    have ho_34 : (nhP X4 (lkV X1 0 4)) 7 = (X4 7) := (nhP_o _ _ (by omega)).trans (by rfl)
    have ho_35 : (nhP X4 (lkV X1 0 4)) 10 = (X4 10) := (nhP_o _ _ (by omega)).trans (by rfl)
    generalize eX5 : (nhP X4 (lkV X1 0 4)) = X5 at hp_32 hn_31 ho_33 ho_34 ho_35 hW
    refine lv_aload_n hx hb dX4_readRope_52 rfl (lv_at hl 3 rfl) ?_
    refine cmV (va_runV (As := []) (rest := []) ⟨hx, hb, hml, hown, hts⟩ (mX4_takes Z K hI (up T 0 X5) X5 rfl hp_32 ht H.size) (cwV 0 hts (lw_V q1083 q1085 qs34 q83 q1086) rfl rfl rfl (by decide +kernel) ⟨Nat.le_of_ble_eq_true rfl, Nat.le_of_ble_eq_true rfl⟩) (pvM (BornH.S hB hN hS) (OBJ.recv Z hB hW.obj (q := (RX4, TX4, 29)) rfl) hW) rfl rfl hl.1 rfl (lv_room (Nat.le_of_ble_eq_true rfl)) dX4_readRope_53 ⟨Nat.zero_le _, Nat.zero_le _⟩) hS (AA.le hS.1) (fun H1 locs hW1 hz1 hk1 hS => ?_)
    have hW := hW1
    clear hW1 hk1 hz1
    generalize H1 = H at hW hS ⊢
    have hW := hW.eqS (S' := (up T 0 (tkP (T 5) X5))) (by
        funext a
        by_cases h0 : a = 0
        · subst h0; rfl
        simp only [up, if_neg h0])
    have hp_36 : PI (tkP (T 5) X5) := tkP_pi ht hp_32
    have ho_37 : (tkP (T 5) X5) 6 = (X5 6) := (tkP_o _ _ (by omega)).trans (by rfl)
    have ho_38 : (tkP (T 5) X5) 7 = (X5 7) := (tkP_o _ _ (by omega)).trans (by rfl)
    have ho_39 : (tkP (T 5) X5) 8 = (X5 8) := (tkP_o _ _ (by omega)).trans (by rfl)
    have ho_40 : (tkP (T 5) X5) 10 = (X5 10) := (tkP_o _ _ (by omega)).trans (by rfl)
    generalize eX6 : (tkP (T 5) X5) = X6 at hp_36 ho_37 ho_38 ho_39 ho_40 hW
    refine lv_aload_n hx hb dX4_readRope_56 rfl (lv_at hl 3 rfl) ?_
    refine r_get (ci := 4) (k := 4) (v := .ref (K 4)) (C := RX4) (T := TX4) (N := 29) Z hB hx hb hts hown rfl in_X4 hW.obj (by decide) q982 rfl dX4_readRope_57 ?_
    refine lv_iload_n hx hb dX4_readRope_60 rfl (lv_at hl 2 rfl) ?_
    refine lv_iload_n hx hb dX4_readRope_61 rfl (lv_at hl 1 rfl) ?_
    refine r_iast (k := (35 + 3 * ((T 4) 53).toNat + 0)) Z hB hx hb hW.draft hS (AA.me (by omega)) (by omega) (by omega) (by omega) dX4_readRope_62 (MW G K (up (up T 0 X6) 4 (up (T 4) (35 + 3 * ((T 4) 53).toNat + 0) (lkV (T 0) 0 4)))) (fun H1 hz oq ha => hW.setA hI (j := 4) (by omega) (by omega) (fun h => up_n _ _ (by omega)) oq ha) (fun H locs hW hS => ?_)
    refine lv_aload_n hx hb dX4_readRope_63 rfl (lv_at hl 3 rfl) ?_
    refine r_get (ci := 4) (k := 4) (v := .ref (K 4)) (C := RX4) (T := TX4) (N := 29) Z hB hx hb hts hown rfl in_X4 hW.obj (by decide) q982 rfl dX4_readRope_64 ?_
    refine lv_iload_n hx hb dX4_readRope_67 rfl (lv_at hl 2 rfl) ?_
    refine ii_const hx hb dX4_readRope_68 ?_
    refine ii_add hx hb dX4_readRope_69 ?_
    refine lv_iload_n hx hb dX4_readRope_70 rfl (lv_at hl 0 rfl) ?_
    refine r_iast (k := (35 + 3 * ((T 4) 53).toNat + 1)) Z hB hx hb hW.draft hS (AA.me (by omega)) (by omega) (by omega) (by omega) dX4_readRope_71 (MW G K (up (up (up T 0 X6) 4 (up (T 4) (35 + 3 * ((T 4) 53).toNat + 0) (lkV (T 0) 0 4))) 4 (up (up (T 4) (35 + 3 * ((T 4) 53).toNat + 0) (lkV (T 0) 0 4)) (35 + 3 * ((T 4) 53).toNat + 1) (lkV X1 0 4)))) (fun H1 hz oq ha => hW.setA hI (j := 4) (by omega) (by omega) (fun h => up_n _ _ (by omega)) oq ha) (fun H locs hW hS => ?_)
    have hW := hW.eqS (S' := (up (up T 0 X6) 4 (up (up (T 4) (35 + 3 * ((T 4) 53).toNat + 0) (lkV (T 0) 0 4)) (35 + 3 * ((T 4) 53).toNat + 1) (lkV X1 0 4)))) (by
        funext a
        by_cases h4 : a = 4
        · subst h4; rfl
        simp only [up, if_neg h4])
    refine lv_aload_n hx hb dX4_readRope_72 rfl (lv_at hl 3 rfl) ?_
    refine r_get (ci := 4) (k := 4) (v := .ref (K 4)) (C := RX4) (T := TX4) (N := 29) Z hB hx hb hts hown rfl in_X4 hW.obj (by decide) q982 rfl dX4_readRope_73 ?_
    refine lv_iload_n hx hb dX4_readRope_76 rfl (lv_at hl 2 rfl) ?_
    refine ii_const hx hb dX4_readRope_77 ?_
    refine ii_add hx hb dX4_readRope_78 ?_
    refine lv_aload_n hx hb dX4_readRope_79 rfl (lv_at hl 3 rfl) ?_
    refine ii_const hx hb dX4_readRope_80 ?_
    refine ii_bipush hx hb dX4_readRope_81 (by decide) ?_
    refine cmI (va_runV (As := [.int (iI 1), .int (iI 30)]) (rest := [.int (iI ((35 + (3 * ((T 4) 53))) + 2)), .ref (K 4)]) ⟨hx, hb, hml, hown, hts⟩ (mX4_readNumber Z K hI (up (up T 0 X6) 4 (up (up (T 4) (35 + 3 * ((T 4) 53).toNat + 0) (lkV (T 0) 0 4)) (35 + 3 * ((T 4) 53).toNat + 1) (lkV X1 0 4))) X6 rfl hp_36 (T 5) rfl ht 1 (by omega) 30 (by omega) (by omega) H.size) (cwV 2 hts (lw_V q1123 q1125 qs43 q83 q1126) rfl rfl rfl (by decide +kernel) ⟨Nat.le_of_ble_eq_true rfl, Nat.le_of_ble_eq_true rfl⟩) (pvM (BornH.S hB hN hS) (OBJ.recv Z hB hW.obj (q := (RX4, TX4, 29)) rfl) hW) rfl rfl hl.1 rfl (lv_room (Nat.le_of_ble_eq_true rfl)) dX4_readRope_83 ⟨Nat.zero_le _, Nat.zero_le _⟩) hS (AA.le hS.1) (fun H1 locs hW1 hz1 hk1 hS => ?_)
    have hW := hW1
    clear hW1 hk1 hz1
    generalize H1 = H at hW hS ⊢
    have hW := hW.eqS (S' := (up (up T 0 (rnP (T 5) X6 1 30)) 4 (up (up (T 4) (35 + 3 * ((T 4) 53).toNat + 0) (lkV (T 0) 0 4)) (35 + 3 * ((T 4) 53).toNat + 1) (lkV X1 0 4)))) (by
        funext a
        by_cases h0 : a = 0
        · subst h0; rfl
        by_cases h4 : a = 4
        · subst h4; rfl
        simp only [up, if_neg h0, if_neg h4])
    have b_41 := lk_in (P := X6) (lo := 1) (hi := 30) (by omega)
    have hp_42 : PI (rnP (T 5) X6 1 30) := tkP_pi ht (lkP_pi hp_36 _ _)
    have ho_43 : (rnP (T 5) X6 1 30) 6 = (X6 6) := ((tkP_o _ _ (by omega)).trans (lkP_o _ _ _ (by omega) (by omega))).trans (by rfl)
    have ho_44 : (rnP (T 5) X6 1 30) 7 = (X6 7) := ((tkP_o _ _ (by omega)).trans (lkP_o _ _ _ (by omega) (by omega))).trans (by rfl)
    have ho_45 : (rnP (T 5) X6 1 30) 8 = (X6 8) := ((tkP_o _ _ (by omega)).trans (lkP_o _ _ _ (by omega) (by omega))).trans (by rfl)
    have ho_46 : (rnP (T 5) X6 1 30) 10 = (X6 10) := ((tkP_o _ _ (by omega)).trans (lkP_o _ _ _ (by omega) (by omega))).trans (by rfl)
    generalize eX7 : (rnP (T 5) X6 1 30) = X7 at hp_42 ho_43 ho_44 ho_45 ho_46 hW
    refine r_iast (k := (35 + 3 * ((T 4) 53).toNat + 2)) Z hB hx hb hW.draft hS (AA.me (by omega)) (by omega) (by omega) (by omega) dX4_readRope_86 (MW G K (up (up (up T 0 X7) 4 (up (up (T 4) (35 + 3 * ((T 4) 53).toNat + 0) (lkV (T 0) 0 4)) (35 + 3 * ((T 4) 53).toNat + 1) (lkV X1 0 4))) 4 (up (up (up (T 4) (35 + 3 * ((T 4) 53).toNat + 0) (lkV (T 0) 0 4)) (35 + 3 * ((T 4) 53).toNat + 1) (lkV X1 0 4)) (35 + 3 * ((T 4) 53).toNat + 2) (lkV X6 1 30)))) (fun H1 hz oq ha => hW.setA hI (j := 4) (by omega) (by omega) (fun h => up_n _ _ (by omega)) oq ha) (fun H locs hW hS => ?_)
    have hW := hW.eqS (S' := (up (up T 0 X7) 4 (up (up (up (T 4) (35 + 3 * ((T 4) 53).toNat + 0) (lkV (T 0) 0 4)) (35 + 3 * ((T 4) 53).toNat + 1) (lkV X1 0 4)) (35 + 3 * ((T 4) 53).toNat + 2) (lkV X6 1 30)))) (by
        funext a
        by_cases h4 : a = 4
        · subst h4; rfl
        simp only [up, if_neg h4])
    refine lv_aload_n hx hb dX4_readRope_87 rfl (lv_at hl 3 rfl) ?_
    refine r_get (ci := 4) (k := 4) (v := .ref (K 4)) (C := RX4) (T := TX4) (N := 29) Z hB hx hb hts hown rfl in_X4 hW.obj (by decide) q982 rfl dX4_readRope_88 ?_
    refine ii_bipush hx hb dX4_readRope_91 (by decide) ?_
    refine lv_dup2_11 hx hb dX4_readRope_93 rfl rfl ?_
    refine r_iald (k := 53) (f := (up (up (up (T 4) (35 + 3 * ((T 4) 53).toNat + 0) (lkV (T 0) 0 4)) (35 + 3 * ((T 4) 53).toNat + 1) (lkV X1 0 4)) (35 + 3 * ((T 4) 53).toNat + 2) (lkV X6 1 30))) Z hB hx hb hW.draft (by omega) (by omega) (by omega) dX4_readRope_94 ?_
    refine ii_const hx hb dX4_readRope_95 ?_
    refine ii_add hx hb dX4_readRope_96 ?_
    refine r_iast (k := 53) Z hB hx hb hW.draft hS (AA.me (by omega)) (by omega) (by omega) (by omega) dX4_readRope_97 (MW G K (up (up (up T 0 X7) 4 (up (up (up (T 4) (35 + 3 * ((T 4) 53).toNat + 0) (lkV (T 0) 0 4)) (35 + 3 * ((T 4) 53).toNat + 1) (lkV X1 0 4)) (35 + 3 * ((T 4) 53).toNat + 2) (lkV X6 1 30))) 4 (up (up (up (up (T 4) (35 + 3 * ((T 4) 53).toNat + 0) (lkV (T 0) 0 4)) (35 + 3 * ((T 4) 53).toNat + 1) (lkV X1 0 4)) (35 + 3 * ((T 4) 53).toNat + 2) (lkV X6 1 30)) 53 (((up (up (up (T 4) (35 + 3 * ((T 4) 53).toNat + 0) (lkV (T 0) 0 4)) (35 + 3 * ((T 4) 53).toNat + 1) (lkV X1 0 4)) (35 + 3 * ((T 4) 53).toNat + 2) (lkV X6 1 30)) 53) + 1)))) (fun H1 hz oq ha => hW.setA hI (j := 4) (by omega) (by omega) (fun h => up_n _ _ (by omega)) oq ha) (fun H locs hW hS => ?_)
    have hW := hW.eqS (S' := (up (up T 0 X7) 4 (up (up (up (up (T 4) (35 + 3 * ((T 4) 53).toNat + 0) (lkV (T 0) 0 4)) (35 + 3 * ((T 4) 53).toNat + 1) (lkV X1 0 4)) (35 + 3 * ((T 4) 53).toNat + 2) (lkV X6 1 30)) 53 (((up (up (up (T 4) (35 + 3 * ((T 4) 53).toNat + 0) (lkV (T 0) 0 4)) (35 + 3 * ((T 4) 53).toNat + 1) (lkV X1 0 4)) (35 + 3 * ((T 4) 53).toNat + 2) (lkV X6 1 30)) 53) + 1)))) (by
        funext a
        by_cases h4 : a = 4
        · subst h4; rfl
        simp only [up, if_neg h4])
    have hfin : rpP (T 5) (T 0) = X7 := by unfold rpP rq6 rc3 rc2 rcJ rcI; rw [eX1, eX2, eX3, eX4, eX5, eX6, eX7]
    have hfiD : rpD (T 5) (T 0) (T 4) = (up (up (up (up (T 4) (35 + 3 * ((T 4) 53).toNat + 0) (lkV (T 0) 0 4)) (35 + 3 * ((T 4) 53).toNat + 1) (lkV X1 0 4)) (35 + 3 * ((T 4) 53).toNat + 2) (lkV X6 1 30)) 53 (((up (up (up (T 4) (35 + 3 * ((T 4) 53).toNat + 0) (lkV (T 0) 0 4)) (35 + 3 * ((T 4) 53).toNat + 1) (lkV X1 0 4)) (35 + 3 * ((T 4) 53).toNat + 2) (lkV X6 1 30)) 53) + 1)) := by unfold rpD wedS rq6 rc3 rc2 rcJ rcI; rw [eX1, eX2, eX3, eX4, eX5, eX6, up_n _ _ (show 53 ≠ 35 + 3 * (T 4 53).toNat + 2 by omega), up_n _ _ (show 53 ≠ 35 + 3 * (T 4 53).toNat + 1 by omega), up_n _ _ (show 53 ≠ 35 + 3 * (T 4 53).toNat + 0 by omega)]
    have hpw9 : (MW G K (up (up T 0 (rpP (T 5) (T 0))) 4 (rpD (T 5) (T 0) (T 4)))) H := (by rw [hfin, hfiD]; exact hW)
    exact W.vret hx hb hr (fun t ht hW9 => ⟨⟨(), rfl, trivial, by show (MW G K (up (up T 0 (rpP (T 5) (T 0))) 4 (rpD (T 5) (T 0) (T 4)))) t.heap; rw [ht]; exact hpw9⟩, hS.F ht⟩) hS.2.2 dX4_readRope_98
  · -- 30 -> 33
    refine ii_const hx hb dX4_readRope_33 ?_
    refine lv_goto (tgt := 38) hx hb dX4_readRope_34 (by decide) ?_
    refine ii_const hx hb dX4_readRope_38 ?_
    have h15_47 : inR (X2 15) := by have h9 := hp_8; omega
    refine cmV (va_runV (As := [.int (iI 1), .int (iI 3)]) (rest := []) ⟨hx, hb, hml, hown, hts⟩ (mX4_needs Z K hI (up T 0 X2) X2 rfl h15_47 1 3 (by omega) H.size) (cwV 2 hts (lw_V q1095 q1097 qs36 q83 q1098) rfl rfl rfl (by decide +kernel) ⟨Nat.le_of_ble_eq_true rfl, Nat.le_of_ble_eq_true rfl⟩) (pvM (BornH.S hB hN hS) (OBJ.recv Z hB hW.obj (q := (RX4, TX4, 29)) rfl) hW) rfl rfl hl.1 rfl (lv_room (Nat.le_of_ble_eq_true rfl)) dX4_readRope_39 ⟨Nat.zero_le _, Nat.zero_le _⟩) hS (AA.le hS.1) (fun H1 locs hW1 hz1 hk1 hS => ?_)
    have hW := hW1
    clear hW1 hk1 hz1
    generalize H1 = H at hW hS ⊢
    have hW := hW.eqS (S' := (up T 0 X2)) (by rw [show ndS X2 1 3 = X2 from ndS_1 _ (by omega)]; first | exact up_id _ 0 | rfl | (exact up_id (up T 0 X2) 0))
    have hq_48 : (ndS X2 (b2 ((lkV (T 0) 0 4) ≠ (lkV X1 0 4))) 3) = X2 := by first | (rw [b2_t (by omega)]; exact ndS_1 _ (by omega)) | rw [b2_f (by omega)]
    rw [← hq_48] at hW
    have hp_49 : PI (ndS X2 (b2 ((lkV (T 0) 0 4) ≠ (lkV X1 0 4))) 3) := ndS_pi hp_8 (by omega)
    have ho_50 : (ndS X2 (b2 ((lkV (T 0) 0 4) ≠ (lkV X1 0 4))) 3) 6 = (X2 6) := (ndS_o (by omega) (by omega)).trans (by rfl)
    have ho_51 : (ndS X2 (b2 ((lkV (T 0) 0 4) ≠ (lkV X1 0 4))) 3) 7 = (X2 7) := (ndS_o (by omega) (by omega)).trans (by rfl)
    have ho_52 : (ndS X2 (b2 ((lkV (T 0) 0 4) ≠ (lkV X1 0 4))) 3) 8 = (X2 8) := (ndS_o (by omega) (by omega)).trans (by rfl)
    have ho_53 : (ndS X2 (b2 ((lkV (T 0) 0 4) ≠ (lkV X1 0 4))) 3) 10 = (X2 10) := (ndS_o (by omega) (by omega)).trans (by rfl)
    generalize eX3 : (ndS X2 (b2 ((lkV (T 0) 0 4) ≠ (lkV X1 0 4))) 3) = X3 at hp_49 ho_50 ho_51 ho_52 ho_53 hW
    refine lv_aload_n hx hb dX4_readRope_42 rfl (lv_at hl 3 rfl) ?_
    refine lv_iload_n hx hb dX4_readRope_43 rfl (lv_at hl 1 rfl) ?_
    refine cmV (va_runV (As := [.int (iI (lkV (T 0) 0 4))]) (rest := []) ⟨hx, hb, hml, hown, hts⟩ (mX4_noteHighest Z K hI (up T 0 X3) X3 rfl (by show -4 ≤ (X3 8) ∧ (X3 8) ≤ 4; omega) (lkV (T 0) 0 4) (by omega) H.size) (cwV 1 hts (lw_V q1131 q1133 qs45 q83 q1134) rfl rfl rfl (by decide +kernel) ⟨Nat.le_of_ble_eq_true rfl, Nat.le_of_ble_eq_true rfl⟩) (pvM (BornH.S hB hN hS) (OBJ.recv Z hB hW.obj (q := (RX4, TX4, 29)) rfl) hW) rfl rfl hl.1 rfl (lv_room (Nat.le_of_ble_eq_true rfl)) dX4_readRope_44 ⟨Nat.zero_le _, Nat.zero_le _⟩) hS (AA.le hS.1) (fun H1 locs hW1 hz1 hk1 hS => ?_)
    have hW := hW1
    clear hW1 hk1 hz1
    generalize H1 = H at hW hS ⊢
    have hW := hW.eqS (S' := (up T 0 (nhP X3 (lkV (T 0) 0 4)))) (by
        funext a
        by_cases h0 : a = 0
        · subst h0; rfl
        simp only [up, if_neg h0])
    have hn_55 : -4 ≤ (nhP X3 (lkV (T 0) 0 4)) 8 ∧ (nhP X3 (lkV (T 0) 0 4)) 8 ≤ 4 := nhP_8 (by omega) (by show -4 ≤ (X3 8) ∧ (X3 8) ≤ 4; omega)
    have hp_56 : PI (nhP X3 (lkV (T 0) 0 4)) := nhP_pi hp_49 _
    have ho_57 : (nhP X3 (lkV (T 0) 0 4)) 6 = (X3 6) := (nhP_o _ _ (by omega)).trans (by rfl)
    have ho_58 : (nhP X3 (lkV (T 0) 0 4)) 7 = (X3 7) := (nhP_o _ _ (by omega)).trans (by rfl)
    have ho_59 : (nhP X3 (lkV (T 0) 0 4)) 10 = (X3 10) := (nhP_o _ _ (by omega)).trans (by rfl)
    generalize eX4 : (nhP X3 (lkV (T 0) 0 4)) = X4 at hp_56 hn_55 ho_57 ho_58 ho_59 hW
    refine lv_aload_n hx hb dX4_readRope_47 rfl (lv_at hl 3 rfl) ?_
    refine lv_iload_n hx hb dX4_readRope_48 rfl (lv_at hl 0 rfl) ?_
    refine cmV (va_runV (As := [.int (iI (lkV X1 0 4))]) (rest := []) ⟨hx, hb, hml, hown, hts⟩ (mX4_noteHighest Z K hI (up T 0 X4) X4 rfl (by show -4 ≤ (X4 8) ∧ (X4 8) ≤ 4; omega) (lkV X1 0 4) (by omega) H.size) (cwV 1 hts (lw_V q1131 q1133 qs45 q83 q1134) rfl rfl rfl (by decide +kernel) ⟨Nat.le_of_ble_eq_true rfl, Nat.le_of_ble_eq_true rfl⟩) (pvM (BornH.S hB hN hS) (OBJ.recv Z hB hW.obj (q := (RX4, TX4, 29)) rfl) hW) rfl rfl hl.1 rfl (lv_room (Nat.le_of_ble_eq_true rfl)) dX4_readRope_49 ⟨Nat.zero_le _, Nat.zero_le _⟩) hS (AA.le hS.1) (fun H1 locs hW1 hz1 hk1 hS => ?_)
    have hW := hW1
    clear hW1 hk1 hz1
    generalize H1 = H at hW hS ⊢
    have hW := hW.eqS (S' := (up T 0 (nhP X4 (lkV X1 0 4)))) (by
        funext a
        by_cases h0 : a = 0
        · subst h0; rfl
        simp only [up, if_neg h0])
    have hn_61 : -4 ≤ (nhP X4 (lkV X1 0 4)) 8 ∧ (nhP X4 (lkV X1 0 4)) 8 ≤ 4 := nhP_8 (by omega) (by show -4 ≤ (X4 8) ∧ (X4 8) ≤ 4; omega)
    have hp_62 : PI (nhP X4 (lkV X1 0 4)) := nhP_pi hp_56 _
    have ho_63 : (nhP X4 (lkV X1 0 4)) 6 = (X4 6) := (nhP_o _ _ (by omega)).trans (by rfl)
    have ho_64 : (nhP X4 (lkV X1 0 4)) 7 = (X4 7) := (nhP_o _ _ (by omega)).trans (by rfl)
    have ho_65 : (nhP X4 (lkV X1 0 4)) 10 = (X4 10) := (nhP_o _ _ (by omega)).trans (by rfl)
    generalize eX5 : (nhP X4 (lkV X1 0 4)) = X5 at hp_62 hn_61 ho_63 ho_64 ho_65 hW
    refine lv_aload_n hx hb dX4_readRope_52 rfl (lv_at hl 3 rfl) ?_
    refine cmV (va_runV (As := []) (rest := []) ⟨hx, hb, hml, hown, hts⟩ (mX4_takes Z K hI (up T 0 X5) X5 rfl hp_62 ht H.size) (cwV 0 hts (lw_V q1083 q1085 qs34 q83 q1086) rfl rfl rfl (by decide +kernel) ⟨Nat.le_of_ble_eq_true rfl, Nat.le_of_ble_eq_true rfl⟩) (pvM (BornH.S hB hN hS) (OBJ.recv Z hB hW.obj (q := (RX4, TX4, 29)) rfl) hW) rfl rfl hl.1 rfl (lv_room (Nat.le_of_ble_eq_true rfl)) dX4_readRope_53 ⟨Nat.zero_le _, Nat.zero_le _⟩) hS (AA.le hS.1) (fun H1 locs hW1 hz1 hk1 hS => ?_)
    have hW := hW1
    clear hW1 hk1 hz1
    generalize H1 = H at hW hS ⊢
    have hW := hW.eqS (S' := (up T 0 (tkP (T 5) X5))) (by
        funext a
        by_cases h0 : a = 0
        · subst h0; rfl
        simp only [up, if_neg h0])
    have hp_66 : PI (tkP (T 5) X5) := tkP_pi ht hp_62
    have ho_67 : (tkP (T 5) X5) 6 = (X5 6) := (tkP_o _ _ (by omega)).trans (by rfl)
    have ho_68 : (tkP (T 5) X5) 7 = (X5 7) := (tkP_o _ _ (by omega)).trans (by rfl)
    have ho_69 : (tkP (T 5) X5) 8 = (X5 8) := (tkP_o _ _ (by omega)).trans (by rfl)
    have ho_70 : (tkP (T 5) X5) 10 = (X5 10) := (tkP_o _ _ (by omega)).trans (by rfl)
    generalize eX6 : (tkP (T 5) X5) = X6 at hp_66 ho_67 ho_68 ho_69 ho_70 hW
    refine lv_aload_n hx hb dX4_readRope_56 rfl (lv_at hl 3 rfl) ?_
    refine r_get (ci := 4) (k := 4) (v := .ref (K 4)) (C := RX4) (T := TX4) (N := 29) Z hB hx hb hts hown rfl in_X4 hW.obj (by decide) q982 rfl dX4_readRope_57 ?_
    refine lv_iload_n hx hb dX4_readRope_60 rfl (lv_at hl 2 rfl) ?_
    refine lv_iload_n hx hb dX4_readRope_61 rfl (lv_at hl 1 rfl) ?_
    refine r_iast (k := (35 + 3 * ((T 4) 53).toNat + 0)) Z hB hx hb hW.draft hS (AA.me (by omega)) (by omega) (by omega) (by omega) dX4_readRope_62 (MW G K (up (up T 0 X6) 4 (up (T 4) (35 + 3 * ((T 4) 53).toNat + 0) (lkV (T 0) 0 4)))) (fun H1 hz oq ha => hW.setA hI (j := 4) (by omega) (by omega) (fun h => up_n _ _ (by omega)) oq ha) (fun H locs hW hS => ?_)
    refine lv_aload_n hx hb dX4_readRope_63 rfl (lv_at hl 3 rfl) ?_
    refine r_get (ci := 4) (k := 4) (v := .ref (K 4)) (C := RX4) (T := TX4) (N := 29) Z hB hx hb hts hown rfl in_X4 hW.obj (by decide) q982 rfl dX4_readRope_64 ?_
    refine lv_iload_n hx hb dX4_readRope_67 rfl (lv_at hl 2 rfl) ?_
    refine ii_const hx hb dX4_readRope_68 ?_
    refine ii_add hx hb dX4_readRope_69 ?_
    refine lv_iload_n hx hb dX4_readRope_70 rfl (lv_at hl 0 rfl) ?_
    refine r_iast (k := (35 + 3 * ((T 4) 53).toNat + 1)) Z hB hx hb hW.draft hS (AA.me (by omega)) (by omega) (by omega) (by omega) dX4_readRope_71 (MW G K (up (up (up T 0 X6) 4 (up (T 4) (35 + 3 * ((T 4) 53).toNat + 0) (lkV (T 0) 0 4))) 4 (up (up (T 4) (35 + 3 * ((T 4) 53).toNat + 0) (lkV (T 0) 0 4)) (35 + 3 * ((T 4) 53).toNat + 1) (lkV X1 0 4)))) (fun H1 hz oq ha => hW.setA hI (j := 4) (by omega) (by omega) (fun h => up_n _ _ (by omega)) oq ha) (fun H locs hW hS => ?_)
    have hW := hW.eqS (S' := (up (up T 0 X6) 4 (up (up (T 4) (35 + 3 * ((T 4) 53).toNat + 0) (lkV (T 0) 0 4)) (35 + 3 * ((T 4) 53).toNat + 1) (lkV X1 0 4)))) (by
        funext a
        by_cases h4 : a = 4
        · subst h4; rfl
        simp only [up, if_neg h4])
    refine lv_aload_n hx hb dX4_readRope_72 rfl (lv_at hl 3 rfl) ?_
    refine r_get (ci := 4) (k := 4) (v := .ref (K 4)) (C := RX4) (T := TX4) (N := 29) Z hB hx hb hts hown rfl in_X4 hW.obj (by decide) q982 rfl dX4_readRope_73 ?_
    refine lv_iload_n hx hb dX4_readRope_76 rfl (lv_at hl 2 rfl) ?_
    refine ii_const hx hb dX4_readRope_77 ?_
    refine ii_add hx hb dX4_readRope_78 ?_
    refine lv_aload_n hx hb dX4_readRope_79 rfl (lv_at hl 3 rfl) ?_
    refine ii_const hx hb dX4_readRope_80 ?_
    refine ii_bipush hx hb dX4_readRope_81 (by decide) ?_
    refine cmI (va_runV (As := [.int (iI 1), .int (iI 30)]) (rest := [.int (iI ((35 + (3 * ((T 4) 53))) + 2)), .ref (K 4)]) ⟨hx, hb, hml, hown, hts⟩ (mX4_readNumber Z K hI (up (up T 0 X6) 4 (up (up (T 4) (35 + 3 * ((T 4) 53).toNat + 0) (lkV (T 0) 0 4)) (35 + 3 * ((T 4) 53).toNat + 1) (lkV X1 0 4))) X6 rfl hp_66 (T 5) rfl ht 1 (by omega) 30 (by omega) (by omega) H.size) (cwV 2 hts (lw_V q1123 q1125 qs43 q83 q1126) rfl rfl rfl (by decide +kernel) ⟨Nat.le_of_ble_eq_true rfl, Nat.le_of_ble_eq_true rfl⟩) (pvM (BornH.S hB hN hS) (OBJ.recv Z hB hW.obj (q := (RX4, TX4, 29)) rfl) hW) rfl rfl hl.1 rfl (lv_room (Nat.le_of_ble_eq_true rfl)) dX4_readRope_83 ⟨Nat.zero_le _, Nat.zero_le _⟩) hS (AA.le hS.1) (fun H1 locs hW1 hz1 hk1 hS => ?_)
    have hW := hW1
    clear hW1 hk1 hz1
    generalize H1 = H at hW hS ⊢
    have hW := hW.eqS (S' := (up (up T 0 (rnP (T 5) X6 1 30)) 4 (up (up (T 4) (35 + 3 * ((T 4) 53).toNat + 0) (lkV (T 0) 0 4)) (35 + 3 * ((T 4) 53).toNat + 1) (lkV X1 0 4)))) (by
        funext a
        by_cases h0 : a = 0
        · subst h0; rfl
        by_cases h4 : a = 4
        · subst h4; rfl
        simp only [up, if_neg h0, if_neg h4])
    have b_71 := lk_in (P := X6) (lo := 1) (hi := 30) (by omega)
    have hp_72 : PI (rnP (T 5) X6 1 30) := tkP_pi ht (lkP_pi hp_66 _ _)
    have ho_73 : (rnP (T 5) X6 1 30) 6 = (X6 6) := ((tkP_o _ _ (by omega)).trans (lkP_o _ _ _ (by omega) (by omega))).trans (by rfl)
    have ho_74 : (rnP (T 5) X6 1 30) 7 = (X6 7) := ((tkP_o _ _ (by omega)).trans (lkP_o _ _ _ (by omega) (by omega))).trans (by rfl)
    have ho_75 : (rnP (T 5) X6 1 30) 8 = (X6 8) := ((tkP_o _ _ (by omega)).trans (lkP_o _ _ _ (by omega) (by omega))).trans (by rfl)
    have ho_76 : (rnP (T 5) X6 1 30) 10 = (X6 10) := ((tkP_o _ _ (by omega)).trans (lkP_o _ _ _ (by omega) (by omega))).trans (by rfl)
    generalize eX7 : (rnP (T 5) X6 1 30) = X7 at hp_72 ho_73 ho_74 ho_75 ho_76 hW
    refine r_iast (k := (35 + 3 * ((T 4) 53).toNat + 2)) Z hB hx hb hW.draft hS (AA.me (by omega)) (by omega) (by omega) (by omega) dX4_readRope_86 (MW G K (up (up (up T 0 X7) 4 (up (up (T 4) (35 + 3 * ((T 4) 53).toNat + 0) (lkV (T 0) 0 4)) (35 + 3 * ((T 4) 53).toNat + 1) (lkV X1 0 4))) 4 (up (up (up (T 4) (35 + 3 * ((T 4) 53).toNat + 0) (lkV (T 0) 0 4)) (35 + 3 * ((T 4) 53).toNat + 1) (lkV X1 0 4)) (35 + 3 * ((T 4) 53).toNat + 2) (lkV X6 1 30)))) (fun H1 hz oq ha => hW.setA hI (j := 4) (by omega) (by omega) (fun h => up_n _ _ (by omega)) oq ha) (fun H locs hW hS => ?_)
    have hW := hW.eqS (S' := (up (up T 0 X7) 4 (up (up (up (T 4) (35 + 3 * ((T 4) 53).toNat + 0) (lkV (T 0) 0 4)) (35 + 3 * ((T 4) 53).toNat + 1) (lkV X1 0 4)) (35 + 3 * ((T 4) 53).toNat + 2) (lkV X6 1 30)))) (by
        funext a
        by_cases h4 : a = 4
        · subst h4; rfl
        simp only [up, if_neg h4])
    refine lv_aload_n hx hb dX4_readRope_87 rfl (lv_at hl 3 rfl) ?_
    refine r_get (ci := 4) (k := 4) (v := .ref (K 4)) (C := RX4) (T := TX4) (N := 29) Z hB hx hb hts hown rfl in_X4 hW.obj (by decide) q982 rfl dX4_readRope_88 ?_
    refine ii_bipush hx hb dX4_readRope_91 (by decide) ?_
    refine lv_dup2_11 hx hb dX4_readRope_93 rfl rfl ?_
    refine r_iald (k := 53) (f := (up (up (up (T 4) (35 + 3 * ((T 4) 53).toNat + 0) (lkV (T 0) 0 4)) (35 + 3 * ((T 4) 53).toNat + 1) (lkV X1 0 4)) (35 + 3 * ((T 4) 53).toNat + 2) (lkV X6 1 30))) Z hB hx hb hW.draft (by omega) (by omega) (by omega) dX4_readRope_94 ?_
    refine ii_const hx hb dX4_readRope_95 ?_
    refine ii_add hx hb dX4_readRope_96 ?_
    refine r_iast (k := 53) Z hB hx hb hW.draft hS (AA.me (by omega)) (by omega) (by omega) (by omega) dX4_readRope_97 (MW G K (up (up (up T 0 X7) 4 (up (up (up (T 4) (35 + 3 * ((T 4) 53).toNat + 0) (lkV (T 0) 0 4)) (35 + 3 * ((T 4) 53).toNat + 1) (lkV X1 0 4)) (35 + 3 * ((T 4) 53).toNat + 2) (lkV X6 1 30))) 4 (up (up (up (up (T 4) (35 + 3 * ((T 4) 53).toNat + 0) (lkV (T 0) 0 4)) (35 + 3 * ((T 4) 53).toNat + 1) (lkV X1 0 4)) (35 + 3 * ((T 4) 53).toNat + 2) (lkV X6 1 30)) 53 (((up (up (up (T 4) (35 + 3 * ((T 4) 53).toNat + 0) (lkV (T 0) 0 4)) (35 + 3 * ((T 4) 53).toNat + 1) (lkV X1 0 4)) (35 + 3 * ((T 4) 53).toNat + 2) (lkV X6 1 30)) 53) + 1)))) (fun H1 hz oq ha => hW.setA hI (j := 4) (by omega) (by omega) (fun h => up_n _ _ (by omega)) oq ha) (fun H locs hW hS => ?_)
    have hW := hW.eqS (S' := (up (up T 0 X7) 4 (up (up (up (up (T 4) (35 + 3 * ((T 4) 53).toNat + 0) (lkV (T 0) 0 4)) (35 + 3 * ((T 4) 53).toNat + 1) (lkV X1 0 4)) (35 + 3 * ((T 4) 53).toNat + 2) (lkV X6 1 30)) 53 (((up (up (up (T 4) (35 + 3 * ((T 4) 53).toNat + 0) (lkV (T 0) 0 4)) (35 + 3 * ((T 4) 53).toNat + 1) (lkV X1 0 4)) (35 + 3 * ((T 4) 53).toNat + 2) (lkV X6 1 30)) 53) + 1)))) (by
        funext a
        by_cases h4 : a = 4
        · subst h4; rfl
        simp only [up, if_neg h4])
    have hfin : rpP (T 5) (T 0) = X7 := by unfold rpP rq6 rc3 rc2 rcJ rcI; rw [eX1, eX2, eX3, eX4, eX5, eX6, eX7]
    have hfiD : rpD (T 5) (T 0) (T 4) = (up (up (up (up (T 4) (35 + 3 * ((T 4) 53).toNat + 0) (lkV (T 0) 0 4)) (35 + 3 * ((T 4) 53).toNat + 1) (lkV X1 0 4)) (35 + 3 * ((T 4) 53).toNat + 2) (lkV X6 1 30)) 53 (((up (up (up (T 4) (35 + 3 * ((T 4) 53).toNat + 0) (lkV (T 0) 0 4)) (35 + 3 * ((T 4) 53).toNat + 1) (lkV X1 0 4)) (35 + 3 * ((T 4) 53).toNat + 2) (lkV X6 1 30)) 53) + 1)) := by unfold rpD wedS rq6 rc3 rc2 rcJ rcI; rw [eX1, eX2, eX3, eX4, eX5, eX6, up_n _ _ (show 53 ≠ 35 + 3 * (T 4 53).toNat + 2 by omega), up_n _ _ (show 53 ≠ 35 + 3 * (T 4 53).toNat + 1 by omega), up_n _ _ (show 53 ≠ 35 + 3 * (T 4 53).toNat + 0 by omega)]
    have hpw9 : (MW G K (up (up T 0 (rpP (T 5) (T 0))) 4 (rpD (T 5) (T 0) (T 4)))) H := (by rw [hfin, hfiD]; exact hW)
    exact W.vret hx hb hr (fun t ht hW9 => ⟨⟨(), rfl, trivial, by show (MW G K (up (up T 0 (rpP (T 5) (T 0))) 4 (rpD (T 5) (T 0) (T 4)))) t.heap; rw [ht]; exact hpw9⟩, hS.F ht⟩) hS.2.2 dX4_readRope_98
