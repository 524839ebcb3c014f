/-! MODEL: match .. (written by gen/mod7.py) -/
set_option maxRecDepth 100000
set_option maxHeartbeats 1000000 in
set_option maxRecDepth 100000 in
theorem mX4_match {l : Launch} {G : GG} {s0 : State} {b0 : Nat} (Z : ZZ l G s0 b0) (K : Nat → Nat) (hI : Own s0 K 12) (T : Sta) (F : Nat → Int) (eF : T 1 = F) (hF : WF F) (hD : Dia F) (hd : F 54 ≤ 2000) (len : Int) (hlen : inR len) (what : Int) (hwhat : inR what) (sz : Nat) : Met l yX4_match (ws_ yX4_match cX4_match 5 (some .int)) ({ frames := 7, cells := 0, slots := 0, locals := 162 } : Room) (pcM s0 sz (MW G K T) [.ref (K 0), .int (iI len), .int (iI what)]) (mI (matchA F len what) (MWx G K T) (AA K 12 sz)) 0 0 (AA K 12 sz) := by
  refine Met.ofW (cc := cX4_match) (maxL := 5) (ret := (some .int)) (by decide) rfl ?_
  intro p e s m args below meth c s₁ B hml hv
  obtain ⟨rfl, hsz, hW, hB⟩ := hv
  subst hsz
  have hx := B.exec
  have hb := B.bytes
  have hr := B.returns
  have hts := atoms_spec (ws := (ws_ yX4_match cX4_match 5 (some .int))) B.pre
  have hts : ∀ w ∈ lw_all, w.before _ s = true := fun w h => hts w (List.mem_cons_of_mem _ h)
  have hown : s.vm.findClass RX4 = some m.cls := findClass_of_methodNamed B.named
  have hlocks := B.notSynchronized
  have hN := AA.old hI hB
  have hS : va_S (AA K 12 s.heap.size) s.heap s.heap [] := va_S.rf
  have hl := lv_entry ([.ref (K 0), .int (iI len), .int (iI what)]) (n := 5) (Nat.le_of_ble_eq_true rfl)
  rw [lg_entry_eq]
  generalize (lg_sl ([.ref (K 0), .int (iI len), .int (iI what)]) ++ List.replicate (5 - (lg_sl ([.ref (K 0), .int (iI len), .int (iI what)])).length) Slot.unset).toArray = ls at hl ⊢
  have hl : lv_has ls 5 [(0, .ref (K 0)), (1, .int (iI len)), (2, .int (iI what))] := hl
  subst eF
  have hn5 := hF.n
  have hrm := hF.rm
  have hday := hF.day
  refine lv_iload_n hx hb dX4_match_0 rfl (lv_at hl 1 rfl) ?_
  refine ii_i2l hx hb (by omega) dX4_match_1 ?_
  refine ii_lconst (z := 1) hx hb dX4_match_2 rfl ?_
  refine ii_ldc2 (z := 30) hx hb hts hown q1243 dX4_match_3 (by decide) ?_
  refine cqI (va_runS (As := [.long (lI len), .long (lI 1), .long (lI 30)]) (rest := []) ⟨hx, hb, hml, hown, hts⟩ (mX4_in Z len (by omega) 1 (by omega) 30 (by omega)) (va_cwS 3 hts (lw_S q1072 q1073 q83 q1074) rfl rfl rfl (by decide +kernel) ⟨Nat.le_of_ble_eq_true rfl, Nat.le_of_ble_eq_true rfl⟩) (psR (BornH.S hB hN hS) trivial) rfl rfl hl.1 rfl (lv_room (Nat.le_of_ble_eq_true rfl)) dX4_match_6 ⟨Nat.zero_le _, Nat.zero_le _⟩) ?_
  refine bb_if_eq (P := 1 ≤ len ∧ len ≤ 30) (tgt := 19) hx hb dX4_match_9 (by decide) (fun c_1 => ?_) (fun c_1 => ?_)
  · -- 9 -> 19
    refine ii_const hx hb dX4_match_19 ?_
    have hpw9 : (MWx G K T) s.heap := ⟨T, ⟨fun _ _ _ _ _ _ => rfl, fun _ _ _ _ _ _ => rfl⟩, hW⟩
    have he9 : (-1) = (matchA (T 1) len what) := by unfold matchA; exact (if_pos (by omega)).symm
    exact W.iret hx hb hr (fun t ht hW9 => ⟨⟨_, (), rfl, congrArg iI he9, by show (MWx G K T) t.heap; rw [ht]; exact hpw9⟩, hS.F ht⟩) hS.2.2 dX4_match_20
  · -- 9 -> 12
    refine lv_iload_n hx hb dX4_match_12 rfl (lv_at hl 2 rfl) ?_
    refine cqI (va_runS (As := [.int (iI what)]) (rest := []) ⟨hx, hb, hml, hown, hts⟩ (mX4_isPart Z what (by omega)) (va_cwS 1 hts (lw_S q1316 q1317 q83 q1318) rfl rfl rfl (by decide +kernel) ⟨Nat.le_of_ble_eq_true rfl, Nat.le_of_ble_eq_true rfl⟩) (psR (BornH.S hB hN hS) trivial) rfl rfl hl.1 rfl (lv_room (Nat.le_of_ble_eq_true rfl)) dX4_match_13 ⟨Nat.zero_le _, Nat.zero_le _⟩) ?_
    refine bb_if_ne (P := 0 ≤ what ∧ what ≤ 1) (tgt := 21) hx hb dX4_match_16 (by decide) (fun c_2 => ?_) (fun c_2 => ?_)
    · -- 16 -> 21
      refine lv_aload_n hx hb dX4_match_21 rfl (lv_at hl 0 rfl) ?_
      refine r_get (ci := 4) (k := 0) (v := .ref (K 1)) (C := RX4) (T := TX4) (N := 29) Z hB hx hb hts hown rfl in_X4 hW.obj (by decide) q978 rfl dX4_match_22 ?_
      refine ii_bipush hx hb dX4_match_25 (by decide) ?_
      have b_754 := hF.rm
      refine r_iald (k := 53) (f := (stF T)) Z hB hx hb hW.st (by omega) (by omega) (by omega) dX4_match_27 ?_
      rw [show stF T 53 = (T 1) 53 from stF_lo _ (by omega)]
      refine ii_bipush hx hb dX4_match_28 (by decide) ?_
      refine ii_icmp_ne (tgt := 36) hx hb dX4_match_30 (by decide) (by omega) (by omega) (fun c_3 => ?_) (fun c_3 => ?_)
      · -- 30 -> 36
        refine lv_aload_n hx hb dX4_match_36 rfl (lv_at hl 0 rfl) ?_
        refine cmV (va_runV (As := []) (rest := []) ⟨hx, hb, hml, hown, hts⟩ (mX4_starts Z K hI T (T 1) rfl s.heap.size) (cwV 0 hts (lw_V q1151 q1153 qs48 q83 q1154) rfl rfl rfl (by decide +kernel) ⟨Nat.le_of_ble_eq_true rfl, Nat.le_of_ble_eq_true rfl⟩) (pvM (BornH.S hB hN hS) (OBJ.recv Z hB hW.obj (q := (RX4, TX4, 29)) rfl) hW) rfl rfl hl.1 rfl (lv_room (Nat.le_of_ble_eq_true rfl)) dX4_match_37 ⟨Nat.zero_le _, Nat.zero_le _⟩) hS (AA.le hS.1) (fun H1 locs hW1 hz1 hk1 hS => ?_)
        have hW := hW1
        clear hW1 hk1 hz1
        generalize H1 = H at hW hS ⊢
        refine lv_aload_n hx hb dX4_match_40 rfl (lv_at hl 0 rfl) ?_
        refine lv_aload_n hx hb dX4_match_41 rfl (lv_at hl 0 rfl) ?_
        refine ii_bipush hx hb dX4_match_42 (by decide) ?_
        have hvb := spd_in (hF) 30 (by omega)
        have hd_4 : (T 1) 54 + (30 : Int) ≤ 100000 := by omega
        have hn_5 : (T 1) 76 = (T 1) 76 := by first | rfl | omega
        refine cmI (va_runV (As := [.int (iI 30)]) (rest := [.ref (K 0)]) ⟨hx, hb, hml, hown, hts⟩ (mX4_spreadBehind Z K hI (up T 2 (T 1)) (T 1) rfl hF hn_5 hD 30 30 (by omega) hd_4 H.size) (cwV 1 hts (lw_V q1319 q1321 qs69 q83 q1322) rfl rfl rfl (by decide +kernel) ⟨Nat.le_of_ble_eq_true rfl, Nat.le_of_ble_eq_true rfl⟩) (pvM (BornH.S hB hN hS) (OBJ.recv Z hB hW.obj (q := (RX4, TX4, 29)) rfl) hW) rfl rfl hl.1 rfl (lv_room (Nat.le_of_ble_eq_true rfl)) dX4_match_44 ⟨Nat.zero_le _, Nat.zero_le _⟩) hS (AA.le hS.1) (fun H1 locs hW1 hz1 hk1 hS => ?_)
        have hW := hW1
        clear hW1 hk1 hz1
        generalize H1 = H at hW hS ⊢
        have hW := hW.eqS (S' := (up T 2 (daysS (T 1) 30))) (by
            funext a
            by_cases h2 : a = 2
            · subst h2; rfl
            simp only [up, if_neg h2])
        have b_755 := spd_in hF 30 (by omega)
        generalize evv : (spd (T 1) 30) = v_6 at hvb ⊢
        generalize (daysS (T 1) 30) = Fv_7 at hW
        refine cmV (va_runV (As := [.int (iI v_6)]) (rest := []) ⟨hx, hb, hml, hown, hts⟩ (mX4_startsJudging Z K hI (up T 2 Fv_7) v_6 H.size) (cwV 1 hts (lw_V q1323 q1325 qs70 q83 q1326) rfl rfl rfl (by decide +kernel) ⟨Nat.le_of_ble_eq_true rfl, Nat.le_of_ble_eq_true rfl⟩) (pvM (BornH.S hB hN hS) (OBJ.recv Z hB hW.obj (q := (RX4, TX4, 29)) rfl) hW) rfl rfl hl.1 rfl (lv_room (Nat.le_of_ble_eq_true rfl)) dX4_match_47 ⟨Nat.zero_le _, Nat.zero_le _⟩) hS (AA.le hS.1) (fun H1 locs hW1 hz1 hk1 hS => ?_)
        have hW := hW1
        clear hW1 hk1 hz1
        generalize H1 = H at hW hS ⊢
        have hW := hW.eqS (S' := (up (up T 0 (up (up (T 0) 17 (-4)) 18 v_6)) 2 Fv_7)) (by
            funext a
            by_cases h0 : a = 0
            · subst h0
              funext j
              by_cases k0 : j = 17
              · subst k0; rfl
              by_cases k1 : j = 18
              · subst k1; rfl
              simp only [up, if_neg k0, if_neg k1, if_true, if_false, Nat.reduceEqDiff, reduceIte]
            by_cases h2 : a = 2
            · subst h2; rfl
            simp only [up, if_neg h0, if_neg h2])
        refine ii_const hx hb dX4_match_50 ?_
        refine lv_istore_n (lv' := [(3, .int (iI 0)), (0, .ref (K 0)), (1, .int (iI len)), (2, .int (iI what))]) hx hb dX4_match_51 rfl hl (by decide) rfl (fun ls hl => ?_)
        have loop_52 : ∀ (fu : Nat) (i : Nat) (zi : Int) (best : Int) (least : Int) (F2 : Nat → Int), (zi = (i : Int)) → (i ≤ ((T 1) 76).toNat) → (mtO (T 1) len i = (best, least)) → ((-4 ≤ best ∧ best ≤ 100) ∧ 0 ≤ least ∧ least ≤ 1000000) → (6 - i) < fu → ∀ (H : Heap) (locs : List Loc), (MW G K (up (up T 0 (up (up (T 0) 17 best) 18 least)) 2 F2)) H → va_S (AA K 12 s.heap.size) s.heap H locs → ∀ (ls : Array Slot), lv_has ls 5 [(3, .int (iI zi)), (0, .ref (K 0)), (1, .int (iI len)), (2, .int (iI what))] → W p l e (headSpec (ws_ yX4_match cX4_match 5 (some .int)) ({ frames := 7, cells := 0, slots := 0, locals := 162 } : Room)).room s m ([.ref (K 0), .int (iI len), .int (iI what)] : List Value).toArray below meth c H locs 0 0 (MQ below (mI (matchA (T 1) len what) (MWx G K T) (AA K 12 s.heap.size)) ([.ref (K 0), .int (iI len), .int (iI what)] : List Value).toArray s 0 0 (AA K 12 s.heap.size)) (F0 m 52 ls []) := by
          intro fu
          induction fu with
          | zero => intro i zi best least F2 ezi hi hp hbl hmu; exact absurd hmu (Nat.not_lt_zero _)
          | succ fu ih52 =>
            intro i zi best least F2 ezi hi hp hbl hmu H locs hW hS ls hl
            refine lv_iload_n hx hb dX4_match_52 rfl (lv_at hl 0 rfl) ?_
            refine lv_aload_n hx hb dX4_match_53 rfl (lv_at hl 1 rfl) ?_
            refine r_get (ci := 4) (k := 3) (v := .int (iI ((T 1) 76))) (C := RX4) (T := TX4) (N := 29) Z hB hx hb hts hown rfl in_X4 hW.obj (by decide) q981 rfl dX4_match_54 ?_
            refine ii_icmp_ge (tgt := 115) hx hb dX4_match_57 (by decide) (by omega) (by omega) (fun c_8 => ?_) (fun c_8 => ?_)
            · -- 57 -> 115
              have ex_i : ((T 1) 76).toNat = i := by omega
              subst ex_i
              refine lv_aload_n hx hb dX4_match_115 rfl (lv_at hl 1 rfl) ?_
              refine lv_iload_n hx hb dX4_match_116 rfl (lv_at hl 3 rfl) ?_
              have hb_9 : inR best := by omega
              refine cqI (va_runV (As := [.int (iI what)]) (rest := []) ⟨hx, hb, hml, hown, hts⟩ (mX4_judged Z K (up (up T 0 (up (up (T 0) 17 best) 18 least)) 2 F2) what (by omega) hb_9) (cwV 1 hts (lw_V q1331 q1333 qs72 q83 q1334) rfl rfl rfl (by decide +kernel) ⟨Nat.le_of_ble_eq_true rfl, Nat.le_of_ble_eq_true rfl⟩) (pvR (BornH.S hB hN hS) (OBJ.recv Z hB hW.obj (q := (RX4, TX4, 29)) rfl) hW) rfl rfl hl.1 rfl (lv_room (Nat.le_of_ble_eq_true rfl)) dX4_match_117 ⟨Nat.zero_le _, Nat.zero_le _⟩) ?_
              have hpw9 : (MWx G K T) H := (hW.x (fun a h0 h2 h6 h7 h11 => by first | rfl | simp only [up, if_neg h0, if_neg h2, if_neg h6, if_neg h7, if_neg h11]) (fun j h1 h2 h3 h4 h5 => by first | rfl | simp [up, h1, h2]))
              have he9 : (jdA (best, least) what) = (matchA (T 1) len what) := by unfold matchA; rw [if_neg (by omega), if_neg (by omega), hp]
              exact W.iret hx hb hr (fun t ht hW9 => ⟨⟨_, (), rfl, congrArg iI he9, by show (MWx G K T) t.heap; rw [ht]; exact hpw9⟩, hS.F ht⟩) hS.2.2 dX4_match_120
            · -- 57 -> 60
              refine lv_iload_n hx hb dX4_match_60 rfl (lv_at hl 0 rfl) ?_
              refine ii_const hx hb dX4_match_61 ?_
              refine ii_add hx hb dX4_match_62 ?_
              refine lv_istore (lv' := [(4, .int (iI (zi + 1))), (3, .int (iI zi)), (0, .ref (K 0)), (1, .int (iI len)), (2, .int (iI what))]) hx hb dX4_match_63 hl (by decide) rfl (fun ls hl => ?_)
              have loop_65 : ∀ (fu : Nat) (q : Nat) (zj : Int) (best : Int) (least : Int) (F2 : Nat → Int), (zj = (i : Int) + 1 + (q : Int)) → (i + 1 + q ≤ ((T 1) 76).toNat) → (mtI (T 1) len i q (mtO (T 1) len i) = (best, least)) → ((-4 ≤ best ∧ best ≤ 100) ∧ 0 ≤ least ∧ least ≤ 1000000) → (6 - q) < fu → ∀ (H : Heap) (locs : List Loc), (MW G K (up (up T 0 (up (up (T 0) 17 best) 18 least)) 2 F2)) H → va_S (AA K 12 s.heap.size) s.heap H locs → ∀ (ls : Array Slot), lv_has ls 5 [(4, .int (iI zj)), (3, .int (iI zi)), (0, .ref (K 0)), (1, .int (iI len)), (2, .int (iI what))] → W p l e (headSpec (ws_ yX4_match cX4_match 5 (some .int)) ({ frames := 7, cells := 0, slots := 0, locals := 162 } : Room)).room s m ([.ref (K 0), .int (iI len), .int (iI what)] : List Value).toArray below meth c H locs 0 0 (MQ below (mI (matchA (T 1) len what) (MWx G K T) (AA K 12 s.heap.size)) ([.ref (K 0), .int (iI len), .int (iI what)] : List Value).toArray s 0 0 (AA K 12 s.heap.size)) (F0 m 65 ls []) := by
                intro fu
                induction fu with
                | zero => intro q zj best least F2 ezj hq hp2 hbl2 hmu; exact absurd hmu (Nat.not_lt_zero _)
                | succ fu ih65 =>
                  intro q zj best least F2 ezj hq hp2 hbl2 hmu H locs hW hS ls hl
                  refine lv_iload hx hb dX4_match_65 (lv_at hl 0 rfl) ?_
                  refine lv_aload_n hx hb dX4_match_67 rfl (lv_at hl 2 rfl) ?_
                  refine r_get (ci := 4) (k := 3) (v := .int (iI ((T 1) 76))) (C := RX4) (T := TX4) (N := 29) Z hB hx hb hts hown rfl in_X4 hW.obj (by decide) q981 rfl dX4_match_68 ?_
                  refine ii_icmp_ge (tgt := 109) hx hb dX4_match_71 (by decide) (by omega) (by omega) (fun c_10 => ?_) (fun c_10 => ?_)
                  · -- 71 -> 109
                    refine ii_iinc (k := 1) (lv' := [(3, .int (iI (zi + 1))), (4, .int (iI zj)), (0, .ref (K 0)), (1, .int (iI len)), (2, .int (iI what))]) hx hb dX4_match_109 hl rfl (by decide) rfl (fun ls hl => ?_)
                    refine lv_goto (tgt := 52) hx hb dX4_match_112 (by decide) ?_
                    exact ih52 (i + 1) (zi + 1) best least F2 (by omega) (by omega) (by simp only [mtO]; rw [show ((T 1) 76).toNat - (i + 1) = q by omega]; exact hp2) (by omega) (by omega) _ _ hW hS ls (lv_sub hl [0, 2, 3, 4] rfl)
                  · -- 71 -> 74
                    refine lv_aload_n hx hb dX4_match_74 rfl (lv_at hl 2 rfl) ?_
                    refine cmV (va_runV (As := []) (rest := []) ⟨hx, hb, hml, hown, hts⟩ (mX4_starts Z K hI (up (up T 0 (up (up (T 0) 17 best) 18 least)) 2 F2) (T 1) rfl H.size) (cwV 0 hts (lw_V q1151 q1153 qs48 q83 q1154) rfl rfl rfl (by decide +kernel) ⟨Nat.le_of_ble_eq_true rfl, Nat.le_of_ble_eq_true rfl⟩) (pvM (BornH.S hB hN hS) (OBJ.recv Z hB hW.obj (q := (RX4, TX4, 29)) rfl) hW) rfl rfl hl.1 rfl (lv_room (Nat.le_of_ble_eq_true rfl)) dX4_match_75 ⟨Nat.zero_le _, Nat.zero_le _⟩) hS (AA.le hS.1) (fun H1 locs hW1 hz1 hk1 hS => ?_)
                    have hW := hW1
                    clear hW1 hk1 hz1
                    generalize H1 = H at hW hS ⊢
                    have hW := hW.eqS (S' := (up (up T 0 (up (up (T 0) 17 best) 18 least)) 2 (T 1))) (by
                        funext a
                        by_cases h0 : a = 0
                        · subst h0
                          funext j
                          by_cases k0 : j = 17
                          · subst k0; rfl
                          by_cases k1 : j = 18
                          · subst k1; rfl
                          simp only [up, if_neg k0, if_neg k1, if_true, if_false, Nat.reduceEqDiff, reduceIte]
                        by_cases h2 : a = 2
                        · subst h2; rfl
                        simp only [up, if_neg h0, if_neg h2])
                    refine lv_aload_n hx hb dX4_match_78 rfl (lv_at hl 2 rfl) ?_
                    refine lv_iload_n hx hb dX4_match_79 rfl (lv_at hl 1 rfl) ?_
                    refine lv_iload hx hb dX4_match_80 (lv_at hl 0 rfl) ?_
                    refine lv_iload_n hx hb dX4_match_82 rfl (lv_at hl 3 rfl) ?_
                    refine cmV (va_runV (As := [.int (iI zi), .int (iI zj), .int (iI len)]) (rest := []) ⟨hx, hb, hml, hown, hts⟩ (mX4_ties Z K hI (up (up T 0 (up (up (T 0) 17 best) 18 least)) 2 (T 1)) (T 1) rfl hF zi zj len (by omega) H.size) (cwV 3 hts (lw_V q1248 q1250 qs61 q83 q1251) rfl rfl rfl (by decide +kernel) ⟨Nat.le_of_ble_eq_true rfl, Nat.le_of_ble_eq_true rfl⟩) (pvM (BornH.S hB hN hS) (OBJ.recv Z hB hW.obj (q := (RX4, TX4, 29)) rfl) hW) rfl rfl hl.1 rfl (lv_room (Nat.le_of_ble_eq_true rfl)) dX4_match_83 ⟨Nat.zero_le _, Nat.zero_le _⟩) hS (AA.le hS.1) (fun H1 locs hW1 hz1 hk1 hS => ?_)
                    have hW := hW1
                    clear hW1 hk1 hz1
                    generalize H1 = H at hW hS ⊢
                    have hW := hW.eqS (S' := (up (up T 0 (up (up (T 0) 17 best) 18 least)) 2 (wedS (T 1) zi zj len))) (by
                        funext a
                        by_cases h0 : a = 0
                        · subst h0
                          funext j
                          by_cases k0 : j = 17
                          · subst k0; rfl
                          by_cases k1 : j = 18
                          · subst k1; rfl
                          simp only [up, if_neg k0, if_neg k1, if_true, if_false, Nat.reduceEqDiff, reduceIte]
                        by_cases h2 : a = 2
                        · subst h2; rfl
                        simp only [up, if_neg h0, if_neg h2])
                    refine lv_aload_n hx hb dX4_match_86 rfl (lv_at hl 2 rfl) ?_
                    refine ii_bipush hx hb dX4_match_87 (by decide) ?_
                    refine lv_iload_n hx hb dX4_match_89 rfl (lv_at hl 1 rfl) ?_
                    refine ii_mul hx hb dX4_match_90 ?_
                    refine lv_iload hx hb dX4_match_91 (lv_at hl 0 rfl) ?_
                    refine ii_add hx hb dX4_match_93 ?_
                    refine lv_aload_n hx hb dX4_match_94 rfl (lv_at hl 2 rfl) ?_
                    refine ii_bipush hx hb dX4_match_95 (by decide) ?_
                    have h22 : WF (wedS (T 1) zi zj len) := hF.wed (by omega) (by omega) (by omega) (by omega)
                    have hD2 : Dia (wedS (T 1) zi zj len) := fun a ha => by rw [wedS_same hF (by omega) _ _ _ (by omega) (by omega)]; exact hD a ha
                    have h76w : (wedS (T 1) zi zj len) 76 = T 1 76 := wedS_same hF (by omega) _ _ _ (by omega) (by omega)
                    have h54w : (wedS (T 1) zi zj len) 54 = T 1 54 := wedS_same hF (by omega) _ _ _ (by omega) (by omega)
                    have hvb := spd_in (h22) 30 (by omega)
                    have hd_11 : (wedS (T 1) zi zj len) 54 + (30 : Int) ≤ 100000 := by omega
                    have hn_12 : (T 1) 76 = (wedS (T 1) zi zj len) 76 := by first | rfl | omega
                    refine cmI (va_runV (As := [.int (iI 30)]) (rest := [.int (iI ((10 * zi) + zj)), .ref (K 0)]) ⟨hx, hb, hml, hown, hts⟩ (mX4_spreadBehind Z K hI (up (up T 0 (up (up (T 0) 17 best) 18 least)) 2 (wedS (T 1) zi zj len)) (wedS (T 1) zi zj len) rfl h22 hn_12 hD2 30 30 (by omega) hd_11 H.size) (cwV 1 hts (lw_V q1319 q1321 qs69 q83 q1322) rfl rfl rfl (by decide +kernel) ⟨Nat.le_of_ble_eq_true rfl, Nat.le_of_ble_eq_true rfl⟩) (pvM (BornH.S hB hN hS) (OBJ.recv Z hB hW.obj (q := (RX4, TX4, 29)) rfl) hW) rfl rfl hl.1 rfl (lv_room (Nat.le_of_ble_eq_true rfl)) dX4_match_97 ⟨Nat.zero_le _, Nat.zero_le _⟩) hS (AA.le hS.1) (fun H1 locs hW1 hz1 hk1 hS => ?_)
                    have hW := hW1
                    clear hW1 hk1 hz1
                    generalize H1 = H at hW hS ⊢
                    have hW := hW.eqS (S' := (up (up T 0 (up (up (T 0) 17 best) 18 least)) 2 (daysS (wedS (T 1) zi zj len) 30))) (by
                        funext a
                        by_cases h0 : a = 0
                        · subst h0
                          funext j
                          by_cases k0 : j = 17
                          · subst k0; rfl
                          by_cases k1 : j = 18
                          · subst k1; rfl
                          simp only [up, if_neg k0, if_neg k1, if_true, if_false, Nat.reduceEqDiff, reduceIte]
                        by_cases h2 : a = 2
                        · subst h2; rfl
                        simp only [up, if_neg h0, if_neg h2])
                    have b_756 := spd_in h22 30 (by omega)
                    generalize evv : (spd (wedS (T 1) zi zj len) 30) = v_13 at hvb ⊢
                    generalize (daysS (wedS (T 1) zi zj len) 30) = Fv_14 at hW
                    have hle_15 : inR least := by omega
                    refine cmV (va_runV (As := [.int (iI ((10 * zi) + zj)), .int (iI v_13)]) (rest := []) ⟨hx, hb, hml, hown, hts⟩ (mX4_judges Z K hI (up (up T 0 (up (up (T 0) 17 best) 18 least)) 2 Fv_14) ((10 * zi) + zj) v_13 (by omega) hle_15 H.size) (cwV 2 hts (lw_V q1327 q1329 qs71 q83 q1330) rfl rfl rfl (by decide +kernel) ⟨Nat.le_of_ble_eq_true rfl, Nat.le_of_ble_eq_true rfl⟩) (pvM (BornH.S hB hN hS) (OBJ.recv Z hB hW.obj (q := (RX4, TX4, 29)) rfl) hW) rfl rfl hl.1 rfl (lv_room (Nat.le_of_ble_eq_true rfl)) dX4_match_100 ⟨Nat.zero_le _, Nat.zero_le _⟩) hS (AA.le hS.1) (fun H1 locs hW1 hz1 hk1 hS => ?_)
                    have hW := hW1
                    clear hW1 hk1 hz1
                    generalize H1 = H at hW hS ⊢
                    have hW := hW.eqS (S' := (up (up T 0 (up (up (up (up (T 0) 17 best) 17 ((jd (best, least) ((10 * zi) + zj) v_13).1)) 18 least) 18 ((jd (best, least) ((10 * zi) + zj) v_13).2))) 2 Fv_14)) (by
                        funext a
                        by_cases h0 : a = 0
                        · subst h0
                          funext j
                          by_cases k0 : j = 17
                          · subst k0; rfl
                          by_cases k1 : j = 17
                          · subst k1; rfl
                          by_cases k2 : j = 18
                          · subst k2; rfl
                          by_cases k3 : j = 18
                          · subst k3; rfl
                          simp only [up, if_neg k0, if_neg k1, if_neg k2, if_neg k3, if_true, if_false, Nat.reduceEqDiff, reduceIte]
                        by_cases h2 : a = 2
                        · subst h2; rfl
                        simp only [up, if_neg h0, if_neg h2])
                    generalize hjj : (jd (best, least) ((10 * zi) + zj) v_13) = pj at hW
                    obtain ⟨jb_16, jl_17⟩ := pj
                    have hjb := jd_b hjj
                    dsimp only at hW hjb
                    refine ii_iinc (k := 0) (lv' := [(4, .int (iI (zj + 1))), (3, .int (iI zi)), (0, .ref (K 0)), (1, .int (iI len)), (2, .int (iI what))]) hx hb dX4_match_103 hl rfl (by decide) rfl (fun ls hl => ?_)
                    refine lv_goto (tgt := 65) hx hb dX4_match_106 (by decide) ?_
                    have hW := hW.eqS (S' := (up (up T 0 (up (up (T 0) 17 jb_16) 18 jl_17)) 2 Fv_14)) (by
                        funext a
                        by_cases h0 : a = 0
                        · subst h0
                          funext j
                          by_cases k0 : j = 17
                          · subst k0; rfl
                          by_cases k1 : j = 17
                          · subst k1; rfl
                          by_cases k2 : j = 18
                          · subst k2; rfl
                          by_cases k3 : j = 18
                          · subst k3; rfl
                          simp only [up, if_neg k0, if_neg k1, if_neg k2, if_neg k3, if_true, if_false, Nat.reduceEqDiff, reduceIte]
                        by_cases h2 : a = 2
                        · subst h2; rfl
                        simp only [up, if_neg h0, if_neg h2])
                    exact ih65 (q + 1) (zj + 1) jb_16 jl_17 Fv_14 (by omega) (by omega) (by simp only [mtI]; rw [hp2, ← ezj, ← ezi, evv]; exact hjj) (by omega) (by omega) _ _ hW hS ls (lv_sub hl [0, 1, 2, 3, 4] rfl)
              exact loop_65 _ 0 (zi + 1) best least F2 (by omega) (by omega) (hp) (by omega) (Nat.lt_succ_self _) _ _ hW hS ls (lv_sub hl [0, 1, 2, 3, 4] rfl)
        exact loop_52 _ 0 0 (-4) v_6 Fv_7 (by omega) (by omega) (by simp only [mtO]; rw [evv]) (by omega) (Nat.lt_succ_self _) _ _ hW hS ls (lv_sub hl [0, 1, 2, 3] rfl)
      · -- 30 -> 33
        refine ii_bipush hx hb dX4_match_33 (by decide) ?_
        have hpw9 : (MWx G K T) s.heap := ⟨T, ⟨fun _ _ _ _ _ _ => rfl, fun _ _ _ _ _ _ => rfl⟩, hW⟩
        have he9 : (-3) = (matchA (T 1) len what) := by unfold matchA; rw [if_neg (by omega), if_pos (by omega)]
        exact W.iret hx hb hr (fun t ht hW9 => ⟨⟨_, (), rfl, congrArg iI he9, by show (MWx G K T) t.heap; rw [ht]; exact hpw9⟩, hS.F ht⟩) hS.2.2 dX4_match_35
    · -- 16 -> 19
      refine ii_const hx hb dX4_match_19 ?_
      have hpw9 : (MWx G K T) s.heap := ⟨T, ⟨fun _ _ _ _ _ _ => rfl, fun _ _ _ _ _ _ => rfl⟩, hW⟩
      have he9 : (-1) = (matchA (T 1) len what) := by unfold matchA; exact (if_pos (by omega)).symm
      exact W.iret hx hb hr (fun t ht hW9 => ⟨⟨_, (), rfl, congrArg iI he9, by show (MWx G K T) t.heap; rw [ht]; exact hpw9⟩, hS.F ht⟩) hS.2.2 dX4_match_20

set_option maxHeartbeats 1000000 in
set_option maxRecDepth 100000 in
theorem mX4_soothe {l : Launch} {G : GG} {s0 : State} {b0 : Nat} (Z : ZZ l G s0 b0) (K : Nat → Nat) (hI : Own s0 K 12) (T : Sta) (F : Nat → Int) (eF : T 1 = F) (hF : WF F) (hD : Dia F) (hd : F 54 ≤ 2000) (what : Int) (hwhat : inR what) (sz : Nat) : Met l yX4_soothe (ws_ yX4_soothe cX4_soothe 4 (some .int)) ({ frames := 7, cells := 0, slots := 0, locals := 162 } : Room) (pcM s0 sz (MW G K T) [.ref (K 0), .int (iI what)]) (mI (sootheA F what) (MWx G K T) (AA K 12 sz)) 0 0 (AA K 12 sz) := by
  refine Met.ofW (cc := cX4_soothe) (maxL := 4) (ret := (some .int)) (by decide) rfl ?_
  intro p e s m args below meth c s₁ B hml hv
  obtain ⟨rfl, hsz, hW, hB⟩ := hv
  subst hsz
  have hx := B.exec
  have hb := B.bytes
  have hr := B.returns
  have hts := atoms_spec (ws := (ws_ yX4_soothe cX4_soothe 4 (some .int))) B.pre
  have hts : ∀ w ∈ lw_all, w.before _ s = true := fun w h => hts w (List.mem_cons_of_mem _ h)
  have hown : s.vm.findClass RX4 = some m.cls := findClass_of_methodNamed B.named
  have hlocks := B.notSynchronized
  have hN := AA.old hI hB
  have hS : va_S (AA K 12 s.heap.size) s.heap s.heap [] := va_S.rf
  have hl := lv_entry ([.ref (K 0), .int (iI what)]) (n := 4) (Nat.le_of_ble_eq_true rfl)
  rw [lg_entry_eq]
  generalize (lg_sl ([.ref (K 0), .int (iI what)]) ++ List.replicate (4 - (lg_sl ([.ref (K 0), .int (iI what)])).length) Slot.unset).toArray = ls at hl ⊢
  have hl : lv_has ls 4 [(0, .ref (K 0)), (1, .int (iI what))] := hl
  subst eF
  have hn5 := hF.n
  have hrm := hF.rm
  have hday := hF.day
  refine lv_iload_n hx hb dX4_soothe_0 rfl (lv_at hl 1 rfl) ?_
  refine cqI (va_runS (As := [.int (iI what)]) (rest := []) ⟨hx, hb, hml, hown, hts⟩ (mX4_isPart Z what (by omega)) (va_cwS 1 hts (lw_S q1316 q1317 q83 q1318) rfl rfl rfl (by decide +kernel) ⟨Nat.le_of_ble_eq_true rfl, Nat.le_of_ble_eq_true rfl⟩) (psR (BornH.S hB hN hS) trivial) rfl rfl hl.1 rfl (lv_room (Nat.le_of_ble_eq_true rfl)) dX4_soothe_1 ⟨Nat.zero_le _, Nat.zero_le _⟩) ?_
  refine bb_if_ne (P := 0 ≤ what ∧ what ≤ 1) (tgt := 9) hx hb dX4_soothe_4 (by decide) (fun c_1 => ?_) (fun c_1 => ?_)
  · -- 4 -> 9
    refine lv_aload_n hx hb dX4_soothe_9 rfl (lv_at hl 0 rfl) ?_
    refine cmV (va_runV (As := []) (rest := []) ⟨hx, hb, hml, hown, hts⟩ (mX4_starts Z K hI T (T 1) rfl s.heap.size) (cwV 0 hts (lw_V q1151 q1153 qs48 q83 q1154) rfl rfl rfl (by decide +kernel) ⟨Nat.le_of_ble_eq_true rfl, Nat.le_of_ble_eq_true rfl⟩) (pvM (BornH.S hB hN hS) (OBJ.recv Z hB hW.obj (q := (RX4, TX4, 29)) rfl) hW) rfl rfl hl.1 rfl (lv_room (Nat.le_of_ble_eq_true rfl)) dX4_soothe_10 ⟨Nat.zero_le _, Nat.zero_le _⟩) hS (AA.le hS.1) (fun H1 locs hW1 hz1 hk1 hS => ?_)
    have hW := hW1
    clear hW1 hk1 hz1
    generalize H1 = H at hW hS ⊢
    refine lv_aload_n hx hb dX4_soothe_13 rfl (lv_at hl 0 rfl) ?_
    refine lv_aload_n hx hb dX4_soothe_14 rfl (lv_at hl 0 rfl) ?_
    refine ii_bipush hx hb dX4_soothe_15 (by decide) ?_
    have hvb := spd_in (hF) 30 (by omega)
    have hd_2 : (T 1) 54 + (30 : Int) ≤ 100000 := by omega
    have hn_3 : (T 1) 76 = (T 1) 76 := by first | rfl | omega
    refine cmI (va_runV (As := [.int (iI 30)]) (rest := [.ref (K 0)]) ⟨hx, hb, hml, hown, hts⟩ (mX4_spreadBehind Z K hI (up T 2 (T 1)) (T 1) rfl hF hn_3 hD 30 30 (by omega) hd_2 H.size) (cwV 1 hts (lw_V q1319 q1321 qs69 q83 q1322) rfl rfl rfl (by decide +kernel) ⟨Nat.le_of_ble_eq_true rfl, Nat.le_of_ble_eq_true rfl⟩) (pvM (BornH.S hB hN hS) (OBJ.recv Z hB hW.obj (q := (RX4, TX4, 29)) rfl) hW) rfl rfl hl.1 rfl (lv_room (Nat.le_of_ble_eq_true rfl)) dX4_soothe_17 ⟨Nat.zero_le _, Nat.zero_le _⟩) hS (AA.le hS.1) (fun H1 locs hW1 hz1 hk1 hS => ?_)
    have hW := hW1
    clear hW1 hk1 hz1
    generalize H1 = H at hW hS ⊢
    have hW := hW.eqS (S' := (up T 2 (daysS (T 1) 30))) (by
        funext a
        by_cases h2 : a = 2
        · subst h2; rfl
        simp only [up, if_neg h2])
    have b_757 := spd_in hF 30 (by omega)
    generalize evv : (spd (T 1) 30) = v_4 at hvb ⊢
    generalize (daysS (T 1) 30) = Fv_5 at hW
    refine cmV (va_runV (As := [.int (iI v_4)]) (rest := []) ⟨hx, hb, hml, hown, hts⟩ (mX4_startsJudging Z K hI (up T 2 Fv_5) v_4 H.size) (cwV 1 hts (lw_V q1323 q1325 qs70 q83 q1326) rfl rfl rfl (by decide +kernel) ⟨Nat.le_of_ble_eq_true rfl, Nat.le_of_ble_eq_true rfl⟩) (pvM (BornH.S hB hN hS) (OBJ.recv Z hB hW.obj (q := (RX4, TX4, 29)) rfl) hW) rfl rfl hl.1 rfl (lv_room (Nat.le_of_ble_eq_true rfl)) dX4_soothe_20 ⟨Nat.zero_le _, Nat.zero_le _⟩) hS (AA.le hS.1) (fun H1 locs hW1 hz1 hk1 hS => ?_)
    have hW := hW1
    clear hW1 hk1 hz1
    generalize H1 = H at hW hS ⊢
    have hW := hW.eqS (S' := (up (up T 0 (up (up (T 0) 17 (-4)) 18 v_4)) 2 Fv_5)) (by
        funext a
        by_cases h0 : a = 0
        · subst h0
          funext j
          by_cases k0 : j = 17
          · subst k0; rfl
          by_cases k1 : j = 18
          · subst k1; rfl
          simp only [up, if_neg k0, if_neg k1, if_true, if_false, Nat.reduceEqDiff, reduceIte]
        by_cases h2 : a = 2
        · subst h2; rfl
        simp only [up, if_neg h0, if_neg h2])
    refine ii_const hx hb dX4_soothe_23 ?_
    refine lv_istore_n (lv' := [(2, .int (iI 0)), (0, .ref (K 0)), (1, .int (iI what))]) hx hb dX4_soothe_24 rfl hl (by decide) rfl (fun ls hl => ?_)
    have loop_25 : ∀ (fu : Nat) (i : Nat) (zi : Int) (best : Int) (least : Int) (F2 : Nat → Int), (zi = (i : Int)) → (i ≤ ((T 1) 76).toNat) → (smO (T 1) i = (best, least)) → ((-4 ≤ best ∧ best ≤ 100) ∧ 0 ≤ least ∧ least ≤ 1000000) → (6 - i) < fu → ∀ (H : Heap) (locs : List Loc), (MW G K (up (up T 0 (up (up (T 0) 17 best) 18 least)) 2 F2)) H → va_S (AA K 12 s.heap.size) s.heap H locs → ∀ (ls : Array Slot), lv_has ls 4 [(2, .int (iI zi)), (0, .ref (K 0)), (1, .int (iI what))] → W p l e (headSpec (ws_ yX4_soothe cX4_soothe 4 (some .int)) ({ frames := 7, cells := 0, slots := 0, locals := 162 } : Room)).room s m ([.ref (K 0), .int (iI what)] : List Value).toArray below meth c H locs 0 0 (MQ below (mI (sootheA (T 1) what) (MWx G K T) (AA K 12 s.heap.size)) ([.ref (K 0), .int (iI what)] : List Value).toArray s 0 0 (AA K 12 s.heap.size)) (F0 m 25 ls []) := by
      intro fu
      induction fu with
      | zero => intro i zi best least F2 ezi hi hp hbl hmu; exact absurd hmu (Nat.not_lt_zero _)
      | succ fu ih25 =>
        intro i zi best least F2 ezi hi hp hbl hmu H locs hW hS ls hl
        refine lv_iload_n hx hb dX4_soothe_25 rfl (lv_at hl 0 rfl) ?_
        refine lv_aload_n hx hb dX4_soothe_26 rfl (lv_at hl 1 rfl) ?_
        refine r_get (ci := 4) (k := 3) (v := .int (iI ((T 1) 76))) (C := RX4) (T := TX4) (N := 29) Z hB hx hb hts hown rfl in_X4 hW.obj (by decide) q981 rfl dX4_soothe_27 ?_
        refine ii_icmp_ge (tgt := 94) hx hb dX4_soothe_30 (by decide) (by omega) (by omega) (fun c_6 => ?_) (fun c_6 => ?_)
        · -- 30 -> 94
          have ex_i : ((T 1) 76).toNat = i := by omega
          subst ex_i
          refine lv_aload_n hx hb dX4_soothe_94 rfl (lv_at hl 1 rfl) ?_
          refine lv_iload_n hx hb dX4_soothe_95 rfl (lv_at hl 2 rfl) ?_
          have hb_7 : inR best := by omega
          refine cqI (va_runV (As := [.int (iI what)]) (rest := []) ⟨hx, hb, hml, hown, hts⟩ (mX4_judged Z K (up (up T 0 (up (up (T 0) 17 best) 18 least)) 2 F2) what (by omega) hb_7) (cwV 1 hts (lw_V q1331 q1333 qs72 q83 q1334) rfl rfl rfl (by decide +kernel) ⟨Nat.le_of_ble_eq_true rfl, Nat.le_of_ble_eq_true rfl⟩) (pvR (BornH.S hB hN hS) (OBJ.recv Z hB hW.obj (q := (RX4, TX4, 29)) rfl) hW) rfl rfl hl.1 rfl (lv_room (Nat.le_of_ble_eq_true rfl)) dX4_soothe_96 ⟨Nat.zero_le _, Nat.zero_le _⟩) ?_
          have hpw9 : (MWx G K T) H := (hW.x (fun a h0 h2 h6 h7 h11 => by first | rfl | simp only [up, if_neg h0, if_neg h2, if_neg h6, if_neg h7, if_neg h11]) (fun j h1 h2 h3 h4 h5 => by first | rfl | simp [up, h1, h2]))
          have he9 : (jdA (best, least) what) = (sootheA (T 1) what) := by unfold sootheA; rw [if_neg (by omega), ← (smO_eq hF hD rfl ((T 1) 76).toNat (by omega)).1, hp]
          exact W.iret hx hb hr (fun t ht hW9 => ⟨⟨_, (), rfl, congrArg iI he9, by show (MWx G K T) t.heap; rw [ht]; exact hpw9⟩, hS.F ht⟩) hS.2.2 dX4_soothe_99
        · -- 30 -> 33
          refine ii_const hx hb dX4_soothe_33 ?_
          refine lv_istore_n (lv' := [(3, .int (iI 0)), (2, .int (iI zi)), (0, .ref (K 0)), (1, .int (iI what))]) hx hb dX4_soothe_34 rfl hl (by decide) rfl (fun ls hl => ?_)
          have loop_35 : ∀ (fu : Nat) (j : Nat) (zj : Int) (best : Int) (least : Int) (F2 : Nat → Int), (zj = (j : Int)) → (j ≤ ((T 1) 76).toNat) → (smI (T 1) i j (smO (T 1) i) = (best, least)) → ((-4 ≤ best ∧ best ≤ 100) ∧ 0 ≤ least ∧ least ≤ 1000000) → (6 - j) < fu → ∀ (H : Heap) (locs : List Loc), (MW G K (up (up T 0 (up (up (T 0) 17 best) 18 least)) 2 F2)) H → va_S (AA K 12 s.heap.size) s.heap H locs → ∀ (ls : Array Slot), lv_has ls 4 [(3, .int (iI zj)), (2, .int (iI zi)), (0, .ref (K 0)), (1, .int (iI what))] → W p l e (headSpec (ws_ yX4_soothe cX4_soothe 4 (some .int)) ({ frames := 7, cells := 0, slots := 0, locals := 162 } : Room)).room s m ([.ref (K 0), .int (iI what)] : List Value).toArray below meth c H locs 0 0 (MQ below (mI (sootheA (T 1) what) (MWx G K T) (AA K 12 s.heap.size)) ([.ref (K 0), .int (iI what)] : List Value).toArray s 0 0 (AA K 12 s.heap.size)) (F0 m 35 ls []) := by
            intro fu
            induction fu with
            | zero => intro j zj best least F2 ezj hj hp2 hbl2 hmu; exact absurd hmu (Nat.not_lt_zero _)
            | succ fu ih35 =>
              intro j zj best least F2 ezj hj hp2 hbl2 hmu H locs hW hS ls hl
              refine lv_iload_n hx hb dX4_soothe_35 rfl (lv_at hl 0 rfl) ?_
              refine lv_aload_n hx hb dX4_soothe_36 rfl (lv_at hl 2 rfl) ?_
              refine r_get (ci := 4) (k := 3) (v := .int (iI ((T 1) 76))) (C := RX4) (T := TX4) (N := 29) Z hB hx hb hts hown rfl in_X4 hW.obj (by decide) q981 rfl dX4_soothe_37 ?_
              refine ii_icmp_ge (tgt := 88) hx hb dX4_soothe_40 (by decide) (by omega) (by omega) (fun c_8 => ?_) (fun c_8 => ?_)
              · -- 40 -> 88
                refine ii_iinc (k := 1) (lv' := [(2, .int (iI (zi + 1))), (3, .int (iI zj)), (0, .ref (K 0)), (1, .int (iI what))]) hx hb dX4_soothe_88 hl rfl (by decide) rfl (fun ls hl => ?_)
                refine lv_goto (tgt := 25) hx hb dX4_soothe_91 (by decide) ?_
                exact ih25 (i + 1) (zi + 1) best least F2 (by omega) (by omega) (by simp only [smO]; rw [show ((T 1) 76).toNat = j by omega]; exact hp2) (by omega) (by omega) _ _ hW hS ls (lv_sub hl [0, 2, 3] rfl)
              · -- 40 -> 43
                refine lv_iload_n hx hb dX4_soothe_43 rfl (lv_at hl 1 rfl) ?_
                refine lv_iload_n hx hb dX4_soothe_44 rfl (lv_at hl 0 rfl) ?_
                refine ii_icmp_eq (tgt := 82) hx hb dX4_soothe_45 (by decide) (by omega) (by omega) (fun c_9 => ?_) (fun c_9 => ?_)
                · -- 45 -> 82
                  refine ii_iinc (k := 0) (lv' := [(3, .int (iI (zj + 1))), (2, .int (iI zi)), (0, .ref (K 0)), (1, .int (iI what))]) hx hb dX4_soothe_82 hl rfl (by decide) rfl (fun ls hl => ?_)
                  refine lv_goto (tgt := 35) hx hb dX4_soothe_85 (by decide) ?_
                  exact ih35 (j + 1) (zj + 1) best least F2 (by omega) (by omega) (by simp only [smI]; first | (rw [if_pos (by omega)]; exact hp2) | (rw [if_neg (by omega), hp2, ← ezj, ← ezi, evv]; exact hjj)) (by omega) (by omega) _ _ hW hS ls (lv_sub hl [0, 1, 2, 3] rfl)
                · -- 45 -> 48
                  refine lv_aload_n hx hb dX4_soothe_48 rfl (lv_at hl 2 rfl) ?_
                  refine cmV (va_runV (As := []) (rest := []) ⟨hx, hb, hml, hown, hts⟩ (mX4_starts Z K hI (up (up T 0 (up (up (T 0) 17 best) 18 least)) 2 F2) (T 1) rfl H.size) (cwV 0 hts (lw_V q1151 q1153 qs48 q83 q1154) rfl rfl rfl (by decide +kernel) ⟨Nat.le_of_ble_eq_true rfl, Nat.le_of_ble_eq_true rfl⟩) (pvM (BornH.S hB hN hS) (OBJ.recv Z hB hW.obj (q := (RX4, TX4, 29)) rfl) hW) rfl rfl hl.1 rfl (lv_room (Nat.le_of_ble_eq_true rfl)) dX4_soothe_49 ⟨Nat.zero_le _, Nat.zero_le _⟩) hS (AA.le hS.1) (fun H1 locs hW1 hz1 hk1 hS => ?_)
                  have hW := hW1
                  clear hW1 hk1 hz1
                  generalize H1 = H at hW hS ⊢
                  have hW := hW.eqS (S' := (up (up T 0 (up (up (T 0) 17 best) 18 least)) 2 (T 1))) (by
                      funext a
                      by_cases h0 : a = 0
                      · subst h0
                        funext j
                        by_cases k0 : j = 17
                        · subst k0; rfl
                        by_cases k1 : j = 18
                        · subst k1; rfl
                        simp only [up, if_neg k0, if_neg k1, if_true, if_false, Nat.reduceEqDiff, reduceIte]
                      by_cases h2 : a = 2
                      · subst h2; rfl
                      simp only [up, if_neg h0, if_neg h2])
                  refine lv_aload_n hx hb dX4_soothe_52 rfl (lv_at hl 2 rfl) ?_
                  refine r_get (ci := 4) (k := 1) (v := .ref (K 2)) (C := RX4) (T := TX4) (N := 29) Z hB hx hb hts hown rfl in_X4 hW.obj (by decide) q979 rfl dX4_soothe_53 ?_
                  refine ii_bipush hx hb dX4_soothe_56 (by decide) ?_
                  refine ii_const hx hb dX4_soothe_58 ?_
                  refine lv_iload_n hx hb dX4_soothe_59 rfl (lv_at hl 1 rfl) ?_
                  refine ii_mul hx hb dX4_soothe_60 ?_
                  refine ii_add hx hb dX4_soothe_61 ?_
                  refine lv_iload_n hx hb dX4_soothe_62 rfl (lv_at hl 0 rfl) ?_
                  refine ii_add hx hb dX4_soothe_63 ?_
                  refine ii_const hx hb dX4_soothe_64 ?_
                  refine r_iast (k := (10 + 5 * i + j)) Z hB hx hb hW.now hS (AA.me (by omega)) (by omega) (by omega) (by omega) dX4_soothe_65 (MW G K (up (up (up T 0 (up (up (T 0) 17 best) 18 least)) 2 (T 1)) 2 (up (T 1) (10 + 5 * i + j) 0))) (fun H1 hz oq ha => hW.setA hI (j := 2) (by omega) (by omega) (fun h => absurd h (by omega)) oq ha) (fun H locs hW hS => ?_)
                  have hW := hW.eqS (S' := (up (up T 0 (up (up (T 0) 17 best) 18 least)) 2 (up (T 1) (10 + 5 * i + j) 0))) (by
                      funext a
                      by_cases h0 : a = 0
                      · subst h0
                        funext j
                        by_cases k0 : j = 17
                        · subst k0; rfl
                        by_cases k1 : j = 18
                        · subst k1; rfl
                        simp only [up, if_neg k0, if_neg k1, if_true, if_false, Nat.reduceEqDiff, reduceIte]
                      by_cases h2 : a = 2
                      · subst h2; rfl
                      simp only [up, if_neg h0, if_neg h2])
                  refine lv_aload_n hx hb dX4_soothe_66 rfl (lv_at hl 2 rfl) ?_
                  refine ii_bipush hx hb dX4_soothe_67 (by decide) ?_
                  refine lv_iload_n hx hb dX4_soothe_69 rfl (lv_at hl 1 rfl) ?_
                  refine ii_mul hx hb dX4_soothe_70 ?_
                  refine lv_iload_n hx hb dX4_soothe_71 rfl (lv_at hl 0 rfl) ?_
                  refine ii_add hx hb dX4_soothe_72 ?_
                  refine lv_aload_n hx hb dX4_soothe_73 rfl (lv_at hl 2 rfl) ?_
                  refine ii_bipush hx hb dX4_soothe_74 (by decide) ?_
                  have h22 : WF (up (T 1) (10 + 5 * i + j) 0) := hF.setC (by omega) (by omega) (by omega)
                  have hD2 : Dia (up (T 1) (10 + 5 * i + j) 0) := fun a ha => by rw [up_n _ _ (by omega)]; exact hD a ha
                  have h76w : (up (T 1) (10 + 5 * i + j) 0) 76 = T 1 76 := up_n _ _ (by omega)
                  have h54w : (up (T 1) (10 + 5 * i + j) 0) 54 = T 1 54 := up_n _ _ (by omega)
                  have hvb := spd_in (h22) 30 (by omega)
                  have hd_10 : (up (T 1) (10 + 5 * i + j) 0) 54 + (30 : Int) ≤ 100000 := by omega
                  have hn_11 : (T 1) 76 = (up (T 1) (10 + 5 * i + j) 0) 76 := by first | rfl | omega
                  refine cmI (va_runV (As := [.int (iI 30)]) (rest := [.int (iI ((10 * zi) + zj)), .ref (K 0)]) ⟨hx, hb, hml, hown, hts⟩ (mX4_spreadBehind Z K hI (up (up T 0 (up (up (T 0) 17 best) 18 least)) 2 (up (T 1) (10 + 5 * i + j) 0)) (up (T 1) (10 + 5 * i + j) 0) rfl h22 hn_11 hD2 30 30 (by omega) hd_10 H.size) (cwV 1 hts (lw_V q1319 q1321 qs69 q83 q1322) rfl rfl rfl (by decide +kernel) ⟨Nat.le_of_ble_eq_true rfl, Nat.le_of_ble_eq_true rfl⟩) (pvM (BornH.S hB hN hS) (OBJ.recv Z hB hW.obj (q := (RX4, TX4, 29)) rfl) hW) rfl rfl hl.1 rfl (lv_room (Nat.le_of_ble_eq_true rfl)) dX4_soothe_76 ⟨Nat.zero_le _, Nat.zero_le _⟩) hS (AA.le hS.1) (fun H1 locs hW1 hz1 hk1 hS => ?_)
                  have hW := hW1
                  clear hW1 hk1 hz1
                  generalize H1 = H at hW hS ⊢
                  have hW := hW.eqS (S' := (up (up T 0 (up (up (T 0) 17 best) 18 least)) 2 (daysS (up (T 1) (10 + 5 * i + j) 0) 30))) (by
                      funext a
                      by_cases h0 : a = 0
                      · subst h0
                        funext j
                        by_cases k0 : j = 17
                        · subst k0; rfl
                        by_cases k1 : j = 18
                        · subst k1; rfl
                        simp only [up, if_neg k0, if_neg k1, if_true, if_false, Nat.reduceEqDiff, reduceIte]
                      by_cases h2 : a = 2
                      · subst h2; rfl
                      simp only [up, if_neg h0, if_neg h2])
                  have b_758 := spd_in h22 30 (by omega)
                  generalize evv : (spd (up (T 1) (10 + 5 * i + j) 0) 30) = v_12 at hvb ⊢
                  generalize (daysS (up (T 1) (10 + 5 * i + j) 0) 30) = Fv_13 at hW
                  have hle_14 : inR least := by omega
                  refine cmV (va_runV (As := [.int (iI ((10 * zi) + zj)), .int (iI v_12)]) (rest := []) ⟨hx, hb, hml, hown, hts⟩ (mX4_judges Z K hI (up (up T 0 (up (up (T 0) 17 best) 18 least)) 2 Fv_13) ((10 * zi) + zj) v_12 (by omega) hle_14 H.size) (cwV 2 hts (lw_V q1327 q1329 qs71 q83 q1330) rfl rfl rfl (by decide +kernel) ⟨Nat.le_of_ble_eq_true rfl, Nat.le_of_ble_eq_true rfl⟩) (pvM (BornH.S hB hN hS) (OBJ.recv Z hB hW.obj (q := (RX4, TX4, 29)) rfl) hW) rfl rfl hl.1 rfl (lv_room (Nat.le_of_ble_eq_true rfl)) dX4_soothe_79 ⟨Nat.zero_le _, Nat.zero_le _⟩) hS (AA.le hS.1) (fun H1 locs hW1 hz1 hk1 hS => ?_)
                  have hW := hW1
                  clear hW1 hk1 hz1
                  generalize H1 = H at hW hS ⊢
                  have hW := hW.eqS (S' := (up (up T 0 (up (up (up (up (T 0) 17 best) 17 ((jd (best, least) ((10 * zi) + zj) v_12).1)) 18 least) 18 ((jd (best, least) ((10 * zi) + zj) v_12).2))) 2 Fv_13)) (by
                      funext a
                      by_cases h0 : a = 0
                      · subst h0
                        funext j
                        by_cases k0 : j = 17
                        · subst k0; rfl
                        by_cases k1 : j = 17
                        · subst k1; rfl
                        by_cases k2 : j = 18
                        · subst k2; rfl
                        by_cases k3 : j = 18
                        · subst k3; rfl
                        simp only [up, if_neg k0, if_neg k1, if_neg k2, if_neg k3, if_true, if_false, Nat.reduceEqDiff, reduceIte]
                      by_cases h2 : a = 2
                      · subst h2; rfl
                      simp only [up, if_neg h0, if_neg h2])
                  generalize hjj : (jd (best, least) ((10 * zi) + zj) v_12) = pj at hW
                  obtain ⟨jb_15, jl_16⟩ := pj
                  have hjb := jd_b hjj
                  dsimp only at hW hjb
                  refine ii_iinc (k := 0) (lv' := [(3, .int (iI (zj + 1))), (2, .int (iI zi)), (0, .ref (K 0)), (1, .int (iI what))]) hx hb dX4_soothe_82 hl rfl (by decide) rfl (fun ls hl => ?_)
                  refine lv_goto (tgt := 35) hx hb dX4_soothe_85 (by decide) ?_
                  have hW := hW.eqS (S' := (up (up T 0 (up (up (T 0) 17 jb_15) 18 jl_16)) 2 Fv_13)) (by
                      funext a
                      by_cases h0 : a = 0
                      · subst h0
                        funext j
                        by_cases k0 : j = 17
                        · subst k0; rfl
                        by_cases k1 : j = 17
                        · subst k1; rfl
                        by_cases k2 : j = 18
                        · subst k2; rfl
                        by_cases k3 : j = 18
                        · subst k3; rfl
                        simp only [up, if_neg k0, if_neg k1, if_neg k2, if_neg k3, if_true, if_false, Nat.reduceEqDiff, reduceIte]
                      by_cases h2 : a = 2
                      · subst h2; rfl
                      simp only [up, if_neg h0, if_neg h2])
                  exact ih35 (j + 1) (zj + 1) jb_15 jl_16 Fv_13 (by omega) (by omega) (by simp only [smI]; first | (rw [if_pos (by omega)]; exact hp2) | (rw [if_neg (by omega), hp2, ← ezj, ← ezi, evv]; exact hjj)) (by omega) (by omega) _ _ hW hS ls (lv_sub hl [0, 1, 2, 3] rfl)
          exact loop_35 _ 0 0 best least F2 (by omega) (by omega) (hp) (by omega) (Nat.lt_succ_self _) _ _ hW hS ls (lv_sub hl [0, 1, 2, 3] rfl)
    exact loop_25 _ 0 0 (-4) v_4 Fv_5 (by omega) (by omega) (by simp only [smO]; rw [evv]) (by omega) (Nat.lt_succ_self _) _ _ hW hS ls (lv_sub hl [0, 1, 2] rfl)
  · -- 4 -> 7
    refine ii_const hx hb dX4_soothe_7 ?_
    have hpw9 : (MWx G K T) s.heap := ⟨T, ⟨fun _ _ _ _ _ _ => rfl, fun _ _ _ _ _ _ => rfl⟩, hW⟩
    have he9 : (-1) = (sootheA (T 1) what) := by unfold sootheA; exact (if_pos (by omega)).symm
    exact W.iret hx hb hr (fun t ht hW9 => ⟨⟨_, (), rfl, congrArg iI he9, by show (MWx G K T) t.heap; rw [ht]; exact hpw9⟩, hS.F ht⟩) hS.2.2 dX4_soothe_8

set_option maxHeartbeats 1000000 in
set_option maxRecDepth 100000 in
theorem mX4_holy {l : Launch} {G : GG} {s0 : State} {b0 : Nat} (Z : ZZ l G s0 b0) (K : Nat → Nat) (hI : Own s0 K 12) (T : Sta) (F : Nat → Int) (eF : T 1 = F) (hF : WF F) (hD : Dia F) (hd : F 54 ≤ 2000) (n : Int) (hn : inR n) (what : Int) (hwhat : inR what) (sz : Nat) : Met l yX4_holy (ws_ yX4_holy cX4_holy 4 (some .int)) ({ frames := 7, cells := 0, slots := 0, locals := 162 } : Room) (pcM s0 sz (MW G K T) [.ref (K 0), .int (iI n), .int (iI what)]) (mI (holyA F n what) (MWx G K T) (AA K 12 sz)) 0 0 (AA K 12 sz) := by
  refine Met.ofW (cc := cX4_holy) (maxL := 4) (ret := (some .int)) (by decide) rfl ?_
  intro p e s m args below meth c s₁ B hml hv
  obtain ⟨rfl, hsz, hW, hB⟩ := hv
  subst hsz
  have hx := B.exec
  have hb := B.bytes
  have hr := B.returns
  have hts := atoms_spec (ws := (ws_ yX4_holy cX4_holy 4 (some .int))) B.pre
  have hts : ∀ w ∈ lw_all, w.before _ s = true := fun w h => hts w (List.mem_cons_of_mem _ h)
  have hown : s.vm.findClass RX4 = some m.cls := findClass_of_methodNamed B.named
  have hlocks := B.notSynchronized
  have hN := AA.old hI hB
  have hS : va_S (AA K 12 s.heap.size) s.heap s.heap [] := va_S.rf
  have hl := lv_entry ([.ref (K 0), .int (iI n), .int (iI what)]) (n := 4) (Nat.le_of_ble_eq_true rfl)
  rw [lg_entry_eq]
  generalize (lg_sl ([.ref (K 0), .int (iI n), .int (iI what)]) ++ List.replicate (4 - (lg_sl ([.ref (K 0), .int (iI n), .int (iI what)])).length) Slot.unset).toArray = ls at hl ⊢
  have hl : lv_has ls 4 [(0, .ref (K 0)), (1, .int (iI n)), (2, .int (iI what))] := hl
  subst eF
  have hn5 := hF.n
  have hrm := hF.rm
  have hday := hF.day
  refine lv_iload_n hx hb dX4_holy_0 rfl (lv_at hl 1 rfl) ?_
  refine cqI (va_runS (As := [.int (iI n)]) (rest := []) ⟨hx, hb, hml, hown, hts⟩ (mX4_isFar Z n (by omega)) (va_cwS 1 hts (lw_S q1297 q1298 q83 q1299) rfl rfl rfl (by decide +kernel) ⟨Nat.le_of_ble_eq_true rfl, Nat.le_of_ble_eq_true rfl⟩) (psR (BornH.S hB hN hS) trivial) rfl rfl hl.1 rfl (lv_room (Nat.le_of_ble_eq_true rfl)) dX4_holy_1 ⟨Nat.zero_le _, Nat.zero_le _⟩) ?_
  refine bb_if_eq (P := 0 ≤ n ∧ n ≤ 60) (tgt := 14) hx hb dX4_holy_4 (by decide) (fun c_1 => ?_) (fun c_1 => ?_)
  · -- 4 -> 14
    refine ii_const hx hb dX4_holy_14 ?_
    have hpw9 : (MWx G K T) s.heap := ⟨T, ⟨fun _ _ _ _ _ _ => rfl, fun _ _ _ _ _ _ => rfl⟩, hW⟩
    have he9 : (-1) = (holyA (T 1) n what) := by unfold holyA; exact (if_pos (by omega)).symm
    exact W.iret hx hb hr (fun t ht hW9 => ⟨⟨_, (), rfl, congrArg iI he9, by show (MWx G K T) t.heap; rw [ht]; exact hpw9⟩, hS.F ht⟩) hS.2.2 dX4_holy_15
  · -- 4 -> 7
    refine lv_iload_n hx hb dX4_holy_7 rfl (lv_at hl 2 rfl) ?_
    refine cqI (va_runS (As := [.int (iI what)]) (rest := []) ⟨hx, hb, hml, hown, hts⟩ (mX4_isPart Z what (by omega)) (va_cwS 1 hts (lw_S q1316 q1317 q83 q1318) rfl rfl rfl (by decide +kernel) ⟨Nat.le_of_ble_eq_true rfl, Nat.le_of_ble_eq_true rfl⟩) (psR (BornH.S hB hN hS) trivial) rfl rfl hl.1 rfl (lv_room (Nat.le_of_ble_eq_true rfl)) dX4_holy_8 ⟨Nat.zero_le _, Nat.zero_le _⟩) ?_
    refine bb_if_ne (P := 0 ≤ what ∧ what ≤ 1) (tgt := 16) hx hb dX4_holy_11 (by decide) (fun c_2 => ?_) (fun c_2 => ?_)
    · -- 11 -> 16
      refine lv_aload_n hx hb dX4_holy_16 rfl (lv_at hl 0 rfl) ?_
      refine ii_ldcw (z := 1000000) hx hb hts hown q1351 dX4_holy_17 (by decide) ?_
      refine cmV (va_runV (As := [.int (iI 1000000)]) (rest := []) ⟨hx, hb, hml, hown, hts⟩ (mX4_startsJudging Z K hI T 1000000 s.heap.size) (cwV 1 hts (lw_V q1323 q1325 qs70 q83 q1326) rfl rfl rfl (by decide +kernel) ⟨Nat.le_of_ble_eq_true rfl, Nat.le_of_ble_eq_true rfl⟩) (pvM (BornH.S hB hN hS) (OBJ.recv Z hB hW.obj (q := (RX4, TX4, 29)) rfl) hW) rfl rfl hl.1 rfl (lv_room (Nat.le_of_ble_eq_true rfl)) dX4_holy_20 ⟨Nat.zero_le _, Nat.zero_le _⟩) hS (AA.le hS.1) (fun H1 locs hW1 hz1 hk1 hS => ?_)
      have hW := hW1
      clear hW1 hk1 hz1
      generalize H1 = H at hW hS ⊢
      refine ii_const hx hb dX4_holy_23 ?_
      refine lv_istore_n (lv' := [(3, .int (iI 0)), (0, .ref (K 0)), (1, .int (iI n)), (2, .int (iI what))]) hx hb dX4_holy_24 rfl hl (by decide) rfl (fun ls hl => ?_)
      have loop_25 : ∀ (fu : Nat) (v : Nat) (zv : Int) (best : Int) (least : Int) (F2 : Nat → Int), (zv = (v : Int)) → (v ≤ 7) → (mhO (T 1) n.toNat v = (best, least)) → ((-4 ≤ best ∧ best ≤ 100) ∧ 0 ≤ least ∧ least ≤ 1000000) → (0 < v → 0 ≤ best) → (v = 0 → least = 1000000) → (8 - v) < fu → ∀ (H : Heap) (locs : List Loc), (MW G K (up (up T 0 (up (up (T 0) 17 best) 18 least)) 2 F2)) H → va_S (AA K 12 s.heap.size) s.heap H locs → ∀ (ls : Array Slot), lv_has ls 4 [(3, .int (iI zv)), (0, .ref (K 0)), (1, .int (iI n)), (2, .int (iI what))] → W p l e (headSpec (ws_ yX4_holy cX4_holy 4 (some .int)) ({ frames := 7, cells := 0, slots := 0, locals := 162 } : Room)).room s m ([.ref (K 0), .int (iI n), .int (iI what)] : List Value).toArray below meth c H locs 0 0 (MQ below (mI (holyA (T 1) n what) (MWx G K T) (AA K 12 s.heap.size)) ([.ref (K 0), .int (iI n), .int (iI what)] : List Value).toArray s 0 0 (AA K 12 s.heap.size)) (F0 m 25 ls []) := by
        intro fu
        induction fu with
        | zero => intro v zv best least F2 ezv hv9 hp hbl hbz hlz hmu; exact absurd hmu (Nat.not_lt_zero _)
        | succ fu ih25 =>
          intro v zv best least F2 ezv hv9 hp hbl hbz hlz hmu H locs hW hS ls hl
          refine lv_iload_n hx hb dX4_holy_25 rfl (lv_at hl 0 rfl) ?_
          refine ii_bipush hx hb dX4_holy_26 (by decide) ?_
          refine ii_icmp_ge (tgt := 59) hx hb dX4_holy_28 (by decide) (by omega) (by omega) (fun c_3 => ?_) (fun c_3 => ?_)
          · -- 28 -> 59
            refine lv_aload_n hx hb dX4_holy_59 rfl (lv_at hl 1 rfl) ?_
            refine lv_iload_n hx hb dX4_holy_60 rfl (lv_at hl 3 rfl) ?_
            have hb_4 : inR best := by omega
            refine cqI (va_runV (As := [.int (iI what)]) (rest := []) ⟨hx, hb, hml, hown, hts⟩ (mX4_judged Z K (up (up T 0 (up (up (T 0) 17 best) 18 least)) 2 F2) what (by omega) hb_4) (cwV 1 hts (lw_V q1331 q1333 qs72 q83 q1334) rfl rfl rfl (by decide +kernel) ⟨Nat.le_of_ble_eq_true rfl, Nat.le_of_ble_eq_true rfl⟩) (pvR (BornH.S hB hN hS) (OBJ.recv Z hB hW.obj (q := (RX4, TX4, 29)) rfl) hW) rfl rfl hl.1 rfl (lv_room (Nat.le_of_ble_eq_true rfl)) dX4_holy_61 ⟨Nat.zero_le _, Nat.zero_le _⟩) ?_
            have hpw9 : (MWx G K T) H := (hW.x (fun a h0 h2 h6 h7 h11 => by first | rfl | simp only [up, if_neg h0, if_neg h2, if_neg h6, if_neg h7, if_neg h11]) (fun j h1 h2 h3 h4 h5 => by first | rfl | simp [up, h1, h2]))
            have he9 : (jdA (best, least) what) = (holyA (T 1) n what) := by unfold holyA; rw [if_neg (by omega)]; have hl := mhO_eq hF (n := n.toNat) (by omega) 6; rw [show v = 7 by omega] at hp; rw [hp] at hl; rw [← hl]; unfold jdA; dsimp only; have hb0 := hbz (by omega); (repeat' split) <;> omega
            exact W.iret hx hb hr (fun t ht hW9 => ⟨⟨_, (), rfl, congrArg iI he9, by show (MWx G K T) t.heap; rw [ht]; exact hpw9⟩, hS.F ht⟩) hS.2.2 dX4_holy_64
          · -- 28 -> 31
            refine lv_aload_n hx hb dX4_holy_31 rfl (lv_at hl 1 rfl) ?_
            refine cmV (va_runV (As := []) (rest := []) ⟨hx, hb, hml, hown, hts⟩ (mX4_starts Z K hI (up (up T 0 (up (up (T 0) 17 best) 18 least)) 2 F2) (T 1) rfl H.size) (cwV 0 hts (lw_V q1151 q1153 qs48 q83 q1154) rfl rfl rfl (by decide +kernel) ⟨Nat.le_of_ble_eq_true rfl, Nat.le_of_ble_eq_true rfl⟩) (pvM (BornH.S hB hN hS) (OBJ.recv Z hB hW.obj (q := (RX4, TX4, 29)) rfl) hW) rfl rfl hl.1 rfl (lv_room (Nat.le_of_ble_eq_true rfl)) dX4_holy_32 ⟨Nat.zero_le _, Nat.zero_le _⟩) hS (AA.le hS.1) (fun H1 locs hW1 hz1 hk1 hS => ?_)
            have hW := hW1
            clear hW1 hk1 hz1
            generalize H1 = H at hW hS ⊢
            have hW := hW.eqS (S' := (up (up T 0 (up (up (T 0) 17 best) 18 least)) 2 (T 1))) (by
                funext a
                by_cases h0 : a = 0
                · subst h0
                  funext j
                  by_cases k0 : j = 17
                  · subst k0; rfl
                  by_cases k1 : j = 18
                  · subst k1; rfl
                  simp only [up, if_neg k0, if_neg k1, if_true, if_false, Nat.reduceEqDiff, reduceIte]
                by_cases h2 : a = 2
                · subst h2; rfl
                simp only [up, if_neg h0, if_neg h2])
            refine lv_aload_n hx hb dX4_holy_35 rfl (lv_at hl 1 rfl) ?_
            refine r_get (ci := 4) (k := 1) (v := .ref (K 2)) (C := RX4) (T := TX4) (N := 29) Z hB hx hb hts hown rfl in_X4 hW.obj (by decide) q979 rfl dX4_holy_36 ?_
            refine ii_bipush hx hb dX4_holy_39 (by decide) ?_
            refine lv_iload_n hx hb dX4_holy_41 rfl (lv_at hl 0 rfl) ?_
            refine r_iast (k := 55) Z hB hx hb hW.now hS (AA.me (by omega)) (by omega) (by omega) (by omega) dX4_holy_42 (MW G K (up (up (up T 0 (up (up (T 0) 17 best) 18 least)) 2 (T 1)) 2 (up (T 1) 55 zv))) (fun H1 hz oq ha => hW.setA hI (j := 2) (by omega) (by omega) (fun h => absurd h (by omega)) oq ha) (fun H locs hW hS => ?_)
            have hW := hW.eqS (S' := (up (up T 0 (up (up (T 0) 17 best) 18 least)) 2 (up (T 1) 55 zv))) (by
                funext a
                by_cases h0 : a = 0
                · subst h0
                  funext j
                  by_cases k0 : j = 17
                  · subst k0; rfl
                  by_cases k1 : j = 18
                  · subst k1; rfl
                  simp only [up, if_neg k0, if_neg k1, if_true, if_false, Nat.reduceEqDiff, reduceIte]
                by_cases h2 : a = 2
                · subst h2; rfl
                simp only [up, if_neg h0, if_neg h2])
            refine lv_aload_n hx hb dX4_holy_43 rfl (lv_at hl 1 rfl) ?_
            refine lv_iload_n hx hb dX4_holy_44 rfl (lv_at hl 0 rfl) ?_
            refine lv_aload_n hx hb dX4_holy_45 rfl (lv_at hl 1 rfl) ?_
            refine lv_iload_n hx hb dX4_holy_46 rfl (lv_at hl 2 rfl) ?_
            have h22 : WF (up (T 1) 55 zv) := hF.setFe (by omega)
            have hD2 : Dia (up (T 1) 55 zv) := fun a ha => by rw [up_n _ _ (by omega)]; exact hD a ha
            have h76w : (up (T 1) 55 zv) 76 = T 1 76 := up_n _ _ (by omega)
            have h54w : (up (T 1) 55 zv) 54 = T 1 54 := up_n _ _ (by omega)
            have hvb := spd_in (h22) n.toNat (by omega)
            have hd_5 : (up (T 1) 55 zv) 54 + (n.toNat : Int) ≤ 100000 := by omega
            have hn_6 : (T 1) 76 = (up (T 1) 55 zv) 76 := by first | rfl | omega
            refine cmI (va_runV (As := [.int (iI n)]) (rest := [.int (iI zv), .ref (K 0)]) ⟨hx, hb, hml, hown, hts⟩ (mX4_spreadBehind Z K hI (up (up T 0 (up (up (T 0) 17 best) 18 least)) 2 (up (T 1) 55 zv)) (up (T 1) 55 zv) rfl h22 hn_6 hD2 n.toNat n (by omega) hd_5 H.size) (cwV 1 hts (lw_V q1319 q1321 qs69 q83 q1322) rfl rfl rfl (by decide +kernel) ⟨Nat.le_of_ble_eq_true rfl, Nat.le_of_ble_eq_true rfl⟩) (pvM (BornH.S hB hN hS) (OBJ.recv Z hB hW.obj (q := (RX4, TX4, 29)) rfl) hW) rfl rfl hl.1 rfl (lv_room (Nat.le_of_ble_eq_true rfl)) dX4_holy_47 ⟨Nat.zero_le _, Nat.zero_le _⟩) hS (AA.le hS.1) (fun H1 locs hW1 hz1 hk1 hS => ?_)
            have hW := hW1
            clear hW1 hk1 hz1
            generalize H1 = H at hW hS ⊢
            have hW := hW.eqS (S' := (up (up T 0 (up (up (T 0) 17 best) 18 least)) 2 (daysS (up (T 1) 55 zv) n.toNat))) (by
                funext a
                by_cases h0 : a = 0
                · subst h0
                  funext j
                  by_cases k0 : j = 17
                  · subst k0; rfl
                  by_cases k1 : j = 18
                  · subst k1; rfl
                  simp only [up, if_neg k0, if_neg k1, if_true, if_false, Nat.reduceEqDiff, reduceIte]
                by_cases h2 : a = 2
                · subst h2; rfl
                simp only [up, if_neg h0, if_neg h2])
            have b_759 := spd_in h22 n.toNat (by omega)
            generalize evv : (spd (up (T 1) 55 zv) n.toNat) = v_7 at hvb ⊢
            generalize (daysS (up (T 1) 55 zv) n.toNat) = Fv_8 at hW
            have hle_9 : inR least := by omega
            refine cmV (va_runV (As := [.int (iI zv), .int (iI v_7)]) (rest := []) ⟨hx, hb, hml, hown, hts⟩ (mX4_judges Z K hI (up (up T 0 (up (up (T 0) 17 best) 18 least)) 2 Fv_8) zv v_7 (by omega) hle_9 H.size) (cwV 2 hts (lw_V q1327 q1329 qs71 q83 q1330) rfl rfl rfl (by decide +kernel) ⟨Nat.le_of_ble_eq_true rfl, Nat.le_of_ble_eq_true rfl⟩) (pvM (BornH.S hB hN hS) (OBJ.recv Z hB hW.obj (q := (RX4, TX4, 29)) rfl) hW) rfl rfl hl.1 rfl (lv_room (Nat.le_of_ble_eq_true rfl)) dX4_holy_50 ⟨Nat.zero_le _, Nat.zero_le _⟩) hS (AA.le hS.1) (fun H1 locs hW1 hz1 hk1 hS => ?_)
            have hW := hW1
            clear hW1 hk1 hz1
            generalize H1 = H at hW hS ⊢
            have hW := hW.eqS (S' := (up (up T 0 (up (up (up (up (T 0) 17 best) 17 ((jd (best, least) zv v_7).1)) 18 least) 18 ((jd (best, least) zv v_7).2))) 2 Fv_8)) (by
                funext a
                by_cases h0 : a = 0
                · subst h0
                  funext j
                  by_cases k0 : j = 17
                  · subst k0; rfl
                  by_cases k1 : j = 17
                  · subst k1; rfl
                  by_cases k2 : j = 18
                  · subst k2; rfl
                  by_cases k3 : j = 18
                  · subst k3; rfl
                  simp only [up, if_neg k0, if_neg k1, if_neg k2, if_neg k3, if_true, if_false, Nat.reduceEqDiff, reduceIte]
                by_cases h2 : a = 2
                · subst h2; rfl
                simp only [up, if_neg h0, if_neg h2])
            generalize hjj : (jd (best, least) zv v_7) = pj at hW
            obtain ⟨jb_10, jl_11⟩ := pj
            have hjb := jd_b hjj
            dsimp only at hW hjb
            refine ii_iinc (k := 0) (lv' := [(3, .int (iI (zv + 1))), (0, .ref (K 0)), (1, .int (iI n)), (2, .int (iI what))]) hx hb dX4_holy_53 hl rfl (by decide) rfl (fun ls hl => ?_)
            refine lv_goto (tgt := 25) hx hb dX4_holy_56 (by decide) ?_
            have hW := hW.eqS (S' := (up (up T 0 (up (up (T 0) 17 jb_10) 18 jl_11)) 2 Fv_8)) (by
                funext a
                by_cases h0 : a = 0
                · subst h0
                  funext j
                  by_cases k0 : j = 17
                  · subst k0; rfl
                  by_cases k1 : j = 17
                  · subst k1; rfl
                  by_cases k2 : j = 18
                  · subst k2; rfl
                  by_cases k3 : j = 18
                  · subst k3; rfl
                  simp only [up, if_neg k0, if_neg k1, if_neg k2, if_neg k3, if_true, if_false, Nat.reduceEqDiff, reduceIte]
                by_cases h2 : a = 2
                · subst h2; rfl
                simp only [up, if_neg h0, if_neg h2])
            exact ih25 (v + 1) (zv + 1) jb_10 jl_11 Fv_8 (by omega) (by omega) (by simp only [mhO]; rw [hp, ← ezv, evv]; exact hjj) (by omega) (fun _ => (Nat.eq_zero_or_pos v).elim (fun q0 => by have q1 := hlz q0; have q3 := jd_0 hjj (by omega); omega) (fun q0 => by have q1 := hbz q0; omega)) (fun h => absurd h (by omega)) (by omega) _ _ hW hS ls (lv_sub hl [0, 1, 2, 3] rfl)
      have hW := hW.eqS (S' := (up (up T 0 (up (up (T 0) 17 (-4)) 18 1000000)) 2 (T 2))) (by
          funext a
          by_cases h0 : a = 0
          · subst h0
            funext j
            by_cases k0 : j = 17
            · subst k0; rfl
            by_cases k1 : j = 17
            · subst k1; rfl
            by_cases k2 : j = 18
            · subst k2; rfl
            by_cases k3 : j = 18
            · subst k3; rfl
            simp only [up, if_neg k0, if_neg k1, if_neg k2, if_neg k3, if_true, if_false, Nat.reduceEqDiff, reduceIte]
          by_cases h2 : a = 2
          · subst h2; rfl
          simp only [up, if_neg h0, if_neg h2])
      exact loop_25 _ 0 0 (-4) 1000000 (T 2) (by omega) (by omega) (rfl) (by omega) (by omega) (by omega) (Nat.lt_succ_self _) _ _ hW hS ls (lv_sub hl [0, 1, 2, 3] rfl)
    · -- 11 -> 14
      refine ii_const hx hb dX4_holy_14 ?_
      have hpw9 : (MWx G K T) s.heap := ⟨T, ⟨fun _ _ _ _ _ _ => rfl, fun _ _ _ _ _ _ => rfl⟩, hW⟩
      have he9 : (-1) = (holyA (T 1) n what) := by unfold holyA; exact (if_pos (by omega)).symm
      exact W.iret hx hb hr (fun t ht hW9 => ⟨⟨_, (), rfl, congrArg iI he9, by show (MWx G K T) t.heap; rw [ht]; exact hpw9⟩, hS.F ht⟩) hS.2.2 dX4_holy_15

set_option maxHeartbeats 1000000 in
set_option maxRecDepth 100000 in
theorem mX4_kind {l : Launch} {G : GG} {s0 : State} {b0 : Nat} (Z : ZZ l G s0 b0) (K : Nat → Nat) (hI : Own s0 K 12) (T : Sta) (F : Nat → Int) (eF : T 1 = F) (hF : WF F) (hD : Dia F) (hd : F 54 ≤ 2000) (i : Int) (hi : inR i) (n : Int) (hn : inR n) (what : Int) (hwhat : inR what) (sz : Nat) : Met l yX4_kind (ws_ yX4_kind cX4_kind 5 (some .int)) ({ frames := 7, cells := 0, slots := 0, locals := 162 } : Room) (pcM s0 sz (MW G K T) [.ref (K 0), .int (iI i), .int (iI n), .int (iI what)]) (mI (kindA F i n what) (MWx G K T) (AA K 12 sz)) 0 0 (AA K 12 sz) := by
  refine Met.ofW (cc := cX4_kind) (maxL := 5) (ret := (some .int)) (by decide) rfl ?_
  intro p e s m args below meth c s₁ B hml hv
  obtain ⟨rfl, hsz, hW, hB⟩ := hv
  subst hsz
  have hx := B.exec
  have hb := B.bytes
  have hr := B.returns
  have hts := atoms_spec (ws := (ws_ yX4_kind cX4_kind 5 (some .int))) B.pre
  have hts : ∀ w ∈ lw_all, w.before _ s = true := fun w h => hts w (List.mem_cons_of_mem _ h)
  have hown : s.vm.findClass RX4 = some m.cls := findClass_of_methodNamed B.named
  have hlocks := B.notSynchronized
  have hN := AA.old hI hB
  have hS : va_S (AA K 12 s.heap.size) s.heap s.heap [] := va_S.rf
  have hl := lv_entry ([.ref (K 0), .int (iI i), .int (iI n), .int (iI what)]) (n := 5) (Nat.le_of_ble_eq_true rfl)
  rw [lg_entry_eq]
  generalize (lg_sl ([.ref (K 0), .int (iI i), .int (iI n), .int (iI what)]) ++ List.replicate (5 - (lg_sl ([.ref (K 0), .int (iI i), .int (iI n), .int (iI what)])).length) Slot.unset).toArray = ls at hl ⊢
  have hl : lv_has ls 5 [(0, .ref (K 0)), (1, .int (iI i)), (2, .int (iI n)), (3, .int (iI what))] := hl
  subst eF
  have hn5 := hF.n
  have hrm := hF.rm
  have hday := hF.day
  refine lv_aload_n hx hb dX4_kind_0 rfl (lv_at hl 0 rfl) ?_
  refine lv_iload_n hx hb dX4_kind_1 rfl (lv_at hl 1 rfl) ?_
  refine cqI (va_runV (As := [.int (iI i)]) (rest := []) ⟨hx, hb, hml, hown, hts⟩ (mX4_isIsle Z K T (T 1) rfl hF i (by omega)) (cwV 1 hts (lw_V q1174 q1176 qs52 q83 q1177) rfl rfl rfl (by decide +kernel) ⟨Nat.le_of_ble_eq_true rfl, Nat.le_of_ble_eq_true rfl⟩) (pvR (BornH.S hB hN hS) (OBJ.recv Z hB hW.obj (q := (RX4, TX4, 29)) rfl) hW) rfl rfl hl.1 rfl (lv_room (Nat.le_of_ble_eq_true rfl)) dX4_kind_2 ⟨Nat.zero_le _, Nat.zero_le _⟩) ?_
  refine bb_if_eq (P := okI (T 1) i) (tgt := 22) hx hb dX4_kind_5 (by decide) (fun c_1 => ?_) (fun c_1 => ?_)
  · -- 5 -> 22
    refine ii_const hx hb dX4_kind_22 ?_
    have hpw9 : (MWx G K T) s.heap := ⟨T, ⟨fun _ _ _ _ _ _ => rfl, fun _ _ _ _ _ _ => rfl⟩, hW⟩
    have he9 : (-1) = (kindA (T 1) i n what) := by unfold kindA; exact (if_pos (by omega)).symm
    exact W.iret hx hb hr (fun t ht hW9 => ⟨⟨_, (), rfl, congrArg iI he9, by show (MWx G K T) t.heap; rw [ht]; exact hpw9⟩, hS.F ht⟩) hS.2.2 dX4_kind_23
  · -- 5 -> 8
    refine lv_iload_n hx hb dX4_kind_8 rfl (lv_at hl 2 rfl) ?_
    refine cqI (va_runS (As := [.int (iI n)]) (rest := []) ⟨hx, hb, hml, hown, hts⟩ (mX4_isFar Z n (by omega)) (va_cwS 1 hts (lw_S q1297 q1298 q83 q1299) rfl rfl rfl (by decide +kernel) ⟨Nat.le_of_ble_eq_true rfl, Nat.le_of_ble_eq_true rfl⟩) (psR (BornH.S hB hN hS) trivial) rfl rfl hl.1 rfl (lv_room (Nat.le_of_ble_eq_true rfl)) dX4_kind_9 ⟨Nat.zero_le _, Nat.zero_le _⟩) ?_
    refine bb_if_eq (P := 0 ≤ n ∧ n ≤ 60) (tgt := 22) hx hb dX4_kind_12 (by decide) (fun c_2 => ?_) (fun c_2 => ?_)
    · -- 12 -> 22
      refine ii_const hx hb dX4_kind_22 ?_
      have hpw9 : (MWx G K T) s.heap := ⟨T, ⟨fun _ _ _ _ _ _ => rfl, fun _ _ _ _ _ _ => rfl⟩, hW⟩
      have he9 : (-1) = (kindA (T 1) i n what) := by unfold kindA; exact (if_pos (by omega)).symm
      exact W.iret hx hb hr (fun t ht hW9 => ⟨⟨_, (), rfl, congrArg iI he9, by show (MWx G K T) t.heap; rw [ht]; exact hpw9⟩, hS.F ht⟩) hS.2.2 dX4_kind_23
    · -- 12 -> 15
      refine lv_iload_n hx hb dX4_kind_15 rfl (lv_at hl 3 rfl) ?_
      refine cqI (va_runS (As := [.int (iI what)]) (rest := []) ⟨hx, hb, hml, hown, hts⟩ (mX4_isPart Z what (by omega)) (va_cwS 1 hts (lw_S q1316 q1317 q83 q1318) rfl rfl rfl (by decide +kernel) ⟨Nat.le_of_ble_eq_true rfl, Nat.le_of_ble_eq_true rfl⟩) (psR (BornH.S hB hN hS) trivial) rfl rfl hl.1 rfl (lv_room (Nat.le_of_ble_eq_true rfl)) dX4_kind_16 ⟨Nat.zero_le _, Nat.zero_le _⟩) ?_
      refine bb_if_ne (P := 0 ≤ what ∧ what ≤ 1) (tgt := 24) hx hb dX4_kind_19 (by decide) (fun c_3 => ?_) (fun c_3 => ?_)
      · -- 19 -> 24
        refine lv_aload_n hx hb dX4_kind_24 rfl (lv_at hl 0 rfl) ?_
        refine ii_ldcw (z := 1000000) hx hb hts hown q1351 dX4_kind_25 (by decide) ?_
        refine cmV (va_runV (As := [.int (iI 1000000)]) (rest := []) ⟨hx, hb, hml, hown, hts⟩ (mX4_startsJudging Z K hI T 1000000 s.heap.size) (cwV 1 hts (lw_V q1323 q1325 qs70 q83 q1326) rfl rfl rfl (by decide +kernel) ⟨Nat.le_of_ble_eq_true rfl, Nat.le_of_ble_eq_true rfl⟩) (pvM (BornH.S hB hN hS) (OBJ.recv Z hB hW.obj (q := (RX4, TX4, 29)) rfl) hW) rfl rfl hl.1 rfl (lv_room (Nat.le_of_ble_eq_true rfl)) dX4_kind_28 ⟨Nat.zero_le _, Nat.zero_le _⟩) hS (AA.le hS.1) (fun H1 locs hW1 hz1 hk1 hS => ?_)
        have hW := hW1
        clear hW1 hk1 hz1
        generalize H1 = H at hW hS ⊢
        refine ii_const hx hb dX4_kind_31 ?_
        refine lv_istore (lv' := [(4, .int (iI 0)), (0, .ref (K 0)), (1, .int (iI i)), (2, .int (iI n)), (3, .int (iI what))]) hx hb dX4_kind_32 hl (by decide) rfl (fun ls hl => ?_)
        have loop_34 : ∀ (fu : Nat) (v : Nat) (zv : Int) (best : Int) (least : Int) (F2 : Nat → Int), (zv = (v : Int)) → (v ≤ 4) → (mkO (T 1) i.toNat n.toNat v = (best, least)) → ((-4 ≤ best ∧ best ≤ 100) ∧ 0 ≤ least ∧ least ≤ 1000000) → (0 < v → 0 ≤ best) → (v = 0 → least = 1000000) → (5 - v) < fu → ∀ (H : Heap) (locs : List Loc), (MW G K (up (up T 0 (up (up (T 0) 17 best) 18 least)) 2 F2)) H → va_S (AA K 12 s.heap.size) s.heap H locs → ∀ (ls : Array Slot), lv_has ls 5 [(4, .int (iI zv)), (0, .ref (K 0)), (1, .int (iI i)), (2, .int (iI n)), (3, .int (iI what))] → W p l e (headSpec (ws_ yX4_kind cX4_kind 5 (some .int)) ({ frames := 7, cells := 0, slots := 0, locals := 162 } : Room)).room s m ([.ref (K 0), .int (iI i), .int (iI n), .int (iI what)] : List Value).toArray below meth c H locs 0 0 (MQ below (mI (kindA (T 1) i n what) (MWx G K T) (AA K 12 s.heap.size)) ([.ref (K 0), .int (iI i), .int (iI n), .int (iI what)] : List Value).toArray s 0 0 (AA K 12 s.heap.size)) (F0 m 34 ls []) := by
          intro fu
          induction fu with
          | zero => intro v zv best least F2 ezv hv9 hp hbl hbz hlz hmu; exact absurd hmu (Nat.not_lt_zero _)
          | succ fu ih34 =>
            intro v zv best least F2 ezv hv9 hp hbl hbz hlz hmu H locs hW hS ls hl
            refine lv_iload hx hb dX4_kind_34 (lv_at hl 0 rfl) ?_
            refine ii_const hx hb dX4_kind_36 ?_
            refine ii_icmp_ge (tgt := 73) hx hb dX4_kind_37 (by decide) (by omega) (by omega) (fun c_4 => ?_) (fun c_4 => ?_)
            · -- 37 -> 73
              refine lv_aload_n hx hb dX4_kind_73 rfl (lv_at hl 1 rfl) ?_
              refine lv_iload_n hx hb dX4_kind_74 rfl (lv_at hl 4 rfl) ?_
              have hb_5 : inR best := by omega
              refine cqI (va_runV (As := [.int (iI what)]) (rest := []) ⟨hx, hb, hml, hown, hts⟩ (mX4_judged Z K (up (up T 0 (up (up (T 0) 17 best) 18 least)) 2 F2) what (by omega) hb_5) (cwV 1 hts (lw_V q1331 q1333 qs72 q83 q1334) rfl rfl rfl (by decide +kernel) ⟨Nat.le_of_ble_eq_true rfl, Nat.le_of_ble_eq_true rfl⟩) (pvR (BornH.S hB hN hS) (OBJ.recv Z hB hW.obj (q := (RX4, TX4, 29)) rfl) hW) rfl rfl hl.1 rfl (lv_room (Nat.le_of_ble_eq_true rfl)) dX4_kind_75 ⟨Nat.zero_le _, Nat.zero_le _⟩) ?_
              have hpw9 : (MWx G K T) H := (hW.x (fun a h0 h2 h6 h7 h11 => by first | rfl | simp only [up, if_neg h0, if_neg h2, if_neg h6, if_neg h7, if_neg h11]) (fun j h1 h2 h3 h4 h5 => by first | rfl | simp [up, h1, h2]))
              have he9 : (jdA (best, least) what) = (kindA (T 1) i n what) := by unfold kindA; rw [if_neg (by omega)]; have hl := mkO_eq hF (i := i.toNat) (n := n.toNat) (by omega) (by omega) 3; rw [show v = 4 by omega] at hp; rw [hp] at hl; rw [← hl]; unfold jdA; dsimp only; have hb0 := hbz (by omega); (repeat' split) <;> omega
              exact W.iret hx hb hr (fun t ht hW9 => ⟨⟨_, (), rfl, congrArg iI he9, by show (MWx G K T) t.heap; rw [ht]; exact hpw9⟩, hS.F ht⟩) hS.2.2 dX4_kind_78
            · -- 37 -> 40
              refine lv_aload_n hx hb dX4_kind_40 rfl (lv_at hl 1 rfl) ?_
              refine cmV (va_runV (As := []) (rest := []) ⟨hx, hb, hml, hown, hts⟩ (mX4_starts Z K hI (up (up T 0 (up (up (T 0) 17 best) 18 least)) 2 F2) (T 1) rfl H.size) (cwV 0 hts (lw_V q1151 q1153 qs48 q83 q1154) rfl rfl rfl (by decide +kernel) ⟨Nat.le_of_ble_eq_true rfl, Nat.le_of_ble_eq_true rfl⟩) (pvM (BornH.S hB hN hS) (OBJ.recv Z hB hW.obj (q := (RX4, TX4, 29)) rfl) hW) rfl rfl hl.1 rfl (lv_room (Nat.le_of_ble_eq_true rfl)) dX4_kind_41 ⟨Nat.zero_le _, Nat.zero_le _⟩) hS (AA.le hS.1) (fun H1 locs hW1 hz1 hk1 hS => ?_)
              have hW := hW1
              clear hW1 hk1 hz1
              generalize H1 = H at hW hS ⊢
              have hW := hW.eqS (S' := (up (up T 0 (up (up (T 0) 17 best) 18 least)) 2 (T 1))) (by
                  funext a
                  by_cases h0 : a = 0
                  · subst h0
                    funext j
                    by_cases k0 : j = 17
                    · subst k0; rfl
                    by_cases k1 : j = 18
                    · subst k1; rfl
                    simp only [up, if_neg k0, if_neg k1, if_true, if_false, Nat.reduceEqDiff, reduceIte]
                  by_cases h2 : a = 2
                  · subst h2; rfl
                  simp only [up, if_neg h0, if_neg h2])
              refine lv_aload_n hx hb dX4_kind_44 rfl (lv_at hl 1 rfl) ?_
              refine r_get (ci := 4) (k := 1) (v := .ref (K 2)) (C := RX4) (T := TX4) (N := 29) Z hB hx hb hts hown rfl in_X4 hW.obj (by decide) q979 rfl dX4_kind_45 ?_
              refine ii_const hx hb dX4_kind_48 ?_
              refine lv_iload_n hx hb dX4_kind_49 rfl (lv_at hl 2 rfl) ?_
              refine ii_mul hx hb dX4_kind_50 ?_
              refine ii_const hx hb dX4_kind_51 ?_
              refine ii_add hx hb dX4_kind_52 ?_
              refine lv_iload hx hb dX4_kind_53 (lv_at hl 0 rfl) ?_
              refine r_iast (k := (2 * i.toNat + 0)) Z hB hx hb hW.now hS (AA.me (by omega)) (by omega) (by omega) (by omega) dX4_kind_55 (MW G K (up (up (up T 0 (up (up (T 0) 17 best) 18 least)) 2 (T 1)) 2 (up (T 1) (2 * i.toNat + 0) zv))) (fun H1 hz oq ha => hW.setA hI (j := 2) (by omega) (by omega) (fun h => absurd h (by omega)) oq ha) (fun H locs hW hS => ?_)
              have hW := hW.eqS (S' := (up (up T 0 (up (up (T 0) 17 best) 18 least)) 2 (up (T 1) (2 * i.toNat + 0) zv))) (by
                  funext a
                  by_cases h0 : a = 0
                  · subst h0
                    funext j
                    by_cases k0 : j = 17
                    · subst k0; rfl
                    by_cases k1 : j = 18
                    · subst k1; rfl
                    simp only [up, if_neg k0, if_neg k1, if_true, if_false, Nat.reduceEqDiff, reduceIte]
                  by_cases h2 : a = 2
                  · subst h2; rfl
                  simp only [up, if_neg h0, if_neg h2])
              refine lv_aload_n hx hb dX4_kind_56 rfl (lv_at hl 1 rfl) ?_
              refine lv_iload hx hb dX4_kind_57 (lv_at hl 0 rfl) ?_
              refine lv_aload_n hx hb dX4_kind_59 rfl (lv_at hl 1 rfl) ?_
              refine lv_iload_n hx hb dX4_kind_60 rfl (lv_at hl 3 rfl) ?_
              have h22 : WF (up (T 1) (2 * i.toNat + 0) zv) := hF.setK (by omega) (by omega)
              have hD2 : Dia (up (T 1) (2 * i.toNat + 0) zv) := fun a ha => by rw [up_n _ _ (by omega)]; exact hD a ha
              have h76w : (up (T 1) (2 * i.toNat + 0) zv) 76 = T 1 76 := up_n _ _ (by omega)
              have h54w : (up (T 1) (2 * i.toNat + 0) zv) 54 = T 1 54 := up_n _ _ (by omega)
              have hvb := spd_in (h22) n.toNat (by omega)
              have hd_6 : (up (T 1) (2 * i.toNat + 0) zv) 54 + (n.toNat : Int) ≤ 100000 := by omega
              have hn_7 : (T 1) 76 = (up (T 1) (2 * i.toNat + 0) zv) 76 := by first | rfl | omega
              refine cmI (va_runV (As := [.int (iI n)]) (rest := [.int (iI zv), .ref (K 0)]) ⟨hx, hb, hml, hown, hts⟩ (mX4_spreadBehind Z K hI (up (up T 0 (up (up (T 0) 17 best) 18 least)) 2 (up (T 1) (2 * i.toNat + 0) zv)) (up (T 1) (2 * i.toNat + 0) zv) rfl h22 hn_7 hD2 n.toNat n (by omega) hd_6 H.size) (cwV 1 hts (lw_V q1319 q1321 qs69 q83 q1322) rfl rfl rfl (by decide +kernel) ⟨Nat.le_of_ble_eq_true rfl, Nat.le_of_ble_eq_true rfl⟩) (pvM (BornH.S hB hN hS) (OBJ.recv Z hB hW.obj (q := (RX4, TX4, 29)) rfl) hW) rfl rfl hl.1 rfl (lv_room (Nat.le_of_ble_eq_true rfl)) dX4_kind_61 ⟨Nat.zero_le _, Nat.zero_le _⟩) hS (AA.le hS.1) (fun H1 locs hW1 hz1 hk1 hS => ?_)
              have hW := hW1
              clear hW1 hk1 hz1
              generalize H1 = H at hW hS ⊢
              have hW := hW.eqS (S' := (up (up T 0 (up (up (T 0) 17 best) 18 least)) 2 (daysS (up (T 1) (2 * i.toNat + 0) zv) n.toNat))) (by
                  funext a
                  by_cases h0 : a = 0
                  · subst h0
                    funext j
                    by_cases k0 : j = 17
                    · subst k0; rfl
                    by_cases k1 : j = 18
                    · subst k1; rfl
                    simp only [up, if_neg k0, if_neg k1, if_true, if_false, Nat.reduceEqDiff, reduceIte]
                  by_cases h2 : a = 2
                  · subst h2; rfl
                  simp only [up, if_neg h0, if_neg h2])
              have b_760 := spd_in h22 n.toNat (by omega)
              generalize evv : (spd (up (T 1) (2 * i.toNat + 0) zv) n.toNat) = v_8 at hvb ⊢
              generalize (daysS (up (T 1) (2 * i.toNat + 0) zv) n.toNat) = Fv_9 at hW
              have hle_10 : inR least := by omega
              refine cmV (va_runV (As := [.int (iI zv), .int (iI v_8)]) (rest := []) ⟨hx, hb, hml, hown, hts⟩ (mX4_judges Z K hI (up (up T 0 (up (up (T 0) 17 best) 18 least)) 2 Fv_9) zv v_8 (by omega) hle_10 H.size) (cwV 2 hts (lw_V q1327 q1329 qs71 q83 q1330) rfl rfl rfl (by decide +kernel) ⟨Nat.le_of_ble_eq_true rfl, Nat.le_of_ble_eq_true rfl⟩) (pvM (BornH.S hB hN hS) (OBJ.recv Z hB hW.obj (q := (RX4, TX4, 29)) rfl) hW) rfl rfl hl.1 rfl (lv_room (Nat.le_of_ble_eq_true rfl)) dX4_kind_64 ⟨Nat.zero_le _, Nat.zero_le _⟩) hS (AA.le hS.1) (fun H1 locs hW1 hz1 hk1 hS => ?_)
              have hW := hW1
              clear hW1 hk1 hz1
              generalize H1 = H at hW hS ⊢
              have hW := hW.eqS (S' := (up (up T 0 (up (up (up (up (T 0) 17 best) 17 ((jd (best, least) zv v_8).1)) 18 least) 18 ((jd (best, least) zv v_8).2))) 2 Fv_9)) (by
                  funext a
                  by_cases h0 : a = 0
                  · subst h0
                    funext j
                    by_cases k0 : j = 17
                    · subst k0; rfl
                    by_cases k1 : j = 17
                    · subst k1; rfl
                    by_cases k2 : j = 18
                    · subst k2; rfl
                    by_cases k3 : j = 18
                    · subst k3; rfl
                    simp only [up, if_neg k0, if_neg k1, if_neg k2, if_neg k3, if_true, if_false, Nat.reduceEqDiff, reduceIte]
                  by_cases h2 : a = 2
                  · subst h2; rfl
                  simp only [up, if_neg h0, if_neg h2])
              generalize hjj : (jd (best, least) zv v_8) = pj at hW
              obtain ⟨jb_11, jl_12⟩ := pj
              have hjb := jd_b hjj
              dsimp only at hW hjb
              refine ii_iinc (k := 0) (lv' := [(4, .int (iI (zv + 1))), (0, .ref (K 0)), (1, .int (iI i)), (2, .int (iI n)), (3, .int (iI what))]) hx hb dX4_kind_67 hl rfl (by decide) rfl (fun ls hl => ?_)
              refine lv_goto (tgt := 34) hx hb dX4_kind_70 (by decide) ?_
              have hW := hW.eqS (S' := (up (up T 0 (up (up (T 0) 17 jb_11) 18 jl_12)) 2 Fv_9)) (by
                  funext a
                  by_cases h0 : a = 0
                  · subst h0
                    funext j
                    by_cases k0 : j = 17
                    · subst k0; rfl
                    by_cases k1 : j = 17
                    · subst k1; rfl
                    by_cases k2 : j = 18
                    · subst k2; rfl
                    by_cases k3 : j = 18
                    · subst k3; rfl
                    simp only [up, if_neg k0, if_neg k1, if_neg k2, if_neg k3, if_true, if_false, Nat.reduceEqDiff, reduceIte]
                  by_cases h2 : a = 2
                  · subst h2; rfl
                  simp only [up, if_neg h0, if_neg h2])
              exact ih34 (v + 1) (zv + 1) jb_11 jl_12 Fv_9 (by omega) (by omega) (by simp only [mkO]; rw [hp, ← ezv, evv]; exact hjj) (by omega) (fun _ => (Nat.eq_zero_or_pos v).elim (fun q0 => by have q1 := hlz q0; have q3 := jd_0 hjj (by omega); omega) (fun q0 => by have q1 := hbz q0; omega)) (fun h => absurd h (by omega)) (by omega) _ _ hW hS ls (lv_sub hl [0, 1, 2, 3, 4] rfl)
        have hW := hW.eqS (S' := (up (up T 0 (up (up (T 0) 17 (-4)) 18 1000000)) 2 (T 2))) (by
            funext a
            by_cases h0 : a = 0
            · subst h0
              funext j
              by_cases k0 : j = 17
              · subst k0; rfl
              by_cases k1 : j = 17
              · subst k1; rfl
              by_cases k2 : j = 18
              · subst k2; rfl
              by_cases k3 : j = 18
              · subst k3; rfl
              simp only [up, if_neg k0, if_neg k1, if_neg k2, if_neg k3, if_true, if_false, Nat.reduceEqDiff, reduceIte]
            by_cases h2 : a = 2
            · subst h2; rfl
            simp only [up, if_neg h0, if_neg h2])
        exact loop_34 _ 0 0 (-4) 1000000 (T 2) (by omega) (by omega) (rfl) (by omega) (by omega) (by omega) (Nat.lt_succ_self _) _ _ hW hS ls (lv_sub hl [0, 1, 2, 3, 4] rfl)
      · -- 19 -> 22
        refine ii_const hx hb dX4_kind_22 ?_
        have hpw9 : (MWx G K T) s.heap := ⟨T, ⟨fun _ _ _ _ _ _ => rfl, fun _ _ _ _ _ _ => rfl⟩, hW⟩
        have he9 : (-1) = (kindA (T 1) i n what) := by unfold kindA; exact (if_pos (by omega)).symm
        exact W.iret hx hb hr (fun t ht hW9 => ⟨⟨_, (), rfl, congrArg iI he9, by show (MWx G K T) t.heap; rw [ht]; exact hpw9⟩, hS.F ht⟩) hS.2.2 dX4_kind_23

set_option maxHeartbeats 1000000 in
set_option maxRecDepth 100000 in
theorem mX4_slack {l : Launch} {G : GG} {s0 : State} {b0 : Nat} (Z : ZZ l G s0 b0) (K : Nat → Nat) (hI : Own s0 K 12) (T : Sta) (F : Nat → Int) (eF : T 1 = F) (hF : WF F) (hD : Dia F) (hd : F 54 ≤ 2000) (k : Int) (hk : inR k) (n : Int) (hn : inR n) (v : Int) (hv : inR v) (sz : Nat) : Met l yX4_slack (ws_ yX4_slack cX4_slack 5 (some .int)) ({ frames := 7, cells := 0, slots := 0, locals := 162 } : Room) (pcM s0 sz (MW G K T) [.ref (K 0), .int (iI k), .int (iI n), .int (iI v)]) (mI (slackA F k n v) (MWx G K T) (AA K 12 sz)) 0 0 (AA K 12 sz) := by
  refine Met.ofW (cc := cX4_slack) (maxL := 5) (ret := (some .int)) (by decide) rfl ?_
  intro p e s m args below meth c s₁ B hml hv
  obtain ⟨rfl, hsz, hW, hB⟩ := hv
  subst hsz
  have hx := B.exec
  have hb := B.bytes
  have hr := B.returns
  have hts := atoms_spec (ws := (ws_ yX4_slack cX4_slack 5 (some .int))) B.pre
  have hts : ∀ w ∈ lw_all, w.before _ s = true := fun w h => hts w (List.mem_cons_of_mem _ h)
  have hown : s.vm.findClass RX4 = some m.cls := findClass_of_methodNamed B.named
  have hlocks := B.notSynchronized
  have hN := AA.old hI hB
  have hS : va_S (AA K 12 s.heap.size) s.heap s.heap [] := va_S.rf
  have hl := lv_entry ([.ref (K 0), .int (iI k), .int (iI n), .int (iI v)]) (n := 5) (Nat.le_of_ble_eq_true rfl)
  rw [lg_entry_eq]
  generalize (lg_sl ([.ref (K 0), .int (iI k), .int (iI n), .int (iI v)]) ++ List.replicate (5 - (lg_sl ([.ref (K 0), .int (iI k), .int (iI n), .int (iI v)])).length) Slot.unset).toArray = ls at hl ⊢
  have hl : lv_has ls 5 [(0, .ref (K 0)), (1, .int (iI k)), (2, .int (iI n)), (3, .int (iI v))] := hl
  subst eF
  have hn5 := hF.n
  have hrm := hF.rm
  have hday := hF.day
  refine lv_aload_n hx hb dX4_slack_0 rfl (lv_at hl 0 rfl) ?_
  refine lv_iload_n hx hb dX4_slack_1 rfl (lv_at hl 1 rfl) ?_
  refine cqI (va_runV (As := [.int (iI k)]) (rest := []) ⟨hx, hb, hml, hown, hts⟩ (mX4_isRope Z K T (T 1) rfl hF k (by omega)) (cwV 1 hts (lw_V q1209 q1211 qs58 q83 q1212) rfl rfl rfl (by decide +kernel) ⟨Nat.le_of_ble_eq_true rfl, Nat.le_of_ble_eq_true rfl⟩) (pvR (BornH.S hB hN hS) (OBJ.recv Z hB hW.obj (q := (RX4, TX4, 29)) rfl) hW) rfl rfl hl.1 rfl (lv_room (Nat.le_of_ble_eq_true rfl)) dX4_slack_2 ⟨Nat.zero_le _, Nat.zero_le _⟩) ?_
  refine bb_if_eq (P := okR (T 1) k) (tgt := 22) hx hb dX4_slack_5 (by decide) (fun c_1 => ?_) (fun c_1 => ?_)
  · -- 5 -> 22
    refine ii_const hx hb dX4_slack_22 ?_
    have hpw9 : (MWx G K T) s.heap := ⟨T, ⟨fun _ _ _ _ _ _ => rfl, fun _ _ _ _ _ _ => rfl⟩, hW⟩
    have he9 : (-1) = (slackA (T 1) k n v) := by unfold slackA; exact (if_pos (by omega)).symm
    exact W.iret hx hb hr (fun t ht hW9 => ⟨⟨_, (), rfl, congrArg iI he9, by show (MWx G K T) t.heap; rw [ht]; exact hpw9⟩, hS.F ht⟩) hS.2.2 dX4_slack_23
  · -- 5 -> 8
    refine lv_iload_n hx hb dX4_slack_8 rfl (lv_at hl 2 rfl) ?_
    refine cqI (va_runS (As := [.int (iI n)]) (rest := []) ⟨hx, hb, hml, hown, hts⟩ (mX4_isFar Z n (by omega)) (va_cwS 1 hts (lw_S q1297 q1298 q83 q1299) rfl rfl rfl (by decide +kernel) ⟨Nat.le_of_ble_eq_true rfl, Nat.le_of_ble_eq_true rfl⟩) (psR (BornH.S hB hN hS) trivial) rfl rfl hl.1 rfl (lv_room (Nat.le_of_ble_eq_true rfl)) dX4_slack_9 ⟨Nat.zero_le _, Nat.zero_le _⟩) ?_
    refine bb_if_eq (P := 0 ≤ n ∧ n ≤ 60) (tgt := 22) hx hb dX4_slack_12 (by decide) (fun c_2 => ?_) (fun c_2 => ?_)
    · -- 12 -> 22
      refine ii_const hx hb dX4_slack_22 ?_
      have hpw9 : (MWx G K T) s.heap := ⟨T, ⟨fun _ _ _ _ _ _ => rfl, fun _ _ _ _ _ _ => rfl⟩, hW⟩
      have he9 : (-1) = (slackA (T 1) k n v) := by unfold slackA; exact (if_pos (by omega)).symm
      exact W.iret hx hb hr (fun t ht hW9 => ⟨⟨_, (), rfl, congrArg iI he9, by show (MWx G K T) t.heap; rw [ht]; exact hpw9⟩, hS.F ht⟩) hS.2.2 dX4_slack_23
    · -- 12 -> 15
      refine lv_iload_n hx hb dX4_slack_15 rfl (lv_at hl 3 rfl) ?_
      refine cqI (va_runS (As := [.int (iI v)]) (rest := []) ⟨hx, hb, hml, hown, hts⟩ (mX4_isFathom Z v (by omega)) (va_cwS 1 hts (lw_S q1223 q1224 q83 q1225) rfl rfl rfl (by decide +kernel) ⟨Nat.le_of_ble_eq_true rfl, Nat.le_of_ble_eq_true rfl⟩) (psR (BornH.S hB hN hS) trivial) rfl rfl hl.1 rfl (lv_room (Nat.le_of_ble_eq_true rfl)) dX4_slack_16 ⟨Nat.zero_le _, Nat.zero_le _⟩) ?_
      refine bb_if_ne (P := 0 ≤ v ∧ v ≤ 99) (tgt := 24) hx hb dX4_slack_19 (by decide) (fun c_3 => ?_) (fun c_3 => ?_)
      · -- 19 -> 24
        refine ii_bipush hx hb dX4_slack_24 (by decide) ?_
        refine lv_istore (lv' := [(4, .int (iI 30)), (0, .ref (K 0)), (1, .int (iI k)), (2, .int (iI n)), (3, .int (iI v))]) hx hb dX4_slack_26 hl (by decide) rfl (fun ls hl => ?_)
        have loop_28 : ∀ (fu : Nat) (L : Nat) (zL : Int) (F2 : Nat → Int), (zL = (L : Int)) → (L ≤ 30) → (slO (T 1) k.toNat n.toNat v 30 = slO (T 1) k.toNat n.toNat v L) → L < fu → ∀ (H : Heap) (locs : List Loc), (MW G K (up T 2 F2)) H → va_S (AA K 12 s.heap.size) s.heap H locs → ∀ (ls : Array Slot), lv_has ls 5 [(4, .int (iI zL)), (0, .ref (K 0)), (1, .int (iI k)), (2, .int (iI n)), (3, .int (iI v))] → W p l e (headSpec (ws_ yX4_slack cX4_slack 5 (some .int)) ({ frames := 7, cells := 0, slots := 0, locals := 162 } : Room)).room s m ([.ref (K 0), .int (iI k), .int (iI n), .int (iI v)] : List Value).toArray below meth c H locs 0 0 (MQ below (mI (slackA (T 1) k n v) (MWx G K T) (AA K 12 s.heap.size)) ([.ref (K 0), .int (iI k), .int (iI n), .int (iI v)] : List Value).toArray s 0 0 (AA K 12 s.heap.size)) (F0 m 28 ls []) := by
          intro fu
          induction fu with
          | zero => intro L zL F2 ezL hL hs hmu; exact absurd hmu (Nat.not_lt_zero _)
          | succ fu ih28 =>
            intro L zL F2 ezL hL hs hmu H locs hW hS ls hl
            refine lv_iload hx hb dX4_slack_28 (lv_at hl 0 rfl) ?_
            refine ii_if_le (tgt := 70) hx hb dX4_slack_30 (by decide) (by omega) (fun c_4 => ?_) (fun c_4 => ?_)
            · -- 30 -> 70
              refine ii_bipush hx hb dX4_slack_70 (by decide) ?_
              have hpw9 : (MWx G K T) H := (hW.x (fun a h0 h2 h6 h7 h11 => by first | rfl | simp only [up, if_neg h0, if_neg h2, if_neg h6, if_neg h7, if_neg h11]) (fun j h1 h2 h3 h4 h5 => by first | rfl | simp [up, h1, h2]))
              have he9 : (-4) = (slackA (T 1) k n v) := by unfold slackA; rw [if_neg (by omega), hs, show L = 0 by omega]; rfl
              exact W.iret hx hb hr (fun t ht hW9 => ⟨⟨_, (), rfl, congrArg iI he9, by show (MWx G K T) t.heap; rw [ht]; exact hpw9⟩, hS.F ht⟩) hS.2.2 dX4_slack_72
            · -- 30 -> 33
              obtain ⟨L1, rfl⟩ : ∃ L1 : Nat, L = L1 + 1 := ⟨L - 1, by omega⟩
              refine lv_aload_n hx hb dX4_slack_33 rfl (lv_at hl 1 rfl) ?_
              refine cmV (va_runV (As := []) (rest := []) ⟨hx, hb, hml, hown, hts⟩ (mX4_starts Z K hI (up T 2 F2) (T 1) rfl H.size) (cwV 0 hts (lw_V q1151 q1153 qs48 q83 q1154) rfl rfl rfl (by decide +kernel) ⟨Nat.le_of_ble_eq_true rfl, Nat.le_of_ble_eq_true rfl⟩) (pvM (BornH.S hB hN hS) (OBJ.recv Z hB hW.obj (q := (RX4, TX4, 29)) rfl) hW) rfl rfl hl.1 rfl (lv_room (Nat.le_of_ble_eq_true rfl)) dX4_slack_34 ⟨Nat.zero_le _, Nat.zero_le _⟩) hS (AA.le hS.1) (fun H1 locs hW1 hz1 hk1 hS => ?_)
              have hW := hW1
              clear hW1 hk1 hz1
              generalize H1 = H at hW hS ⊢
              have hW := hW.eqS (S' := (up T 2 (T 1))) (by
                  funext a
                  by_cases h2 : a = 2
                  · subst h2; rfl
                  simp only [up, if_neg h2])
              refine lv_aload_n hx hb dX4_slack_37 rfl (lv_at hl 1 rfl) ?_
              refine r_get (ci := 4) (k := 1) (v := .ref (K 2)) (C := RX4) (T := TX4) (N := 29) Z hB hx hb hts hown rfl in_X4 hW.obj (by decide) q979 rfl dX4_slack_38 ?_
              refine ii_bipush hx hb dX4_slack_41 (by decide) ?_
              refine ii_const hx hb dX4_slack_43 ?_
              refine lv_iload_n hx hb dX4_slack_44 rfl (lv_at hl 2 rfl) ?_
              refine ii_mul hx hb dX4_slack_45 ?_
              refine ii_add hx hb dX4_slack_46 ?_
              refine ii_const hx hb dX4_slack_47 ?_
              refine ii_add hx hb dX4_slack_48 ?_
              refine lv_iload hx hb dX4_slack_49 (lv_at hl 0 rfl) ?_
              refine r_iast (k := (35 + 3 * k.toNat + 2)) Z hB hx hb hW.now hS (AA.me (by omega)) (by omega) (by omega) (by omega) dX4_slack_51 (MW G K (up (up T 2 (T 1)) 2 (up (T 1) (35 + 3 * k.toNat + 2) zL))) (fun H1 hz oq ha => hW.setA hI (j := 2) (by omega) (by omega) (fun h => absurd h (by omega)) oq ha) (fun H locs hW hS => ?_)
              have hW := hW.eqS (S' := (up T 2 (up (T 1) (35 + 3 * k.toNat + 2) zL))) (by
                  funext a
                  by_cases h2 : a = 2
                  · subst h2; rfl
                  simp only [up, if_neg h2])
              refine lv_aload_n hx hb dX4_slack_52 rfl (lv_at hl 1 rfl) ?_
              refine lv_iload_n hx hb dX4_slack_53 rfl (lv_at hl 3 rfl) ?_
              have h22 : WF (up (T 1) (35 + 3 * k.toNat + 2) zL) := hF.setRp (by omega) (by omega) (by omega)
              have hD2 : Dia (up (T 1) (35 + 3 * k.toNat + 2) zL) := fun a ha => by rw [up_n _ _ (by omega)]; exact hD a ha
              have h76w : (up (T 1) (35 + 3 * k.toNat + 2) zL) 76 = T 1 76 := up_n _ _ (by omega)
              have h54w : (up (T 1) (35 + 3 * k.toNat + 2) zL) 54 = T 1 54 := up_n _ _ (by omega)
              have hvb := spd_in (h22) n.toNat (by omega)
              have hd_5 : (up (T 1) (35 + 3 * k.toNat + 2) zL) 54 + (n.toNat : Int) ≤ 100000 := by omega
              have hn_6 : (T 1) 76 = (up (T 1) (35 + 3 * k.toNat + 2) zL) 76 := by first | rfl | omega
              refine cmI (va_runV (As := [.int (iI n)]) (rest := []) ⟨hx, hb, hml, hown, hts⟩ (mX4_spreadBehind Z K hI (up T 2 (up (T 1) (35 + 3 * k.toNat + 2) zL)) (up (T 1) (35 + 3 * k.toNat + 2) zL) rfl h22 hn_6 hD2 n.toNat n (by omega) hd_5 H.size) (cwV 1 hts (lw_V q1319 q1321 qs69 q83 q1322) rfl rfl rfl (by decide +kernel) ⟨Nat.le_of_ble_eq_true rfl, Nat.le_of_ble_eq_true rfl⟩) (pvM (BornH.S hB hN hS) (OBJ.recv Z hB hW.obj (q := (RX4, TX4, 29)) rfl) hW) rfl rfl hl.1 rfl (lv_room (Nat.le_of_ble_eq_true rfl)) dX4_slack_54 ⟨Nat.zero_le _, Nat.zero_le _⟩) hS (AA.le hS.1) (fun H1 locs hW1 hz1 hk1 hS => ?_)
              have hW := hW1
              clear hW1 hk1 hz1
              generalize H1 = H at hW hS ⊢
              have hW := hW.eqS (S' := (up T 2 (daysS (up (T 1) (35 + 3 * k.toNat + 2) zL) n.toNat))) (by
                  funext a
                  by_cases h2 : a = 2
                  · subst h2; rfl
                  simp only [up, if_neg h2])
              have b_761 := spd_in h22 n.toNat (by omega)
              generalize (daysS (up (T 1) (35 + 3 * k.toNat + 2) zL) n.toNat) = Fv_7 at hW
              refine lv_iload_n hx hb dX4_slack_57 rfl (lv_at hl 4 rfl) ?_
              refine ii_icmp_gt (tgt := 64) hx hb dX4_slack_58 (by decide) (by omega) (by omega) (fun c_8 => ?_) (fun c_8 => ?_)
              · -- 58 -> 64
                refine ii_iinc (k := 0) (lv' := [(4, .int (iI (zL + (-1)))), (0, .ref (K 0)), (1, .int (iI k)), (2, .int (iI n)), (3, .int (iI v))]) hx hb dX4_slack_64 hl rfl (by decide) rfl (fun ls hl => ?_)
                refine lv_goto (tgt := 28) hx hb dX4_slack_67 (by decide) ?_
                exact ih28 L1 (zL + (-1)) Fv_7 (by omega) (by omega) (slO_n ezL hs (by omega)) (by omega) _ _ hW hS ls (lv_sub hl [0, 1, 2, 3, 4] rfl)
              · -- 58 -> 61
                refine lv_iload hx hb dX4_slack_61 (lv_at hl 0 rfl) ?_
                have hpw9 : (MWx G K T) H := (hW.x (fun a h0 h2 h6 h7 h11 => by first | rfl | simp only [up, if_neg h0, if_neg h2, if_neg h6, if_neg h7, if_neg h11]) (fun j h1 h2 h3 h4 h5 => by first | rfl | simp [up, h1, h2]))
                have he9 : zL = (slackA (T 1) k n v) := by unfold slackA; rw [if_neg (by omega), slO_y ezL hs (by assumption)]
                exact W.iret hx hb hr (fun t ht hW9 => ⟨⟨_, (), rfl, congrArg iI he9, by show (MWx G K T) t.heap; rw [ht]; exact hpw9⟩, hS.F ht⟩) hS.2.2 dX4_slack_63
        exact loop_28 _ 30 30 (T 2) (by omega) (by omega) (rfl) (Nat.lt_succ_self _) _ _ (by rw [show up T 2 (T 2) = T from up_id T 2]; exact hW) hS ls (lv_sub hl [0, 1, 2, 3, 4] rfl)
      · -- 19 -> 22
        refine ii_const hx hb dX4_slack_22 ?_
        have hpw9 : (MWx G K T) s.heap := ⟨T, ⟨fun _ _ _ _ _ _ => rfl, fun _ _ _ _ _ _ => rfl⟩, hW⟩
        have he9 : (-1) = (slackA (T 1) k n v) := by unfold slackA; exact (if_pos (by omega)).symm
        exact W.iret hx hb hr (fun t ht hW9 => ⟨⟨_, (), rfl, congrArg iI he9, by show (MWx G K T) t.heap; rw [ht]; exact hpw9⟩, hS.F ht⟩) hS.2.2 dX4_slack_23
