/-! MODEL: drift, what is kept (written by gen/mod12.py) -/
set_option maxRecDepth 100000
set_option maxHeartbeats 1000000 in
set_option maxRecDepth 100000 in
theorem mX4_drift {l : Launch} {G : GG} {s0 : State} {b0 : Nat} (Z : ZZ l G s0 b0) (K : Nat → Nat) (hI : Own s0 K 12) (T : Sta) (F : Nat → Int) (eF : T 1 = F) (hF : WF F) (hD : Dia F) (hd : F 54 ≤ 2000) (seed : Int) (hseed : inR seed) (n : Int) (hn : inR n) (what : Int) (hwhat : inR what) (sz : Nat) : Met l yX4_drift (ws_ yX4_drift cX4_drift 9 (some .int)) ({ frames := 5, cells := 0, slots := 0, locals := 119 } : Room) (pcM s0 sz (MW G K T) [.ref (K 0), .int (iI seed), .int (iI n), .int (iI what)]) (mI (driftA F (iI seed) n what) (MWx G K T) (AA K 12 sz)) 0 0 (AA K 12 sz) := by
  refine Met.ofW (cc := cX4_drift) (maxL := 9) (ret := (some .int)) (by decide) rfl ?_
  intro p e s m args below meth c s₁ B hml hv
  obtain ⟨rfl, hsz, hW, hB⟩ := hv
  subst hsz
  have hx := B.exec
  have hb := B.bytes
  have hr := B.returns
  have hts := atoms_spec (ws := (ws_ yX4_drift cX4_drift 9 (some .int))) B.pre
  have hts : ∀ w ∈ lw_all, w.before _ s = true := fun w h => hts w (List.mem_cons_of_mem _ h)
  have hown : s.vm.findClass RX4 = some m.cls := findClass_of_methodNamed B.named
  have hlocks := B.notSynchronized
  have hN := AA.old hI hB
  have hS : va_S (AA K 12 s.heap.size) s.heap s.heap [] := va_S.rf
  have hl := lv_entry ([.ref (K 0), .int (iI seed), .int (iI n), .int (iI what)]) (n := 9) (Nat.le_of_ble_eq_true rfl)
  rw [lg_entry_eq]
  generalize (lg_sl ([.ref (K 0), .int (iI seed), .int (iI n), .int (iI what)]) ++ List.replicate (9 - (lg_sl ([.ref (K 0), .int (iI seed), .int (iI n), .int (iI what)])).length) Slot.unset).toArray = ls at hl ⊢
  have hl : lv_has ls 9 [(0, .ref (K 0)), (1, .int (iI seed)), (2, .int (iI n)), (3, .int (iI what))] := hl
  subst eF
  have hn5 := hF.n
  have hday := hF.day
  refine lv_iload_n hx hb dX4_drift_0 rfl (lv_at hl 2 rfl) ?_
  refine ii_i2l hx hb (by omega) dX4_drift_1 ?_
  refine ii_lconst (z := 1) hx hb dX4_drift_2 rfl ?_
  refine ii_ldc2 (z := 60) hx hb hts hown q1300 dX4_drift_3 (by decide) ?_
  refine cqI (va_runS (As := [.long (lI n), .long (lI 1), .long (lI 60)]) (rest := []) ⟨hx, hb, hml, hown, hts⟩ (mX4_in Z n (by omega) 1 (by omega) 60 (by omega)) (va_cwS 3 hts (lw_S q1072 q1073 q83 q1074) rfl rfl rfl (by decide +kernel) ⟨Nat.le_of_ble_eq_true rfl, Nat.le_of_ble_eq_true rfl⟩) (psR (BornH.S hB hN hS) trivial) rfl rfl hl.1 rfl (lv_room (Nat.le_of_ble_eq_true rfl)) dX4_drift_6 ⟨Nat.zero_le _, Nat.zero_le _⟩) ?_
  refine bb_if_eq (P := 1 ≤ n ∧ n ≤ 60) (tgt := 19) hx hb dX4_drift_9 (by decide) (fun c_1 => ?_) (fun c_1 => ?_)
  · -- 9 -> 19
    refine ii_const hx hb dX4_drift_19 ?_
    have hpw9 : (MWx G K T) s.heap := ⟨T, ⟨fun _ _ _ _ _ _ => rfl, fun _ _ _ _ _ _ => rfl⟩, hW⟩
    have he9 : (-1) = (driftA (T 1) (iI seed) n what) := by unfold driftA; exact (if_pos (by omega)).symm
    exact W.iret hx hb hr (fun t ht hW9 => ⟨⟨_, (), rfl, congrArg iI he9, by show (MWx G K T) t.heap; rw [ht]; exact hpw9⟩, hS.F ht⟩) hS.2.2 dX4_drift_20
  · -- 9 -> 12
    refine lv_iload_n hx hb dX4_drift_12 rfl (lv_at hl 3 rfl) ?_
    refine cqI (va_runS (As := [.int (iI what)]) (rest := []) ⟨hx, hb, hml, hown, hts⟩ (mX4_isPart Z what (by omega)) (va_cwS 1 hts (lw_S q1316 q1317 q83 q1318) rfl rfl rfl (by decide +kernel) ⟨Nat.le_of_ble_eq_true rfl, Nat.le_of_ble_eq_true rfl⟩) (psR (BornH.S hB hN hS) trivial) rfl rfl hl.1 rfl (lv_room (Nat.le_of_ble_eq_true rfl)) dX4_drift_13 ⟨Nat.zero_le _, Nat.zero_le _⟩) ?_
    refine bb_if_ne (P := 0 ≤ what ∧ what ≤ 1) (tgt := 21) hx hb dX4_drift_16 (by decide) (fun c_2 => ?_) (fun c_2 => ?_)
    · -- 16 -> 21
      refine lv_aload_n hx hb dX4_drift_21 rfl (lv_at hl 0 rfl) ?_
      refine r_get (ci := 4) (k := 3) (v := .int (iI ((T 1) 76))) (C := RX4) (T := TX4) (N := 29) Z hB hx hb hts hown rfl in_X4 hW.obj (by decide) q981 rfl dX4_drift_22 ?_
      refine ii_if_ne (tgt := 31) hx hb dX4_drift_25 (by decide) (by omega) (fun c_3 => ?_) (fun c_3 => ?_)
      · -- 25 -> 31
        refine lv_iload_n hx hb dX4_drift_31 rfl (lv_at hl 1 rfl) ?_
        refine lv_istore (lv' := [(4, .int (iI seed)), (0, .ref (K 0)), (1, .int (iI seed)), (2, .int (iI n)), (3, .int (iI what))]) hx hb dX4_drift_32 hl (by decide) rfl (fun ls hl => ?_)
        refine lv_aload_n hx hb dX4_drift_34 rfl (lv_at hl 1 rfl) ?_
        refine cmV (va_runV (As := []) (rest := []) ⟨hx, hb, hml, hown, hts⟩ (mX4_starts Z K hI T (T 1) rfl s.heap.size) (cwV 0 hts (lw_V q1151 q1153 qs48 q83 q1154) rfl rfl rfl (by decide +kernel) ⟨Nat.le_of_ble_eq_true rfl, Nat.le_of_ble_eq_true rfl⟩) (pvM (BornH.S hB hN hS) (OBJ.recv Z hB hW.obj (q := (RX4, TX4, 29)) rfl) hW) rfl rfl hl.1 rfl (lv_room (Nat.le_of_ble_eq_true rfl)) dX4_drift_35 ⟨Nat.zero_le _, Nat.zero_le _⟩) hS (AA.le hS.1) (fun H1 locs hW1 hz1 hk1 hS => ?_)
        have hW := hW1
        clear hW1 hk1 hz1
        generalize H1 = H at hW hS ⊢
        refine ii_const hx hb dX4_drift_38 ?_
        refine lv_istore (lv' := [(5, .int (iI 0)), (4, .int (iI seed)), (0, .ref (K 0)), (1, .int (iI seed)), (2, .int (iI n)), (3, .int (iI what))]) hx hb dX4_drift_39 hl (by decide) rfl (fun ls hl => ?_)
        have loop_41 : ∀ (fu : Nat) (t : Nat) (zt : Int), (zt = (t : Int)) → (t ≤ n.toNat) → (61 - t) < fu → ∀ (H : Heap) (locs : List Loc), (MW G K (up T 2 (dfS (T 1) (iI seed) t))) H → va_S (AA K 12 s.heap.size) s.heap H locs → ∀ (ls : Array Slot), lv_has ls 9 [(5, .int (iI zt)), (4, .int (sdN (iI seed) t)), (0, .ref (K 0)), (1, .int (iI seed)), (2, .int (iI n)), (3, .int (iI what))] → W p l e (headSpec (ws_ yX4_drift cX4_drift 9 (some .int)) ({ frames := 5, cells := 0, slots := 0, locals := 119 } : Room)).room s m ([.ref (K 0), .int (iI seed), .int (iI n), .int (iI what)] : List Value).toArray below meth c H locs 0 0 (MQ below (mI (driftA (T 1) (iI seed) n what) (MWx G K T) (AA K 12 s.heap.size)) ([.ref (K 0), .int (iI seed), .int (iI n), .int (iI what)] : List Value).toArray s 0 0 (AA K 12 s.heap.size)) (F0 m 41 ls []) := by
          intro fu
          induction fu with
          | zero => intro t zt ezt ht hmu; exact absurd hmu (Nat.not_lt_zero _)
          | succ fu ih41 =>
            intro t zt ezt ht hmu H locs hW hS ls hl
            have hdf := dfS_wf hF (by omega) (iI seed) t (by omega)
            have hdy := hdf.1.day
            have hdd := dfS_dia hF hD (by omega) (iI seed) t (by omega)
            have hd76 := hdf.2.2.1
            generalize eFq : dfS (T 1) (iI seed) t = Fq at hdf hdy hdd hd76 hW
            refine lv_iload hx hb dX4_drift_41 (lv_at hl 0 rfl) ?_
            refine lv_iload_n hx hb dX4_drift_43 rfl (lv_at hl 4 rfl) ?_
            refine ii_icmp_ge (tgt := 131) hx hb dX4_drift_44 (by decide) (by omega) (by omega) (fun c_4 => ?_) (fun c_4 => ?_)
            · -- 44 -> 131
              have ex_t : n.toNat = t := by omega
              subst ex_t
              have ea : driftA (T 1) (iI seed) n what = if what = 0 then spS Fq else Fq 56 - T 1 56 := by unfold driftA; rw [if_neg (by omega), if_neg (by omega), eFq]
              refine lv_iload_n hx hb dX4_drift_131 rfl (lv_at hl 5 rfl) ?_
              refine ii_if_ne (tgt := 142) hx hb dX4_drift_132 (by decide) (by omega) (fun c_5 => ?_) (fun c_5 => ?_)
              · -- 132 -> 142
                refine lv_aload_n hx hb dX4_drift_142 rfl (lv_at hl 2 rfl) ?_
                refine cqI (va_runV (As := []) (rest := []) ⟨hx, hb, hml, hown, hts⟩ (mX4_bumpsSince Z K (up T 2 Fq) Fq (T 1) rfl rfl) (cwV 0 hts (lw_V q1289 q1291 qs68 q83 q1292) rfl rfl rfl (by decide +kernel) ⟨Nat.le_of_ble_eq_true rfl, Nat.le_of_ble_eq_true rfl⟩) (pvR (BornH.S hB hN hS) (OBJ.recv Z hB hW.obj (q := (RX4, TX4, 29)) rfl) hW) rfl rfl hl.1 rfl (lv_room (Nat.le_of_ble_eq_true rfl)) dX4_drift_143 ⟨Nat.zero_le _, Nat.zero_le _⟩) ?_
                have hpw9 : (MWx G K T) H := (hW.x (fun a h0 h2 h6 h7 h11 => by first | rfl | simp only [up, if_neg h0, if_neg h2, if_neg h6, if_neg h7, if_neg h11]) (fun j h1 h2 h3 h4 h5 => by first | rfl | simp [up, h1, h2]))
                have he9 : (Fq 56 - (T 1) 56) = (driftA (T 1) (iI seed) n what) := by rw [ea]; first | rw [if_pos (by omega)] | rw [if_neg (by omega)]
                exact W.iret hx hb hr (fun t ht hW9 => ⟨⟨_, (), rfl, congrArg iI he9, by show (MWx G K T) t.heap; rw [ht]; exact hpw9⟩, hS.F ht⟩) hS.2.2 dX4_drift_146
              · -- 132 -> 135
                refine lv_aload_n hx hb dX4_drift_135 rfl (lv_at hl 2 rfl) ?_
                have hn_6 : (T 1) 76 = Fq 76 := by first | rfl | omega
                refine cqI (va_runV (As := []) (rest := []) ⟨hx, hb, hml, hown, hts⟩ (mX4_spread Z K (up T 2 Fq) Fq (up_s _ _ _) hdf.1 hn_6 ) (cwV 0 hts (lw_V q1155 q1157 qs49 q83 q1158) rfl rfl rfl (by decide +kernel) ⟨Nat.le_of_ble_eq_true rfl, Nat.le_of_ble_eq_true rfl⟩) (pvR (BornH.S hB hN hS) (OBJ.recv Z hB hW.obj (q := (RX4, TX4, 29)) rfl) hW) rfl rfl hl.1 rfl (lv_room (Nat.le_of_ble_eq_true rfl)) dX4_drift_136 ⟨Nat.zero_le _, Nat.zero_le _⟩) ?_
                have b_772 := spS_in hdf.1
                refine lv_goto (tgt := 146) hx hb dX4_drift_139 (by decide) ?_
                have hpw9 : (MWx G K T) H := (hW.x (fun a h0 h2 h6 h7 h11 => by first | rfl | simp only [up, if_neg h0, if_neg h2, if_neg h6, if_neg h7, if_neg h11]) (fun j h1 h2 h3 h4 h5 => by first | rfl | simp [up, h1, h2]))
                have he9 : (spS Fq) = (driftA (T 1) (iI seed) n what) := by rw [ea]; first | rw [if_pos (by omega)] | rw [if_neg (by omega)]
                exact W.iret hx hb hr (fun t ht hW9 => ⟨⟨_, (), rfl, congrArg iI he9, by show (MWx G K T) t.heap; rw [ht]; exact hpw9⟩, hS.F ht⟩) hS.2.2 dX4_drift_146
            · -- 44 -> 47
              refine lv_iload hx hb dX4_drift_47 (lv_at hl 1 rfl) ?_
              refine ii_ldcw (z := 1103515245) hx hb hts hown q1414 dX4_drift_49 (by decide) ?_
              refine lv_imul hx hb dX4_drift_52 ?_
              refine ii_sipush hx hb dX4_drift_53 (by decide) ?_
              refine lv_iadd hx hb dX4_drift_56 ?_
              rw [sdN_s]
              refine lv_istore (lv' := [(4, .int (sdN (iI seed) (t + 1))), (5, .int (iI zt)), (0, .ref (K 0)), (1, .int (iI seed)), (2, .int (iI n)), (3, .int (iI what))]) hx hb dX4_drift_57 hl (by decide) rfl (fun ls hl => ?_)
              refine lv_iload hx hb dX4_drift_59 (lv_at hl 0 rfl) ?_
              refine ii_bipush hx hb dX4_drift_61 (by decide) ?_
              refine lv_ishr hx hb dX4_drift_63 ?_
              refine ii_sipush hx hb dX4_drift_64 (by decide) ?_
              refine lv_iand hx hb dX4_drift_67 ?_
              have hrd := rdN_in (sdN (iI seed) (t + 1))
              rw [rdN_i]
              generalize ez9 : rdN (sdN (iI seed) (t + 1)) = z9 at hrd ⊢
              refine lv_istore (lv' := [(6, .int (iI z9)), (4, .int (sdN (iI seed) (t + 1))), (5, .int (iI zt)), (0, .ref (K 0)), (1, .int (iI seed)), (2, .int (iI n)), (3, .int (iI what))]) hx hb dX4_drift_68 hl (by decide) rfl (fun ls hl => ?_)
              refine lv_iload hx hb dX4_drift_70 (lv_at hl 0 rfl) ?_
              refine lv_aload_n hx hb dX4_drift_72 rfl (lv_at hl 3 rfl) ?_
              refine r_get (ci := 4) (k := 3) (v := .int (iI ((T 1) 76))) (C := RX4) (T := TX4) (N := 29) Z hB hx hb hts hown rfl in_X4 hW.obj (by decide) q981 rfl dX4_drift_73 ?_
              have hm77 := md_in (z := z9) (m := ((T 1) 76)) (by omega)
              refine ii_rem hx hb (by omega) (by omega) dX4_drift_76 ?_
              generalize em77 : (z9 % ((T 1) 76)) = i9 at hm77 ⊢
              refine lv_istore (lv' := [(7, .int (iI i9)), (6, .int (iI z9)), (4, .int (sdN (iI seed) (t + 1))), (5, .int (iI zt)), (0, .ref (K 0)), (1, .int (iI seed)), (2, .int (iI n)), (3, .int (iI what))]) hx hb dX4_drift_77 hl (by decide) rfl (fun ls hl => ?_)
              refine lv_iload hx hb dX4_drift_79 (lv_at hl 1 rfl) ?_
              refine ii_bipush hx hb dX4_drift_81 (by decide) ?_
              refine ii_div hx hb (by omega) (by omega) dX4_drift_83 ?_
              refine lv_aload_n hx hb dX4_drift_84 rfl (lv_at hl 4 rfl) ?_
              refine r_get (ci := 4) (k := 3) (v := .int (iI ((T 1) 76))) (C := RX4) (T := TX4) (N := 29) Z hB hx hb hts hown rfl in_X4 hW.obj (by decide) q981 rfl dX4_drift_85 ?_
              have hm89 := md_in (z := (z9 / 8)) (m := ((T 1) 76)) (by omega)
              refine ii_rem hx hb (by omega) (by omega) dX4_drift_88 ?_
              generalize em89 : ((z9 / 8) % ((T 1) 76)) = j9 at hm89 ⊢
              refine lv_istore (lv' := [(8, .int (iI j9)), (7, .int (iI i9)), (6, .int (iI z9)), (4, .int (sdN (iI seed) (t + 1))), (5, .int (iI zt)), (0, .ref (K 0)), (1, .int (iI seed)), (2, .int (iI n)), (3, .int (iI what))]) hx hb dX4_drift_89 hl (by decide) rfl (fun ls hl => ?_)
              refine lv_iload hx hb dX4_drift_91 (lv_at hl 1 rfl) ?_
              refine lv_iload hx hb dX4_drift_93 (lv_at hl 0 rfl) ?_
              refine ii_icmp_eq (tgt := 120) hx hb dX4_drift_95 (by decide) (by omega) (by omega) (fun c_7 => ?_) (fun c_7 => ?_)
              · -- 95 -> 120
                have hwe : WF (dfC Fq z9) := dfC_wf hdf.1 (by omega) hrd.1
                have hDe : Dia (dfC Fq z9) := dfC_dia hdf.1 hdd (by omega) z9
                have hc5 : (dfC Fq z9) 54 = T 1 54 + (t : Int) := (dfC_o hdf.1 (by omega) (by omega)).trans hdf.2.1
                have hc7 : (dfC Fq z9) 76 = T 1 76 := (dfC_o hdf.1 (by omega) (by omega)).trans hdf.2.2.1
                have hW := hW.eqS (congrArg (up T 2) (dfC_d hdf.1 hdd (z := z9) (by omega) (by rw [hdf.2.2.1, em77, em89]; omega)).symm)
                generalize eFd : (dfC Fq z9) = Fd at hwe hDe hc5 hc7 hW
                refine lv_aload_n hx hb dX4_drift_120 rfl (lv_at hl 5 rfl) ?_
                refine ii_const hx hb dX4_drift_121 ?_
                have hn_8 : (T 1) 76 = Fd 76 := by first | rfl | omega
                refine cmV (va_runV (As := [.int (iI 0)]) (rest := []) ⟨hx, hb, hml, hown, hts⟩ (mX4_dayGoes Z K hI (up T 2 Fd) Fd (up_s _ _ _) hwe hn_8 0 (by omega) hDe H.size) (cwV 1 hts (lw_V q1273 q1275 qs64 q83 q1276) rfl rfl rfl (by decide +kernel) ⟨Nat.le_of_ble_eq_true rfl, Nat.le_of_ble_eq_true rfl⟩) (pvM (BornH.S hB hN hS) (OBJ.recv Z hB hW.obj (q := (RX4, TX4, 29)) rfl) hW) rfl rfl hl.1 rfl (lv_room (Nat.le_of_ble_eq_true rfl)) dX4_drift_122 ⟨Nat.zero_le _, Nat.zero_le _⟩) hS (AA.le hS.1) (fun H1 locs hW1 hz1 hk1 hS => ?_)
                have hW := hW1
                clear hW1 hk1 hz1
                generalize H1 = H at hW hS ⊢
                have hW := hW.eqS (S' := (up T 2 (dayS Fd))) (by
                    funext a
                    by_cases h2 : a = 2
                    · subst h2; rfl
                    simp only [up, if_neg h2])
                refine ii_iinc (k := 4) (lv' := [(5, .int (iI (zt + 1))), (8, .int (iI j9)), (7, .int (iI i9)), (6, .int (iI z9)), (4, .int (sdN (iI seed) (t + 1))), (0, .ref (K 0)), (1, .int (iI seed)), (2, .int (iI n)), (3, .int (iI what))]) hx hb dX4_drift_125 hl rfl (by decide) rfl (fun ls hl => ?_)
                refine lv_goto (tgt := 41) hx hb dX4_drift_128 (by decide) ?_
                exact ih41 (t + 1) (zt + 1) (by omega) (by omega) (by omega) _ _ (by simp only [dfS]; rw [eFq, ez9, eFd]; exact hW) hS ls (lv_sub hl [0, 4, 5, 6, 7, 8] rfl)
              · -- 95 -> 98
                refine lv_aload_n hx hb dX4_drift_98 rfl (lv_at hl 5 rfl) ?_
                refine r_get (ci := 4) (k := 1) (v := .ref (K 2)) (C := RX4) (T := TX4) (N := 29) Z hB hx hb hts hown rfl in_X4 hW.obj (by decide) q979 rfl dX4_drift_99 ?_
                refine ii_bipush hx hb dX4_drift_102 (by decide) ?_
                refine ii_const hx hb dX4_drift_104 ?_
                refine lv_iload hx hb dX4_drift_105 (lv_at hl 1 rfl) ?_
                refine ii_mul hx hb dX4_drift_107 ?_
                refine ii_add hx hb dX4_drift_108 ?_
                refine lv_iload hx hb dX4_drift_109 (lv_at hl 0 rfl) ?_
                refine ii_add hx hb dX4_drift_111 ?_
                refine lv_iload hx hb dX4_drift_112 (lv_at hl 2 rfl) ?_
                refine ii_bipush hx hb dX4_drift_114 (by decide) ?_
                refine ii_div hx hb (by omega) (by omega) dX4_drift_116 ?_
                refine ii_const hx hb dX4_drift_117 ?_
                refine ii_rem hx hb (by omega) (by omega) dX4_drift_118 ?_
                refine r_iast (k := (10 + 5 * i9.toNat + j9.toNat)) Z hB hx hb hW.now hS (AA.me (by omega)) (by omega) (by omega) (by omega) dX4_drift_119 (MW G K (up (up T 2 Fq) 2 (up Fq (10 + 5 * i9.toNat + j9.toNat) ((z9 / 64) % 4)))) (fun H1 hz oq ha => hW.setA hI (j := 2) (by omega) (by omega) (fun h => absurd h (by omega)) oq ha) (fun H locs hW hS => ?_)
                have hW := hW.eqS (S' := (up T 2 (up Fq (10 + 5 * i9.toNat + j9.toNat) ((z9 / 64) % 4)))) (by
                    funext a
                    by_cases h2 : a = 2
                    · subst h2; rfl
                    simp only [up, if_neg h2])
                have hwe : WF (dfC Fq z9) := dfC_wf hdf.1 (by omega) hrd.1
                have hDe : Dia (dfC Fq z9) := dfC_dia hdf.1 hdd (by omega) z9
                have hc5 : (dfC Fq z9) 54 = T 1 54 + (t : Int) := (dfC_o hdf.1 (by omega) (by omega)).trans hdf.2.1
                have hc7 : (dfC Fq z9) 76 = T 1 76 := (dfC_o hdf.1 (by omega) (by omega)).trans hdf.2.2.1
                have hW := hW.eqS (congrArg (up T 2) (dfC_m hdf.2.2.1 em77 em89 (by omega)))
                generalize eFd : (dfC Fq z9) = Fd at hwe hDe hc5 hc7 hW
                refine lv_aload_n hx hb dX4_drift_120 rfl (lv_at hl 5 rfl) ?_
                refine ii_const hx hb dX4_drift_121 ?_
                have hn_9 : (T 1) 76 = Fd 76 := by first | rfl | omega
                refine cmV (va_runV (As := [.int (iI 0)]) (rest := []) ⟨hx, hb, hml, hown, hts⟩ (mX4_dayGoes Z K hI (up T 2 Fd) Fd (up_s _ _ _) hwe hn_9 0 (by omega) hDe H.size) (cwV 1 hts (lw_V q1273 q1275 qs64 q83 q1276) rfl rfl rfl (by decide +kernel) ⟨Nat.le_of_ble_eq_true rfl, Nat.le_of_ble_eq_true rfl⟩) (pvM (BornH.S hB hN hS) (OBJ.recv Z hB hW.obj (q := (RX4, TX4, 29)) rfl) hW) rfl rfl hl.1 rfl (lv_room (Nat.le_of_ble_eq_true rfl)) dX4_drift_122 ⟨Nat.zero_le _, Nat.zero_le _⟩) hS (AA.le hS.1) (fun H1 locs hW1 hz1 hk1 hS => ?_)
                have hW := hW1
                clear hW1 hk1 hz1
                generalize H1 = H at hW hS ⊢
                have hW := hW.eqS (S' := (up T 2 (dayS Fd))) (by
                    funext a
                    by_cases h2 : a = 2
                    · subst h2; rfl
                    simp only [up, if_neg h2])
                refine ii_iinc (k := 4) (lv' := [(5, .int (iI (zt + 1))), (8, .int (iI j9)), (7, .int (iI i9)), (6, .int (iI z9)), (4, .int (sdN (iI seed) (t + 1))), (0, .ref (K 0)), (1, .int (iI seed)), (2, .int (iI n)), (3, .int (iI what))]) hx hb dX4_drift_125 hl rfl (by decide) rfl (fun ls hl => ?_)
                refine lv_goto (tgt := 41) hx hb dX4_drift_128 (by decide) ?_
                exact ih41 (t + 1) (zt + 1) (by omega) (by omega) (by omega) _ _ (by simp only [dfS]; rw [eFq, ez9, eFd]; exact hW) hS ls (lv_sub hl [0, 4, 5, 6, 7, 8] rfl)
        exact loop_41 _ 0 0 (by omega) (by omega) (Nat.lt_succ_self _) _ _ hW hS ls (lv_sub hl [0, 1, 2, 3, 4, 5] rfl)
      · -- 25 -> 28
        refine ii_bipush hx hb dX4_drift_28 (by decide) ?_
        have hpw9 : (MWx G K T) s.heap := ⟨T, ⟨fun _ _ _ _ _ _ => rfl, fun _ _ _ _ _ _ => rfl⟩, hW⟩
        have he9 : (-2) = (driftA (T 1) (iI seed) n what) := by unfold driftA; rw [if_neg (by omega), if_pos (by omega)]
        exact W.iret hx hb hr (fun t ht hW9 => ⟨⟨_, (), rfl, congrArg iI he9, by show (MWx G K T) t.heap; rw [ht]; exact hpw9⟩, hS.F ht⟩) hS.2.2 dX4_drift_30
    · -- 16 -> 19
      refine ii_const hx hb dX4_drift_19 ?_
      have hpw9 : (MWx G K T) s.heap := ⟨T, ⟨fun _ _ _ _ _ _ => rfl, fun _ _ _ _ _ _ => rfl⟩, hW⟩
      have he9 : (-1) = (driftA (T 1) (iI seed) n what) := by unfold driftA; exact (if_pos (by omega)).symm
      exact W.iret hx hb hr (fun t ht hW9 => ⟨⟨_, (), rfl, congrArg iI he9, by show (MWx G K T) t.heap; rw [ht]; exact hpw9⟩, hS.F ht⟩) hS.2.2 dX4_drift_20

set_option maxHeartbeats 1000000 in
set_option maxRecDepth 100000 in
theorem mX4_copies_76_0 {l : Launch} {G : GG} {s0 : State} {b0 : Nat} (Z : ZZ l G s0 b0) (K : Nat → Nat) (hI : Own s0 K 12) (T : Sta) (a b : Nat → Int) (ea : T 1 = a) (eb : T 12 = b) (sz : Nat) : Met l yX4_copies (ws_ yX4_copies cX4_copies 4 none) ({ frames := 0, cells := 0, slots := 0, locals := 0 } : Room) (pcM s0 sz (MW G K T) [.ref (K 0), .int (iI 76), .int (iI 0)]) (mV (MW G K (up T 12 (cpS a b 76))) (AA K 12 sz)) 0 0 (AA K 12 sz) := by
  refine Met.ofW (cc := cX4_copies) (maxL := 4) (ret := none) (by decide) rfl ?_
  intro p e s m args below meth c s₁ B hml hv
  obtain ⟨rfl, hsz, hW, hB⟩ := hv
  subst hsz
  have hx := B.exec
  have hb := B.bytes
  have hr := B.returns
  have hts := atoms_spec (ws := (ws_ yX4_copies cX4_copies 4 none)) B.pre
  have hts : ∀ w ∈ lw_all, w.before _ s = true := fun w h => hts w (List.mem_cons_of_mem _ h)
  have hown : s.vm.findClass RX4 = some m.cls := findClass_of_methodNamed B.named
  have hlocks := B.notSynchronized
  have hN := AA.old hI hB
  have hS : va_S (AA K 12 s.heap.size) s.heap s.heap [] := va_S.rf
  have hl := lv_entry ([.ref (K 0), .int (iI 76), .int (iI 0)]) (n := 4) (Nat.le_of_ble_eq_true rfl)
  rw [lg_entry_eq]
  generalize (lg_sl ([.ref (K 0), .int (iI 76), .int (iI 0)]) ++ List.replicate (4 - (lg_sl ([.ref (K 0), .int (iI 76), .int (iI 0)])).length) Slot.unset).toArray = ls at hl ⊢
  have hl : lv_has ls 4 [(0, .ref (K 0)), (1, .int (iI 76)), (2, .int (iI 0))] := hl
  subst ea
  subst eb
  refine ii_const hx hb dX4_copies_0 ?_
  refine lv_istore_n (lv' := [(3, .int (iI 0)), (0, .ref (K 0)), (1, .int (iI 76)), (2, .int (iI 0))]) hx hb dX4_copies_1 rfl hl (by decide) rfl (fun ls hl => ?_)
  have loop_2 : ∀ (fu : Nat) (k : Nat) (zk : Int), (zk = (k : Int)) → (k ≤ 76) → (77 - k) < fu → ∀ (H : Heap) (locs : List Loc), (MW G K (up T 12 (cpS (T 1) (T 12) k))) H → va_S (AA K 12 s.heap.size) s.heap H locs → ∀ (ls : Array Slot), lv_has ls 4 [(3, .int (iI zk)), (0, .ref (K 0)), (1, .int (iI 76)), (2, .int (iI 0))] → W p l e (headSpec (ws_ yX4_copies cX4_copies 4 none) ({ frames := 0, cells := 0, slots := 0, locals := 0 } : Room)).room s m ([.ref (K 0), .int (iI 76), .int (iI 0)] : List Value).toArray below meth c H locs 0 0 (MQ below (mV (MW G K (up T 12 (cpS (T 1) (T 12) 76))) (AA K 12 s.heap.size)) ([.ref (K 0), .int (iI 76), .int (iI 0)] : List Value).toArray s 0 0 (AA K 12 s.heap.size)) (F0 m 2 ls []) := by
    intro fu
    induction fu with
    | zero => intro k zk ezk hk hmu; exact absurd hmu (Nat.not_lt_zero _)
    | succ fu ih2 =>
      intro k zk ezk hk hmu H locs hW hS ls hl
      refine lv_iload_n hx hb dX4_copies_2 rfl (lv_at hl 0 rfl) ?_
      refine ii_bipush hx hb dX4_copies_3 (by decide) ?_
      refine ii_icmp_ge (tgt := 30) hx hb dX4_copies_5 (by decide) (by omega) (by omega) (fun c_1 => ?_) (fun c_1 => ?_)
      · -- 5 -> 30
        have ex_k : 76 = k := by omega
        subst ex_k
        have hpw9 : (MW G K (up T 12 (cpS (T 1) (T 12) 76))) H := hW
        exact W.vret hx hb hr (fun t ht hW9 => ⟨⟨(), rfl, trivial, by show (MW G K (up T 12 (cpS (T 1) (T 12) 76))) t.heap; rw [ht]; exact hpw9⟩, hS.F ht⟩) hS.2.2 dX4_copies_30
      · -- 5 -> 8
        refine lv_aload_n hx hb dX4_copies_8 rfl (lv_at hl 1 rfl) ?_
        refine r_get (ci := 4) (k := 0) (v := .ref (K 1)) (C := RX4) (T := TX4) (N := 29) Z hB hx hb hts hown rfl in_X4 hW.obj (by decide) q978 rfl dX4_copies_9 ?_
        refine lv_iload_n hx hb dX4_copies_12 rfl (lv_at hl 2 rfl) ?_
        refine lv_iload_n hx hb dX4_copies_13 rfl (lv_at hl 0 rfl) ?_
        refine ii_add hx hb dX4_copies_14 ?_
        refine lv_aload_n hx hb dX4_copies_15 rfl (lv_at hl 1 rfl) ?_
        refine r_get (ci := 4) (k := 0) (v := .ref (K 1)) (C := RX4) (T := TX4) (N := 29) Z hB hx hb hts hown rfl in_X4 hW.obj (by decide) q978 rfl dX4_copies_16 ?_
        refine lv_iload_n hx hb dX4_copies_19 rfl (lv_at hl 3 rfl) ?_
        refine lv_iload_n hx hb dX4_copies_20 rfl (lv_at hl 0 rfl) ?_
        refine ii_add hx hb dX4_copies_21 ?_
        refine r_iald (k := (0 + k)) (f := (stF (up T 12 (cpS (T 1) (T 12) k)))) Z hB hx hb hW.st (by omega) (by omega) (by omega) dX4_copies_22 ?_
        rw [show stF (up T 12 (cpS (T 1) (T 12) k)) (0 + k) = (T 1) k from stF_0 _ (by omega)]
        refine r_iast (k := (76 + k)) Z hB hx hb hW.st hS (AA.me (by omega)) (by omega) (by omega) (by omega) dX4_copies_23 (MW G K (up (up T 12 (cpS (T 1) (T 12) k)) 12 (up (cpS (T 1) (T 12) k) k ((T 1) k)))) (fun H1 hz oq ha => hW.setK1 hI (by omega) oq ha) (fun H locs hW hS => ?_)
        have hW := hW.eqS (S' := (up T 12 (up (cpS (T 1) (T 12) k) k ((T 1) k)))) (by
            funext a
            by_cases h12 : a = 12
            · subst h12; rfl
            simp only [up, if_neg h12])
        refine ii_iinc (k := 0) (lv' := [(3, .int (iI (zk + 1))), (0, .ref (K 0)), (1, .int (iI 76)), (2, .int (iI 0))]) hx hb dX4_copies_24 hl rfl (by decide) rfl (fun ls hl => ?_)
        refine lv_goto (tgt := 2) hx hb dX4_copies_27 (by decide) ?_
        exact ih2 (k + 1) (zk + 1) (by omega) (by omega) (by omega) _ _ (by rw [← cpS_s]; exact hW) hS ls (lv_sub hl [0, 1, 2, 3] rfl)
  exact loop_2 _ 0 0 (by omega) (by omega) (Nat.lt_succ_self _) _ _ (by rw [cpS_z, show up T 12 (T 12) = T from up_id T 12]; exact hW) hS ls (lv_sub hl [0, 1, 2, 3] rfl)

set_option maxHeartbeats 1000000 in
set_option maxRecDepth 100000 in
theorem mX4_copies_152_0 {l : Launch} {G : GG} {s0 : State} {b0 : Nat} (Z : ZZ l G s0 b0) (K : Nat → Nat) (hI : Own s0 K 12) (T : Sta) (a b : Nat → Int) (ea : T 1 = a) (eb : T 13 = b) (sz : Nat) : Met l yX4_copies (ws_ yX4_copies cX4_copies 4 none) ({ frames := 0, cells := 0, slots := 0, locals := 0 } : Room) (pcM s0 sz (MW G K T) [.ref (K 0), .int (iI 152), .int (iI 0)]) (mV (MW G K (up T 13 (cpS a b 76))) (AA K 12 sz)) 0 0 (AA K 12 sz) := by
  refine Met.ofW (cc := cX4_copies) (maxL := 4) (ret := none) (by decide) rfl ?_
  intro p e s m args below meth c s₁ B hml hv
  obtain ⟨rfl, hsz, hW, hB⟩ := hv
  subst hsz
  have hx := B.exec
  have hb := B.bytes
  have hr := B.returns
  have hts := atoms_spec (ws := (ws_ yX4_copies cX4_copies 4 none)) B.pre
  have hts : ∀ w ∈ lw_all, w.before _ s = true := fun w h => hts w (List.mem_cons_of_mem _ h)
  have hown : s.vm.findClass RX4 = some m.cls := findClass_of_methodNamed B.named
  have hlocks := B.notSynchronized
  have hN := AA.old hI hB
  have hS : va_S (AA K 12 s.heap.size) s.heap s.heap [] := va_S.rf
  have hl := lv_entry ([.ref (K 0), .int (iI 152), .int (iI 0)]) (n := 4) (Nat.le_of_ble_eq_true rfl)
  rw [lg_entry_eq]
  generalize (lg_sl ([.ref (K 0), .int (iI 152), .int (iI 0)]) ++ List.replicate (4 - (lg_sl ([.ref (K 0), .int (iI 152), .int (iI 0)])).length) Slot.unset).toArray = ls at hl ⊢
  have hl : lv_has ls 4 [(0, .ref (K 0)), (1, .int (iI 152)), (2, .int (iI 0))] := hl
  subst ea
  subst eb
  refine ii_const hx hb dX4_copies_0 ?_
  refine lv_istore_n (lv' := [(3, .int (iI 0)), (0, .ref (K 0)), (1, .int (iI 152)), (2, .int (iI 0))]) hx hb dX4_copies_1 rfl hl (by decide) rfl (fun ls hl => ?_)
  have loop_2 : ∀ (fu : Nat) (k : Nat) (zk : Int), (zk = (k : Int)) → (k ≤ 76) → (77 - k) < fu → ∀ (H : Heap) (locs : List Loc), (MW G K (up T 13 (cpS (T 1) (T 13) k))) H → va_S (AA K 12 s.heap.size) s.heap H locs → ∀ (ls : Array Slot), lv_has ls 4 [(3, .int (iI zk)), (0, .ref (K 0)), (1, .int (iI 152)), (2, .int (iI 0))] → W p l e (headSpec (ws_ yX4_copies cX4_copies 4 none) ({ frames := 0, cells := 0, slots := 0, locals := 0 } : Room)).room s m ([.ref (K 0), .int (iI 152), .int (iI 0)] : List Value).toArray below meth c H locs 0 0 (MQ below (mV (MW G K (up T 13 (cpS (T 1) (T 13) 76))) (AA K 12 s.heap.size)) ([.ref (K 0), .int (iI 152), .int (iI 0)] : List Value).toArray s 0 0 (AA K 12 s.heap.size)) (F0 m 2 ls []) := by
    intro fu
    induction fu with
    | zero => intro k zk ezk hk hmu; exact absurd hmu (Nat.not_lt_zero _)
    | succ fu ih2 =>
      intro k zk ezk hk hmu H locs hW hS ls hl
      refine lv_iload_n hx hb dX4_copies_2 rfl (lv_at hl 0 rfl) ?_
      refine ii_bipush hx hb dX4_copies_3 (by decide) ?_
      refine ii_icmp_ge (tgt := 30) hx hb dX4_copies_5 (by decide) (by omega) (by omega) (fun c_1 => ?_) (fun c_1 => ?_)
      · -- 5 -> 30
        have ex_k : 76 = k := by omega
        subst ex_k
        have hpw9 : (MW G K (up T 13 (cpS (T 1) (T 13) 76))) H := hW
        exact W.vret hx hb hr (fun t ht hW9 => ⟨⟨(), rfl, trivial, by show (MW G K (up T 13 (cpS (T 1) (T 13) 76))) t.heap; rw [ht]; exact hpw9⟩, hS.F ht⟩) hS.2.2 dX4_copies_30
      · -- 5 -> 8
        refine lv_aload_n hx hb dX4_copies_8 rfl (lv_at hl 1 rfl) ?_
        refine r_get (ci := 4) (k := 0) (v := .ref (K 1)) (C := RX4) (T := TX4) (N := 29) Z hB hx hb hts hown rfl in_X4 hW.obj (by decide) q978 rfl dX4_copies_9 ?_
        refine lv_iload_n hx hb dX4_copies_12 rfl (lv_at hl 2 rfl) ?_
        refine lv_iload_n hx hb dX4_copies_13 rfl (lv_at hl 0 rfl) ?_
        refine ii_add hx hb dX4_copies_14 ?_
        refine lv_aload_n hx hb dX4_copies_15 rfl (lv_at hl 1 rfl) ?_
        refine r_get (ci := 4) (k := 0) (v := .ref (K 1)) (C := RX4) (T := TX4) (N := 29) Z hB hx hb hts hown rfl in_X4 hW.obj (by decide) q978 rfl dX4_copies_16 ?_
        refine lv_iload_n hx hb dX4_copies_19 rfl (lv_at hl 3 rfl) ?_
        refine lv_iload_n hx hb dX4_copies_20 rfl (lv_at hl 0 rfl) ?_
        refine ii_add hx hb dX4_copies_21 ?_
        refine r_iald (k := (0 + k)) (f := (stF (up T 13 (cpS (T 1) (T 13) k)))) Z hB hx hb hW.st (by omega) (by omega) (by omega) dX4_copies_22 ?_
        rw [show stF (up T 13 (cpS (T 1) (T 13) k)) (0 + k) = (T 1) k from stF_0 _ (by omega)]
        refine r_iast (k := (152 + k)) Z hB hx hb hW.st hS (AA.me (by omega)) (by omega) (by omega) (by omega) dX4_copies_23 (MW G K (up (up T 13 (cpS (T 1) (T 13) k)) 13 (up (cpS (T 1) (T 13) k) k ((T 1) k)))) (fun H1 hz oq ha => hW.setK2 hI (by omega) oq ha) (fun H locs hW hS => ?_)
        have hW := hW.eqS (S' := (up T 13 (up (cpS (T 1) (T 13) k) k ((T 1) k)))) (by
            funext a
            by_cases h13 : a = 13
            · subst h13; rfl
            simp only [up, if_neg h13])
        refine ii_iinc (k := 0) (lv' := [(3, .int (iI (zk + 1))), (0, .ref (K 0)), (1, .int (iI 152)), (2, .int (iI 0))]) hx hb dX4_copies_24 hl rfl (by decide) rfl (fun ls hl => ?_)
        refine lv_goto (tgt := 2) hx hb dX4_copies_27 (by decide) ?_
        exact ih2 (k + 1) (zk + 1) (by omega) (by omega) (by omega) _ _ (by rw [← cpS_s]; exact hW) hS ls (lv_sub hl [0, 1, 2, 3] rfl)
  exact loop_2 _ 0 0 (by omega) (by omega) (Nat.lt_succ_self _) _ _ (by rw [cpS_z, show up T 13 (T 13) = T from up_id T 13]; exact hW) hS ls (lv_sub hl [0, 1, 2, 3] rfl)

set_option maxHeartbeats 1000000 in
set_option maxRecDepth 100000 in
theorem mX4_copies_0_76 {l : Launch} {G : GG} {s0 : State} {b0 : Nat} (Z : ZZ l G s0 b0) (K : Nat → Nat) (hI : Own s0 K 12) (T : Sta) (a b : Nat → Int) (ea : T 12 = a) (eb : T 1 = b) (sz : Nat) : Met l yX4_copies (ws_ yX4_copies cX4_copies 4 none) ({ frames := 0, cells := 0, slots := 0, locals := 0 } : Room) (pcM s0 sz (MW G K T) [.ref (K 0), .int (iI 0), .int (iI 76)]) (mV (MW G K (up T 1 (cpS a b 76))) (AA K 12 sz)) 0 0 (AA K 12 sz) := by
  refine Met.ofW (cc := cX4_copies) (maxL := 4) (ret := none) (by decide) rfl ?_
  intro p e s m args below meth c s₁ B hml hv
  obtain ⟨rfl, hsz, hW, hB⟩ := hv
  subst hsz
  have hx := B.exec
  have hb := B.bytes
  have hr := B.returns
  have hts := atoms_spec (ws := (ws_ yX4_copies cX4_copies 4 none)) B.pre
  have hts : ∀ w ∈ lw_all, w.before _ s = true := fun w h => hts w (List.mem_cons_of_mem _ h)
  have hown : s.vm.findClass RX4 = some m.cls := findClass_of_methodNamed B.named
  have hlocks := B.notSynchronized
  have hN := AA.old hI hB
  have hS : va_S (AA K 12 s.heap.size) s.heap s.heap [] := va_S.rf
  have hl := lv_entry ([.ref (K 0), .int (iI 0), .int (iI 76)]) (n := 4) (Nat.le_of_ble_eq_true rfl)
  rw [lg_entry_eq]
  generalize (lg_sl ([.ref (K 0), .int (iI 0), .int (iI 76)]) ++ List.replicate (4 - (lg_sl ([.ref (K 0), .int (iI 0), .int (iI 76)])).length) Slot.unset).toArray = ls at hl ⊢
  have hl : lv_has ls 4 [(0, .ref (K 0)), (1, .int (iI 0)), (2, .int (iI 76))] := hl
  subst ea
  subst eb
  refine ii_const hx hb dX4_copies_0 ?_
  refine lv_istore_n (lv' := [(3, .int (iI 0)), (0, .ref (K 0)), (1, .int (iI 0)), (2, .int (iI 76))]) hx hb dX4_copies_1 rfl hl (by decide) rfl (fun ls hl => ?_)
  have loop_2 : ∀ (fu : Nat) (k : Nat) (zk : Int), (zk = (k : Int)) → (k ≤ 76) → (77 - k) < fu → ∀ (H : Heap) (locs : List Loc), (MW G K (up T 1 (cpS (T 12) (T 1) k))) H → va_S (AA K 12 s.heap.size) s.heap H locs → ∀ (ls : Array Slot), lv_has ls 4 [(3, .int (iI zk)), (0, .ref (K 0)), (1, .int (iI 0)), (2, .int (iI 76))] → W p l e (headSpec (ws_ yX4_copies cX4_copies 4 none) ({ frames := 0, cells := 0, slots := 0, locals := 0 } : Room)).room s m ([.ref (K 0), .int (iI 0), .int (iI 76)] : List Value).toArray below meth c H locs 0 0 (MQ below (mV (MW G K (up T 1 (cpS (T 12) (T 1) 76))) (AA K 12 s.heap.size)) ([.ref (K 0), .int (iI 0), .int (iI 76)] : List Value).toArray s 0 0 (AA K 12 s.heap.size)) (F0 m 2 ls []) := by
    intro fu
    induction fu with
    | zero => intro k zk ezk hk hmu; exact absurd hmu (Nat.not_lt_zero _)
    | succ fu ih2 =>
      intro k zk ezk hk hmu H locs hW hS ls hl
      refine lv_iload_n hx hb dX4_copies_2 rfl (lv_at hl 0 rfl) ?_
      refine ii_bipush hx hb dX4_copies_3 (by decide) ?_
      refine ii_icmp_ge (tgt := 30) hx hb dX4_copies_5 (by decide) (by omega) (by omega) (fun c_1 => ?_) (fun c_1 => ?_)
      · -- 5 -> 30
        have ex_k : 76 = k := by omega
        subst ex_k
        have hpw9 : (MW G K (up T 1 (cpS (T 12) (T 1) 76))) H := hW
        exact W.vret hx hb hr (fun t ht hW9 => ⟨⟨(), rfl, trivial, by show (MW G K (up T 1 (cpS (T 12) (T 1) 76))) t.heap; rw [ht]; exact hpw9⟩, hS.F ht⟩) hS.2.2 dX4_copies_30
      · -- 5 -> 8
        refine lv_aload_n hx hb dX4_copies_8 rfl (lv_at hl 1 rfl) ?_
        refine r_get (ci := 4) (k := 0) (v := .ref (K 1)) (C := RX4) (T := TX4) (N := 29) Z hB hx hb hts hown rfl in_X4 hW.obj (by decide) q978 rfl dX4_copies_9 ?_
        refine lv_iload_n hx hb dX4_copies_12 rfl (lv_at hl 2 rfl) ?_
        refine lv_iload_n hx hb dX4_copies_13 rfl (lv_at hl 0 rfl) ?_
        refine ii_add hx hb dX4_copies_14 ?_
        refine lv_aload_n hx hb dX4_copies_15 rfl (lv_at hl 1 rfl) ?_
        refine r_get (ci := 4) (k := 0) (v := .ref (K 1)) (C := RX4) (T := TX4) (N := 29) Z hB hx hb hts hown rfl in_X4 hW.obj (by decide) q978 rfl dX4_copies_16 ?_
        refine lv_iload_n hx hb dX4_copies_19 rfl (lv_at hl 3 rfl) ?_
        refine lv_iload_n hx hb dX4_copies_20 rfl (lv_at hl 0 rfl) ?_
        refine ii_add hx hb dX4_copies_21 ?_
        refine r_iald (k := (76 + k)) (f := (stF (up T 1 (cpS (T 12) (T 1) k)))) Z hB hx hb hW.st (by omega) (by omega) (by omega) dX4_copies_22 ?_
        rw [show stF (up T 1 (cpS (T 12) (T 1) k)) (76 + k) = (T 12) k from stF_1 _ (by omega)]
        refine r_iast (k := (0 + k)) Z hB hx hb hW.st hS (AA.me (by omega)) (by omega) (by omega) (by omega) dX4_copies_23 (MW G K (up (up T 1 (cpS (T 12) (T 1) k)) 1 (up (cpS (T 12) (T 1) k) (0 + k) ((T 12) k)))) (fun H1 hz oq ha => hW.setS hI (by omega) oq ha) (fun H locs hW hS => ?_)
        have hW := hW.eqS (S' := (up T 1 (up (cpS (T 12) (T 1) k) (0 + k) ((T 12) k)))) (by
            funext a
            by_cases h1 : a = 1
            · subst h1; rfl
            simp only [up, if_neg h1])
        refine ii_iinc (k := 0) (lv' := [(3, .int (iI (zk + 1))), (0, .ref (K 0)), (1, .int (iI 0)), (2, .int (iI 76))]) hx hb dX4_copies_24 hl rfl (by decide) rfl (fun ls hl => ?_)
        refine lv_goto (tgt := 2) hx hb dX4_copies_27 (by decide) ?_
        exact ih2 (k + 1) (zk + 1) (by omega) (by omega) (by omega) _ _ (by rw [← cpS_s]; simp only [Nat.zero_add] at hW; exact hW) hS ls (lv_sub hl [0, 1, 2, 3] rfl)
  exact loop_2 _ 0 0 (by omega) (by omega) (Nat.lt_succ_self _) _ _ (by rw [cpS_z, show up T 1 (T 1) = T from up_id T 1]; exact hW) hS ls (lv_sub hl [0, 1, 2, 3] rfl)

set_option maxHeartbeats 1000000 in
set_option maxRecDepth 100000 in
theorem mX4_copies_0_152 {l : Launch} {G : GG} {s0 : State} {b0 : Nat} (Z : ZZ l G s0 b0) (K : Nat → Nat) (hI : Own s0 K 12) (T : Sta) (a b : Nat → Int) (ea : T 13 = a) (eb : T 1 = b) (sz : Nat) : Met l yX4_copies (ws_ yX4_copies cX4_copies 4 none) ({ frames := 0, cells := 0, slots := 0, locals := 0 } : Room) (pcM s0 sz (MW G K T) [.ref (K 0), .int (iI 0), .int (iI 152)]) (mV (MW G K (up T 1 (cpS a b 76))) (AA K 12 sz)) 0 0 (AA K 12 sz) := by
  refine Met.ofW (cc := cX4_copies) (maxL := 4) (ret := none) (by decide) rfl ?_
  intro p e s m args below meth c s₁ B hml hv
  obtain ⟨rfl, hsz, hW, hB⟩ := hv
  subst hsz
  have hx := B.exec
  have hb := B.bytes
  have hr := B.returns
  have hts := atoms_spec (ws := (ws_ yX4_copies cX4_copies 4 none)) B.pre
  have hts : ∀ w ∈ lw_all, w.before _ s = true := fun w h => hts w (List.mem_cons_of_mem _ h)
  have hown : s.vm.findClass RX4 = some m.cls := findClass_of_methodNamed B.named
  have hlocks := B.notSynchronized
  have hN := AA.old hI hB
  have hS : va_S (AA K 12 s.heap.size) s.heap s.heap [] := va_S.rf
  have hl := lv_entry ([.ref (K 0), .int (iI 0), .int (iI 152)]) (n := 4) (Nat.le_of_ble_eq_true rfl)
  rw [lg_entry_eq]
  generalize (lg_sl ([.ref (K 0), .int (iI 0), .int (iI 152)]) ++ List.replicate (4 - (lg_sl ([.ref (K 0), .int (iI 0), .int (iI 152)])).length) Slot.unset).toArray = ls at hl ⊢
  have hl : lv_has ls 4 [(0, .ref (K 0)), (1, .int (iI 0)), (2, .int (iI 152))] := hl
  subst ea
  subst eb
  refine ii_const hx hb dX4_copies_0 ?_
  refine lv_istore_n (lv' := [(3, .int (iI 0)), (0, .ref (K 0)), (1, .int (iI 0)), (2, .int (iI 152))]) hx hb dX4_copies_1 rfl hl (by decide) rfl (fun ls hl => ?_)
  have loop_2 : ∀ (fu : Nat) (k : Nat) (zk : Int), (zk = (k : Int)) → (k ≤ 76) → (77 - k) < fu → ∀ (H : Heap) (locs : List Loc), (MW G K (up T 1 (cpS (T 13) (T 1) k))) H → va_S (AA K 12 s.heap.size) s.heap H locs → ∀ (ls : Array Slot), lv_has ls 4 [(3, .int (iI zk)), (0, .ref (K 0)), (1, .int (iI 0)), (2, .int (iI 152))] → W p l e (headSpec (ws_ yX4_copies cX4_copies 4 none) ({ frames := 0, cells := 0, slots := 0, locals := 0 } : Room)).room s m ([.ref (K 0), .int (iI 0), .int (iI 152)] : List Value).toArray below meth c H locs 0 0 (MQ below (mV (MW G K (up T 1 (cpS (T 13) (T 1) 76))) (AA K 12 s.heap.size)) ([.ref (K 0), .int (iI 0), .int (iI 152)] : List Value).toArray s 0 0 (AA K 12 s.heap.size)) (F0 m 2 ls []) := by
    intro fu
    induction fu with
    | zero => intro k zk ezk hk hmu; exact absurd hmu (Nat.not_lt_zero _)
    | succ fu ih2 =>
      intro k zk ezk hk hmu H locs hW hS ls hl
      refine lv_iload_n hx hb dX4_copies_2 rfl (lv_at hl 0 rfl) ?_
      refine ii_bipush hx hb dX4_copies_3 (by decide) ?_
      refine ii_icmp_ge (tgt := 30) hx hb dX4_copies_5 (by decide) (by omega) (by omega) (fun c_1 => ?_) (fun c_1 => ?_)
      · -- 5 -> 30
        have ex_k : 76 = k := by omega
        subst ex_k
        have hpw9 : (MW G K (up T 1 (cpS (T 13) (T 1) 76))) H := hW
        exact W.vret hx hb hr (fun t ht hW9 => ⟨⟨(), rfl, trivial, by show (MW G K (up T 1 (cpS (T 13) (T 1) 76))) t.heap; rw [ht]; exact hpw9⟩, hS.F ht⟩) hS.2.2 dX4_copies_30
      · -- 5 -> 8
        refine lv_aload_n hx hb dX4_copies_8 rfl (lv_at hl 1 rfl) ?_
        refine r_get (ci := 4) (k := 0) (v := .ref (K 1)) (C := RX4) (T := TX4) (N := 29) Z hB hx hb hts hown rfl in_X4 hW.obj (by decide) q978 rfl dX4_copies_9 ?_
        refine lv_iload_n hx hb dX4_copies_12 rfl (lv_at hl 2 rfl) ?_
        refine lv_iload_n hx hb dX4_copies_13 rfl (lv_at hl 0 rfl) ?_
        refine ii_add hx hb dX4_copies_14 ?_
        refine lv_aload_n hx hb dX4_copies_15 rfl (lv_at hl 1 rfl) ?_
        refine r_get (ci := 4) (k := 0) (v := .ref (K 1)) (C := RX4) (T := TX4) (N := 29) Z hB hx hb hts hown rfl in_X4 hW.obj (by decide) q978 rfl dX4_copies_16 ?_
        refine lv_iload_n hx hb dX4_copies_19 rfl (lv_at hl 3 rfl) ?_
        refine lv_iload_n hx hb dX4_copies_20 rfl (lv_at hl 0 rfl) ?_
        refine ii_add hx hb dX4_copies_21 ?_
        refine r_iald (k := (152 + k)) (f := (stF (up T 1 (cpS (T 13) (T 1) k)))) Z hB hx hb hW.st (by omega) (by omega) (by omega) dX4_copies_22 ?_
        rw [show stF (up T 1 (cpS (T 13) (T 1) k)) (152 + k) = (T 13) k from stF_2 _ (by omega)]
        refine r_iast (k := (0 + k)) Z hB hx hb hW.st hS (AA.me (by omega)) (by omega) (by omega) (by omega) dX4_copies_23 (MW G K (up (up T 1 (cpS (T 13) (T 1) k)) 1 (up (cpS (T 13) (T 1) k) (0 + k) ((T 13) k)))) (fun H1 hz oq ha => hW.setS hI (by omega) oq ha) (fun H locs hW hS => ?_)
        have hW := hW.eqS (S' := (up T 1 (up (cpS (T 13) (T 1) k) (0 + k) ((T 13) k)))) (by
            funext a
            by_cases h1 : a = 1
            · subst h1; rfl
            simp only [up, if_neg h1])
        refine ii_iinc (k := 0) (lv' := [(3, .int (iI (zk + 1))), (0, .ref (K 0)), (1, .int (iI 0)), (2, .int (iI 152))]) hx hb dX4_copies_24 hl rfl (by decide) rfl (fun ls hl => ?_)
        refine lv_goto (tgt := 2) hx hb dX4_copies_27 (by decide) ?_
        exact ih2 (k + 1) (zk + 1) (by omega) (by omega) (by omega) _ _ (by rw [← cpS_s]; simp only [Nat.zero_add] at hW; exact hW) hS ls (lv_sub hl [0, 1, 2, 3] rfl)
  exact loop_2 _ 0 0 (by omega) (by omega) (Nat.lt_succ_self _) _ _ (by rw [cpS_z, show up T 1 (T 1) = T from up_id T 1]; exact hW) hS ls (lv_sub hl [0, 1, 2, 3] rfl)

set_option maxHeartbeats 1000000 in
set_option maxRecDepth 100000 in
theorem mX4_keep {l : Launch} {G : GG} {s0 : State} {b0 : Nat} (Z : ZZ l G s0 b0) (K : Nat → Nat) (hI : Own s0 K 12) (T : Sta) (hk : (T 3 0 = 0 ∨ T 3 0 = 1) ∧ (T 3 1 = 0 ∨ T 3 1 = 1)) (i : Int) (hi : inR i) (sz : Nat) : Met l yX4_keep (ws_ yX4_keep cX4_keep 3 (some .int)) ({ frames := 1, cells := 0, slots := 0, locals := 25 } : Room) (pcM s0 sz (MW G K T) [.ref (K 0), .int (iI i)]) (mI (mkeepA T i) (MW G K (mkeepT T i)) (AA K 12 sz)) 0 0 (AA K 12 sz) := by
  refine Met.ofW (cc := cX4_keep) (maxL := 3) (ret := (some .int)) (by decide) rfl ?_
  intro p e s m args below meth c s₁ B hml hv
  obtain ⟨rfl, hsz, hW, hB⟩ := hv
  subst hsz
  have hx := B.exec
  have hb := B.bytes
  have hr := B.returns
  have hts := atoms_spec (ws := (ws_ yX4_keep cX4_keep 3 (some .int))) B.pre
  have hts : ∀ w ∈ lw_all, w.before _ s = true := fun w h => hts w (List.mem_cons_of_mem _ h)
  have hown : s.vm.findClass RX4 = some m.cls := findClass_of_methodNamed B.named
  have hlocks := B.notSynchronized
  have hN := AA.old hI hB
  have hS : va_S (AA K 12 s.heap.size) s.heap s.heap [] := va_S.rf
  have hl := lv_entry ([.ref (K 0), .int (iI i)]) (n := 3) (Nat.le_of_ble_eq_true rfl)
  rw [lg_entry_eq]
  generalize (lg_sl ([.ref (K 0), .int (iI i)]) ++ List.replicate (3 - (lg_sl ([.ref (K 0), .int (iI i)])).length) Slot.unset).toArray = ls at hl ⊢
  have hl : lv_has ls 3 [(0, .ref (K 0)), (1, .int (iI i))] := hl
  refine lv_iload_n hx hb dX4_keep_0 rfl (lv_at hl 1 rfl) ?_
  refine ii_i2l hx hb (by omega) dX4_keep_1 ?_
  refine ii_lconst (z := 0) hx hb dX4_keep_2 rfl ?_
  refine ii_lconst (z := 1) hx hb dX4_keep_3 rfl ?_
  refine cqI (va_runS (As := [.long (lI i), .long (lI 0), .long (lI 1)]) (rest := []) ⟨hx, hb, hml, hown, hts⟩ (mX4_in Z i (by omega) 0 (by omega) 1 (by omega)) (va_cwS 3 hts (lw_S q1072 q1073 q83 q1074) rfl rfl rfl (by decide +kernel) ⟨Nat.le_of_ble_eq_true rfl, Nat.le_of_ble_eq_true rfl⟩) (psR (BornH.S hB hN hS) trivial) rfl rfl hl.1 rfl (lv_room (Nat.le_of_ble_eq_true rfl)) dX4_keep_4 ⟨Nat.zero_le _, Nat.zero_le _⟩) ?_
  refine bb_if_ne (P := 0 ≤ i ∧ i ≤ 1) (tgt := 12) hx hb dX4_keep_7 (by decide) (fun c_1 => ?_) (fun c_1 => ?_)
  · -- 7 -> 12
    refine lv_aload_n hx hb dX4_keep_12 rfl (lv_at hl 0 rfl) ?_
    refine r_get (ci := 4) (k := 2) (v := .ref (K 3)) (C := RX4) (T := TX4) (N := 29) Z hB hx hb hts hown rfl in_X4 hW.obj (by decide) q980 rfl dX4_keep_13 ?_
    refine lv_iload_n hx hb dX4_keep_16 rfl (lv_at hl 1 rfl) ?_
    by_cases hi9 : i = 0
    · --
      refine r_zald (k := 0) (f := (T 3)) Z hB hx hb hW.isKept (by omega) (by omega) (by omega) dX4_keep_17 ?_
      refine cqI (va_runS (As := [.int (iI ((T 3) 0))]) (rest := []) ⟨hx, hb, hml, hown, hts⟩ (mX4_flag Z ((T 3) 0) (by omega)) (va_cwS 1 hts (lw_S q1182 q1183 q83 q1184) rfl rfl rfl (by decide +kernel) ⟨Nat.le_of_ble_eq_true rfl, Nat.le_of_ble_eq_true rfl⟩) (psR (BornH.S hB hN hS) trivial) rfl rfl hl.1 rfl (lv_room (Nat.le_of_ble_eq_true rfl)) dX4_keep_18 ⟨Nat.zero_le _, Nat.zero_le _⟩) ?_
      refine lv_istore_n (lv' := [(2, .int (iI ((T 3) 0))), (0, .ref (K 0)), (1, .int (iI i))]) hx hb dX4_keep_21 rfl hl (by decide) rfl (fun ls hl => ?_)
      refine lv_aload_n hx hb dX4_keep_22 rfl (lv_at hl 1 rfl) ?_
      refine r_get (ci := 4) (k := 2) (v := .ref (K 3)) (C := RX4) (T := TX4) (N := 29) Z hB hx hb hts hown rfl in_X4 hW.obj (by decide) q980 rfl dX4_keep_23 ?_
      refine lv_iload_n hx hb dX4_keep_26 rfl (lv_at hl 2 rfl) ?_
      refine ii_const hx hb dX4_keep_27 ?_
      refine r_zast (k := 0) Z hB hx hb hW.isKept hS (AA.me (by omega)) (by omega) (by omega) (by omega) rfl dX4_keep_28 (MW G K (up T 3 (up (T 3) 0 1))) (fun H1 hz oq ha => hW.setA hI (j := 3) (by omega) (by omega) (fun h => absurd h (by omega)) oq ha) (fun H locs hW hS => ?_)
      refine lv_aload_n hx hb dX4_keep_29 rfl (lv_at hl 1 rfl) ?_
      refine ii_bipush hx hb dX4_keep_30 (by decide) ?_
      refine lv_iload_n hx hb dX4_keep_32 rfl (lv_at hl 2 rfl) ?_
      refine ii_const hx hb dX4_keep_33 ?_
      refine ii_add hx hb dX4_keep_34 ?_
      refine ii_mul hx hb dX4_keep_35 ?_
      rw [show iI (76 * (i + 1)) = iI 76 from congrArg iI (by omega)]
      refine ii_const hx hb dX4_keep_36 ?_
      refine cmV (va_runV (As := [.int (iI 76), .int (iI 0)]) (rest := []) ⟨hx, hb, hml, hown, hts⟩ (mX4_copies_76_0 Z K hI (up T 3 (up (T 3) 0 1)) (T 1) (T 12) rfl rfl H.size) (cwV 2 hts (lw_V q1419 q1421 qs77 q83 q1422) rfl rfl rfl (by decide +kernel) ⟨Nat.le_of_ble_eq_true rfl, Nat.le_of_ble_eq_true rfl⟩) (pvM (BornH.S hB hN hS) (OBJ.recv Z hB hW.obj (q := (RX4, TX4, 29)) rfl) hW) rfl rfl hl.1 rfl (lv_room (Nat.le_of_ble_eq_true rfl)) dX4_keep_37 ⟨Nat.zero_le _, Nat.zero_le _⟩) hS (AA.le hS.1) (fun H1 locs hW1 hz1 hk1 hS => ?_)
      have hW := hW1
      clear hW1 hk1 hz1
      generalize H1 = H at hW hS ⊢
      refine lv_iload_n hx hb dX4_keep_40 rfl (lv_at hl 0 rfl) ?_
      have hpw9 : (MW G K (mkeepT T i)) H := (by rw [show mkeepT T i = (up (up T 3 (up (T 3) 0 1)) 12 (cpS (T 1) (T 12) 76)) by unfold mkeepT; (repeat' split) <;> first | rfl | omega]; exact hW)
      have he9 : ((T 3) 0) = (mkeepA T i) := by unfold mkeepA; (repeat' split) <;> first | rfl | omega
      exact W.iret hx hb hr (fun t ht hW9 => ⟨⟨_, (), rfl, congrArg iI he9, by show (MW G K (mkeepT T i)) t.heap; rw [ht]; exact hpw9⟩, hS.F ht⟩) hS.2.2 dX4_keep_41
    · --
      refine r_zald (k := 1) (f := (T 3)) Z hB hx hb hW.isKept (by omega) (by omega) (by omega) dX4_keep_17 ?_
      refine cqI (va_runS (As := [.int (iI ((T 3) 1))]) (rest := []) ⟨hx, hb, hml, hown, hts⟩ (mX4_flag Z ((T 3) 1) (by omega)) (va_cwS 1 hts (lw_S q1182 q1183 q83 q1184) rfl rfl rfl (by decide +kernel) ⟨Nat.le_of_ble_eq_true rfl, Nat.le_of_ble_eq_true rfl⟩) (psR (BornH.S hB hN hS) trivial) rfl rfl hl.1 rfl (lv_room (Nat.le_of_ble_eq_true rfl)) dX4_keep_18 ⟨Nat.zero_le _, Nat.zero_le _⟩) ?_
      refine lv_istore_n (lv' := [(2, .int (iI ((T 3) 1))), (0, .ref (K 0)), (1, .int (iI i))]) hx hb dX4_keep_21 rfl hl (by decide) rfl (fun ls hl => ?_)
      refine lv_aload_n hx hb dX4_keep_22 rfl (lv_at hl 1 rfl) ?_
      refine r_get (ci := 4) (k := 2) (v := .ref (K 3)) (C := RX4) (T := TX4) (N := 29) Z hB hx hb hts hown rfl in_X4 hW.obj (by decide) q980 rfl dX4_keep_23 ?_
      refine lv_iload_n hx hb dX4_keep_26 rfl (lv_at hl 2 rfl) ?_
      refine ii_const hx hb dX4_keep_27 ?_
      refine r_zast (k := 1) Z hB hx hb hW.isKept hS (AA.me (by omega)) (by omega) (by omega) (by omega) rfl dX4_keep_28 (MW G K (up T 3 (up (T 3) 1 1))) (fun H1 hz oq ha => hW.setA hI (j := 3) (by omega) (by omega) (fun h => absurd h (by omega)) oq ha) (fun H locs hW hS => ?_)
      refine lv_aload_n hx hb dX4_keep_29 rfl (lv_at hl 1 rfl) ?_
      refine ii_bipush hx hb dX4_keep_30 (by decide) ?_
      refine lv_iload_n hx hb dX4_keep_32 rfl (lv_at hl 2 rfl) ?_
      refine ii_const hx hb dX4_keep_33 ?_
      refine ii_add hx hb dX4_keep_34 ?_
      refine ii_mul hx hb dX4_keep_35 ?_
      rw [show iI (76 * (i + 1)) = iI 152 from congrArg iI (by omega)]
      refine ii_const hx hb dX4_keep_36 ?_
      refine cmV (va_runV (As := [.int (iI 152), .int (iI 0)]) (rest := []) ⟨hx, hb, hml, hown, hts⟩ (mX4_copies_152_0 Z K hI (up T 3 (up (T 3) 1 1)) (T 1) (T 13) rfl rfl H.size) (cwV 2 hts (lw_V q1419 q1421 qs77 q83 q1422) rfl rfl rfl (by decide +kernel) ⟨Nat.le_of_ble_eq_true rfl, Nat.le_of_ble_eq_true rfl⟩) (pvM (BornH.S hB hN hS) (OBJ.recv Z hB hW.obj (q := (RX4, TX4, 29)) rfl) hW) rfl rfl hl.1 rfl (lv_room (Nat.le_of_ble_eq_true rfl)) dX4_keep_37 ⟨Nat.zero_le _, Nat.zero_le _⟩) hS (AA.le hS.1) (fun H1 locs hW1 hz1 hk1 hS => ?_)
      have hW := hW1
      clear hW1 hk1 hz1
      generalize H1 = H at hW hS ⊢
      refine lv_iload_n hx hb dX4_keep_40 rfl (lv_at hl 0 rfl) ?_
      have hpw9 : (MW G K (mkeepT T i)) H := (by rw [show mkeepT T i = (up (up T 3 (up (T 3) 1 1)) 13 (cpS (T 1) (T 13) 76)) by unfold mkeepT; (repeat' split) <;> first | rfl | omega]; exact hW)
      have he9 : ((T 3) 1) = (mkeepA T i) := by unfold mkeepA; (repeat' split) <;> first | rfl | omega
      exact W.iret hx hb hr (fun t ht hW9 => ⟨⟨_, (), rfl, congrArg iI he9, by show (MW G K (mkeepT T i)) t.heap; rw [ht]; exact hpw9⟩, hS.F ht⟩) hS.2.2 dX4_keep_41
  · -- 7 -> 10
    refine ii_const hx hb dX4_keep_10 ?_
    have hpw9 : (MW G K (mkeepT T i)) s.heap := (by rw [show mkeepT T i = T by unfold mkeepT; (repeat' split) <;> first | rfl | omega]; exact hW)
    have he9 : (-1) = (mkeepA T i) := by unfold mkeepA; (repeat' split) <;> first | rfl | omega
    exact W.iret hx hb hr (fun t ht hW9 => ⟨⟨_, (), rfl, congrArg iI he9, by show (MW G K (mkeepT T i)) t.heap; rw [ht]; exact hpw9⟩, hS.F ht⟩) hS.2.2 dX4_keep_11

set_option maxHeartbeats 1000000 in
set_option maxRecDepth 100000 in
theorem mX4_back {l : Launch} {G : GG} {s0 : State} {b0 : Nat} (Z : ZZ l G s0 b0) (K : Nat → Nat) (hI : Own s0 K 12) (T : Sta) (hk : (T 3 0 = 0 ∨ T 3 0 = 1) ∧ (T 3 1 = 0 ∨ T 3 1 = 1)) (i : Int) (hi : inR i) (sz : Nat) : Met l yX4_back (ws_ yX4_back cX4_back 2 (some .int)) ({ frames := 1, cells := 0, slots := 0, locals := 25 } : Room) (pcM s0 sz (MW G K T) [.ref (K 0), .int (iI i)]) (mI (mbackA T i) (MW G K (mbackT T i)) (AA K 12 sz)) 0 0 (AA K 12 sz) := by
  refine Met.ofW (cc := cX4_back) (maxL := 2) (ret := (some .int)) (by decide) rfl ?_
  intro p e s m args below meth c s₁ B hml hv
  obtain ⟨rfl, hsz, hW, hB⟩ := hv
  subst hsz
  have hx := B.exec
  have hb := B.bytes
  have hr := B.returns
  have hts := atoms_spec (ws := (ws_ yX4_back cX4_back 2 (some .int))) B.pre
  have hts : ∀ w ∈ lw_all, w.before _ s = true := fun w h => hts w (List.mem_cons_of_mem _ h)
  have hown : s.vm.findClass RX4 = some m.cls := findClass_of_methodNamed B.named
  have hlocks := B.notSynchronized
  have hN := AA.old hI hB
  have hS : va_S (AA K 12 s.heap.size) s.heap s.heap [] := va_S.rf
  have hl := lv_entry ([.ref (K 0), .int (iI i)]) (n := 2) (Nat.le_of_ble_eq_true rfl)
  rw [lg_entry_eq]
  generalize (lg_sl ([.ref (K 0), .int (iI i)]) ++ List.replicate (2 - (lg_sl ([.ref (K 0), .int (iI i)])).length) Slot.unset).toArray = ls at hl ⊢
  have hl : lv_has ls 2 [(0, .ref (K 0)), (1, .int (iI i))] := hl
  refine lv_iload_n hx hb dX4_back_0 rfl (lv_at hl 1 rfl) ?_
  refine ii_i2l hx hb (by omega) dX4_back_1 ?_
  refine ii_lconst (z := 0) hx hb dX4_back_2 rfl ?_
  refine ii_lconst (z := 1) hx hb dX4_back_3 rfl ?_
  refine cqI (va_runS (As := [.long (lI i), .long (lI 0), .long (lI 1)]) (rest := []) ⟨hx, hb, hml, hown, hts⟩ (mX4_in Z i (by omega) 0 (by omega) 1 (by omega)) (va_cwS 3 hts (lw_S q1072 q1073 q83 q1074) rfl rfl rfl (by decide +kernel) ⟨Nat.le_of_ble_eq_true rfl, Nat.le_of_ble_eq_true rfl⟩) (psR (BornH.S hB hN hS) trivial) rfl rfl hl.1 rfl (lv_room (Nat.le_of_ble_eq_true rfl)) dX4_back_4 ⟨Nat.zero_le _, Nat.zero_le _⟩) ?_
  refine bb_if_ne (P := 0 ≤ i ∧ i ≤ 1) (tgt := 12) hx hb dX4_back_7 (by decide) (fun c_1 => ?_) (fun c_1 => ?_)
  · -- 7 -> 12
    refine lv_aload_n hx hb dX4_back_12 rfl (lv_at hl 0 rfl) ?_
    refine r_get (ci := 4) (k := 2) (v := .ref (K 3)) (C := RX4) (T := TX4) (N := 29) Z hB hx hb hts hown rfl in_X4 hW.obj (by decide) q980 rfl dX4_back_13 ?_
    refine lv_iload_n hx hb dX4_back_16 rfl (lv_at hl 1 rfl) ?_
    by_cases hi9 : i = 0
    · --
      refine r_zald (k := 0) (f := (T 3)) Z hB hx hb hW.isKept (by omega) (by omega) (by omega) dX4_back_17 ?_
      refine ii_if_ne (tgt := 24) hx hb dX4_back_18 (by decide) (by omega) (fun c_2 => ?_) (fun c_2 => ?_)
      · -- 18 -> 24
        refine lv_aload_n hx hb dX4_back_24 rfl (lv_at hl 0 rfl) ?_
        refine ii_const hx hb dX4_back_25 ?_
        refine ii_bipush hx hb dX4_back_26 (by decide) ?_
        refine lv_iload_n hx hb dX4_back_28 rfl (lv_at hl 1 rfl) ?_
        refine ii_const hx hb dX4_back_29 ?_
        refine ii_add hx hb dX4_back_30 ?_
        refine ii_mul hx hb dX4_back_31 ?_
        rw [show iI (76 * (i + 1)) = iI 76 from congrArg iI (by omega)]
        refine cmV (va_runV (As := [.int (iI 0), .int (iI 76)]) (rest := []) ⟨hx, hb, hml, hown, hts⟩ (mX4_copies_0_76 Z K hI T (T 12) (T 1) rfl rfl s.heap.size) (cwV 2 hts (lw_V q1419 q1421 qs77 q83 q1422) rfl rfl rfl (by decide +kernel) ⟨Nat.le_of_ble_eq_true rfl, Nat.le_of_ble_eq_true rfl⟩) (pvM (BornH.S hB hN hS) (OBJ.recv Z hB hW.obj (q := (RX4, TX4, 29)) rfl) hW) rfl rfl hl.1 rfl (lv_room (Nat.le_of_ble_eq_true rfl)) dX4_back_32 ⟨Nat.zero_le _, Nat.zero_le _⟩) hS (AA.le hS.1) (fun H1 locs hW1 hz1 hk1 hS => ?_)
        have hW := hW1
        clear hW1 hk1 hz1
        generalize H1 = H at hW hS ⊢
        refine lv_aload_n hx hb dX4_back_35 rfl (lv_at hl 0 rfl) ?_
        refine r_get (ci := 4) (k := 0) (v := .ref (K 1)) (C := RX4) (T := TX4) (N := 29) Z hB hx hb hts hown rfl in_X4 hW.obj (by decide) q978 rfl dX4_back_36 ?_
        refine ii_bipush hx hb dX4_back_39 (by decide) ?_
        refine r_iald (k := 54) (f := (stF (up T 1 (cpS (T 12) (T 1) 76)))) Z hB hx hb hW.st (by omega) (by omega) (by omega) dX4_back_41 ?_
        rw [show stF (up T 1 (cpS (T 12) (T 1) 76)) 54 = (cpS (T 12) (T 1) 76) 54 from stF_lo _ (by omega)]
        have hpw9 : (MW G K (mbackT T i)) H := (by rw [show mbackT T i = (up T 1 (cpS (T 12) (T 1) 76)) by unfold mbackT; (repeat' split) <;> first | rfl | omega]; exact hW)
        have he9 : ((cpS (T 12) (T 1) 76) 54) = (mbackA T i) := by unfold mbackA; (repeat' split) <;> first | rfl | omega
        exact W.iret hx hb hr (fun t ht hW9 => ⟨⟨_, (), rfl, congrArg iI he9, by show (MW G K (mbackT T i)) t.heap; rw [ht]; exact hpw9⟩, hS.F ht⟩) hS.2.2 dX4_back_42
      · -- 18 -> 21
        refine ii_bipush hx hb dX4_back_21 (by decide) ?_
        have hpw9 : (MW G K (mbackT T i)) s.heap := (by rw [show mbackT T i = T by unfold mbackT; (repeat' split) <;> first | rfl | omega]; exact hW)
        have he9 : (-2) = (mbackA T i) := by unfold mbackA; (repeat' split) <;> first | rfl | omega
        exact W.iret hx hb hr (fun t ht hW9 => ⟨⟨_, (), rfl, congrArg iI he9, by show (MW G K (mbackT T i)) t.heap; rw [ht]; exact hpw9⟩, hS.F ht⟩) hS.2.2 dX4_back_23
    · --
      refine r_zald (k := 1) (f := (T 3)) Z hB hx hb hW.isKept (by omega) (by omega) (by omega) dX4_back_17 ?_
      refine ii_if_ne (tgt := 24) hx hb dX4_back_18 (by decide) (by omega) (fun c_3 => ?_) (fun c_3 => ?_)
      · -- 18 -> 24
        refine lv_aload_n hx hb dX4_back_24 rfl (lv_at hl 0 rfl) ?_
        refine ii_const hx hb dX4_back_25 ?_
        refine ii_bipush hx hb dX4_back_26 (by decide) ?_
        refine lv_iload_n hx hb dX4_back_28 rfl (lv_at hl 1 rfl) ?_
        refine ii_const hx hb dX4_back_29 ?_
        refine ii_add hx hb dX4_back_30 ?_
        refine ii_mul hx hb dX4_back_31 ?_
        rw [show iI (76 * (i + 1)) = iI 152 from congrArg iI (by omega)]
        refine cmV (va_runV (As := [.int (iI 0), .int (iI 152)]) (rest := []) ⟨hx, hb, hml, hown, hts⟩ (mX4_copies_0_152 Z K hI T (T 13) (T 1) rfl rfl s.heap.size) (cwV 2 hts (lw_V q1419 q1421 qs77 q83 q1422) rfl rfl rfl (by decide +kernel) ⟨Nat.le_of_ble_eq_true rfl, Nat.le_of_ble_eq_true rfl⟩) (pvM (BornH.S hB hN hS) (OBJ.recv Z hB hW.obj (q := (RX4, TX4, 29)) rfl) hW) rfl rfl hl.1 rfl (lv_room (Nat.le_of_ble_eq_true rfl)) dX4_back_32 ⟨Nat.zero_le _, Nat.zero_le _⟩) hS (AA.le hS.1) (fun H1 locs hW1 hz1 hk1 hS => ?_)
        have hW := hW1
        clear hW1 hk1 hz1
        generalize H1 = H at hW hS ⊢
        refine lv_aload_n hx hb dX4_back_35 rfl (lv_at hl 0 rfl) ?_
        refine r_get (ci := 4) (k := 0) (v := .ref (K 1)) (C := RX4) (T := TX4) (N := 29) Z hB hx hb hts hown rfl in_X4 hW.obj (by decide) q978 rfl dX4_back_36 ?_
        refine ii_bipush hx hb dX4_back_39 (by decide) ?_
        refine r_iald (k := 54) (f := (stF (up T 1 (cpS (T 13) (T 1) 76)))) Z hB hx hb hW.st (by omega) (by omega) (by omega) dX4_back_41 ?_
        rw [show stF (up T 1 (cpS (T 13) (T 1) 76)) 54 = (cpS (T 13) (T 1) 76) 54 from stF_lo _ (by omega)]
        have hpw9 : (MW G K (mbackT T i)) H := (by rw [show mbackT T i = (up T 1 (cpS (T 13) (T 1) 76)) by unfold mbackT; (repeat' split) <;> first | rfl | omega]; exact hW)
        have he9 : ((cpS (T 13) (T 1) 76) 54) = (mbackA T i) := by unfold mbackA; (repeat' split) <;> first | rfl | omega
        exact W.iret hx hb hr (fun t ht hW9 => ⟨⟨_, (), rfl, congrArg iI he9, by show (MW G K (mbackT T i)) t.heap; rw [ht]; exact hpw9⟩, hS.F ht⟩) hS.2.2 dX4_back_42
      · -- 18 -> 21
        refine ii_bipush hx hb dX4_back_21 (by decide) ?_
        have hpw9 : (MW G K (mbackT T i)) s.heap := (by rw [show mbackT T i = T by unfold mbackT; (repeat' split) <;> first | rfl | omega]; exact hW)
        have he9 : (-2) = (mbackA T i) := by unfold mbackA; (repeat' split) <;> first | rfl | omega
        exact W.iret hx hb hr (fun t ht hW9 => ⟨⟨_, (), rfl, congrArg iI he9, by show (MW G K (mbackT T i)) t.heap; rw [ht]; exact hpw9⟩, hS.F ht⟩) hS.2.2 dX4_back_23
  · -- 7 -> 10
    refine ii_const hx hb dX4_back_10 ?_
    have hpw9 : (MW G K (mbackT T i)) s.heap := (by rw [show mbackT T i = T by unfold mbackT; (repeat' split) <;> first | rfl | omega]; exact hW)
    have he9 : (-1) = (mbackA T i) := by unfold mbackA; (repeat' split) <;> first | rfl | omega
    exact W.iret hx hb hr (fun t ht hW9 => ⟨⟨_, (), rfl, congrArg iI he9, by show (MW G K (mbackT T i)) t.heap; rw [ht]; exact hpw9⟩, hS.F ht⟩) hS.2.2 dX4_back_11
