/-! MODEL: fray, alter (written by gen/mod8.py) -/
set_option maxRecDepth 100000
set_option maxHeartbeats 1000000 in
set_option maxRecDepth 100000 in
theorem mX4_frays {l : Launch} {G : GG} {s0 : State} {b0 : Nat} (Z : ZZ l G s0 b0) (K : Nat → Nat) (hI : Own s0 K 12) (T : Sta) (F : Nat → Int) (eF : T 2 = F) (k : Nat) (zk : Int) (hzk : zk = (k : Int)) (hk5 : k < 6) (sz : Nat) : Met l yX4_frays (ws_ yX4_frays cX4_frays 3 none) ({ frames := 0, cells := 0, slots := 0, locals := 0 } : Room) (pcM s0 sz (MW G K T) [.ref (K 0), .int (iI zk)]) (mV (MW G K (up T 2 (mfF F k))) (AA K 12 sz)) 0 0 (AA K 12 sz) := by
  refine Met.ofW (cc := cX4_frays) (maxL := 3) (ret := none) (by decide) rfl ?_
  intro p e s m args below meth c s₁ B hml hv
  obtain ⟨rfl, hsz, hW, hB⟩ := hv
  subst hsz
  have hx := B.exec
  have hb := B.bytes
  have hr := B.returns
  have hts := atoms_spec (ws := (ws_ yX4_frays cX4_frays 3 none)) B.pre
  have hts : ∀ w ∈ lw_all, w.before _ s = true := fun w h => hts w (List.mem_cons_of_mem _ h)
  have hown : s.vm.findClass RX4 = some m.cls := findClass_of_methodNamed B.named
  have hlocks := B.notSynchronized
  have hN := AA.old hI hB
  have hS : va_S (AA K 12 s.heap.size) s.heap s.heap [] := va_S.rf
  have hl := lv_entry ([.ref (K 0), .int (iI zk)]) (n := 3) (Nat.le_of_ble_eq_true rfl)
  rw [lg_entry_eq]
  generalize (lg_sl ([.ref (K 0), .int (iI zk)]) ++ List.replicate (3 - (lg_sl ([.ref (K 0), .int (iI zk)])).length) Slot.unset).toArray = ls at hl ⊢
  have hl : lv_has ls 3 [(0, .ref (K 0)), (1, .int (iI zk))] := hl
  subst eF
  refine ii_bipush hx hb dX4_frays_0 (by decide) ?_
  refine ii_const hx hb dX4_frays_2 ?_
  refine lv_iload_n hx hb dX4_frays_3 rfl (lv_at hl 1 rfl) ?_
  refine ii_mul hx hb dX4_frays_4 ?_
  refine ii_add hx hb dX4_frays_5 ?_
  refine lv_istore_n (lv' := [(2, .int (iI (35 + (3 * zk)))), (0, .ref (K 0)), (1, .int (iI zk))]) hx hb dX4_frays_6 rfl hl (by decide) rfl (fun ls hl => ?_)
  have loop_7 : ∀ (fu : Nat) (q : Nat) (zq : Int), (zq = (q : Int)) → (35 + 3 * k ≤ q ∧ q ≤ 50) → (51 - q) < fu → ∀ (H : Heap) (locs : List Loc), (MW G K (up T 2 (msL (T 2) k q))) H → va_S (AA K 12 s.heap.size) s.heap H locs → ∀ (ls : Array Slot), lv_has ls 3 [(2, .int (iI zq)), (0, .ref (K 0)), (1, .int (iI zk))] → W p l e (headSpec (ws_ yX4_frays cX4_frays 3 none) ({ frames := 0, cells := 0, slots := 0, locals := 0 } : Room)).room s m ([.ref (K 0), .int (iI zk)] : List Value).toArray below meth c H locs 0 0 (MQ below (mV (MW G K (up T 2 (mfF (T 2) k))) (AA K 12 s.heap.size)) ([.ref (K 0), .int (iI zk)] : List Value).toArray s 0 0 (AA K 12 s.heap.size)) (F0 m 7 ls []) := by
    intro fu
    induction fu with
    | zero => intro q zq ezq hq hmu; exact absurd hmu (Nat.not_lt_zero _)
    | succ fu ih7 =>
      intro q zq ezq hq hmu H locs hW hS ls hl
      refine lv_iload_n hx hb dX4_frays_7 rfl (lv_at hl 0 rfl) ?_
      refine ii_bipush hx hb dX4_frays_8 (by decide) ?_
      refine ii_icmp_ge (tgt := 33) hx hb dX4_frays_10 (by decide) (by omega) (by omega) (fun c_1 => ?_) (fun c_1 => ?_)
      · -- 10 -> 33
        have ex_q : 50 = q := by omega
        subst ex_q
        refine lv_aload_n hx hb dX4_frays_33 rfl (lv_at hl 1 rfl) ?_
        refine r_get (ci := 4) (k := 1) (v := .ref (K 2)) (C := RX4) (T := TX4) (N := 29) Z hB hx hb hts hown rfl in_X4 hW.obj (by decide) q979 rfl dX4_frays_34 ?_
        refine ii_bipush hx hb dX4_frays_37 (by decide) ?_
        refine lv_dup2_11 hx hb dX4_frays_39 rfl rfl ?_
        refine r_iald (k := 53) (f := (msL (T 2) k 50)) Z hB hx hb hW.now (by omega) (by omega) (by omega) dX4_frays_40 ?_
        refine ii_const hx hb dX4_frays_41 ?_
        refine ii_sub hx hb dX4_frays_42 ?_
        refine r_iast (k := 53) Z hB hx hb hW.now hS (AA.me (by omega)) (by omega) (by omega) (by omega) dX4_frays_43 (MW G K (up (up T 2 (msL (T 2) k 50)) 2 (up (msL (T 2) k 50) 53 (((msL (T 2) k 50) 53) - 1)))) (fun H1 hz oq ha => hW.setA hI (j := 2) (by omega) (by omega) (fun h => absurd h (by omega)) oq ha) (fun H locs hW hS => ?_)
        have hW := hW.eqS (S' := (up T 2 (up (msL (T 2) k 50) 53 (((msL (T 2) k 50) 53) - 1)))) (by
            funext a
            by_cases h2 : a = 2
            · subst h2; rfl
            simp only [up, if_neg h2])
        have hpw9 : (MW G K (up T 2 (mfF (T 2) k))) H := (hW.eqS (congrArg (up T 2) (mf_end (T 2) k)))
        exact W.vret hx hb hr (fun t ht hW9 => ⟨⟨(), rfl, trivial, by show (MW G K (up T 2 (mfF (T 2) k))) t.heap; rw [ht]; exact hpw9⟩, hS.F ht⟩) hS.2.2 dX4_frays_44
      · -- 10 -> 13
        refine lv_aload_n hx hb dX4_frays_13 rfl (lv_at hl 1 rfl) ?_
        refine r_get (ci := 4) (k := 1) (v := .ref (K 2)) (C := RX4) (T := TX4) (N := 29) Z hB hx hb hts hown rfl in_X4 hW.obj (by decide) q979 rfl dX4_frays_14 ?_
        refine lv_iload_n hx hb dX4_frays_17 rfl (lv_at hl 0 rfl) ?_
        refine lv_aload_n hx hb dX4_frays_18 rfl (lv_at hl 1 rfl) ?_
        refine r_get (ci := 4) (k := 1) (v := .ref (K 2)) (C := RX4) (T := TX4) (N := 29) Z hB hx hb hts hown rfl in_X4 hW.obj (by decide) q979 rfl dX4_frays_19 ?_
        refine lv_iload_n hx hb dX4_frays_22 rfl (lv_at hl 0 rfl) ?_
        refine ii_const hx hb dX4_frays_23 ?_
        refine ii_add hx hb dX4_frays_24 ?_
        refine r_iald (k := (q + 3)) (f := (msL (T 2) k q)) Z hB hx hb hW.now (by omega) (by omega) (by omega) dX4_frays_25 ?_
        refine r_iast (k := q) Z hB hx hb hW.now hS (AA.me (by omega)) (by omega) (by omega) (by omega) dX4_frays_26 (MW G K (up (up T 2 (msL (T 2) k q)) 2 (up (msL (T 2) k q) q ((msL (T 2) k q) (q + 3))))) (fun H1 hz oq ha => hW.setA hI (j := 2) (by omega) (by omega) (fun h => absurd h (by omega)) oq ha) (fun H locs hW hS => ?_)
        have hW := hW.eqS (S' := (up T 2 (up (msL (T 2) k q) q ((msL (T 2) k q) (q + 3))))) (by
            funext a
            by_cases h2 : a = 2
            · subst h2; rfl
            simp only [up, if_neg h2])
        refine ii_iinc (k := 0) (lv' := [(2, .int (iI (zq + 1))), (0, .ref (K 0)), (1, .int (iI zk))]) hx hb dX4_frays_27 hl rfl (by decide) rfl (fun ls hl => ?_)
        refine lv_goto (tgt := 7) hx hb dX4_frays_30 (by decide) ?_
        exact ih7 (q + 1) (zq + 1) (by omega) (by omega) (by omega) _ _ (by rw [← msL_s (by omega)]; exact hW) hS ls (lv_sub hl [0, 1, 2] rfl)
  exact loop_7 _ (35 + (3 * k)) (35 + (3 * zk)) (by omega) (by omega) (Nat.lt_succ_self _) _ _ (by rw [msL_0, show up T 2 (T 2) = T from up_id T 2]; exact hW) hS ls (lv_sub hl [0, 1, 2] rfl)

set_option maxHeartbeats 1000000 in
set_option maxRecDepth 100000 in
theorem mX4_fray {l : Launch} {G : GG} {s0 : State} {b0 : Nat} (Z : ZZ l G s0 b0) (K : Nat → Nat) (hI : Own s0 K 12) (T : Sta) (F : Nat → Int) (eF : T 1 = F) (hF : WF F) (hD : Dia F) (hd : F 54 ≤ 2000) (what : Int) (hwhat : inR what) (sz : Nat) : Met l yX4_fray (ws_ yX4_fray cX4_fray 3 (some .int)) ({ frames := 6, cells := 0, slots := 0, locals := 141 } : Room) (pcM s0 sz (MW G K T) [.ref (K 0), .int (iI what)]) (mI (frayA F what) (MWx G K T) (AA K 12 sz)) 0 0 (AA K 12 sz) := by
  refine Met.ofW (cc := cX4_fray) (maxL := 3) (ret := (some .int)) (by decide) rfl ?_
  intro p e s m args below meth c s₁ B hml hv
  obtain ⟨rfl, hsz, hW, hB⟩ := hv
  subst hsz
  have hx := B.exec
  have hb := B.bytes
  have hr := B.returns
  have hts := atoms_spec (ws := (ws_ yX4_fray cX4_fray 3 (some .int))) B.pre
  have hts : ∀ w ∈ lw_all, w.before _ s = true := fun w h => hts w (List.mem_cons_of_mem _ h)
  have hown : s.vm.findClass RX4 = some m.cls := findClass_of_methodNamed B.named
  have hlocks := B.notSynchronized
  have hN := AA.old hI hB
  have hS : va_S (AA K 12 s.heap.size) s.heap s.heap [] := va_S.rf
  have hl := lv_entry ([.ref (K 0), .int (iI what)]) (n := 3) (Nat.le_of_ble_eq_true rfl)
  rw [lg_entry_eq]
  generalize (lg_sl ([.ref (K 0), .int (iI what)]) ++ List.replicate (3 - (lg_sl ([.ref (K 0), .int (iI what)])).length) Slot.unset).toArray = ls at hl ⊢
  have hl : lv_has ls 3 [(0, .ref (K 0)), (1, .int (iI what))] := hl
  subst eF
  have hn5 := hF.n
  have hrm := hF.rm
  have hday := hF.day
  refine lv_iload_n hx hb dX4_fray_0 rfl (lv_at hl 1 rfl) ?_
  refine cqI (va_runS (As := [.int (iI what)]) (rest := []) ⟨hx, hb, hml, hown, hts⟩ (mX4_isPart Z what (by omega)) (va_cwS 1 hts (lw_S q1316 q1317 q83 q1318) rfl rfl rfl (by decide +kernel) ⟨Nat.le_of_ble_eq_true rfl, Nat.le_of_ble_eq_true rfl⟩) (psR (BornH.S hB hN hS) trivial) rfl rfl hl.1 rfl (lv_room (Nat.le_of_ble_eq_true rfl)) dX4_fray_1 ⟨Nat.zero_le _, Nat.zero_le _⟩) ?_
  refine bb_if_ne (P := 0 ≤ what ∧ what ≤ 1) (tgt := 9) hx hb dX4_fray_4 (by decide) (fun c_1 => ?_) (fun c_1 => ?_)
  · -- 4 -> 9
    refine lv_aload_n hx hb dX4_fray_9 rfl (lv_at hl 0 rfl) ?_
    refine cmV (va_runV (As := []) (rest := []) ⟨hx, hb, hml, hown, hts⟩ (mX4_starts Z K hI T (T 1) rfl s.heap.size) (cwV 0 hts (lw_V q1151 q1153 qs48 q83 q1154) rfl rfl rfl (by decide +kernel) ⟨Nat.le_of_ble_eq_true rfl, Nat.le_of_ble_eq_true rfl⟩) (pvM (BornH.S hB hN hS) (OBJ.recv Z hB hW.obj (q := (RX4, TX4, 29)) rfl) hW) rfl rfl hl.1 rfl (lv_room (Nat.le_of_ble_eq_true rfl)) dX4_fray_10 ⟨Nat.zero_le _, Nat.zero_le _⟩) hS (AA.le hS.1) (fun H1 locs hW1 hz1 hk1 hS => ?_)
    have hW := hW1
    clear hW1 hk1 hz1
    generalize H1 = H at hW hS ⊢
    refine lv_aload_n hx hb dX4_fray_13 rfl (lv_at hl 0 rfl) ?_
    refine ii_bipush hx hb dX4_fray_14 (by decide) ?_
    have hd_2 : (T 1) 54 + (30 : Int) ≤ 100000 := by omega
    have hn_3 : (T 1) 76 = (T 1) 76 := by first | rfl | omega
    refine cmV (va_runV (As := [.int (iI 30)]) (rest := []) ⟨hx, hb, hml, hown, hts⟩ (mX4_daysGo Z K hI (up T 2 (T 1)) (T 1) rfl hF hn_3 hD 30 30 (by omega) hd_2 H.size) (cwV 1 hts (lw_V q1269 q1271 qs63 q83 q1272) rfl rfl rfl (by decide +kernel) ⟨Nat.le_of_ble_eq_true rfl, Nat.le_of_ble_eq_true rfl⟩) (pvM (BornH.S hB hN hS) (OBJ.recv Z hB hW.obj (q := (RX4, TX4, 29)) rfl) hW) rfl rfl hl.1 rfl (lv_room (Nat.le_of_ble_eq_true rfl)) dX4_fray_16 ⟨Nat.zero_le _, Nat.zero_le _⟩) hS (AA.le hS.1) (fun H1 locs hW1 hz1 hk1 hS => ?_)
    have hW := hW1
    clear hW1 hk1 hz1
    generalize H1 = H at hW hS ⊢
    have hW := hW.eqS (S' := (up T 2 (daysS (T 1) 30))) (by
        funext a
        by_cases h2 : a = 2
        · subst h2; rfl
        simp only [up, if_neg h2])
    have hwf_4 : WF (daysS (T 1) 30) := (daysS_wf hF 30 (by omega))
    have b_762 : daysS (T 1) 30 76 = (T 1) 76 := daysS_same hF (by omega) (by omega) (by omega) 30 (by omega)
    refine lv_aload_n hx hb dX4_fray_19 rfl (lv_at hl 0 rfl) ?_
    refine lv_aload_n hx hb dX4_fray_20 rfl (lv_at hl 0 rfl) ?_
    refine cqI (va_runV (As := []) (rest := [.ref (K 0)]) ⟨hx, hb, hml, hown, hts⟩ (mX4_bumpsSince Z K (up T 2 (daysS (T 1) 30)) (daysS (T 1) 30) (T 1) rfl rfl) (cwV 0 hts (lw_V q1289 q1291 qs68 q83 q1292) rfl rfl rfl (by decide +kernel) ⟨Nat.le_of_ble_eq_true rfl, Nat.le_of_ble_eq_true rfl⟩) (pvR (BornH.S hB hN hS) (OBJ.recv Z hB hW.obj (q := (RX4, TX4, 29)) rfl) hW) rfl rfl hl.1 rfl (lv_room (Nat.le_of_ble_eq_true rfl)) dX4_fray_21 ⟨Nat.zero_le _, Nat.zero_le _⟩) ?_
    have hvb : 0 ≤ ((daysS (T 1) 30) 56 - (T 1) 56) ∧ ((daysS (T 1) 30) 56 - (T 1) 56) ≤ 150 := by have q := daysS_56 hF 30 (by omega); have q2 : (T 1) 56 = T 1 56 := (by first | rfl | exact mfF_same _ (by omega) (by omega)); omega
    generalize evv : ((daysS (T 1) 30) 56 - (T 1) 56) = v_5 at hvb ⊢
    generalize (daysS (T 1) 30) = Fv_6 at hW
    refine cmV (va_runV (As := [.int (iI v_5)]) (rest := []) ⟨hx, hb, hml, hown, hts⟩ (mX4_startsJudging Z K hI (up T 2 Fv_6) v_5 H.size) (cwV 1 hts (lw_V q1323 q1325 qs70 q83 q1326) rfl rfl rfl (by decide +kernel) ⟨Nat.le_of_ble_eq_true rfl, Nat.le_of_ble_eq_true rfl⟩) (pvM (BornH.S hB hN hS) (OBJ.recv Z hB hW.obj (q := (RX4, TX4, 29)) rfl) hW) rfl rfl hl.1 rfl (lv_room (Nat.le_of_ble_eq_true rfl)) dX4_fray_24 ⟨Nat.zero_le _, Nat.zero_le _⟩) hS (AA.le hS.1) (fun H1 locs hW1 hz1 hk1 hS => ?_)
    have hW := hW1
    clear hW1 hk1 hz1
    generalize H1 = H at hW hS ⊢
    have hW := hW.eqS (S' := (up (up T 0 (up (up (T 0) 17 (-4)) 18 v_5)) 2 Fv_6)) (by
        funext a
        by_cases h0 : a = 0
        · subst h0
          funext j
          by_cases k0 : j = 17
          · subst k0; rfl
          by_cases k1 : j = 18
          · subst k1; rfl
          simp only [up, if_neg k0, if_neg k1, if_true, if_false, Nat.reduceEqDiff, reduceIte]
        by_cases h2 : a = 2
        · subst h2; rfl
        simp only [up, if_neg h0, if_neg h2])
    refine ii_const hx hb dX4_fray_27 ?_
    refine lv_istore_n (lv' := [(2, .int (iI 0)), (0, .ref (K 0)), (1, .int (iI what))]) hx hb dX4_fray_28 rfl hl (by decide) rfl (fun ls hl => ?_)
    have loop_29 : ∀ (fu : Nat) (k : Nat) (zk : Int) (best : Int) (least : Int) (F2 : Nat → Int), (zk = (k : Int)) → (k ≤ ((T 1) 53).toNat) → (frO (T 1) k = (best, least)) → ((-4 ≤ best ∧ best ≤ 100) ∧ 0 ≤ least ∧ least ≤ 1000000) → (7 - k) < fu → ∀ (H : Heap) (locs : List Loc), (MW G K (up (up T 0 (up (up (T 0) 17 best) 18 least)) 2 F2)) H → va_S (AA K 12 s.heap.size) s.heap H locs → ∀ (ls : Array Slot), lv_has ls 3 [(2, .int (iI zk)), (0, .ref (K 0)), (1, .int (iI what))] → W p l e (headSpec (ws_ yX4_fray cX4_fray 3 (some .int)) ({ frames := 6, cells := 0, slots := 0, locals := 141 } : Room)).room s m ([.ref (K 0), .int (iI what)] : List Value).toArray below meth c H locs 0 0 (MQ below (mI (frayA (T 1) what) (MWx G K T) (AA K 12 s.heap.size)) ([.ref (K 0), .int (iI what)] : List Value).toArray s 0 0 (AA K 12 s.heap.size)) (F0 m 29 ls []) := by
      intro fu
      induction fu with
      | zero => intro k zk best least F2 ezk hk hp hbl hmu; exact absurd hmu (Nat.not_lt_zero _)
      | succ fu ih29 =>
        intro k zk best least F2 ezk hk hp hbl hmu H locs hW hS ls hl
        refine lv_iload_n hx hb dX4_fray_29 rfl (lv_at hl 0 rfl) ?_
        refine lv_aload_n hx hb dX4_fray_30 rfl (lv_at hl 1 rfl) ?_
        refine r_get (ci := 4) (k := 0) (v := .ref (K 1)) (C := RX4) (T := TX4) (N := 29) Z hB hx hb hts hown rfl in_X4 hW.obj (by decide) q978 rfl dX4_fray_31 ?_
        refine ii_bipush hx hb dX4_fray_34 (by decide) ?_
        have b_763 := hF.rm
        refine r_iald (k := 53) (f := (stF (up (up T 0 (up (up (T 0) 17 best) 18 least)) 2 F2))) Z hB hx hb hW.st (by omega) (by omega) (by omega) dX4_fray_36 ?_
        rw [show stF (up (up T 0 (up (up (T 0) 17 best) 18 least)) 2 F2) 53 = (T 1) 53 from stF_lo _ (by omega)]
        refine ii_icmp_ge (tgt := 70) hx hb dX4_fray_37 (by decide) (by omega) (by omega) (fun c_7 => ?_) (fun c_7 => ?_)
        · -- 37 -> 70
          have ex_k : ((T 1) 53).toNat = k := by omega
          subst ex_k
          refine lv_aload_n hx hb dX4_fray_70 rfl (lv_at hl 1 rfl) ?_
          refine lv_iload_n hx hb dX4_fray_71 rfl (lv_at hl 2 rfl) ?_
          have hb_8 : inR best := by omega
          refine cqI (va_runV (As := [.int (iI what)]) (rest := []) ⟨hx, hb, hml, hown, hts⟩ (mX4_judged Z K (up (up T 0 (up (up (T 0) 17 best) 18 least)) 2 F2) what (by omega) hb_8) (cwV 1 hts (lw_V q1331 q1333 qs72 q83 q1334) rfl rfl rfl (by decide +kernel) ⟨Nat.le_of_ble_eq_true rfl, Nat.le_of_ble_eq_true rfl⟩) (pvR (BornH.S hB hN hS) (OBJ.recv Z hB hW.obj (q := (RX4, TX4, 29)) rfl) hW) rfl rfl hl.1 rfl (lv_room (Nat.le_of_ble_eq_true rfl)) dX4_fray_72 ⟨Nat.zero_le _, Nat.zero_le _⟩) ?_
          have hpw9 : (MWx G K T) H := (hW.x (fun a h0 h2 h6 h7 h11 => by first | rfl | simp only [up, if_neg h0, if_neg h2, if_neg h6, if_neg h7, if_neg h11]) (fun j h1 h2 h3 h4 h5 => by first | rfl | simp [up, h1, h2]))
          have he9 : (jdA (best, least) what) = (frayA (T 1) what) := by unfold frayA; rw [if_neg (by omega), hp]
          exact W.iret hx hb hr (fun t ht hW9 => ⟨⟨_, (), rfl, congrArg iI he9, by show (MWx G K T) t.heap; rw [ht]; exact hpw9⟩, hS.F ht⟩) hS.2.2 dX4_fray_75
        · -- 37 -> 40
          refine lv_aload_n hx hb dX4_fray_40 rfl (lv_at hl 1 rfl) ?_
          refine cmV (va_runV (As := []) (rest := []) ⟨hx, hb, hml, hown, hts⟩ (mX4_starts Z K hI (up (up T 0 (up (up (T 0) 17 best) 18 least)) 2 F2) (T 1) rfl H.size) (cwV 0 hts (lw_V q1151 q1153 qs48 q83 q1154) rfl rfl rfl (by decide +kernel) ⟨Nat.le_of_ble_eq_true rfl, Nat.le_of_ble_eq_true rfl⟩) (pvM (BornH.S hB hN hS) (OBJ.recv Z hB hW.obj (q := (RX4, TX4, 29)) rfl) hW) rfl rfl hl.1 rfl (lv_room (Nat.le_of_ble_eq_true rfl)) dX4_fray_41 ⟨Nat.zero_le _, Nat.zero_le _⟩) hS (AA.le hS.1) (fun H1 locs hW1 hz1 hk1 hS => ?_)
          have hW := hW1
          clear hW1 hk1 hz1
          generalize H1 = H at hW hS ⊢
          have hW := hW.eqS (S' := (up (up T 0 (up (up (T 0) 17 best) 18 least)) 2 (T 1))) (by
              funext a
              by_cases h0 : a = 0
              · subst h0
                funext j
                by_cases k0 : j = 17
                · subst k0; rfl
                by_cases k1 : j = 18
                · subst k1; rfl
                simp only [up, if_neg k0, if_neg k1, if_true, if_false, Nat.reduceEqDiff, reduceIte]
              by_cases h2 : a = 2
              · subst h2; rfl
              simp only [up, if_neg h0, if_neg h2])
          refine lv_aload_n hx hb dX4_fray_44 rfl (lv_at hl 1 rfl) ?_
          refine lv_iload_n hx hb dX4_fray_45 rfl (lv_at hl 0 rfl) ?_
          refine cmV (va_runV (As := [.int (iI zk)]) (rest := []) ⟨hx, hb, hml, hown, hts⟩ (mX4_frays Z K hI (up (up T 0 (up (up (T 0) 17 best) 18 least)) 2 (T 1)) (T 1) rfl k zk (by omega) (by omega) H.size) (cwV 1 hts (lw_V q1339 q1341 qs73 q83 q1342) rfl rfl rfl (by decide +kernel) ⟨Nat.le_of_ble_eq_true rfl, Nat.le_of_ble_eq_true rfl⟩) (pvM (BornH.S hB hN hS) (OBJ.recv Z hB hW.obj (q := (RX4, TX4, 29)) rfl) hW) rfl rfl hl.1 rfl (lv_room (Nat.le_of_ble_eq_true rfl)) dX4_fray_46 ⟨Nat.zero_le _, Nat.zero_le _⟩) hS (AA.le hS.1) (fun H1 locs hW1 hz1 hk1 hS => ?_)
          have hW := hW1
          clear hW1 hk1 hz1
          generalize H1 = H at hW hS ⊢
          have hW := hW.eqS (S' := (up (up T 0 (up (up (T 0) 17 best) 18 least)) 2 (mfF (T 1) k))) (by
              funext a
              by_cases h0 : a = 0
              · subst h0
                funext j
                by_cases k0 : j = 17
                · subst k0; rfl
                by_cases k1 : j = 18
                · subst k1; rfl
                simp only [up, if_neg k0, if_neg k1, if_true, if_false, Nat.reduceEqDiff, reduceIte]
              by_cases h2 : a = 2
              · subst h2; rfl
              simp only [up, if_neg h0, if_neg h2])
          have h22 : WF (mfF (T 1) k) := mfF_wf hF (by omega)
          have hD2 : Dia (mfF (T 1) k) := fun a ha => by rw [mfF_same _ (by omega) (by omega)]; exact hD a ha
          have h76w : (mfF (T 1) k) 76 = T 1 76 := mfF_same _ (by omega) (by omega)
          have h54w : (mfF (T 1) k) 54 = T 1 54 := mfF_same _ (by omega) (by omega)
          refine lv_aload_n hx hb dX4_fray_49 rfl (lv_at hl 1 rfl) ?_
          refine ii_bipush hx hb dX4_fray_50 (by decide) ?_
          have hd_9 : (mfF (T 1) k) 54 + (30 : Int) ≤ 100000 := by omega
          have hn_10 : (T 1) 76 = (mfF (T 1) k) 76 := by first | rfl | omega
          refine cmV (va_runV (As := [.int (iI 30)]) (rest := []) ⟨hx, hb, hml, hown, hts⟩ (mX4_daysGo Z K hI (up (up T 0 (up (up (T 0) 17 best) 18 least)) 2 (mfF (T 1) k)) (mfF (T 1) k) rfl h22 hn_10 hD2 30 30 (by omega) hd_9 H.size) (cwV 1 hts (lw_V q1269 q1271 qs63 q83 q1272) rfl rfl rfl (by decide +kernel) ⟨Nat.le_of_ble_eq_true rfl, Nat.le_of_ble_eq_true rfl⟩) (pvM (BornH.S hB hN hS) (OBJ.recv Z hB hW.obj (q := (RX4, TX4, 29)) rfl) hW) rfl rfl hl.1 rfl (lv_room (Nat.le_of_ble_eq_true rfl)) dX4_fray_52 ⟨Nat.zero_le _, Nat.zero_le _⟩) hS (AA.le hS.1) (fun H1 locs hW1 hz1 hk1 hS => ?_)
          have hW := hW1
          clear hW1 hk1 hz1
          generalize H1 = H at hW hS ⊢
          have hW := hW.eqS (S' := (up (up T 0 (up (up (T 0) 17 best) 18 least)) 2 (daysS (mfF (T 1) k) 30))) (by
              funext a
              by_cases h0 : a = 0
              · subst h0
                funext j
                by_cases k0 : j = 17
                · subst k0; rfl
                by_cases k1 : j = 18
                · subst k1; rfl
                simp only [up, if_neg k0, if_neg k1, if_true, if_false, Nat.reduceEqDiff, reduceIte]
              by_cases h2 : a = 2
              · subst h2; rfl
              simp only [up, if_neg h0, if_neg h2])
          have hwf_11 : WF (daysS (mfF (T 1) k) 30) := (daysS_wf h22 30 (by omega))
          have b_764 : daysS (mfF (T 1) k) 30 76 = (mfF (T 1) k) 76 := daysS_same h22 (by omega) (by omega) (by omega) 30 (by omega)
          refine lv_aload_n hx hb dX4_fray_55 rfl (lv_at hl 1 rfl) ?_
          refine lv_iload_n hx hb dX4_fray_56 rfl (lv_at hl 0 rfl) ?_
          refine lv_aload_n hx hb dX4_fray_57 rfl (lv_at hl 1 rfl) ?_
          refine cqI (va_runV (As := []) (rest := [.int (iI zk), .ref (K 0)]) ⟨hx, hb, hml, hown, hts⟩ (mX4_bumpsSince Z K (up (up T 0 (up (up (T 0) 17 best) 18 least)) 2 (daysS (mfF (T 1) k) 30)) (daysS (mfF (T 1) k) 30) (T 1) rfl rfl) (cwV 0 hts (lw_V q1289 q1291 qs68 q83 q1292) rfl rfl rfl (by decide +kernel) ⟨Nat.le_of_ble_eq_true rfl, Nat.le_of_ble_eq_true rfl⟩) (pvR (BornH.S hB hN hS) (OBJ.recv Z hB hW.obj (q := (RX4, TX4, 29)) rfl) hW) rfl rfl hl.1 rfl (lv_room (Nat.le_of_ble_eq_true rfl)) dX4_fray_58 ⟨Nat.zero_le _, Nat.zero_le _⟩) ?_
          have hvb : 0 ≤ ((daysS (mfF (T 1) k) 30) 56 - (T 1) 56) ∧ ((daysS (mfF (T 1) k) 30) 56 - (T 1) 56) ≤ 150 := by have q := daysS_56 h22 30 (by omega); have q2 : (mfF (T 1) k) 56 = T 1 56 := (by first | rfl | exact mfF_same _ (by omega) (by omega)); omega
          generalize evv : ((daysS (mfF (T 1) k) 30) 56 - (T 1) 56) = v_12 at hvb ⊢
          generalize (daysS (mfF (T 1) k) 30) = Fv_13 at hW
          have hle_14 : inR least := by omega
          refine cmV (va_runV (As := [.int (iI zk), .int (iI v_12)]) (rest := []) ⟨hx, hb, hml, hown, hts⟩ (mX4_judges Z K hI (up (up T 0 (up (up (T 0) 17 best) 18 least)) 2 Fv_13) zk v_12 (by omega) hle_14 H.size) (cwV 2 hts (lw_V q1327 q1329 qs71 q83 q1330) rfl rfl rfl (by decide +kernel) ⟨Nat.le_of_ble_eq_true rfl, Nat.le_of_ble_eq_true rfl⟩) (pvM (BornH.S hB hN hS) (OBJ.recv Z hB hW.obj (q := (RX4, TX4, 29)) rfl) hW) rfl rfl hl.1 rfl (lv_room (Nat.le_of_ble_eq_true rfl)) dX4_fray_61 ⟨Nat.zero_le _, Nat.zero_le _⟩) hS (AA.le hS.1) (fun H1 locs hW1 hz1 hk1 hS => ?_)
          have hW := hW1
          clear hW1 hk1 hz1
          generalize H1 = H at hW hS ⊢
          have hW := hW.eqS (S' := (up (up T 0 (up (up (up (up (T 0) 17 best) 17 ((jd (best, least) zk v_12).1)) 18 least) 18 ((jd (best, least) zk v_12).2))) 2 Fv_13)) (by
              funext a
              by_cases h0 : a = 0
              · subst h0
                funext j
                by_cases k0 : j = 17
                · subst k0; rfl
                by_cases k1 : j = 17
                · subst k1; rfl
                by_cases k2 : j = 18
                · subst k2; rfl
                by_cases k3 : j = 18
                · subst k3; rfl
                simp only [up, if_neg k0, if_neg k1, if_neg k2, if_neg k3, if_true, if_false, Nat.reduceEqDiff, reduceIte]
              by_cases h2 : a = 2
              · subst h2; rfl
              simp only [up, if_neg h0, if_neg h2])
          generalize hjj : (jd (best, least) zk v_12) = pj at hW
          obtain ⟨jb_15, jl_16⟩ := pj
          have hjb := jd_b hjj
          dsimp only at hW hjb
          refine ii_iinc (k := 0) (lv' := [(2, .int (iI (zk + 1))), (0, .ref (K 0)), (1, .int (iI what))]) hx hb dX4_fray_64 hl rfl (by decide) rfl (fun ls hl => ?_)
          refine lv_goto (tgt := 29) hx hb dX4_fray_67 (by decide) ?_
          have hW := hW.eqS (S' := (up (up T 0 (up (up (T 0) 17 jb_15) 18 jl_16)) 2 Fv_13)) (by
              funext a
              by_cases h0 : a = 0
              · subst h0
                funext j
                by_cases k0 : j = 17
                · subst k0; rfl
                by_cases k1 : j = 17
                · subst k1; rfl
                by_cases k2 : j = 18
                · subst k2; rfl
                by_cases k3 : j = 18
                · subst k3; rfl
                simp only [up, if_neg k0, if_neg k1, if_neg k2, if_neg k3, if_true, if_false, Nat.reduceEqDiff, reduceIte]
              by_cases h2 : a = 2
              · subst h2; rfl
              simp only [up, if_neg h0, if_neg h2])
          exact ih29 (k + 1) (zk + 1) jb_15 jl_16 Fv_13 (by omega) (by omega) (by simp only [frO]; rw [hp, ← ezk, ← bmp_mf hF (by omega) (by omega), evv]; exact hjj) (by omega) (by omega) _ _ hW hS ls (lv_sub hl [0, 1, 2] rfl)
    exact loop_29 _ 0 0 (-4) v_5 Fv_6 (by omega) (by omega) (by simp only [frO]; unfold bmp; rw [evv]) (by omega) (Nat.lt_succ_self _) _ _ hW hS ls (lv_sub hl [0, 1, 2] rfl)
  · -- 4 -> 7
    refine ii_const hx hb dX4_fray_7 ?_
    have hpw9 : (MWx G K T) s.heap := ⟨T, ⟨fun _ _ _ _ _ _ => rfl, fun _ _ _ _ _ _ => rfl⟩, hW⟩
    have he9 : (-1) = (frayA (T 1) what) := by unfold frayA; exact (if_pos (by omega)).symm
    exact W.iret hx hb hr (fun t ht hW9 => ⟨⟨_, (), rfl, congrArg iI he9, by show (MWx G K T) t.heap; rw [ht]; exact hpw9⟩, hS.F ht⟩) hS.2.2 dX4_fray_8

set_option maxHeartbeats 1000000 in
set_option maxRecDepth 100000 in
theorem mX4_alter {l : Launch} {G : GG} {s0 : State} {b0 : Nat} (Z : ZZ l G s0 b0) (K : Nat → Nat) (hI : Own s0 K 12) (T : Sta) (F : Nat → Int) (eF : T 1 = F) (hF : WF F) (hDis : Dis F) (i : Int) (hi : inR i) (what : Int) (hwhat : inR what) (v : Int) (hv : inR v) (sz : Nat) : Met l yX4_alter (ws_ yX4_alter cX4_alter 5 (some .int)) ({ frames := 2, cells := 0, slots := 0, locals := 46 } : Room) (pcM s0 sz (MW G K T) [.ref (K 0), .int (iI i), .int (iI what), .int (iI v)]) (mI (alterA F i what v) (MWx G K (up T 1 (alterF F i what v))) (AA K 12 sz)) 0 0 (AA K 12 sz) := by
  refine Met.ofW (cc := cX4_alter) (maxL := 5) (ret := (some .int)) (by decide) rfl ?_
  intro p e s m args below meth c s₁ B hml hv
  obtain ⟨rfl, hsz, hW, hB⟩ := hv
  subst hsz
  have hx := B.exec
  have hb := B.bytes
  have hr := B.returns
  have hts := atoms_spec (ws := (ws_ yX4_alter cX4_alter 5 (some .int))) B.pre
  have hts : ∀ w ∈ lw_all, w.before _ s = true := fun w h => hts w (List.mem_cons_of_mem _ h)
  have hown : s.vm.findClass RX4 = some m.cls := findClass_of_methodNamed B.named
  have hlocks := B.notSynchronized
  have hN := AA.old hI hB
  have hS : va_S (AA K 12 s.heap.size) s.heap s.heap [] := va_S.rf
  have hl := lv_entry ([.ref (K 0), .int (iI i), .int (iI what), .int (iI v)]) (n := 5) (Nat.le_of_ble_eq_true rfl)
  rw [lg_entry_eq]
  generalize (lg_sl ([.ref (K 0), .int (iI i), .int (iI what), .int (iI v)]) ++ List.replicate (5 - (lg_sl ([.ref (K 0), .int (iI i), .int (iI what), .int (iI v)])).length) Slot.unset).toArray = ls at hl ⊢
  have hl : lv_has ls 5 [(0, .ref (K 0)), (1, .int (iI i)), (2, .int (iI what)), (3, .int (iI v))] := hl
  subst eF
  have hn5 := hF.n
  have hrm := hF.rm
  refine lv_aload_n hx hb dX4_alter_0 rfl (lv_at hl 0 rfl) ?_
  refine cmV (va_runV (As := []) (rest := []) ⟨hx, hb, hml, hown, hts⟩ (mX4_starts Z K hI T (T 1) rfl s.heap.size) (cwV 0 hts (lw_V q1151 q1153 qs48 q83 q1154) rfl rfl rfl (by decide +kernel) ⟨Nat.le_of_ble_eq_true rfl, Nat.le_of_ble_eq_true rfl⟩) (pvM (BornH.S hB hN hS) (OBJ.recv Z hB hW.obj (q := (RX4, TX4, 29)) rfl) hW) rfl rfl hl.1 rfl (lv_room (Nat.le_of_ble_eq_true rfl)) dX4_alter_1 ⟨Nat.zero_le _, Nat.zero_le _⟩) hS (AA.le hS.1) (fun H1 locs hW1 hz1 hk1 hS => ?_)
  have hW := hW1
  clear hW1 hk1 hz1
  generalize H1 = H at hW hS ⊢
  refine lv_iload_n hx hb dX4_alter_4 rfl (lv_at hl 2 rfl) ?_
  refine ii_if_ne (tgt := 20) hx hb dX4_alter_5 (by decide) (by omega) (fun c_1 => ?_) (fun c_1 => ?_)
  · -- 5 -> 20
    refine lv_iload_n hx hb dX4_alter_20 rfl (lv_at hl 2 rfl) ?_
    refine ii_const hx hb dX4_alter_21 ?_
    refine ii_icmp_ne (tgt := 36) hx hb dX4_alter_22 (by decide) (by omega) (by omega) (fun c_2 => ?_) (fun c_2 => ?_)
    · -- 22 -> 36
      refine ii_const hx hb dX4_alter_36 ?_
      refine lv_istore (lv' := [(4, .int (iI 0)), (0, .ref (K 0)), (1, .int (iI i)), (2, .int (iI what)), (3, .int (iI v))]) hx hb dX4_alter_37 hl (by decide) rfl (fun ls hl => ?_)
      refine lv_aload_n hx hb dX4_alter_39 rfl (lv_at hl 1 rfl) ?_
      refine lv_iload_n hx hb dX4_alter_40 rfl (lv_at hl 2 rfl) ?_
      refine cqI (va_runV (As := [.int (iI i)]) (rest := []) ⟨hx, hb, hml, hown, hts⟩ (mX4_isIsle Z K (up T 2 (T 1)) (T 1) rfl hF i (by omega)) (cwV 1 hts (lw_V q1174 q1176 qs52 q83 q1177) rfl rfl rfl (by decide +kernel) ⟨Nat.le_of_ble_eq_true rfl, Nat.le_of_ble_eq_true rfl⟩) (pvR (BornH.S hB hN hS) (OBJ.recv Z hB hW.obj (q := (RX4, TX4, 29)) rfl) hW) rfl rfl hl.1 rfl (lv_room (Nat.le_of_ble_eq_true rfl)) dX4_alter_41 ⟨Nat.zero_le _, Nat.zero_le _⟩) ?_
      refine bb_if_eq (P := okI (T 1) i) (tgt := 74) hx hb dX4_alter_44 (by decide) (fun c_3 => ?_) (fun c_3 => ?_)
      · -- 44 -> 74
        refine ii_const hx hb dX4_alter_74 ?_
        have hpw9 : (MWx G K (up T 1 (alterF (T 1) i what v))) H := (by rw [show alterF (T 1) i what v = (T 1) by unfold alterF; (repeat' split) <;> first | rfl | omega, show up T 1 (T 1) = T from up_id T 1]; exact (hW.x (fun a h0 h2 h6 h7 h11 => by first | rfl | simp only [up, if_neg h0, if_neg h2, if_neg h6, if_neg h7, if_neg h11]) (fun j h1 h2 h3 h4 h5 => by first | rfl | simp [up, h1, h2])))
        have he9 : (-1) = (alterA (T 1) i what v) := by unfold alterA; (repeat' split) <;> first | rfl | omega
        exact W.iret hx hb hr (fun t ht hW9 => ⟨⟨_, (), rfl, congrArg iI he9, by show (MWx G K (up T 1 (alterF (T 1) i what v))) t.heap; rw [ht]; exact hpw9⟩, hS.F ht⟩) hS.2.2 dX4_alter_75
      · -- 44 -> 47
        refine lv_iload hx hb dX4_alter_47 (lv_at hl 0 rfl) ?_
        refine ii_if_eq (tgt := 74) hx hb dX4_alter_49 (by decide) (by omega) (fun c_4 => ?_) (fun c_4 => ?_)
        · -- 49 -> 74
          refine ii_const hx hb dX4_alter_74 ?_
          have hpw9 : (MWx G K (up T 1 (alterF (T 1) i what v))) H := (by rw [show alterF (T 1) i what v = (T 1) by unfold alterF; (repeat' split) <;> first | rfl | omega, show up T 1 (T 1) = T from up_id T 1]; exact (hW.x (fun a h0 h2 h6 h7 h11 => by first | rfl | simp only [up, if_neg h0, if_neg h2, if_neg h6, if_neg h7, if_neg h11]) (fun j h1 h2 h3 h4 h5 => by first | rfl | simp [up, h1, h2])))
          have he9 : (-1) = (alterA (T 1) i what v) := by unfold alterA; (repeat' split) <;> first | rfl | omega
          exact W.iret hx hb hr (fun t ht hW9 => ⟨⟨_, (), rfl, congrArg iI he9, by show (MWx G K (up T 1 (alterF (T 1) i what v))) t.heap; rw [ht]; exact hpw9⟩, hS.F ht⟩) hS.2.2 dX4_alter_75
        · -- 49 -> 52
          exact absurd c_4 (by omega)
    · -- 22 -> 25
      refine lv_iload_n hx hb dX4_alter_25 rfl (lv_at hl 3 rfl) ?_
      refine cqI (va_runS (As := [.int (iI v)]) (rest := []) ⟨hx, hb, hml, hown, hts⟩ (mX4_isFathom Z v (by omega)) (va_cwS 1 hts (lw_S q1223 q1224 q83 q1225) rfl rfl rfl (by decide +kernel) ⟨Nat.le_of_ble_eq_true rfl, Nat.le_of_ble_eq_true rfl⟩) (psR (BornH.S hB hN hS) trivial) rfl rfl hl.1 rfl (lv_room (Nat.le_of_ble_eq_true rfl)) dX4_alter_26 ⟨Nat.zero_le _, Nat.zero_le _⟩) ?_
      refine bb_if_eq (P := 0 ≤ v ∧ v ≤ 99) (tgt := 36) hx hb dX4_alter_29 (by decide) (fun c_5 => ?_) (fun c_5 => ?_)
      · -- 29 -> 36
        refine ii_const hx hb dX4_alter_36 ?_
        refine lv_istore (lv' := [(4, .int (iI 0)), (0, .ref (K 0)), (1, .int (iI i)), (2, .int (iI what)), (3, .int (iI v))]) hx hb dX4_alter_37 hl (by decide) rfl (fun ls hl => ?_)
        refine lv_aload_n hx hb dX4_alter_39 rfl (lv_at hl 1 rfl) ?_
        refine lv_iload_n hx hb dX4_alter_40 rfl (lv_at hl 2 rfl) ?_
        refine cqI (va_runV (As := [.int (iI i)]) (rest := []) ⟨hx, hb, hml, hown, hts⟩ (mX4_isIsle Z K (up T 2 (T 1)) (T 1) rfl hF i (by omega)) (cwV 1 hts (lw_V q1174 q1176 qs52 q83 q1177) rfl rfl rfl (by decide +kernel) ⟨Nat.le_of_ble_eq_true rfl, Nat.le_of_ble_eq_true rfl⟩) (pvR (BornH.S hB hN hS) (OBJ.recv Z hB hW.obj (q := (RX4, TX4, 29)) rfl) hW) rfl rfl hl.1 rfl (lv_room (Nat.le_of_ble_eq_true rfl)) dX4_alter_41 ⟨Nat.zero_le _, Nat.zero_le _⟩) ?_
        refine bb_if_eq (P := okI (T 1) i) (tgt := 74) hx hb dX4_alter_44 (by decide) (fun c_6 => ?_) (fun c_6 => ?_)
        · -- 44 -> 74
          refine ii_const hx hb dX4_alter_74 ?_
          have hpw9 : (MWx G K (up T 1 (alterF (T 1) i what v))) H := (by rw [show alterF (T 1) i what v = (T 1) by unfold alterF; (repeat' split) <;> first | rfl | omega, show up T 1 (T 1) = T from up_id T 1]; exact (hW.x (fun a h0 h2 h6 h7 h11 => by first | rfl | simp only [up, if_neg h0, if_neg h2, if_neg h6, if_neg h7, if_neg h11]) (fun j h1 h2 h3 h4 h5 => by first | rfl | simp [up, h1, h2])))
          have he9 : (-1) = (alterA (T 1) i what v) := by unfold alterA; (repeat' split) <;> first | rfl | omega
          exact W.iret hx hb hr (fun t ht hW9 => ⟨⟨_, (), rfl, congrArg iI he9, by show (MWx G K (up T 1 (alterF (T 1) i what v))) t.heap; rw [ht]; exact hpw9⟩, hS.F ht⟩) hS.2.2 dX4_alter_75
        · -- 44 -> 47
          refine lv_iload hx hb dX4_alter_47 (lv_at hl 0 rfl) ?_
          refine ii_if_eq (tgt := 74) hx hb dX4_alter_49 (by decide) (by omega) (fun c_7 => ?_) (fun c_7 => ?_)
          · -- 49 -> 74
            refine ii_const hx hb dX4_alter_74 ?_
            have hpw9 : (MWx G K (up T 1 (alterF (T 1) i what v))) H := (by rw [show alterF (T 1) i what v = (T 1) by unfold alterF; (repeat' split) <;> first | rfl | omega, show up T 1 (T 1) = T from up_id T 1]; exact (hW.x (fun a h0 h2 h6 h7 h11 => by first | rfl | simp only [up, if_neg h0, if_neg h2, if_neg h6, if_neg h7, if_neg h11]) (fun j h1 h2 h3 h4 h5 => by first | rfl | simp [up, h1, h2])))
            have he9 : (-1) = (alterA (T 1) i what v) := by unfold alterA; (repeat' split) <;> first | rfl | omega
            exact W.iret hx hb hr (fun t ht hW9 => ⟨⟨_, (), rfl, congrArg iI he9, by show (MWx G K (up T 1 (alterF (T 1) i what v))) t.heap; rw [ht]; exact hpw9⟩, hS.F ht⟩) hS.2.2 dX4_alter_75
          · -- 49 -> 52
            exact absurd c_7 (by omega)
      · -- 29 -> 32
        refine ii_const hx hb dX4_alter_32 ?_
        refine lv_goto (tgt := 37) hx hb dX4_alter_33 (by decide) ?_
        refine lv_istore (lv' := [(4, .int (iI 1)), (0, .ref (K 0)), (1, .int (iI i)), (2, .int (iI what)), (3, .int (iI v))]) hx hb dX4_alter_37 hl (by decide) rfl (fun ls hl => ?_)
        refine lv_aload_n hx hb dX4_alter_39 rfl (lv_at hl 1 rfl) ?_
        refine lv_iload_n hx hb dX4_alter_40 rfl (lv_at hl 2 rfl) ?_
        refine cqI (va_runV (As := [.int (iI i)]) (rest := []) ⟨hx, hb, hml, hown, hts⟩ (mX4_isIsle Z K (up T 2 (T 1)) (T 1) rfl hF i (by omega)) (cwV 1 hts (lw_V q1174 q1176 qs52 q83 q1177) rfl rfl rfl (by decide +kernel) ⟨Nat.le_of_ble_eq_true rfl, Nat.le_of_ble_eq_true rfl⟩) (pvR (BornH.S hB hN hS) (OBJ.recv Z hB hW.obj (q := (RX4, TX4, 29)) rfl) hW) rfl rfl hl.1 rfl (lv_room (Nat.le_of_ble_eq_true rfl)) dX4_alter_41 ⟨Nat.zero_le _, Nat.zero_le _⟩) ?_
        refine bb_if_eq (P := okI (T 1) i) (tgt := 74) hx hb dX4_alter_44 (by decide) (fun c_8 => ?_) (fun c_8 => ?_)
        · -- 44 -> 74
          refine ii_const hx hb dX4_alter_74 ?_
          have hpw9 : (MWx G K (up T 1 (alterF (T 1) i what v))) H := (by rw [show alterF (T 1) i what v = (T 1) by unfold alterF; (repeat' split) <;> first | rfl | omega, show up T 1 (T 1) = T from up_id T 1]; exact (hW.x (fun a h0 h2 h6 h7 h11 => by first | rfl | simp only [up, if_neg h0, if_neg h2, if_neg h6, if_neg h7, if_neg h11]) (fun j h1 h2 h3 h4 h5 => by first | rfl | simp [up, h1, h2])))
          have he9 : (-1) = (alterA (T 1) i what v) := by unfold alterA; (repeat' split) <;> first | rfl | omega
          exact W.iret hx hb hr (fun t ht hW9 => ⟨⟨_, (), rfl, congrArg iI he9, by show (MWx G K (up T 1 (alterF (T 1) i what v))) t.heap; rw [ht]; exact hpw9⟩, hS.F ht⟩) hS.2.2 dX4_alter_75
        · -- 44 -> 47
          refine lv_iload hx hb dX4_alter_47 (lv_at hl 0 rfl) ?_
          refine ii_if_eq (tgt := 74) hx hb dX4_alter_49 (by decide) (by omega) (fun c_9 => ?_) (fun c_9 => ?_)
          · -- 49 -> 74
            exact absurd c_9 (by omega)
          · -- 49 -> 52
            refine lv_iload_n hx hb dX4_alter_52 rfl (lv_at hl 3 rfl) ?_
            refine ii_const hx hb dX4_alter_53 ?_
            refine ii_icmp_ne (tgt := 76) hx hb dX4_alter_54 (by decide) (by omega) (by omega) (fun c_10 => ?_) (fun c_10 => ?_)
            · -- 54 -> 76
              refine lv_aload_n hx hb dX4_alter_76 rfl (lv_at hl 1 rfl) ?_
              refine ii_const hx hb dX4_alter_77 ?_
              refine lv_iload_n hx hb dX4_alter_78 rfl (lv_at hl 2 rfl) ?_
              refine ii_mul hx hb dX4_alter_79 ?_
              refine lv_iload_n hx hb dX4_alter_80 rfl (lv_at hl 3 rfl) ?_
              refine ii_add hx hb dX4_alter_81 ?_
              refine lv_iload_n hx hb dX4_alter_82 rfl (lv_at hl 4 rfl) ?_
              refine cmI (va_runV (As := [.int (iI ((2 * i) + what)), .int (iI v)]) (rest := []) ⟨hx, hb, hml, hown, hts⟩ (mX4_becomes Z K hI (up T 2 (T 1)) (T 1) rfl ((2 * i.toNat) + what.toNat) ((2 * i) + what) (by omega) (by omega) v H.size) (cwV 2 hts (lw_V q1231 q1233 qs60 q83 q1234) rfl rfl rfl (by decide +kernel) ⟨Nat.le_of_ble_eq_true rfl, Nat.le_of_ble_eq_true rfl⟩) (pvM (BornH.S hB hN hS) (OBJ.recv Z hB hW.obj (q := (RX4, TX4, 29)) rfl) hW) rfl rfl hl.1 rfl (lv_room (Nat.le_of_ble_eq_true rfl)) dX4_alter_83 ⟨Nat.zero_le _, Nat.zero_le _⟩) hS (AA.le hS.1) (fun H1 locs hW1 hz1 hk1 hS => ?_)
              have hW := hW1
              clear hW1 hk1 hz1
              generalize H1 = H at hW hS ⊢
              have hW := hW.eqS (S' := (up (up T 1 (up (T 1) ((2 * i.toNat) + what.toNat) v)) 2 (T 1))) (by
                  funext a
                  by_cases h1 : a = 1
                  · subst h1; rfl
                  by_cases h2 : a = 2
                  · subst h2; rfl
                  simp only [up, if_neg h1, if_neg h2])
              have hpw9 : (MWx G K (up T 1 (alterF (T 1) i what v))) H := (by rw [show alterF (T 1) i what v = (up (T 1) ((2 * i.toNat) + what.toNat) v) by unfold alterF; (repeat' split) <;> first | rfl | omega]; exact (hW.x (fun a h0 h2 h6 h7 h11 => by first | rfl | simp only [up, if_neg h0, if_neg h2, if_neg h6, if_neg h7, if_neg h11]) (fun j h1 h2 h3 h4 h5 => by first | rfl | simp [up, h1, h2])))
              have he9 : ((T 1) ((2 * i.toNat) + what.toNat)) = (alterA (T 1) i what v) := by unfold alterA; (repeat' split) <;> first | rfl | omega
              exact W.iret hx hb hr (fun t ht hW9 => ⟨⟨_, (), rfl, congrArg iI he9, by show (MWx G K (up T 1 (alterF (T 1) i what v))) t.heap; rw [ht]; exact hpw9⟩, hS.F ht⟩) hS.2.2 dX4_alter_86
            · -- 54 -> 57
              have haf := alt_fact hDis (i := i) (v := v) (by omega)
              refine lv_aload_n hx hb dX4_alter_57 rfl (lv_at hl 1 rfl) ?_
              refine lv_iload_n hx hb dX4_alter_58 rfl (lv_at hl 2 rfl) ?_
              have hn_11 : (T 1) 76 = (T 1) 76 := by first | rfl | omega
              refine cqI (va_runV (As := [.int (iI i)]) (rest := []) ⟨hx, hb, hml, hown, hts⟩ (mX4_place Z K (up T 2 (T 1)) (T 1) rfl hF hn_11 i.toNat i (by omega) (by omega)) (cwV 1 hts (lw_V q1163 q1165 qs51 q83 q1166) rfl rfl rfl (by decide +kernel) ⟨Nat.le_of_ble_eq_true rfl, Nat.le_of_ble_eq_true rfl⟩) (pvR (BornH.S hB hN hS) (OBJ.recv Z hB hW.obj (q := (RX4, TX4, 29)) rfl) hW) rfl rfl hl.1 rfl (lv_room (Nat.le_of_ble_eq_true rfl)) dX4_alter_59 ⟨Nat.zero_le _, Nat.zero_le _⟩) ?_
              have b_765 := hF.pl i.toNat (by omega)
              refine lv_iload_n hx hb dX4_alter_62 rfl (lv_at hl 4 rfl) ?_
              refine ii_icmp_eq (tgt := 76) hx hb dX4_alter_63 (by decide) (by omega) (by omega) (fun c_12 => ?_) (fun c_12 => ?_)
              · -- 63 -> 76
                refine lv_aload_n hx hb dX4_alter_76 rfl (lv_at hl 1 rfl) ?_
                refine ii_const hx hb dX4_alter_77 ?_
                refine lv_iload_n hx hb dX4_alter_78 rfl (lv_at hl 2 rfl) ?_
                refine ii_mul hx hb dX4_alter_79 ?_
                refine lv_iload_n hx hb dX4_alter_80 rfl (lv_at hl 3 rfl) ?_
                refine ii_add hx hb dX4_alter_81 ?_
                refine lv_iload_n hx hb dX4_alter_82 rfl (lv_at hl 4 rfl) ?_
                refine cmI (va_runV (As := [.int (iI ((2 * i) + what)), .int (iI v)]) (rest := []) ⟨hx, hb, hml, hown, hts⟩ (mX4_becomes Z K hI (up T 2 (T 1)) (T 1) rfl ((2 * i.toNat) + what.toNat) ((2 * i) + what) (by omega) (by omega) v H.size) (cwV 2 hts (lw_V q1231 q1233 qs60 q83 q1234) rfl rfl rfl (by decide +kernel) ⟨Nat.le_of_ble_eq_true rfl, Nat.le_of_ble_eq_true rfl⟩) (pvM (BornH.S hB hN hS) (OBJ.recv Z hB hW.obj (q := (RX4, TX4, 29)) rfl) hW) rfl rfl hl.1 rfl (lv_room (Nat.le_of_ble_eq_true rfl)) dX4_alter_83 ⟨Nat.zero_le _, Nat.zero_le _⟩) hS (AA.le hS.1) (fun H1 locs hW1 hz1 hk1 hS => ?_)
                have hW := hW1
                clear hW1 hk1 hz1
                generalize H1 = H at hW hS ⊢
                have hW := hW.eqS (S' := (up (up T 1 (up (T 1) ((2 * i.toNat) + what.toNat) v)) 2 (T 1))) (by
                    funext a
                    by_cases h1 : a = 1
                    · subst h1; rfl
                    by_cases h2 : a = 2
                    · subst h2; rfl
                    simp only [up, if_neg h1, if_neg h2])
                have hpw9 : (MWx G K (up T 1 (alterF (T 1) i what v))) H := (by rw [show alterF (T 1) i what v = (up (T 1) ((2 * i.toNat) + what.toNat) v) by unfold alterF; (repeat' split) <;> first | rfl | omega]; exact (hW.x (fun a h0 h2 h6 h7 h11 => by first | rfl | simp only [up, if_neg h0, if_neg h2, if_neg h6, if_neg h7, if_neg h11]) (fun j h1 h2 h3 h4 h5 => by first | rfl | simp [up, h1, h2])))
                have he9 : ((T 1) ((2 * i.toNat) + what.toNat)) = (alterA (T 1) i what v) := by unfold alterA; (repeat' split) <;> first | rfl | omega
                exact W.iret hx hb hr (fun t ht hW9 => ⟨⟨_, (), rfl, congrArg iI he9, by show (MWx G K (up T 1 (alterF (T 1) i what v))) t.heap; rw [ht]; exact hpw9⟩, hS.F ht⟩) hS.2.2 dX4_alter_86
              · -- 63 -> 66
                refine lv_aload_n hx hb dX4_alter_66 rfl (lv_at hl 1 rfl) ?_
                refine lv_iload_n hx hb dX4_alter_67 rfl (lv_at hl 4 rfl) ?_
                have hn_13 : (T 1) 76 = (T 1) 76 := by first | rfl | omega
                refine cqI (va_runV (As := [.int (iI v)]) (rest := []) ⟨hx, hb, hml, hown, hts⟩ (mX4_isTaken Z K (up T 2 (T 1)) (T 1) rfl hF hn_13 v (by omega)) (cwV 1 hts (lw_V q1227 q1229 qs59 q83 q1230) rfl rfl rfl (by decide +kernel) ⟨Nat.le_of_ble_eq_true rfl, Nat.le_of_ble_eq_true rfl⟩) (pvR (BornH.S hB hN hS) (OBJ.recv Z hB hW.obj (q := (RX4, TX4, 29)) rfl) hW) rfl rfl hl.1 rfl (lv_room (Nat.le_of_ble_eq_true rfl)) dX4_alter_68 ⟨Nat.zero_le _, Nat.zero_le _⟩) ?_
                refine bb_if_eq (P := tkB (T 1) v ((T 1) 76).toNat = true) (tgt := 76) hx hb dX4_alter_71 (by decide) (fun c_14 => ?_) (fun c_14 => ?_)
                · -- 71 -> 76
                  have htk : whoS (T 1) v ((T 1) 76).toNat 0 = -4 := Decidable.byContradiction (fun q => c_14 (tk_is.mpr q))
                  refine lv_aload_n hx hb dX4_alter_76 rfl (lv_at hl 1 rfl) ?_
                  refine ii_const hx hb dX4_alter_77 ?_
                  refine lv_iload_n hx hb dX4_alter_78 rfl (lv_at hl 2 rfl) ?_
                  refine ii_mul hx hb dX4_alter_79 ?_
                  refine lv_iload_n hx hb dX4_alter_80 rfl (lv_at hl 3 rfl) ?_
                  refine ii_add hx hb dX4_alter_81 ?_
                  refine lv_iload_n hx hb dX4_alter_82 rfl (lv_at hl 4 rfl) ?_
                  refine cmI (va_runV (As := [.int (iI ((2 * i) + what)), .int (iI v)]) (rest := []) ⟨hx, hb, hml, hown, hts⟩ (mX4_becomes Z K hI (up T 2 (T 1)) (T 1) rfl ((2 * i.toNat) + what.toNat) ((2 * i) + what) (by omega) (by omega) v H.size) (cwV 2 hts (lw_V q1231 q1233 qs60 q83 q1234) rfl rfl rfl (by decide +kernel) ⟨Nat.le_of_ble_eq_true rfl, Nat.le_of_ble_eq_true rfl⟩) (pvM (BornH.S hB hN hS) (OBJ.recv Z hB hW.obj (q := (RX4, TX4, 29)) rfl) hW) rfl rfl hl.1 rfl (lv_room (Nat.le_of_ble_eq_true rfl)) dX4_alter_83 ⟨Nat.zero_le _, Nat.zero_le _⟩) hS (AA.le hS.1) (fun H1 locs hW1 hz1 hk1 hS => ?_)
                  have hW := hW1
                  clear hW1 hk1 hz1
                  generalize H1 = H at hW hS ⊢
                  have hW := hW.eqS (S' := (up (up T 1 (up (T 1) ((2 * i.toNat) + what.toNat) v)) 2 (T 1))) (by
                      funext a
                      by_cases h1 : a = 1
                      · subst h1; rfl
                      by_cases h2 : a = 2
                      · subst h2; rfl
                      simp only [up, if_neg h1, if_neg h2])
                  have hpw9 : (MWx G K (up T 1 (alterF (T 1) i what v))) H := (by rw [show alterF (T 1) i what v = (up (T 1) ((2 * i.toNat) + what.toNat) v) by unfold alterF; (repeat' split) <;> first | rfl | omega]; exact (hW.x (fun a h0 h2 h6 h7 h11 => by first | rfl | simp only [up, if_neg h0, if_neg h2, if_neg h6, if_neg h7, if_neg h11]) (fun j h1 h2 h3 h4 h5 => by first | rfl | simp [up, h1, h2])))
                  have he9 : ((T 1) ((2 * i.toNat) + what.toNat)) = (alterA (T 1) i what v) := by unfold alterA; (repeat' split) <;> first | rfl | omega
                  exact W.iret hx hb hr (fun t ht hW9 => ⟨⟨_, (), rfl, congrArg iI he9, by show (MWx G K (up T 1 (alterF (T 1) i what v))) t.heap; rw [ht]; exact hpw9⟩, hS.F ht⟩) hS.2.2 dX4_alter_86
                · -- 71 -> 74
                  have htk : ¬ whoS (T 1) v ((T 1) 76).toNat 0 = -4 := tk_is.mp c_14
                  refine ii_const hx hb dX4_alter_74 ?_
                  have hpw9 : (MWx G K (up T 1 (alterF (T 1) i what v))) H := (by rw [show alterF (T 1) i what v = (T 1) by unfold alterF; (repeat' split) <;> first | rfl | omega, show up T 1 (T 1) = T from up_id T 1]; exact (hW.x (fun a h0 h2 h6 h7 h11 => by first | rfl | simp only [up, if_neg h0, if_neg h2, if_neg h6, if_neg h7, if_neg h11]) (fun j h1 h2 h3 h4 h5 => by first | rfl | simp [up, h1, h2])))
                  have he9 : (-1) = (alterA (T 1) i what v) := by unfold alterA; (repeat' split) <;> first | rfl | omega
                  exact W.iret hx hb hr (fun t ht hW9 => ⟨⟨_, (), rfl, congrArg iI he9, by show (MWx G K (up T 1 (alterF (T 1) i what v))) t.heap; rw [ht]; exact hpw9⟩, hS.F ht⟩) hS.2.2 dX4_alter_75
  · -- 5 -> 8
    refine lv_iload_n hx hb dX4_alter_8 rfl (lv_at hl 3 rfl) ?_
    refine ii_i2l hx hb (by omega) dX4_alter_9 ?_
    refine ii_lconst (z := 0) hx hb dX4_alter_10 rfl ?_
    refine ii_ldc2 (z := 3) hx hb hts hown q1222 dX4_alter_11 (by decide) ?_
    refine cqI (va_runS (As := [.long (lI v), .long (lI 0), .long (lI 3)]) (rest := []) ⟨hx, hb, hml, hown, hts⟩ (mX4_in Z v (by omega) 0 (by omega) 3 (by omega)) (va_cwS 3 hts (lw_S q1072 q1073 q83 q1074) rfl rfl rfl (by decide +kernel) ⟨Nat.le_of_ble_eq_true rfl, Nat.le_of_ble_eq_true rfl⟩) (psR (BornH.S hB hN hS) trivial) rfl rfl hl.1 rfl (lv_room (Nat.le_of_ble_eq_true rfl)) dX4_alter_14 ⟨Nat.zero_le _, Nat.zero_le _⟩) ?_
    refine lv_goto (tgt := 37) hx hb dX4_alter_17 (by decide) ?_
    refine lv_istore (lv' := [(4, .int (iI (b2 (0 ≤ v ∧ v ≤ 3)))), (0, .ref (K 0)), (1, .int (iI i)), (2, .int (iI what)), (3, .int (iI v))]) hx hb dX4_alter_37 hl (by decide) rfl (fun ls hl => ?_)
    refine lv_aload_n hx hb dX4_alter_39 rfl (lv_at hl 1 rfl) ?_
    refine lv_iload_n hx hb dX4_alter_40 rfl (lv_at hl 2 rfl) ?_
    refine cqI (va_runV (As := [.int (iI i)]) (rest := []) ⟨hx, hb, hml, hown, hts⟩ (mX4_isIsle Z K (up T 2 (T 1)) (T 1) rfl hF i (by omega)) (cwV 1 hts (lw_V q1174 q1176 qs52 q83 q1177) rfl rfl rfl (by decide +kernel) ⟨Nat.le_of_ble_eq_true rfl, Nat.le_of_ble_eq_true rfl⟩) (pvR (BornH.S hB hN hS) (OBJ.recv Z hB hW.obj (q := (RX4, TX4, 29)) rfl) hW) rfl rfl hl.1 rfl (lv_room (Nat.le_of_ble_eq_true rfl)) dX4_alter_41 ⟨Nat.zero_le _, Nat.zero_le _⟩) ?_
    refine bb_if_eq (P := okI (T 1) i) (tgt := 74) hx hb dX4_alter_44 (by decide) (fun c_15 => ?_) (fun c_15 => ?_)
    · -- 44 -> 74
      refine ii_const hx hb dX4_alter_74 ?_
      have hpw9 : (MWx G K (up T 1 (alterF (T 1) i what v))) H := (by rw [show alterF (T 1) i what v = (T 1) by unfold alterF; (repeat' split) <;> first | rfl | omega, show up T 1 (T 1) = T from up_id T 1]; exact (hW.x (fun a h0 h2 h6 h7 h11 => by first | rfl | simp only [up, if_neg h0, if_neg h2, if_neg h6, if_neg h7, if_neg h11]) (fun j h1 h2 h3 h4 h5 => by first | rfl | simp [up, h1, h2])))
      have he9 : (-1) = (alterA (T 1) i what v) := by unfold alterA; (repeat' split) <;> first | rfl | omega
      exact W.iret hx hb hr (fun t ht hW9 => ⟨⟨_, (), rfl, congrArg iI he9, by show (MWx G K (up T 1 (alterF (T 1) i what v))) t.heap; rw [ht]; exact hpw9⟩, hS.F ht⟩) hS.2.2 dX4_alter_75
    · -- 44 -> 47
      refine lv_iload hx hb dX4_alter_47 (lv_at hl 0 rfl) ?_
      refine bb_if_eq (P := 0 ≤ v ∧ v ≤ 3) (tgt := 74) hx hb dX4_alter_49 (by decide) (fun c_16 => ?_) (fun c_16 => ?_)
      · -- 49 -> 74
        refine ii_const hx hb dX4_alter_74 ?_
        have hpw9 : (MWx G K (up T 1 (alterF (T 1) i what v))) H := (by rw [show alterF (T 1) i what v = (T 1) by unfold alterF; (repeat' split) <;> first | rfl | omega, show up T 1 (T 1) = T from up_id T 1]; exact (hW.x (fun a h0 h2 h6 h7 h11 => by first | rfl | simp only [up, if_neg h0, if_neg h2, if_neg h6, if_neg h7, if_neg h11]) (fun j h1 h2 h3 h4 h5 => by first | rfl | simp [up, h1, h2])))
        have he9 : (-1) = (alterA (T 1) i what v) := by unfold alterA; (repeat' split) <;> first | rfl | omega
        exact W.iret hx hb hr (fun t ht hW9 => ⟨⟨_, (), rfl, congrArg iI he9, by show (MWx G K (up T 1 (alterF (T 1) i what v))) t.heap; rw [ht]; exact hpw9⟩, hS.F ht⟩) hS.2.2 dX4_alter_75
      · -- 49 -> 52
        refine lv_iload_n hx hb dX4_alter_52 rfl (lv_at hl 3 rfl) ?_
        refine ii_const hx hb dX4_alter_53 ?_
        refine ii_icmp_ne (tgt := 76) hx hb dX4_alter_54 (by decide) (by omega) (by omega) (fun c_17 => ?_) (fun c_17 => ?_)
        · -- 54 -> 76
          refine lv_aload_n hx hb dX4_alter_76 rfl (lv_at hl 1 rfl) ?_
          refine ii_const hx hb dX4_alter_77 ?_
          refine lv_iload_n hx hb dX4_alter_78 rfl (lv_at hl 2 rfl) ?_
          refine ii_mul hx hb dX4_alter_79 ?_
          refine lv_iload_n hx hb dX4_alter_80 rfl (lv_at hl 3 rfl) ?_
          refine ii_add hx hb dX4_alter_81 ?_
          refine lv_iload_n hx hb dX4_alter_82 rfl (lv_at hl 4 rfl) ?_
          refine cmI (va_runV (As := [.int (iI ((2 * i) + what)), .int (iI v)]) (rest := []) ⟨hx, hb, hml, hown, hts⟩ (mX4_becomes Z K hI (up T 2 (T 1)) (T 1) rfl ((2 * i.toNat) + what.toNat) ((2 * i) + what) (by omega) (by omega) v H.size) (cwV 2 hts (lw_V q1231 q1233 qs60 q83 q1234) rfl rfl rfl (by decide +kernel) ⟨Nat.le_of_ble_eq_true rfl, Nat.le_of_ble_eq_true rfl⟩) (pvM (BornH.S hB hN hS) (OBJ.recv Z hB hW.obj (q := (RX4, TX4, 29)) rfl) hW) rfl rfl hl.1 rfl (lv_room (Nat.le_of_ble_eq_true rfl)) dX4_alter_83 ⟨Nat.zero_le _, Nat.zero_le _⟩) hS (AA.le hS.1) (fun H1 locs hW1 hz1 hk1 hS => ?_)
          have hW := hW1
          clear hW1 hk1 hz1
          generalize H1 = H at hW hS ⊢
          have hW := hW.eqS (S' := (up (up T 1 (up (T 1) ((2 * i.toNat) + what.toNat) v)) 2 (T 1))) (by
              funext a
              by_cases h1 : a = 1
              · subst h1; rfl
              by_cases h2 : a = 2
              · subst h2; rfl
              simp only [up, if_neg h1, if_neg h2])
          have hpw9 : (MWx G K (up T 1 (alterF (T 1) i what v))) H := (by rw [show alterF (T 1) i what v = (up (T 1) ((2 * i.toNat) + what.toNat) v) by unfold alterF; (repeat' split) <;> first | rfl | omega]; exact (hW.x (fun a h0 h2 h6 h7 h11 => by first | rfl | simp only [up, if_neg h0, if_neg h2, if_neg h6, if_neg h7, if_neg h11]) (fun j h1 h2 h3 h4 h5 => by first | rfl | simp [up, h1, h2])))
          have he9 : ((T 1) ((2 * i.toNat) + what.toNat)) = (alterA (T 1) i what v) := by unfold alterA; (repeat' split) <;> first | rfl | omega
          exact W.iret hx hb hr (fun t ht hW9 => ⟨⟨_, (), rfl, congrArg iI he9, by show (MWx G K (up T 1 (alterF (T 1) i what v))) t.heap; rw [ht]; exact hpw9⟩, hS.F ht⟩) hS.2.2 dX4_alter_86
        · -- 54 -> 57
          have haf := alt_fact hDis (i := i) (v := v) (by omega)
          refine lv_aload_n hx hb dX4_alter_57 rfl (lv_at hl 1 rfl) ?_
          refine lv_iload_n hx hb dX4_alter_58 rfl (lv_at hl 2 rfl) ?_
          have hn_18 : (T 1) 76 = (T 1) 76 := by first | rfl | omega
          refine cqI (va_runV (As := [.int (iI i)]) (rest := []) ⟨hx, hb, hml, hown, hts⟩ (mX4_place Z K (up T 2 (T 1)) (T 1) rfl hF hn_18 i.toNat i (by omega) (by omega)) (cwV 1 hts (lw_V q1163 q1165 qs51 q83 q1166) rfl rfl rfl (by decide +kernel) ⟨Nat.le_of_ble_eq_true rfl, Nat.le_of_ble_eq_true rfl⟩) (pvR (BornH.S hB hN hS) (OBJ.recv Z hB hW.obj (q := (RX4, TX4, 29)) rfl) hW) rfl rfl hl.1 rfl (lv_room (Nat.le_of_ble_eq_true rfl)) dX4_alter_59 ⟨Nat.zero_le _, Nat.zero_le _⟩) ?_
          have b_766 := hF.pl i.toNat (by omega)
          refine lv_iload_n hx hb dX4_alter_62 rfl (lv_at hl 4 rfl) ?_
          refine ii_icmp_eq (tgt := 76) hx hb dX4_alter_63 (by decide) (by omega) (by omega) (fun c_19 => ?_) (fun c_19 => ?_)
          · -- 63 -> 76
            refine lv_aload_n hx hb dX4_alter_76 rfl (lv_at hl 1 rfl) ?_
            refine ii_const hx hb dX4_alter_77 ?_
            refine lv_iload_n hx hb dX4_alter_78 rfl (lv_at hl 2 rfl) ?_
            refine ii_mul hx hb dX4_alter_79 ?_
            refine lv_iload_n hx hb dX4_alter_80 rfl (lv_at hl 3 rfl) ?_
            refine ii_add hx hb dX4_alter_81 ?_
            refine lv_iload_n hx hb dX4_alter_82 rfl (lv_at hl 4 rfl) ?_
            refine cmI (va_runV (As := [.int (iI ((2 * i) + what)), .int (iI v)]) (rest := []) ⟨hx, hb, hml, hown, hts⟩ (mX4_becomes Z K hI (up T 2 (T 1)) (T 1) rfl ((2 * i.toNat) + what.toNat) ((2 * i) + what) (by omega) (by omega) v H.size) (cwV 2 hts (lw_V q1231 q1233 qs60 q83 q1234) rfl rfl rfl (by decide +kernel) ⟨Nat.le_of_ble_eq_true rfl, Nat.le_of_ble_eq_true rfl⟩) (pvM (BornH.S hB hN hS) (OBJ.recv Z hB hW.obj (q := (RX4, TX4, 29)) rfl) hW) rfl rfl hl.1 rfl (lv_room (Nat.le_of_ble_eq_true rfl)) dX4_alter_83 ⟨Nat.zero_le _, Nat.zero_le _⟩) hS (AA.le hS.1) (fun H1 locs hW1 hz1 hk1 hS => ?_)
            have hW := hW1
            clear hW1 hk1 hz1
            generalize H1 = H at hW hS ⊢
            have hW := hW.eqS (S' := (up (up T 1 (up (T 1) ((2 * i.toNat) + what.toNat) v)) 2 (T 1))) (by
                funext a
                by_cases h1 : a = 1
                · subst h1; rfl
                by_cases h2 : a = 2
                · subst h2; rfl
                simp only [up, if_neg h1, if_neg h2])
            have hpw9 : (MWx G K (up T 1 (alterF (T 1) i what v))) H := (by rw [show alterF (T 1) i what v = (up (T 1) ((2 * i.toNat) + what.toNat) v) by unfold alterF; (repeat' split) <;> first | rfl | omega]; exact (hW.x (fun a h0 h2 h6 h7 h11 => by first | rfl | simp only [up, if_neg h0, if_neg h2, if_neg h6, if_neg h7, if_neg h11]) (fun j h1 h2 h3 h4 h5 => by first | rfl | simp [up, h1, h2])))
            have he9 : ((T 1) ((2 * i.toNat) + what.toNat)) = (alterA (T 1) i what v) := by unfold alterA; (repeat' split) <;> first | rfl | omega
            exact W.iret hx hb hr (fun t ht hW9 => ⟨⟨_, (), rfl, congrArg iI he9, by show (MWx G K (up T 1 (alterF (T 1) i what v))) t.heap; rw [ht]; exact hpw9⟩, hS.F ht⟩) hS.2.2 dX4_alter_86
          · -- 63 -> 66
            refine lv_aload_n hx hb dX4_alter_66 rfl (lv_at hl 1 rfl) ?_
            refine lv_iload_n hx hb dX4_alter_67 rfl (lv_at hl 4 rfl) ?_
            have hn_20 : (T 1) 76 = (T 1) 76 := by first | rfl | omega
            refine cqI (va_runV (As := [.int (iI v)]) (rest := []) ⟨hx, hb, hml, hown, hts⟩ (mX4_isTaken Z K (up T 2 (T 1)) (T 1) rfl hF hn_20 v (by omega)) (cwV 1 hts (lw_V q1227 q1229 qs59 q83 q1230) rfl rfl rfl (by decide +kernel) ⟨Nat.le_of_ble_eq_true rfl, Nat.le_of_ble_eq_true rfl⟩) (pvR (BornH.S hB hN hS) (OBJ.recv Z hB hW.obj (q := (RX4, TX4, 29)) rfl) hW) rfl rfl hl.1 rfl (lv_room (Nat.le_of_ble_eq_true rfl)) dX4_alter_68 ⟨Nat.zero_le _, Nat.zero_le _⟩) ?_
            refine bb_if_eq (P := tkB (T 1) v ((T 1) 76).toNat = true) (tgt := 76) hx hb dX4_alter_71 (by decide) (fun c_21 => ?_) (fun c_21 => ?_)
            · -- 71 -> 76
              have htk : whoS (T 1) v ((T 1) 76).toNat 0 = -4 := Decidable.byContradiction (fun q => c_21 (tk_is.mpr q))
              refine lv_aload_n hx hb dX4_alter_76 rfl (lv_at hl 1 rfl) ?_
              refine ii_const hx hb dX4_alter_77 ?_
              refine lv_iload_n hx hb dX4_alter_78 rfl (lv_at hl 2 rfl) ?_
              refine ii_mul hx hb dX4_alter_79 ?_
              refine lv_iload_n hx hb dX4_alter_80 rfl (lv_at hl 3 rfl) ?_
              refine ii_add hx hb dX4_alter_81 ?_
              refine lv_iload_n hx hb dX4_alter_82 rfl (lv_at hl 4 rfl) ?_
              refine cmI (va_runV (As := [.int (iI ((2 * i) + what)), .int (iI v)]) (rest := []) ⟨hx, hb, hml, hown, hts⟩ (mX4_becomes Z K hI (up T 2 (T 1)) (T 1) rfl ((2 * i.toNat) + what.toNat) ((2 * i) + what) (by omega) (by omega) v H.size) (cwV 2 hts (lw_V q1231 q1233 qs60 q83 q1234) rfl rfl rfl (by decide +kernel) ⟨Nat.le_of_ble_eq_true rfl, Nat.le_of_ble_eq_true rfl⟩) (pvM (BornH.S hB hN hS) (OBJ.recv Z hB hW.obj (q := (RX4, TX4, 29)) rfl) hW) rfl rfl hl.1 rfl (lv_room (Nat.le_of_ble_eq_true rfl)) dX4_alter_83 ⟨Nat.zero_le _, Nat.zero_le _⟩) hS (AA.le hS.1) (fun H1 locs hW1 hz1 hk1 hS => ?_)
              have hW := hW1
              clear hW1 hk1 hz1
              generalize H1 = H at hW hS ⊢
              have hW := hW.eqS (S' := (up (up T 1 (up (T 1) ((2 * i.toNat) + what.toNat) v)) 2 (T 1))) (by
                  funext a
                  by_cases h1 : a = 1
                  · subst h1; rfl
                  by_cases h2 : a = 2
                  · subst h2; rfl
                  simp only [up, if_neg h1, if_neg h2])
              have hpw9 : (MWx G K (up T 1 (alterF (T 1) i what v))) H := (by rw [show alterF (T 1) i what v = (up (T 1) ((2 * i.toNat) + what.toNat) v) by unfold alterF; (repeat' split) <;> first | rfl | omega]; exact (hW.x (fun a h0 h2 h6 h7 h11 => by first | rfl | simp only [up, if_neg h0, if_neg h2, if_neg h6, if_neg h7, if_neg h11]) (fun j h1 h2 h3 h4 h5 => by first | rfl | simp [up, h1, h2])))
              have he9 : ((T 1) ((2 * i.toNat) + what.toNat)) = (alterA (T 1) i what v) := by unfold alterA; (repeat' split) <;> first | rfl | omega
              exact W.iret hx hb hr (fun t ht hW9 => ⟨⟨_, (), rfl, congrArg iI he9, by show (MWx G K (up T 1 (alterF (T 1) i what v))) t.heap; rw [ht]; exact hpw9⟩, hS.F ht⟩) hS.2.2 dX4_alter_86
            · -- 71 -> 74
              have htk : ¬ whoS (T 1) v ((T 1) 76).toNat 0 = -4 := tk_is.mp c_21
              refine ii_const hx hb dX4_alter_74 ?_
              have hpw9 : (MWx G K (up T 1 (alterF (T 1) i what v))) H := (by rw [show alterF (T 1) i what v = (T 1) by unfold alterF; (repeat' split) <;> first | rfl | omega, show up T 1 (T 1) = T from up_id T 1]; exact (hW.x (fun a h0 h2 h6 h7 h11 => by first | rfl | simp only [up, if_neg h0, if_neg h2, if_neg h6, if_neg h7, if_neg h11]) (fun j h1 h2 h3 h4 h5 => by first | rfl | simp [up, h1, h2])))
              have he9 : (-1) = (alterA (T 1) i what v) := by unfold alterA; (repeat' split) <;> first | rfl | omega
              exact W.iret hx hb hr (fun t ht hW9 => ⟨⟨_, (), rfl, congrArg iI he9, by show (MWx G K (up T 1 (alterF (T 1) i what v))) t.heap; rw [ht]; exact hpw9⟩, hS.F ht⟩) hS.2.2 dX4_alter_75
