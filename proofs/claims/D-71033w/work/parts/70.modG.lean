/-! MODEL: judging (written by gen/mod6.py) -/
set_option maxRecDepth 100000
set_option maxHeartbeats 1000000 in
set_option maxRecDepth 100000 in
theorem mX4_spreadBehind {l : Launch} {G : GG} {s0 : State} {b0 : Nat} (Z : ZZ l G s0 b0) (K : Nat → Nat) (hI : Own s0 K 12) (T : Sta) (F : Nat → Int) (eF : T 2 = F) (hF : WF F) (eN : T 1 76 = F 76) (hD : Dia F) (n : Nat) (zn : Int) (hzn : zn = (n : Int)) (hd : F 54 + (n : Int) ≤ 100000) (sz : Nat) : Met l yX4_spreadBehind (ws_ yX4_spreadBehind cX4_spreadBehind 2 (some .int)) ({ frames := 6, cells := 0, slots := 0, locals := 141 } : Room) (pcM s0 sz (MW G K T) [.ref (K 0), .int (iI zn)]) (mI (spd F n) (MW G K (up T 2 (daysS F n))) (AA K 12 sz)) 0 0 (AA K 12 sz) := by
  refine Met.ofW (cc := cX4_spreadBehind) (maxL := 2) (ret := (some .int)) (by decide) rfl ?_
  intro p e s m args below meth c s₁ B hml hv
  obtain ⟨rfl, hsz, hW, hB⟩ := hv
  subst hsz
  have hx := B.exec
  have hb := B.bytes
  have hr := B.returns
  have hts := atoms_spec (ws := (ws_ yX4_spreadBehind cX4_spreadBehind 2 (some .int))) B.pre
  have hts : ∀ w ∈ lw_all, w.before _ s = true := fun w h => hts w (List.mem_cons_of_mem _ h)
  have hown : s.vm.findClass RX4 = some m.cls := findClass_of_methodNamed B.named
  have hlocks := B.notSynchronized
  have hN := AA.old hI hB
  have hS : va_S (AA K 12 s.heap.size) s.heap s.heap [] := va_S.rf
  have hl := lv_entry ([.ref (K 0), .int (iI zn)]) (n := 2) (Nat.le_of_ble_eq_true rfl)
  rw [lg_entry_eq]
  generalize (lg_sl ([.ref (K 0), .int (iI zn)]) ++ List.replicate (2 - (lg_sl ([.ref (K 0), .int (iI zn)])).length) Slot.unset).toArray = ls at hl ⊢
  have hl : lv_has ls 2 [(0, .ref (K 0)), (1, .int (iI zn))] := hl
  subst eF
  have hn5 := hF.n
  have hrm := hF.rm
  have hday := hF.day
  refine lv_aload_n hx hb dX4_spreadBehind_0 rfl (lv_at hl 0 rfl) ?_
  refine lv_iload_n hx hb dX4_spreadBehind_1 rfl (lv_at hl 1 rfl) ?_
  have hd_1 : (T 2) 54 + (n : Int) ≤ 100000 := by omega
  have hn_2 : (T 1) 76 = (T 2) 76 := by first | rfl | omega
  refine cmV (va_runV (As := [.int (iI zn)]) (rest := []) ⟨hx, hb, hml, hown, hts⟩ (mX4_daysGo Z K hI T (T 2) rfl hF hn_2 hD n zn (by omega) hd_1 s.heap.size) (cwV 1 hts (lw_V q1269 q1271 qs63 q83 q1272) rfl rfl rfl (by decide +kernel) ⟨Nat.le_of_ble_eq_true rfl, Nat.le_of_ble_eq_true rfl⟩) (pvM (BornH.S hB hN hS) (OBJ.recv Z hB hW.obj (q := (RX4, TX4, 29)) rfl) hW) rfl rfl hl.1 rfl (lv_room (Nat.le_of_ble_eq_true rfl)) dX4_spreadBehind_2 ⟨Nat.zero_le _, Nat.zero_le _⟩) hS (AA.le hS.1) (fun H1 locs hW1 hz1 hk1 hS => ?_)
  have hW := hW1
  clear hW1 hk1 hz1
  generalize H1 = H at hW hS ⊢
  have hwf_3 : WF (daysS (T 2) n) := (daysS_wf hF n (by omega))
  have b_752 : daysS (T 2) n 76 = (T 2) 76 := daysS_same hF (by omega) (by omega) (by omega) n (by omega)
  refine lv_aload_n hx hb dX4_spreadBehind_5 rfl (lv_at hl 0 rfl) ?_
  have hn_4 : (T 1) 76 = (daysS (T 2) n) 76 := by first | rfl | omega
  refine cqI (va_runV (As := []) (rest := []) ⟨hx, hb, hml, hown, hts⟩ (mX4_spread Z K (up T 2 (daysS (T 2) n)) (daysS (T 2) n) rfl hwf_3 hn_4 ) (cwV 0 hts (lw_V q1155 q1157 qs49 q83 q1158) rfl rfl rfl (by decide +kernel) ⟨Nat.le_of_ble_eq_true rfl, Nat.le_of_ble_eq_true rfl⟩) (pvR (BornH.S hB hN hS) (OBJ.recv Z hB hW.obj (q := (RX4, TX4, 29)) rfl) hW) rfl rfl hl.1 rfl (lv_room (Nat.le_of_ble_eq_true rfl)) dX4_spreadBehind_6 ⟨Nat.zero_le _, Nat.zero_le _⟩) ?_
  have b_753 := spS_in hwf_3
  have hpw9 : (MW G K (up T 2 (daysS (T 2) n))) H := hW
  have he9 : (spS (daysS (T 2) n)) = (spd (T 2) n) := rfl
  exact W.iret hx hb hr (fun t ht hW9 => ⟨⟨_, (), rfl, congrArg iI he9, by show (MW G K (up T 2 (daysS (T 2) n))) t.heap; rw [ht]; exact hpw9⟩, hS.F ht⟩) hS.2.2 dX4_spreadBehind_9

set_option maxHeartbeats 1000000 in
set_option maxRecDepth 100000 in
theorem mX4_startsJudging {l : Launch} {G : GG} {s0 : State} {b0 : Nat} (Z : ZZ l G s0 b0) (K : Nat → Nat) (hI : Own s0 K 12) (T : Sta) (v : Int) (sz : Nat) : Met l yX4_startsJudging (ws_ yX4_startsJudging cX4_startsJudging 2 none) ({ frames := 0, cells := 0, slots := 0, locals := 0 } : Room) (pcM s0 sz (MW G K T) [.ref (K 0), .int (iI v)]) (mV (MW G K (up T 0 (up (up (T 0) 17 (-4)) 18 v))) (AA K 12 sz)) 0 0 (AA K 12 sz) := by
  refine Met.ofW (cc := cX4_startsJudging) (maxL := 2) (ret := none) (by decide) rfl ?_
  intro p e s m args below meth c s₁ B hml hv
  obtain ⟨rfl, hsz, hW, hB⟩ := hv
  subst hsz
  have hx := B.exec
  have hb := B.bytes
  have hr := B.returns
  have hts := atoms_spec (ws := (ws_ yX4_startsJudging cX4_startsJudging 2 none)) B.pre
  have hts : ∀ w ∈ lw_all, w.before _ s = true := fun w h => hts w (List.mem_cons_of_mem _ h)
  have hown : s.vm.findClass RX4 = some m.cls := findClass_of_methodNamed B.named
  have hlocks := B.notSynchronized
  have hN := AA.old hI hB
  have hS : va_S (AA K 12 s.heap.size) s.heap s.heap [] := va_S.rf
  have hl := lv_entry ([.ref (K 0), .int (iI v)]) (n := 2) (Nat.le_of_ble_eq_true rfl)
  rw [lg_entry_eq]
  generalize (lg_sl ([.ref (K 0), .int (iI v)]) ++ List.replicate (2 - (lg_sl ([.ref (K 0), .int (iI v)])).length) Slot.unset).toArray = ls at hl ⊢
  have hl : lv_has ls 2 [(0, .ref (K 0)), (1, .int (iI v))] := hl
  refine lv_aload_n hx hb dX4_startsJudging_0 rfl (lv_at hl 0 rfl) ?_
  refine ii_bipush hx hb dX4_startsJudging_1 (by decide) ?_
  refine r_put (ci := 4) (k := 17) (C := RX4) (T := TX4) (N := 29) Z hB hx hb hts hown rfl in_X4 tyX4 tyX4_ok nmX4 hW.obj hS (AA.me (by omega)) (by decide) q995 rfl rfl rfl rfl (Nat.le_of_ble_eq_true rfl) dX4_startsJudging_3 (MW G K (up T 0 (up (T 0) 17 (-4)))) (fun H1 hz oq ho => hW.setO hI (k := 17) oq ho) (fun H locs hW hS => ?_)
  refine lv_aload_n hx hb dX4_startsJudging_6 rfl (lv_at hl 0 rfl) ?_
  refine lv_iload_n hx hb dX4_startsJudging_7 rfl (lv_at hl 1 rfl) ?_
  refine r_put (ci := 4) (k := 18) (C := RX4) (T := TX4) (N := 29) Z hB hx hb hts hown rfl in_X4 tyX4 tyX4_ok nmX4 hW.obj hS (AA.me (by omega)) (by decide) q996 rfl rfl rfl rfl (Nat.le_of_ble_eq_true rfl) dX4_startsJudging_8 (MW G K (up (up T 0 (up (T 0) 17 (-4))) 0 (up (up (T 0) 17 (-4)) 18 v))) (fun H1 hz oq ho => hW.setO hI (k := 18) oq ho) (fun H locs hW hS => ?_)
  have hW := hW.eqS (S' := (up T 0 (up (up (T 0) 17 (-4)) 18 v))) (by
      funext a
      by_cases h0 : a = 0
      · subst h0
        funext j
        by_cases k0 : j = 17
        · subst k0; rfl
        by_cases k1 : j = 18
        · subst k1; rfl
        simp only [up, if_neg k0, if_neg k1, if_true, if_false, Nat.reduceEqDiff, reduceIte]
      simp only [up, if_neg h0])
  have hpw9 : (MW G K (up T 0 (up (up (T 0) 17 (-4)) 18 v))) H := hW
  exact W.vret hx hb hr (fun t ht hW9 => ⟨⟨(), rfl, trivial, by show (MW G K (up T 0 (up (up (T 0) 17 (-4)) 18 v))) t.heap; rw [ht]; exact hpw9⟩, hS.F ht⟩) hS.2.2 dX4_startsJudging_11

set_option maxHeartbeats 1000000 in
set_option maxRecDepth 100000 in
theorem mX4_judges {l : Launch} {G : GG} {s0 : State} {b0 : Nat} (Z : ZZ l G s0 b0) (K : Nat → Nat) (hI : Own s0 K 12) (T : Sta) (c1 v : Int) (hv : inR v) (h18 : inR (T 0 18)) (sz : Nat) : Met l yX4_judges (ws_ yX4_judges cX4_judges 3 none) ({ frames := 1, cells := 0, slots := 0, locals := 21 } : Room) (pcM s0 sz (MW G K T) [.ref (K 0), .int (iI c1), .int (iI v)]) (mV (MW G K (up T 0 (up (up (T 0) 17 (jd ((T 0) 17, (T 0) 18) c1 v).1) 18 (jd ((T 0) 17, (T 0) 18) c1 v).2))) (AA K 12 sz)) 0 0 (AA K 12 sz) := by
  refine Met.ofW (cc := cX4_judges) (maxL := 3) (ret := none) (by decide) rfl ?_
  intro p e s m args below meth c s₁ B hml hv
  obtain ⟨rfl, hsz, hW, hB⟩ := hv
  subst hsz
  have hx := B.exec
  have hb := B.bytes
  have hr := B.returns
  have hts := atoms_spec (ws := (ws_ yX4_judges cX4_judges 3 none)) B.pre
  have hts : ∀ w ∈ lw_all, w.before _ s = true := fun w h => hts w (List.mem_cons_of_mem _ h)
  have hown : s.vm.findClass RX4 = some m.cls := findClass_of_methodNamed B.named
  have hlocks := B.notSynchronized
  have hN := AA.old hI hB
  have hS : va_S (AA K 12 s.heap.size) s.heap s.heap [] := va_S.rf
  have hl := lv_entry ([.ref (K 0), .int (iI c1), .int (iI v)]) (n := 3) (Nat.le_of_ble_eq_true rfl)
  rw [lg_entry_eq]
  generalize (lg_sl ([.ref (K 0), .int (iI c1), .int (iI v)]) ++ List.replicate (3 - (lg_sl ([.ref (K 0), .int (iI c1), .int (iI v)])).length) Slot.unset).toArray = ls at hl ⊢
  have hl : lv_has ls 3 [(0, .ref (K 0)), (1, .int (iI c1)), (2, .int (iI v))] := hl
  refine lv_aload_n hx hb dX4_judges_0 rfl (lv_at hl 0 rfl) ?_
  refine lv_iload_n hx hb dX4_judges_1 rfl (lv_at hl 2 rfl) ?_
  refine lv_aload_n hx hb dX4_judges_2 rfl (lv_at hl 0 rfl) ?_
  refine r_get (ci := 4) (k := 18) (v := .int (iI ((T 0) 18))) (C := RX4) (T := TX4) (N := 29) Z hB hx hb hts hown rfl in_X4 hW.obj (by decide) q996 rfl dX4_judges_3 ?_
  refine ii_icmp_ge (tgt := 13) hx hb dX4_judges_6 (by decide) (by omega) (by omega) (fun c_1 => ?_) (fun c_1 => ?_)
  · -- 6 -> 13
    refine lv_aload_n hx hb dX4_judges_13 rfl (lv_at hl 0 rfl) ?_
    refine r_get (ci := 4) (k := 17) (v := .int (iI ((T 0) 17))) (C := RX4) (T := TX4) (N := 29) Z hB hx hb hts hown rfl in_X4 hW.obj (by decide) q995 rfl dX4_judges_14 ?_
    refine r_put (ci := 4) (k := 17) (C := RX4) (T := TX4) (N := 29) Z hB hx hb hts hown rfl in_X4 tyX4 tyX4_ok nmX4 hW.obj hS (AA.me (by omega)) (by decide) q995 rfl rfl rfl rfl (Nat.le_of_ble_eq_true rfl) dX4_judges_17 (MW G K (up T 0 (up (T 0) 17 ((T 0) 17)))) (fun H1 hz oq ho => hW.setO hI (k := 17) oq ho) (fun H locs hW hS => ?_)
    refine lv_aload_n hx hb dX4_judges_20 rfl (lv_at hl 0 rfl) ?_
    refine lv_iload_n hx hb dX4_judges_21 rfl (lv_at hl 2 rfl) ?_
    refine lv_aload_n hx hb dX4_judges_22 rfl (lv_at hl 0 rfl) ?_
    refine r_get (ci := 4) (k := 18) (v := .int (iI ((T 0) 18))) (C := RX4) (T := TX4) (N := 29) Z hB hx hb hts hown rfl in_X4 hW.obj (by decide) q996 rfl dX4_judges_23 ?_
    refine cqI (va_runS (As := [.int (iI v), .int (iI ((T 0) 18))]) (rest := [.ref (K 0)]) ⟨hx, hb, hml, hown, hts⟩ (mX4_lesser Z v ((T 0) 18) (by omega) (by omega)) (va_cwS 2 hts (lw_S q1301 q1302 q83 q1303) rfl rfl rfl (by decide +kernel) ⟨Nat.le_of_ble_eq_true rfl, Nat.le_of_ble_eq_true rfl⟩) (psR (BornH.S hB hN hS) trivial) rfl rfl hl.1 rfl (lv_room (Nat.le_of_ble_eq_true rfl)) dX4_judges_26 ⟨Nat.zero_le _, Nat.zero_le _⟩) ?_
    refine r_put (ci := 4) (k := 18) (C := RX4) (T := TX4) (N := 29) Z hB hx hb hts hown rfl in_X4 tyX4 tyX4_ok nmX4 hW.obj hS (AA.me (by omega)) (by decide) q996 rfl rfl rfl rfl (Nat.le_of_ble_eq_true rfl) dX4_judges_29 (MW G K (up (up T 0 (up (T 0) 17 ((T 0) 17))) 0 (up (up (T 0) 17 ((T 0) 17)) 18 (min v ((T 0) 18))))) (fun H1 hz oq ho => hW.setO hI (k := 18) oq ho) (fun H locs hW hS => ?_)
    have hW := hW.eqS (S' := (up T 0 (up (up (T 0) 17 ((T 0) 17)) 18 (min v ((T 0) 18))))) (by
        funext a
        by_cases h0 : a = 0
        · subst h0
          funext j
          by_cases k0 : j = 17
          · subst k0; rfl
          by_cases k1 : j = 18
          · subst k1; rfl
          simp only [up, if_neg k0, if_neg k1, if_true, if_false, Nat.reduceEqDiff, reduceIte]
        simp only [up, if_neg h0])
    have hpw9 : (MW G K (up T 0 (up (up (T 0) 17 (jd ((T 0) 17, (T 0) 18) c1 v).1) 18 (jd ((T 0) 17, (T 0) 18) c1 v).2))) H := (by rw [show (jd ((T 0) 17, (T 0) 18) c1 v).1 = ((T 0) 17) by rw [jd_1]; first | exact if_pos (by assumption) | exact if_neg (by omega), show (jd ((T 0) 17, (T 0) 18) c1 v).2 = (min v ((T 0) 18)) by rw [jd_2]; omega]; exact hW)
    exact W.vret hx hb hr (fun t ht hW9 => ⟨⟨(), rfl, trivial, by show (MW G K (up T 0 (up (up (T 0) 17 (jd ((T 0) 17, (T 0) 18) c1 v).1) 18 (jd ((T 0) 17, (T 0) 18) c1 v).2))) t.heap; rw [ht]; exact hpw9⟩, hS.F ht⟩) hS.2.2 dX4_judges_32
  · -- 6 -> 9
    refine lv_iload_n hx hb dX4_judges_9 rfl (lv_at hl 1 rfl) ?_
    refine lv_goto (tgt := 17) hx hb dX4_judges_10 (by decide) ?_
    refine r_put (ci := 4) (k := 17) (C := RX4) (T := TX4) (N := 29) Z hB hx hb hts hown rfl in_X4 tyX4 tyX4_ok nmX4 hW.obj hS (AA.me (by omega)) (by decide) q995 rfl rfl rfl rfl (Nat.le_of_ble_eq_true rfl) dX4_judges_17 (MW G K (up T 0 (up (T 0) 17 c1))) (fun H1 hz oq ho => hW.setO hI (k := 17) oq ho) (fun H locs hW hS => ?_)
    refine lv_aload_n hx hb dX4_judges_20 rfl (lv_at hl 0 rfl) ?_
    refine lv_iload_n hx hb dX4_judges_21 rfl (lv_at hl 2 rfl) ?_
    refine lv_aload_n hx hb dX4_judges_22 rfl (lv_at hl 0 rfl) ?_
    refine r_get (ci := 4) (k := 18) (v := .int (iI ((T 0) 18))) (C := RX4) (T := TX4) (N := 29) Z hB hx hb hts hown rfl in_X4 hW.obj (by decide) q996 rfl dX4_judges_23 ?_
    refine cqI (va_runS (As := [.int (iI v), .int (iI ((T 0) 18))]) (rest := [.ref (K 0)]) ⟨hx, hb, hml, hown, hts⟩ (mX4_lesser Z v ((T 0) 18) (by omega) (by omega)) (va_cwS 2 hts (lw_S q1301 q1302 q83 q1303) rfl rfl rfl (by decide +kernel) ⟨Nat.le_of_ble_eq_true rfl, Nat.le_of_ble_eq_true rfl⟩) (psR (BornH.S hB hN hS) trivial) rfl rfl hl.1 rfl (lv_room (Nat.le_of_ble_eq_true rfl)) dX4_judges_26 ⟨Nat.zero_le _, Nat.zero_le _⟩) ?_
    refine r_put (ci := 4) (k := 18) (C := RX4) (T := TX4) (N := 29) Z hB hx hb hts hown rfl in_X4 tyX4 tyX4_ok nmX4 hW.obj hS (AA.me (by omega)) (by decide) q996 rfl rfl rfl rfl (Nat.le_of_ble_eq_true rfl) dX4_judges_29 (MW G K (up (up T 0 (up (T 0) 17 c1)) 0 (up (up (T 0) 17 c1) 18 (min v ((T 0) 18))))) (fun H1 hz oq ho => hW.setO hI (k := 18) oq ho) (fun H locs hW hS => ?_)
    have hW := hW.eqS (S' := (up T 0 (up (up (T 0) 17 c1) 18 (min v ((T 0) 18))))) (by
        funext a
        by_cases h0 : a = 0
        · subst h0
          funext j
          by_cases k0 : j = 17
          · subst k0; rfl
          by_cases k1 : j = 18
          · subst k1; rfl
          simp only [up, if_neg k0, if_neg k1, if_true, if_false, Nat.reduceEqDiff, reduceIte]
        simp only [up, if_neg h0])
    have hpw9 : (MW G K (up T 0 (up (up (T 0) 17 (jd ((T 0) 17, (T 0) 18) c1 v).1) 18 (jd ((T 0) 17, (T 0) 18) c1 v).2))) H := (by rw [show (jd ((T 0) 17, (T 0) 18) c1 v).1 = c1 by rw [jd_1]; first | exact if_pos (by assumption) | exact if_neg (by omega), show (jd ((T 0) 17, (T 0) 18) c1 v).2 = (min v ((T 0) 18)) by rw [jd_2]; omega]; exact hW)
    exact W.vret hx hb hr (fun t ht hW9 => ⟨⟨(), rfl, trivial, by show (MW G K (up T 0 (up (up (T 0) 17 (jd ((T 0) 17, (T 0) 18) c1 v).1) 18 (jd ((T 0) 17, (T 0) 18) c1 v).2))) t.heap; rw [ht]; exact hpw9⟩, hS.F ht⟩) hS.2.2 dX4_judges_32

set_option maxHeartbeats 1000000 in
set_option maxRecDepth 100000 in
theorem mX4_judged {l : Launch} {G : GG} {s0 : State} {b0 : Nat} (Z : ZZ l G s0 b0) (K : Nat → Nat) (T : Sta) (what : Int) (hwh : inR what) (h17 : inR (T 0 17)) : Met l yX4_judged (ws_ yX4_judged cX4_judged 2 (some .int)) ({ frames := 0, cells := 0, slots := 0, locals := 0 } : Room) (pcR s0 (MW G K T) [.ref (K 0), .int (iI what)]) (qI (jdA ((T 0) 17, (T 0) 18) what)) 0 0 (fun _ => False) := by
  refine Met.ofW (cc := cX4_judged) (maxL := 2) (ret := (some .int)) (by decide) rfl ?_
  intro p e s m args below meth c s₁ B hml hv
  obtain ⟨rfl, hW, hB⟩ := hv
  have hx := B.exec
  have hb := B.bytes
  have hr := B.returns
  have hts := atoms_spec (ws := (ws_ yX4_judged cX4_judged 2 (some .int))) B.pre
  have hts : ∀ w ∈ lw_all, w.before _ s = true := fun w h => hts w (List.mem_cons_of_mem _ h)
  have hown : s.vm.findClass RX4 = some m.cls := findClass_of_methodNamed B.named
  have hlocks := B.notSynchronized
  have hl := lv_entry ([.ref (K 0), .int (iI what)]) (n := 2) (Nat.le_of_ble_eq_true rfl)
  rw [lg_entry_eq]
  generalize (lg_sl ([.ref (K 0), .int (iI what)]) ++ List.replicate (2 - (lg_sl ([.ref (K 0), .int (iI what)])).length) Slot.unset).toArray = ls at hl ⊢
  have hl : lv_has ls 2 [(0, .ref (K 0)), (1, .int (iI what))] := hl
  refine lv_aload_n hx hb dX4_judged_0 rfl (lv_at hl 0 rfl) ?_
  refine r_get (ci := 4) (k := 17) (v := .int (iI ((T 0) 17))) (C := RX4) (T := TX4) (N := 29) Z hB hx hb hts hown rfl in_X4 hW.obj (by decide) q995 rfl dX4_judged_1 ?_
  refine ii_bipush hx hb dX4_judged_4 (by decide) ?_
  refine ii_icmp_ne (tgt := 14) hx hb dX4_judged_6 (by decide) (by omega) (by omega) (fun c_1 => ?_) (fun c_1 => ?_)
  · -- 6 -> 14
    refine lv_iload_n hx hb dX4_judged_14 rfl (lv_at hl 1 rfl) ?_
    refine ii_if_ne (tgt := 25) hx hb dX4_judged_15 (by decide) (by omega) (fun c_2 => ?_) (fun c_2 => ?_)
    · -- 15 -> 25
      refine lv_aload_n hx hb dX4_judged_25 rfl (lv_at hl 0 rfl) ?_
      refine r_get (ci := 4) (k := 18) (v := .int (iI ((T 0) 18))) (C := RX4) (T := TX4) (N := 29) Z hB hx hb hts hown rfl in_X4 hW.obj (by decide) q996 rfl dX4_judged_26 ?_
      have he9 : ((T 0) 18) = (jdA ((T 0) 17, (T 0) 18) what) := by unfold jdA; dsimp only; split <;> omega
      exact W.iret hx hb hr (fun t ht hW9 => ⟨_, rfl, congrArg iI he9, ht⟩) (fun q hq => by cases hq) dX4_judged_29
    · -- 15 -> 18
      refine lv_aload_n hx hb dX4_judged_18 rfl (lv_at hl 0 rfl) ?_
      refine r_get (ci := 4) (k := 17) (v := .int (iI ((T 0) 17))) (C := RX4) (T := TX4) (N := 29) Z hB hx hb hts hown rfl in_X4 hW.obj (by decide) q995 rfl dX4_judged_19 ?_
      refine lv_goto (tgt := 29) hx hb dX4_judged_22 (by decide) ?_
      have he9 : ((T 0) 17) = (jdA ((T 0) 17, (T 0) 18) what) := by unfold jdA; dsimp only; split <;> omega
      exact W.iret hx hb hr (fun t ht hW9 => ⟨_, rfl, congrArg iI he9, ht⟩) (fun q hq => by cases hq) dX4_judged_29
  · -- 6 -> 9
    refine ii_bipush hx hb dX4_judged_9 (by decide) ?_
    refine lv_goto (tgt := 29) hx hb dX4_judged_11 (by decide) ?_
    have he9 : (-4) = (jdA ((T 0) 17, (T 0) 18) what) := by unfold jdA; dsimp only; split <;> omega
    exact W.iret hx hb hr (fun t ht hW9 => ⟨_, rfl, congrArg iI he9, ht⟩) (fun q hq => by cases hq) dX4_judged_29
