/-! MODEL: what was seen (written by gen/mod10.py) -/
set_option maxRecDepth 100000
set_option maxHeartbeats 1000000 in
set_option maxRecDepth 100000 in
theorem mX4_see {l : Launch} {G : GG} {s0 : State} {b0 : Nat} (Z : ZZ l G s0 b0) (K : Nat → Nat) (hI : Own s0 K 12) (T : Sta) (F : Nat → Int) (eF : T 1 = F) (hF : WF F) (hs57 : 0 ≤ F 57 ∧ F 57 ≤ 6) (n : Int) (hn : inR n) (i : Int) (hi : inR i) (v : Int) (hv : inR v) (sz : Nat) : Met l yX4_see (ws_ yX4_see cX4_see 5 (some .int)) ({ frames := 2, cells := 0, slots := 0, locals := 46 } : Room) (pcM s0 sz (MW G K T) [.ref (K 0), .int (iI n), .int (iI i), .int (iI v)]) (mI (mseeA F n i v) (MW G K (up T 1 (mseeF F n i v))) (AA K 12 sz)) 0 0 (AA K 12 sz) := by
  refine Met.ofW (cc := cX4_see) (maxL := 5) (ret := (some .int)) (by decide) rfl ?_
  intro p e s m args below meth c s₁ B hml hv
  obtain ⟨rfl, hsz, hW, hB⟩ := hv
  subst hsz
  have hx := B.exec
  have hb := B.bytes
  have hr := B.returns
  have hts := atoms_spec (ws := (ws_ yX4_see cX4_see 5 (some .int))) B.pre
  have hts : ∀ w ∈ lw_all, w.before _ s = true := fun w h => hts w (List.mem_cons_of_mem _ h)
  have hown : s.vm.findClass RX4 = some m.cls := findClass_of_methodNamed B.named
  have hlocks := B.notSynchronized
  have hN := AA.old hI hB
  have hS : va_S (AA K 12 s.heap.size) s.heap s.heap [] := va_S.rf
  have hl := lv_entry ([.ref (K 0), .int (iI n), .int (iI i), .int (iI v)]) (n := 5) (Nat.le_of_ble_eq_true rfl)
  rw [lg_entry_eq]
  generalize (lg_sl ([.ref (K 0), .int (iI n), .int (iI i), .int (iI v)]) ++ List.replicate (5 - (lg_sl ([.ref (K 0), .int (iI n), .int (iI i), .int (iI v)])).length) Slot.unset).toArray = ls at hl ⊢
  have hl : lv_has ls 5 [(0, .ref (K 0)), (1, .int (iI n)), (2, .int (iI i)), (3, .int (iI v))] := hl
  subst eF
  have hn5 := hF.n
  refine lv_iload_n hx hb dX4_see_0 rfl (lv_at hl 1 rfl) ?_
  refine ii_i2l hx hb (by omega) dX4_see_1 ?_
  refine ii_lconst (z := 0) hx hb dX4_see_2 rfl ?_
  refine ii_ldc2 (z := 20) hx hb hts hown q1385 dX4_see_3 (by decide) ?_
  refine cqI (va_runS (As := [.long (lI n), .long (lI 0), .long (lI 20)]) (rest := []) ⟨hx, hb, hml, hown, hts⟩ (mX4_in Z n (by omega) 0 (by omega) 20 (by omega)) (va_cwS 3 hts (lw_S q1072 q1073 q83 q1074) rfl rfl rfl (by decide +kernel) ⟨Nat.le_of_ble_eq_true rfl, Nat.le_of_ble_eq_true rfl⟩) (psR (BornH.S hB hN hS) trivial) rfl rfl hl.1 rfl (lv_room (Nat.le_of_ble_eq_true rfl)) dX4_see_6 ⟨Nat.zero_le _, Nat.zero_le _⟩) ?_
  refine bb_if_eq (P := 0 ≤ n ∧ n ≤ 20) (tgt := 27) hx hb dX4_see_9 (by decide) (fun c_1 => ?_) (fun c_1 => ?_)
  · -- 9 -> 27
    refine ii_const hx hb dX4_see_27 ?_
    have hpw9 : (MW G K (up T 1 (mseeF (T 1) n i v))) s.heap := (by rw [show mseeF (T 1) n i v = T 1 by unfold mseeF; exact if_pos (by omega), show up T 1 (T 1) = T from up_id T 1]; exact hW)
    have he9 : (-1) = (mseeA (T 1) n i v) := by unfold mseeA; (repeat' split) <;> first | rfl | omega
    exact W.iret hx hb hr (fun t ht hW9 => ⟨⟨_, (), rfl, congrArg iI he9, by show (MW G K (up T 1 (mseeF (T 1) n i v))) t.heap; rw [ht]; exact hpw9⟩, hS.F ht⟩) hS.2.2 dX4_see_28
  · -- 9 -> 12
    refine lv_aload_n hx hb dX4_see_12 rfl (lv_at hl 0 rfl) ?_
    refine lv_iload_n hx hb dX4_see_13 rfl (lv_at hl 2 rfl) ?_
    refine cqI (va_runV (As := [.int (iI i)]) (rest := []) ⟨hx, hb, hml, hown, hts⟩ (mX4_isIsle Z K T (T 1) rfl hF i (by omega)) (cwV 1 hts (lw_V q1174 q1176 qs52 q83 q1177) rfl rfl rfl (by decide +kernel) ⟨Nat.le_of_ble_eq_true rfl, Nat.le_of_ble_eq_true rfl⟩) (pvR (BornH.S hB hN hS) (OBJ.recv Z hB hW.obj (q := (RX4, TX4, 29)) rfl) hW) rfl rfl hl.1 rfl (lv_room (Nat.le_of_ble_eq_true rfl)) dX4_see_14 ⟨Nat.zero_le _, Nat.zero_le _⟩) ?_
    refine bb_if_eq (P := okI (T 1) i) (tgt := 27) hx hb dX4_see_17 (by decide) (fun c_2 => ?_) (fun c_2 => ?_)
    · -- 17 -> 27
      refine ii_const hx hb dX4_see_27 ?_
      have hpw9 : (MW G K (up T 1 (mseeF (T 1) n i v))) s.heap := (by rw [show mseeF (T 1) n i v = T 1 by unfold mseeF; exact if_pos (by omega), show up T 1 (T 1) = T from up_id T 1]; exact hW)
      have he9 : (-1) = (mseeA (T 1) n i v) := by unfold mseeA; (repeat' split) <;> first | rfl | omega
      exact W.iret hx hb hr (fun t ht hW9 => ⟨⟨_, (), rfl, congrArg iI he9, by show (MW G K (up T 1 (mseeF (T 1) n i v))) t.heap; rw [ht]; exact hpw9⟩, hS.F ht⟩) hS.2.2 dX4_see_28
    · -- 17 -> 20
      refine lv_iload_n hx hb dX4_see_20 rfl (lv_at hl 3 rfl) ?_
      refine cqI (va_runS (As := [.int (iI v)]) (rest := []) ⟨hx, hb, hml, hown, hts⟩ (mX4_isFathom Z v (by omega)) (va_cwS 1 hts (lw_S q1223 q1224 q83 q1225) rfl rfl rfl (by decide +kernel) ⟨Nat.le_of_ble_eq_true rfl, Nat.le_of_ble_eq_true rfl⟩) (psR (BornH.S hB hN hS) trivial) rfl rfl hl.1 rfl (lv_room (Nat.le_of_ble_eq_true rfl)) dX4_see_21 ⟨Nat.zero_le _, Nat.zero_le _⟩) ?_
      refine bb_if_ne (P := 0 ≤ v ∧ v ≤ 99) (tgt := 29) hx hb dX4_see_24 (by decide) (fun c_3 => ?_) (fun c_3 => ?_)
      · -- 24 -> 29
        refine lv_aload_n hx hb dX4_see_29 rfl (lv_at hl 0 rfl) ?_
        refine r_get (ci := 4) (k := 0) (v := .ref (K 1)) (C := RX4) (T := TX4) (N := 29) Z hB hx hb hts hown rfl in_X4 hW.obj (by decide) q978 rfl dX4_see_30 ?_
        refine ii_bipush hx hb dX4_see_33 (by decide) ?_
        refine r_iald (k := 57) (f := (stF T)) Z hB hx hb hW.st (by omega) (by omega) (by omega) dX4_see_35 ?_
        rw [show stF T 57 = (T 1) 57 from stF_lo _ (by omega)]
        refine ii_bipush hx hb dX4_see_36 (by decide) ?_
        refine ii_icmp_ne (tgt := 44) hx hb dX4_see_38 (by decide) (by omega) (by omega) (fun c_4 => ?_) (fun c_4 => ?_)
        · -- 38 -> 44
          refine ii_bipush hx hb dX4_see_44 (by decide) ?_
          refine ii_const hx hb dX4_see_46 ?_
          refine lv_aload_n hx hb dX4_see_47 rfl (lv_at hl 0 rfl) ?_
          refine r_get (ci := 4) (k := 0) (v := .ref (K 1)) (C := RX4) (T := TX4) (N := 29) Z hB hx hb hts hown rfl in_X4 hW.obj (by decide) q978 rfl dX4_see_48 ?_
          refine ii_bipush hx hb dX4_see_51 (by decide) ?_
          refine r_iald (k := 57) (f := (stF T)) Z hB hx hb hW.st (by omega) (by omega) (by omega) dX4_see_53 ?_
          rw [show stF T 57 = (T 1) 57 from stF_lo _ (by omega)]
          refine ii_mul hx hb dX4_see_54 ?_
          refine ii_add hx hb dX4_see_55 ?_
          refine lv_istore (lv' := [(4, .int (iI (58 + (3 * ((T 1) 57))))), (0, .ref (K 0)), (1, .int (iI n)), (2, .int (iI i)), (3, .int (iI v))]) hx hb dX4_see_56 hl (by decide) rfl (fun ls hl => ?_)
          refine lv_aload_n hx hb dX4_see_58 rfl (lv_at hl 1 rfl) ?_
          refine r_get (ci := 4) (k := 0) (v := .ref (K 1)) (C := RX4) (T := TX4) (N := 29) Z hB hx hb hts hown rfl in_X4 hW.obj (by decide) q978 rfl dX4_see_59 ?_
          refine lv_iload hx hb dX4_see_62 (lv_at hl 0 rfl) ?_
          refine lv_iload_n hx hb dX4_see_64 rfl (lv_at hl 2 rfl) ?_
          refine r_iast (k := (58 + (3 * ((T 1) 57).toNat))) Z hB hx hb hW.st hS (AA.me (by omega)) (by omega) (by omega) (by omega) dX4_see_65 (MW G K (up T 1 (up (T 1) (58 + (3 * ((T 1) 57).toNat)) n))) (fun H1 hz oq ha => hW.setS hI (by omega) oq ha) (fun H locs hW hS => ?_)
          refine lv_aload_n hx hb dX4_see_66 rfl (lv_at hl 1 rfl) ?_
          refine r_get (ci := 4) (k := 0) (v := .ref (K 1)) (C := RX4) (T := TX4) (N := 29) Z hB hx hb hts hown rfl in_X4 hW.obj (by decide) q978 rfl dX4_see_67 ?_
          refine lv_iload hx hb dX4_see_70 (lv_at hl 0 rfl) ?_
          refine ii_const hx hb dX4_see_72 ?_
          refine ii_add hx hb dX4_see_73 ?_
          refine lv_iload_n hx hb dX4_see_74 rfl (lv_at hl 3 rfl) ?_
          refine r_iast (k := ((58 + (3 * ((T 1) 57).toNat)) + 1)) Z hB hx hb hW.st hS (AA.me (by omega)) (by omega) (by omega) (by omega) dX4_see_75 (MW G K (up (up T 1 (up (T 1) (58 + (3 * ((T 1) 57).toNat)) n)) 1 (up (up (T 1) (58 + (3 * ((T 1) 57).toNat)) n) ((58 + (3 * ((T 1) 57).toNat)) + 1) i))) (fun H1 hz oq ha => hW.setS hI (by omega) oq ha) (fun H locs hW hS => ?_)
          have hW := hW.eqS (S' := (up T 1 (up (up (T 1) (58 + (3 * ((T 1) 57).toNat)) n) ((58 + (3 * ((T 1) 57).toNat)) + 1) i))) (by
              funext a
              by_cases h1 : a = 1
              · subst h1; rfl
              simp only [up, if_neg h1])
          refine lv_aload_n hx hb dX4_see_76 rfl (lv_at hl 1 rfl) ?_
          refine r_get (ci := 4) (k := 0) (v := .ref (K 1)) (C := RX4) (T := TX4) (N := 29) Z hB hx hb hts hown rfl in_X4 hW.obj (by decide) q978 rfl dX4_see_77 ?_
          refine lv_iload hx hb dX4_see_80 (lv_at hl 0 rfl) ?_
          refine ii_const hx hb dX4_see_82 ?_
          refine ii_add hx hb dX4_see_83 ?_
          refine lv_iload_n hx hb dX4_see_84 rfl (lv_at hl 4 rfl) ?_
          refine r_iast (k := ((58 + (3 * ((T 1) 57).toNat)) + 2)) Z hB hx hb hW.st hS (AA.me (by omega)) (by omega) (by omega) (by omega) dX4_see_85 (MW G K (up (up T 1 (up (up (T 1) (58 + (3 * ((T 1) 57).toNat)) n) ((58 + (3 * ((T 1) 57).toNat)) + 1) i)) 1 (up (up (up (T 1) (58 + (3 * ((T 1) 57).toNat)) n) ((58 + (3 * ((T 1) 57).toNat)) + 1) i) ((58 + (3 * ((T 1) 57).toNat)) + 2) v))) (fun H1 hz oq ha => hW.setS hI (by omega) oq ha) (fun H locs hW hS => ?_)
          have hW := hW.eqS (S' := (up T 1 (up (up (up (T 1) (58 + (3 * ((T 1) 57).toNat)) n) ((58 + (3 * ((T 1) 57).toNat)) + 1) i) ((58 + (3 * ((T 1) 57).toNat)) + 2) v))) (by
              funext a
              by_cases h1 : a = 1
              · subst h1; rfl
              simp only [up, if_neg h1])
          refine lv_aload_n hx hb dX4_see_86 rfl (lv_at hl 1 rfl) ?_
          refine r_get (ci := 4) (k := 0) (v := .ref (K 1)) (C := RX4) (T := TX4) (N := 29) Z hB hx hb hts hown rfl in_X4 hW.obj (by decide) q978 rfl dX4_see_87 ?_
          refine ii_bipush hx hb dX4_see_90 (by decide) ?_
          refine lv_dup2_11 hx hb dX4_see_92 rfl rfl ?_
          refine r_iald (k := 57) (f := (stF (up T 1 (up (up (up (T 1) (58 + (3 * ((T 1) 57).toNat)) n) ((58 + (3 * ((T 1) 57).toNat)) + 1) i) ((58 + (3 * ((T 1) 57).toNat)) + 2) v)))) Z hB hx hb hW.st (by omega) (by omega) (by omega) dX4_see_93 ?_
          rw [show stF (up T 1 (up (up (up (T 1) (58 + (3 * ((T 1) 57).toNat)) n) ((58 + (3 * ((T 1) 57).toNat)) + 1) i) ((58 + (3 * ((T 1) 57).toNat)) + 2) v)) 57 = (up (up (up (T 1) (58 + (3 * ((T 1) 57).toNat)) n) ((58 + (3 * ((T 1) 57).toNat)) + 1) i) ((58 + (3 * ((T 1) 57).toNat)) + 2) v) 57 from stF_lo _ (by omega)]
          refine ii_const hx hb dX4_see_94 ?_
          refine ii_add hx hb dX4_see_95 ?_
          refine r_iast (k := 57) Z hB hx hb hW.st hS (AA.me (by omega)) (by omega) (by omega) (by omega) dX4_see_96 (MW G K (up (up T 1 (up (up (up (T 1) (58 + (3 * ((T 1) 57).toNat)) n) ((58 + (3 * ((T 1) 57).toNat)) + 1) i) ((58 + (3 * ((T 1) 57).toNat)) + 2) v)) 1 (up (up (up (up (T 1) (58 + (3 * ((T 1) 57).toNat)) n) ((58 + (3 * ((T 1) 57).toNat)) + 1) i) ((58 + (3 * ((T 1) 57).toNat)) + 2) v) 57 (((up (up (up (T 1) (58 + (3 * ((T 1) 57).toNat)) n) ((58 + (3 * ((T 1) 57).toNat)) + 1) i) ((58 + (3 * ((T 1) 57).toNat)) + 2) v) 57) + 1)))) (fun H1 hz oq ha => hW.setS hI (by omega) oq ha) (fun H locs hW hS => ?_)
          have hW := hW.eqS (S' := (up T 1 (up (up (up (up (T 1) (58 + (3 * ((T 1) 57).toNat)) n) ((58 + (3 * ((T 1) 57).toNat)) + 1) i) ((58 + (3 * ((T 1) 57).toNat)) + 2) v) 57 (((up (up (up (T 1) (58 + (3 * ((T 1) 57).toNat)) n) ((58 + (3 * ((T 1) 57).toNat)) + 1) i) ((58 + (3 * ((T 1) 57).toNat)) + 2) v) 57) + 1)))) (by
              funext a
              by_cases h1 : a = 1
              · subst h1; rfl
              simp only [up, if_neg h1])
          refine lv_aload_n hx hb dX4_see_97 rfl (lv_at hl 1 rfl) ?_
          refine r_get (ci := 4) (k := 0) (v := .ref (K 1)) (C := RX4) (T := TX4) (N := 29) Z hB hx hb hts hown rfl in_X4 hW.obj (by decide) q978 rfl dX4_see_98 ?_
          refine ii_bipush hx hb dX4_see_101 (by decide) ?_
          refine r_iald (k := 57) (f := (stF (up T 1 (up (up (up (up (T 1) (58 + (3 * ((T 1) 57).toNat)) n) ((58 + (3 * ((T 1) 57).toNat)) + 1) i) ((58 + (3 * ((T 1) 57).toNat)) + 2) v) 57 (((up (up (up (T 1) (58 + (3 * ((T 1) 57).toNat)) n) ((58 + (3 * ((T 1) 57).toNat)) + 1) i) ((58 + (3 * ((T 1) 57).toNat)) + 2) v) 57) + 1))))) Z hB hx hb hW.st (by omega) (by omega) (by omega) dX4_see_103 ?_
          rw [show stF (up T 1 (up (up (up (up (T 1) (58 + (3 * ((T 1) 57).toNat)) n) ((58 + (3 * ((T 1) 57).toNat)) + 1) i) ((58 + (3 * ((T 1) 57).toNat)) + 2) v) 57 (((up (up (up (T 1) (58 + (3 * ((T 1) 57).toNat)) n) ((58 + (3 * ((T 1) 57).toNat)) + 1) i) ((58 + (3 * ((T 1) 57).toNat)) + 2) v) 57) + 1))) 57 = (up (up (up (up (T 1) (58 + (3 * ((T 1) 57).toNat)) n) ((58 + (3 * ((T 1) 57).toNat)) + 1) i) ((58 + (3 * ((T 1) 57).toNat)) + 2) v) 57 (((up (up (up (T 1) (58 + (3 * ((T 1) 57).toNat)) n) ((58 + (3 * ((T 1) 57).toNat)) + 1) i) ((58 + (3 * ((T 1) 57).toNat)) + 2) v) 57) + 1)) 57 from stF_lo _ (by omega)]
          have hpw9 : (MW G K (up T 1 (mseeF (T 1) n i v))) H := (by rw [show mseeF (T 1) n i v = (up (up (up (up (T 1) (58 + (3 * ((T 1) 57).toNat)) n) ((58 + (3 * ((T 1) 57).toNat)) + 1) i) ((58 + (3 * ((T 1) 57).toNat)) + 2) v) 57 (((up (up (up (T 1) (58 + (3 * ((T 1) 57).toNat)) n) ((58 + (3 * ((T 1) 57).toNat)) + 1) i) ((58 + (3 * ((T 1) 57).toNat)) + 2) v) 57) + 1)) by unfold mseeF; rw [if_neg (by omega), up_n _ _ (by omega), up_n _ _ (by omega), up_n _ _ (by omega)]]; exact hW)
          have he9 : ((up (up (up (up (T 1) (58 + (3 * ((T 1) 57).toNat)) n) ((58 + (3 * ((T 1) 57).toNat)) + 1) i) ((58 + (3 * ((T 1) 57).toNat)) + 2) v) 57 (((up (up (up (T 1) (58 + (3 * ((T 1) 57).toNat)) n) ((58 + (3 * ((T 1) 57).toNat)) + 1) i) ((58 + (3 * ((T 1) 57).toNat)) + 2) v) 57) + 1)) 57) = (mseeA (T 1) n i v) := by unfold mseeA; rw [if_neg (by omega), if_neg (by omega), up_s, up_n _ _ (by omega), up_n _ _ (by omega), up_n _ _ (by omega)]
          exact W.iret hx hb hr (fun t ht hW9 => ⟨⟨_, (), rfl, congrArg iI he9, by show (MW G K (up T 1 (mseeF (T 1) n i v))) t.heap; rw [ht]; exact hpw9⟩, hS.F ht⟩) hS.2.2 dX4_see_104
        · -- 38 -> 41
          refine ii_bipush hx hb dX4_see_41 (by decide) ?_
          have hpw9 : (MW G K (up T 1 (mseeF (T 1) n i v))) s.heap := (by rw [show mseeF (T 1) n i v = T 1 by unfold mseeF; exact if_pos (by omega), show up T 1 (T 1) = T from up_id T 1]; exact hW)
          have he9 : (-3) = (mseeA (T 1) n i v) := by unfold mseeA; (repeat' split) <;> first | rfl | omega
          exact W.iret hx hb hr (fun t ht hW9 => ⟨⟨_, (), rfl, congrArg iI he9, by show (MW G K (up T 1 (mseeF (T 1) n i v))) t.heap; rw [ht]; exact hpw9⟩, hS.F ht⟩) hS.2.2 dX4_see_43
      · -- 24 -> 27
        refine ii_const hx hb dX4_see_27 ?_
        have hpw9 : (MW G K (up T 1 (mseeF (T 1) n i v))) s.heap := (by rw [show mseeF (T 1) n i v = T 1 by unfold mseeF; exact if_pos (by omega), show up T 1 (T 1) = T from up_id T 1]; exact hW)
        have he9 : (-1) = (mseeA (T 1) n i v) := by unfold mseeA; (repeat' split) <;> first | rfl | omega
        exact W.iret hx hb hr (fun t ht hW9 => ⟨⟨_, (), rfl, congrArg iI he9, by show (MW G K (up T 1 (mseeF (T 1) n i v))) t.heap; rw [ht]; exact hpw9⟩, hS.F ht⟩) hS.2.2 dX4_see_28

set_option maxHeartbeats 1000000 in
set_option maxRecDepth 100000 in
theorem mX4_forget {l : Launch} {G : GG} {s0 : State} {b0 : Nat} (Z : ZZ l G s0 b0) (K : Nat → Nat) (hI : Own s0 K 12) (T : Sta) (F : Nat → Int) (eF : T 1 = F) (hF : WF F) (hs57 : 0 ≤ F 57 ∧ F 57 ≤ 6) (n : Int) (hn : inR n) (sz : Nat) : Met l yX4_forget (ws_ yX4_forget cX4_forget 2 (some .int)) ({ frames := 1, cells := 0, slots := 0, locals := 25 } : Room) (pcM s0 sz (MW G K T) [.ref (K 0), .int (iI n)]) (mI (mforgetA F n) (MW G K (up T 1 (mforgetF F n))) (AA K 12 sz)) 0 0 (AA K 12 sz) := by
  refine Met.ofW (cc := cX4_forget) (maxL := 2) (ret := (some .int)) (by decide) rfl ?_
  intro p e s m args below meth c s₁ B hml hv
  obtain ⟨rfl, hsz, hW, hB⟩ := hv
  subst hsz
  have hx := B.exec
  have hb := B.bytes
  have hr := B.returns
  have hts := atoms_spec (ws := (ws_ yX4_forget cX4_forget 2 (some .int))) B.pre
  have hts : ∀ w ∈ lw_all, w.before _ s = true := fun w h => hts w (List.mem_cons_of_mem _ h)
  have hown : s.vm.findClass RX4 = some m.cls := findClass_of_methodNamed B.named
  have hlocks := B.notSynchronized
  have hN := AA.old hI hB
  have hS : va_S (AA K 12 s.heap.size) s.heap s.heap [] := va_S.rf
  have hl := lv_entry ([.ref (K 0), .int (iI n)]) (n := 2) (Nat.le_of_ble_eq_true rfl)
  rw [lg_entry_eq]
  generalize (lg_sl ([.ref (K 0), .int (iI n)]) ++ List.replicate (2 - (lg_sl ([.ref (K 0), .int (iI n)])).length) Slot.unset).toArray = ls at hl ⊢
  have hl : lv_has ls 2 [(0, .ref (K 0)), (1, .int (iI n))] := hl
  subst eF
  refine lv_iload_n hx hb dX4_forget_0 rfl (lv_at hl 1 rfl) ?_
  refine ii_i2l hx hb (by omega) dX4_forget_1 ?_
  refine ii_lconst (z := 0) hx hb dX4_forget_2 rfl ?_
  refine lv_aload_n hx hb dX4_forget_3 rfl (lv_at hl 0 rfl) ?_
  refine r_get (ci := 4) (k := 0) (v := .ref (K 1)) (C := RX4) (T := TX4) (N := 29) Z hB hx hb hts hown rfl in_X4 hW.obj (by decide) q978 rfl dX4_forget_4 ?_
  refine ii_bipush hx hb dX4_forget_7 (by decide) ?_
  refine r_iald (k := 57) (f := (stF T)) Z hB hx hb hW.st (by omega) (by omega) (by omega) dX4_forget_9 ?_
  rw [show stF T 57 = (T 1) 57 from stF_lo _ (by omega)]
  refine ii_i2l hx hb (by omega) dX4_forget_10 ?_
  refine cqI (va_runS (As := [.long (lI n), .long (lI 0), .long (lI ((T 1) 57))]) (rest := []) ⟨hx, hb, hml, hown, hts⟩ (mX4_in Z n (by omega) 0 (by omega) ((T 1) 57) (by omega)) (va_cwS 3 hts (lw_S q1072 q1073 q83 q1074) rfl rfl rfl (by decide +kernel) ⟨Nat.le_of_ble_eq_true rfl, Nat.le_of_ble_eq_true rfl⟩) (psR (BornH.S hB hN hS) trivial) rfl rfl hl.1 rfl (lv_room (Nat.le_of_ble_eq_true rfl)) dX4_forget_11 ⟨Nat.zero_le _, Nat.zero_le _⟩) ?_
  refine bb_if_eq (P := 0 ≤ n ∧ n ≤ ((T 1) 57)) (tgt := 27) hx hb dX4_forget_14 (by decide) (fun c_1 => ?_) (fun c_1 => ?_)
  · -- 14 -> 27
    refine ii_const hx hb dX4_forget_27 ?_
    have hpw9 : (MW G K (up T 1 (mforgetF (T 1) n))) s.heap := (hW.eqS (show T = up T 1 (mforgetF (T 1) n) by rw [show mforgetF (T 1) n = T 1 by unfold mforgetF; (repeat' split) <;> first | rfl | omega]; exact (up_id T 1).symm))
    have he9 : (-1) = (mforgetA (T 1) n) := by unfold mforgetA; (repeat' split) <;> first | rfl | omega
    exact W.iret hx hb hr (fun t ht hW9 => ⟨⟨_, (), rfl, congrArg iI he9, by show (MW G K (up T 1 (mforgetF (T 1) n))) t.heap; rw [ht]; exact hpw9⟩, hS.F ht⟩) hS.2.2 dX4_forget_28
  · -- 14 -> 17
    refine lv_aload_n hx hb dX4_forget_17 rfl (lv_at hl 0 rfl) ?_
    refine ii_bipush hx hb dX4_forget_18 (by decide) ?_
    refine lv_iload_n hx hb dX4_forget_20 rfl (lv_at hl 1 rfl) ?_
    refine cmI (va_runV (As := [.int (iI 57), .int (iI n)]) (rest := []) ⟨hx, hb, hml, hown, hts⟩ (mX4_becomes Z K hI T (T 1) rfl 57 57 (by omega) (by omega) n s.heap.size) (cwV 2 hts (lw_V q1231 q1233 qs60 q83 q1234) rfl rfl rfl (by decide +kernel) ⟨Nat.le_of_ble_eq_true rfl, Nat.le_of_ble_eq_true rfl⟩) (pvM (BornH.S hB hN hS) (OBJ.recv Z hB hW.obj (q := (RX4, TX4, 29)) rfl) hW) rfl rfl hl.1 rfl (lv_room (Nat.le_of_ble_eq_true rfl)) dX4_forget_21 ⟨Nat.zero_le _, Nat.zero_le _⟩) hS (AA.le hS.1) (fun H1 locs hW1 hz1 hk1 hS => ?_)
    have hW := hW1
    clear hW1 hk1 hz1
    generalize H1 = H at hW hS ⊢
    refine lv_goto (tgt := 28) hx hb dX4_forget_24 (by decide) ?_
    have hpw9 : (MW G K (up T 1 (mforgetF (T 1) n))) H := (hW.eqS (congrArg (up T 1) (show (up (T 1) 57 n) = mforgetF (T 1) n by unfold mforgetF; (repeat' split) <;> first | rfl | omega)))
    have he9 : ((T 1) 57) = (mforgetA (T 1) n) := by unfold mforgetA; (repeat' split) <;> first | rfl | omega
    exact W.iret hx hb hr (fun t ht hW9 => ⟨⟨_, (), rfl, congrArg iI he9, by show (MW G K (up T 1 (mforgetF (T 1) n))) t.heap; rw [ht]; exact hpw9⟩, hS.F ht⟩) hS.2.2 dX4_forget_28

set_option maxHeartbeats 1000000 in
set_option maxRecDepth 100000 in
theorem mX4_isSoWith {l : Launch} {G : GG} {s0 : State} {b0 : Nat} (Z : ZZ l G s0 b0) (K : Nat → Nat) (hI : Own s0 K 12) (T : Sta) (F : Nat → Int) (eF : T 1 = F) (hF : WF F) (hD : Dia F) (hd : F 54 ≤ 2000) (hsm : SeenM F) (x9 : Nat) (zx : Int) (hzx : zx = (x9 : Int)) (hx35 : x9 < 35) (v : Int) (hv : inR v) (hF2 : WF (up F x9 v)) (hD2 : Dia (up F x9 v)) (sz : Nat) : Met l yX4_isSoWith (ws_ yX4_isSoWith cX4_isSoWith 6 (some .boolean)) ({ frames := 5, cells := 0, slots := 0, locals := 119 } : Room) (pcM s0 sz (MW G K T) [.ref (K 0), .int (iI zx), .int (iI v)]) (mI (b2 (snS (up F x9 v) (sawF F) (F 57).toNat 21 = 1)) (MW G K (up (up T 2 (daysS (up F x9 v) 21)) 6 (bkF (up F x9 v) (T 6) 0 (F 76).toNat 21 0))) (AA K 12 sz)) 0 0 (AA K 12 sz) := by
  refine Met.ofW (cc := cX4_isSoWith) (maxL := 6) (ret := (some .boolean)) (by decide) rfl ?_
  intro p e s m args below meth c s₁ B hml hv
  obtain ⟨rfl, hsz, hW, hB⟩ := hv
  subst hsz
  have hx := B.exec
  have hb := B.bytes
  have hr := B.returns
  have hts := atoms_spec (ws := (ws_ yX4_isSoWith cX4_isSoWith 6 (some .boolean))) B.pre
  have hts : ∀ w ∈ lw_all, w.before _ s = true := fun w h => hts w (List.mem_cons_of_mem _ h)
  have hown : s.vm.findClass RX4 = some m.cls := findClass_of_methodNamed B.named
  have hlocks := B.notSynchronized
  have hN := AA.old hI hB
  have hS : va_S (AA K 12 s.heap.size) s.heap s.heap [] := va_S.rf
  have hl := lv_entry ([.ref (K 0), .int (iI zx), .int (iI v)]) (n := 6) (Nat.le_of_ble_eq_true rfl)
  rw [lg_entry_eq]
  generalize (lg_sl ([.ref (K 0), .int (iI zx), .int (iI v)]) ++ List.replicate (6 - (lg_sl ([.ref (K 0), .int (iI zx), .int (iI v)])).length) Slot.unset).toArray = ls at hl ⊢
  have hl : lv_has ls 6 [(0, .ref (K 0)), (1, .int (iI zx)), (2, .int (iI v))] := hl
  subst eF
  have hn5 := hF.n
  have hs57 := hsm.1
  have h76x : up (T 1) x9 v 76 = T 1 76 := up_n _ _ (by omega)
  have h54x : up (T 1) x9 v 54 = T 1 54 := up_n _ _ (by omega)
  refine lv_aload_n hx hb dX4_isSoWith_0 rfl (lv_at hl 0 rfl) ?_
  refine cmV (va_runV (As := []) (rest := []) ⟨hx, hb, hml, hown, hts⟩ (mX4_starts Z K hI T (T 1) rfl s.heap.size) (cwV 0 hts (lw_V q1151 q1153 qs48 q83 q1154) rfl rfl rfl (by decide +kernel) ⟨Nat.le_of_ble_eq_true rfl, Nat.le_of_ble_eq_true rfl⟩) (pvM (BornH.S hB hN hS) (OBJ.recv Z hB hW.obj (q := (RX4, TX4, 29)) rfl) hW) rfl rfl hl.1 rfl (lv_room (Nat.le_of_ble_eq_true rfl)) dX4_isSoWith_1 ⟨Nat.zero_le _, Nat.zero_le _⟩) hS (AA.le hS.1) (fun H1 locs hW1 hz1 hk1 hS => ?_)
  have hW := hW1
  clear hW1 hk1 hz1
  generalize H1 = H at hW hS ⊢
  refine lv_aload_n hx hb dX4_isSoWith_4 rfl (lv_at hl 0 rfl) ?_
  refine r_get (ci := 4) (k := 1) (v := .ref (K 2)) (C := RX4) (T := TX4) (N := 29) Z hB hx hb hts hown rfl in_X4 hW.obj (by decide) q979 rfl dX4_isSoWith_5 ?_
  refine lv_iload_n hx hb dX4_isSoWith_8 rfl (lv_at hl 1 rfl) ?_
  refine lv_iload_n hx hb dX4_isSoWith_9 rfl (lv_at hl 2 rfl) ?_
  refine r_iast (k := x9) Z hB hx hb hW.now hS (AA.me (by omega)) (by omega) (by omega) (by omega) dX4_isSoWith_10 (MW G K (up (up T 2 (T 1)) 2 (up (T 1) x9 v))) (fun H1 hz oq ha => hW.setA hI (j := 2) (by omega) (by omega) (fun h => absurd h (by omega)) oq ha) (fun H locs hW hS => ?_)
  have hW := hW.eqS (S' := (up T 2 (up (T 1) x9 v))) (by
      funext a
      by_cases h2 : a = 2
      · subst h2; rfl
      simp only [up, if_neg h2])
  refine ii_const hx hb dX4_isSoWith_11 ?_
  refine lv_istore_n (lv' := [(3, .int (iI 0)), (0, .ref (K 0)), (1, .int (iI zx)), (2, .int (iI v))]) hx hb dX4_isSoWith_12 rfl hl (by decide) rfl (fun ls hl => ?_)
  have loop_13 : ∀ (fu : Nat) (d : Nat) (zd : Int), (zd = (d : Int)) → (d ≤ 21) → (22 - d) < fu → ∀ (H : Heap) (locs : List Loc), (MW G K (up (up T 2 (daysS (up (T 1) x9 v) d)) 6 (bkF (up (T 1) x9 v) (T 6) 0 ((T 1) 76).toNat d 0))) H → va_S (AA K 12 s.heap.size) s.heap H locs → ∀ (ls : Array Slot), lv_has ls 6 [(3, .int (iI zd)), (0, .ref (K 0)), (1, .int (iI zx)), (2, .int (iI v))] → W p l e (headSpec (ws_ yX4_isSoWith cX4_isSoWith 6 (some .boolean)) ({ frames := 5, cells := 0, slots := 0, locals := 119 } : Room)).room s m ([.ref (K 0), .int (iI zx), .int (iI v)] : List Value).toArray below meth c H locs 0 0 (MQ below (mI (b2 (snS (up (T 1) x9 v) (sawF (T 1)) ((T 1) 57).toNat 21 = 1)) (MW G K (up (up T 2 (daysS (up (T 1) x9 v) 21)) 6 (bkF (up (T 1) x9 v) (T 6) 0 ((T 1) 76).toNat 21 0))) (AA K 12 s.heap.size)) ([.ref (K 0), .int (iI zx), .int (iI v)] : List Value).toArray s 0 0 (AA K 12 s.heap.size)) (F0 m 13 ls []) := by
    intro fu
    induction fu with
    | zero => intro d zd ezd hd21 hmu; exact absurd hmu (Nat.not_lt_zero _)
    | succ fu ih13 =>
      intro d zd ezd hd21 hmu H locs hW hS ls hl
      have hwd := daysS_wf hF2 d (by omega)
      have hDd := Dia.days hF2 hD2 d (by omega)
      have h76 : daysS (up (T 1) x9 v) d 76 = T 1 76 := (daysS_same hF2 (by omega) (by omega) (by omega) d (by omega)).trans h76x
      have hdd := (daysS_day hF2 d (by omega)).2
      refine lv_iload_n hx hb dX4_isSoWith_13 rfl (lv_at hl 0 rfl) ?_
      refine ii_bipush hx hb dX4_isSoWith_14 (by decide) ?_
      refine ii_icmp_gt (tgt := 65) hx hb dX4_isSoWith_16 (by decide) (by omega) (by omega) (fun c_1 => ?_) (fun c_1 => ?_)
      · -- 16 -> 65
        have ex_d : 21 = d := by omega
        subst ex_d
        refine ii_const hx hb dX4_isSoWith_65 ?_
        refine lv_istore_n (lv' := [(3, .int (iI 1)), (0, .ref (K 0)), (1, .int (iI zx)), (2, .int (iI v))]) hx hb dX4_isSoWith_66 rfl hl (by decide) rfl (fun ls hl => ?_)
        refine ii_const hx hb dX4_isSoWith_67 ?_
        refine lv_istore (lv' := [(4, .int (iI 0)), (3, .int (iI 1)), (0, .ref (K 0)), (1, .int (iI zx)), (2, .int (iI v))]) hx hb dX4_isSoWith_68 hl (by decide) rfl (fun ls hl => ?_)
        have loop_70 : ∀ (fu : Nat) (q : Nat) (zq : Int), (zq = (q : Int)) → (q ≤ ((T 1) 57).toNat) → (7 - q) < fu → ∀ (H : Heap) (locs : List Loc), (MW G K (up (up T 2 (daysS (up (T 1) x9 v) 21)) 6 (bkF (up (T 1) x9 v) (T 6) 0 ((T 1) 76).toNat 21 0))) H → va_S (AA K 12 s.heap.size) s.heap H locs → ∀ (ls : Array Slot), lv_has ls 6 [(4, .int (iI zq)), (3, .int (iI (msQ (bkF (up (T 1) x9 v) (T 6) 0 ((T 1) 76).toNat 21 0) (T 1) q))), (0, .ref (K 0)), (1, .int (iI zx)), (2, .int (iI v))] → W p l e (headSpec (ws_ yX4_isSoWith cX4_isSoWith 6 (some .boolean)) ({ frames := 5, cells := 0, slots := 0, locals := 119 } : Room)).room s m ([.ref (K 0), .int (iI zx), .int (iI v)] : List Value).toArray below meth c H locs 0 0 (MQ below (mI (b2 (snS (up (T 1) x9 v) (sawF (T 1)) ((T 1) 57).toNat 21 = 1)) (MW G K (up (up T 2 (daysS (up (T 1) x9 v) 21)) 6 (bkF (up (T 1) x9 v) (T 6) 0 ((T 1) 76).toNat 21 0))) (AA K 12 s.heap.size)) ([.ref (K 0), .int (iI zx), .int (iI v)] : List Value).toArray s 0 0 (AA K 12 s.heap.size)) (F0 m 70 ls []) := by
          intro fu
          induction fu with
          | zero => intro q zq ezq hq hmu; exact absurd hmu (Nat.not_lt_zero _)
          | succ fu ih70 =>
            intro q zq ezq hq hmu H locs hW hS ls hl
            have hmq := msQ_in (bkF (up (T 1) x9 v) (T 6) 0 ((T 1) 76).toNat 21 0) (T 1) q
            refine lv_iload hx hb dX4_isSoWith_70 (lv_at hl 0 rfl) ?_
            refine lv_aload_n hx hb dX4_isSoWith_72 rfl (lv_at hl 2 rfl) ?_
            refine r_get (ci := 4) (k := 0) (v := .ref (K 1)) (C := RX4) (T := TX4) (N := 29) Z hB hx hb hts hown rfl in_X4 hW.obj (by decide) q978 rfl dX4_isSoWith_73 ?_
            refine ii_bipush hx hb dX4_isSoWith_76 (by decide) ?_
            refine r_iald (k := 57) (f := (stF (up (up T 2 (daysS (up (T 1) x9 v) 21)) 6 (bkF (up (T 1) x9 v) (T 6) 0 ((T 1) 76).toNat 21 0)))) Z hB hx hb hW.st (by omega) (by omega) (by omega) dX4_isSoWith_78 ?_
            rw [show stF (up (up T 2 (daysS (up (T 1) x9 v) 21)) 6 (bkF (up (T 1) x9 v) (T 6) 0 ((T 1) 76).toNat 21 0)) 57 = (T 1) 57 from stF_lo _ (by omega)]
            refine ii_icmp_ge (tgt := 143) hx hb dX4_isSoWith_79 (by decide) (by omega) (by omega) (fun c_2 => ?_) (fun c_2 => ?_)
            · -- 79 -> 143
              have ex_q : ((T 1) 57).toNat = q := by omega
              subst ex_q
              refine lv_iload_n hx hb dX4_isSoWith_143 rfl (lv_at hl 1 rfl) ?_
              rw [show iI (msQ (bkF (up (T 1) x9 v) (T 6) 0 ((T 1) 76).toNat 21 0) (T 1) ((T 1) 57).toNat) = iI (b2 ((msQ (bkF (up (T 1) x9 v) (T 6) 0 ((T 1) 76).toNat 21 0) (T 1) ((T 1) 57).toNat) = 1)) from congrArg iI (b2_of (msQ_in _ _ _))]
              have hpw9 : (MW G K (up (up T 2 (daysS (up (T 1) x9 v) 21)) 6 (bkF (up (T 1) x9 v) (T 6) 0 ((T 1) 76).toNat 21 0))) H := hW
              have he9 : (b2 ((msQ (bkF (up (T 1) x9 v) (T 6) 0 ((T 1) 76).toNat 21 0) (T 1) ((T 1) 57).toNat) = 1)) = (b2 (snS (up (T 1) x9 v) (sawF (T 1)) ((T 1) 57).toNat 21 = 1)) := b2_iff (so_eq hn5 hsm)
              exact W.zret (ty := .boolean) hx hb hr (b2_nar _) (fun t ht hW9 => ⟨⟨_, (), rfl, congrArg iI he9, by show (MW G K (up (up T 2 (daysS (up (T 1) x9 v) 21)) 6 (bkF (up (T 1) x9 v) (T 6) 0 ((T 1) 76).toNat 21 0))) t.heap; rw [ht]; exact hpw9⟩, hS.F ht⟩) hS.2.2 dX4_isSoWith_144
            · -- 79 -> 82
              refine ii_bipush hx hb dX4_isSoWith_82 (by decide) ?_
              refine ii_const hx hb dX4_isSoWith_84 ?_
              refine lv_iload hx hb dX4_isSoWith_85 (lv_at hl 0 rfl) ?_
              refine ii_mul hx hb dX4_isSoWith_87 ?_
              refine ii_add hx hb dX4_isSoWith_88 ?_
              refine lv_istore (lv' := [(5, .int (iI (58 + (3 * zq)))), (4, .int (iI zq)), (3, .int (iI (msQ (bkF (up (T 1) x9 v) (T 6) 0 ((T 1) 76).toNat 21 0) (T 1) q))), (0, .ref (K 0)), (1, .int (iI zx)), (2, .int (iI v))]) hx hb dX4_isSoWith_89 hl (by decide) rfl (fun ls hl => ?_)
              refine lv_iload_n hx hb dX4_isSoWith_91 rfl (lv_at hl 2 rfl) ?_
              refine ii_if_eq (tgt := 135) hx hb dX4_isSoWith_92 (by decide) (by omega) (fun c_3 => ?_) (fun c_3 => ?_)
              · -- 92 -> 135
                refine ii_const hx hb dX4_isSoWith_135 ?_
                refine lv_istore_n (lv' := [(3, .int (iI 0)), (5, .int (iI (58 + (3 * zq)))), (4, .int (iI zq)), (0, .ref (K 0)), (1, .int (iI zx)), (2, .int (iI v))]) hx hb dX4_isSoWith_136 rfl hl (by decide) rfl (fun ls hl => ?_)
                refine ii_iinc (k := 2) (lv' := [(4, .int (iI (zq + 1))), (3, .int (iI 0)), (5, .int (iI (58 + (3 * zq)))), (0, .ref (K 0)), (1, .int (iI zx)), (2, .int (iI v))]) hx hb dX4_isSoWith_137 hl rfl (by decide) rfl (fun ls hl => ?_)
                refine lv_goto (tgt := 70) hx hb dX4_isSoWith_140 (by decide) ?_
                have e_4 : (msQ (bkF (up (T 1) x9 v) (T 6) 0 ((T 1) 76).toNat 21 0) (T 1) (q + 1)) = 0 := by simp only [msQ]; (repeat' split) <;> omega
                exact ih70 (q + 1) (zq + 1) (by omega) (by omega) (by omega) _ _ hW hS ls (by rw [e_4]; exact lv_sub hl [0, 1, 3, 4, 5] rfl)
              · -- 92 -> 95
                have hq9 := wr_in (B := T 6) hn5 hsm hF2 (by omega) (q := q) (by omega)
                have hsq := hsm.2 q (by omega)
                refine lv_aload_n hx hb dX4_isSoWith_95 rfl (lv_at hl 3 rfl) ?_
                refine r_get (ci := 4) (k := 22) (v := .ref (K 6)) (C := RX4) (T := TX4) (N := 29) Z hB hx hb hts hown rfl in_X4 hW.obj (by decide) q1000 rfl dX4_isSoWith_96 ?_
                refine ii_const hx hb dX4_isSoWith_99 ?_
                refine lv_aload_n hx hb dX4_isSoWith_100 rfl (lv_at hl 3 rfl) ?_
                refine r_get (ci := 4) (k := 0) (v := .ref (K 1)) (C := RX4) (T := TX4) (N := 29) Z hB hx hb hts hown rfl in_X4 hW.obj (by decide) q978 rfl dX4_isSoWith_101 ?_
                refine lv_iload hx hb dX4_isSoWith_104 (lv_at hl 0 rfl) ?_
                refine r_iald (k := (58 + (3 * q))) (f := (stF (up (up T 2 (daysS (up (T 1) x9 v) 21)) 6 (bkF (up (T 1) x9 v) (T 6) 0 ((T 1) 76).toNat 21 0)))) Z hB hx hb hW.st (by omega) (by omega) (by omega) dX4_isSoWith_106 ?_
                rw [show stF (up (up T 2 (daysS (up (T 1) x9 v) 21)) 6 (bkF (up (T 1) x9 v) (T 6) 0 ((T 1) 76).toNat 21 0)) (58 + (3 * q)) = (T 1) (58 + (3 * q)) from stF_lo _ (by omega)]
                refine ii_mul hx hb dX4_isSoWith_107 ?_
                refine lv_aload_n hx hb dX4_isSoWith_108 rfl (lv_at hl 3 rfl) ?_
                refine r_get (ci := 4) (k := 0) (v := .ref (K 1)) (C := RX4) (T := TX4) (N := 29) Z hB hx hb hts hown rfl in_X4 hW.obj (by decide) q978 rfl dX4_isSoWith_109 ?_
                refine lv_iload hx hb dX4_isSoWith_112 (lv_at hl 0 rfl) ?_
                refine ii_const hx hb dX4_isSoWith_114 ?_
                refine ii_add hx hb dX4_isSoWith_115 ?_
                refine r_iald (k := ((58 + (3 * q)) + 1)) (f := (stF (up (up T 2 (daysS (up (T 1) x9 v) 21)) 6 (bkF (up (T 1) x9 v) (T 6) 0 ((T 1) 76).toNat 21 0)))) Z hB hx hb hW.st (by omega) (by omega) (by omega) dX4_isSoWith_116 ?_
                rw [show stF (up (up T 2 (daysS (up (T 1) x9 v) 21)) 6 (bkF (up (T 1) x9 v) (T 6) 0 ((T 1) 76).toNat 21 0)) ((58 + (3 * q)) + 1) = (T 1) ((58 + (3 * q)) + 1) from stF_lo _ (by omega)]
                refine ii_add hx hb dX4_isSoWith_117 ?_
                refine r_iald (k := ((5 * ((T 1) (58 + (3 * q)))) + ((T 1) ((58 + (3 * q)) + 1))).toNat) (f := (bkF (up (T 1) x9 v) (T 6) 0 ((T 1) 76).toNat 21 0)) Z hB hx hb hW.were (by omega) (by omega) (by omega) dX4_isSoWith_118 ?_
                refine lv_aload_n hx hb dX4_isSoWith_119 rfl (lv_at hl 3 rfl) ?_
                refine r_get (ci := 4) (k := 0) (v := .ref (K 1)) (C := RX4) (T := TX4) (N := 29) Z hB hx hb hts hown rfl in_X4 hW.obj (by decide) q978 rfl dX4_isSoWith_120 ?_
                refine lv_iload hx hb dX4_isSoWith_123 (lv_at hl 0 rfl) ?_
                refine ii_const hx hb dX4_isSoWith_125 ?_
                refine ii_add hx hb dX4_isSoWith_126 ?_
                refine r_iald (k := ((58 + (3 * q)) + 2)) (f := (stF (up (up T 2 (daysS (up (T 1) x9 v) 21)) 6 (bkF (up (T 1) x9 v) (T 6) 0 ((T 1) 76).toNat 21 0)))) Z hB hx hb hW.st (by omega) (by omega) (by omega) dX4_isSoWith_127 ?_
                rw [show stF (up (up T 2 (daysS (up (T 1) x9 v) 21)) 6 (bkF (up (T 1) x9 v) (T 6) 0 ((T 1) 76).toNat 21 0)) ((58 + (3 * q)) + 2) = (T 1) ((58 + (3 * q)) + 2) from stF_lo _ (by omega)]
                refine ii_icmp_ne (tgt := 135) hx hb dX4_isSoWith_128 (by decide) (by omega) (by omega) (fun c_5 => ?_) (fun c_5 => ?_)
                · -- 128 -> 135
                  refine ii_const hx hb dX4_isSoWith_135 ?_
                  refine lv_istore_n (lv' := [(3, .int (iI 0)), (5, .int (iI (58 + (3 * zq)))), (4, .int (iI zq)), (0, .ref (K 0)), (1, .int (iI zx)), (2, .int (iI v))]) hx hb dX4_isSoWith_136 rfl hl (by decide) rfl (fun ls hl => ?_)
                  refine ii_iinc (k := 2) (lv' := [(4, .int (iI (zq + 1))), (3, .int (iI 0)), (5, .int (iI (58 + (3 * zq)))), (0, .ref (K 0)), (1, .int (iI zx)), (2, .int (iI v))]) hx hb dX4_isSoWith_137 hl rfl (by decide) rfl (fun ls hl => ?_)
                  refine lv_goto (tgt := 70) hx hb dX4_isSoWith_140 (by decide) ?_
                  have e_6 : (msQ (bkF (up (T 1) x9 v) (T 6) 0 ((T 1) 76).toNat 21 0) (T 1) (q + 1)) = 0 := by simp only [msQ]; (repeat' split) <;> omega
                  exact ih70 (q + 1) (zq + 1) (by omega) (by omega) (by omega) _ _ hW hS ls (by rw [e_6]; exact lv_sub hl [0, 1, 3, 4, 5] rfl)
                · -- 128 -> 131
                  refine ii_const hx hb dX4_isSoWith_131 ?_
                  refine lv_goto (tgt := 136) hx hb dX4_isSoWith_132 (by decide) ?_
                  refine lv_istore_n (lv' := [(3, .int (iI 1)), (5, .int (iI (58 + (3 * zq)))), (4, .int (iI zq)), (0, .ref (K 0)), (1, .int (iI zx)), (2, .int (iI v))]) hx hb dX4_isSoWith_136 rfl hl (by decide) rfl (fun ls hl => ?_)
                  refine ii_iinc (k := 2) (lv' := [(4, .int (iI (zq + 1))), (3, .int (iI 1)), (5, .int (iI (58 + (3 * zq)))), (0, .ref (K 0)), (1, .int (iI zx)), (2, .int (iI v))]) hx hb dX4_isSoWith_137 hl rfl (by decide) rfl (fun ls hl => ?_)
                  refine lv_goto (tgt := 70) hx hb dX4_isSoWith_140 (by decide) ?_
                  have e_7 : (msQ (bkF (up (T 1) x9 v) (T 6) 0 ((T 1) 76).toNat 21 0) (T 1) (q + 1)) = 1 := by simp only [msQ]; (repeat' split) <;> omega
                  exact ih70 (q + 1) (zq + 1) (by omega) (by omega) (by omega) _ _ hW hS ls (by rw [e_7]; exact lv_sub hl [0, 1, 3, 4, 5] rfl)
        have e_8 : (msQ (bkF (up (T 1) x9 v) (T 6) 0 ((T 1) 76).toNat 21 0) (T 1) 0) = 1 := rfl
        exact loop_70 _ 0 0 (by omega) (by omega) (Nat.lt_succ_self _) _ _ hW hS ls (by rw [e_8]; exact lv_sub hl [0, 1, 2, 3, 4] rfl)
      · -- 16 -> 19
        refine ii_const hx hb dX4_isSoWith_19 ?_
        refine lv_istore (lv' := [(4, .int (iI 0)), (3, .int (iI zd)), (0, .ref (K 0)), (1, .int (iI zx)), (2, .int (iI v))]) hx hb dX4_isSoWith_20 hl (by decide) rfl (fun ls hl => ?_)
        have loop_22 : ∀ (fu : Nat) (i : Nat) (zi : Int), (zi = (i : Int)) → (i ≤ ((T 1) 76).toNat) → (6 - i) < fu → ∀ (H : Heap) (locs : List Loc), (MW G K (up (up T 2 (daysS (up (T 1) x9 v) d)) 6 (bkF (up (T 1) x9 v) (T 6) 0 ((T 1) 76).toNat d i))) H → va_S (AA K 12 s.heap.size) s.heap H locs → ∀ (ls : Array Slot), lv_has ls 6 [(4, .int (iI zi)), (3, .int (iI zd)), (0, .ref (K 0)), (1, .int (iI zx)), (2, .int (iI v))] → W p l e (headSpec (ws_ yX4_isSoWith cX4_isSoWith 6 (some .boolean)) ({ frames := 5, cells := 0, slots := 0, locals := 119 } : Room)).room s m ([.ref (K 0), .int (iI zx), .int (iI v)] : List Value).toArray below meth c H locs 0 0 (MQ below (mI (b2 (snS (up (T 1) x9 v) (sawF (T 1)) ((T 1) 57).toNat 21 = 1)) (MW G K (up (up T 2 (daysS (up (T 1) x9 v) 21)) 6 (bkF (up (T 1) x9 v) (T 6) 0 ((T 1) 76).toNat 21 0))) (AA K 12 s.heap.size)) ([.ref (K 0), .int (iI zx), .int (iI v)] : List Value).toArray s 0 0 (AA K 12 s.heap.size)) (F0 m 22 ls []) := by
          intro fu
          induction fu with
          | zero => intro i zi ezi hi hmu; exact absurd hmu (Nat.not_lt_zero _)
          | succ fu ih22 =>
            intro i zi ezi hi hmu H locs hW hS ls hl
            refine lv_iload hx hb dX4_isSoWith_22 (lv_at hl 0 rfl) ?_
            refine lv_aload_n hx hb dX4_isSoWith_24 rfl (lv_at hl 2 rfl) ?_
            refine r_get (ci := 4) (k := 3) (v := .int (iI ((T 1) 76))) (C := RX4) (T := TX4) (N := 29) Z hB hx hb hts hown rfl in_X4 hW.obj (by decide) q981 rfl dX4_isSoWith_25 ?_
            refine ii_icmp_ge (tgt := 54) hx hb dX4_isSoWith_28 (by decide) (by omega) (by omega) (fun c_9 => ?_) (fun c_9 => ?_)
            · -- 28 -> 54
              have ex_i : ((T 1) 76).toNat = i := by omega
              subst ex_i
              rw [bkF_r (by omega)] at hW
              refine lv_aload_n hx hb dX4_isSoWith_54 rfl (lv_at hl 2 rfl) ?_
              refine ii_const hx hb dX4_isSoWith_55 ?_
              have hn_10 : (T 1) 76 = (daysS (up (T 1) x9 v) d) 76 := by first | rfl | omega
              refine cmV (va_runV (As := [.int (iI 0)]) (rest := []) ⟨hx, hb, hml, hown, hts⟩ (mX4_dayGoes Z K hI (up (up T 2 (daysS (up (T 1) x9 v) d)) 6 (bkF (up (T 1) x9 v) (T 6) 0 ((T 1) 76).toNat (d + 1) 0)) (daysS (up (T 1) x9 v) d) rfl hwd hn_10 0 (by omega) hDd H.size) (cwV 1 hts (lw_V q1273 q1275 qs64 q83 q1276) rfl rfl rfl (by decide +kernel) ⟨Nat.le_of_ble_eq_true rfl, Nat.le_of_ble_eq_true rfl⟩) (pvM (BornH.S hB hN hS) (OBJ.recv Z hB hW.obj (q := (RX4, TX4, 29)) rfl) hW) rfl rfl hl.1 rfl (lv_room (Nat.le_of_ble_eq_true rfl)) dX4_isSoWith_56 ⟨Nat.zero_le _, Nat.zero_le _⟩) hS (AA.le hS.1) (fun H1 locs hW1 hz1 hk1 hS => ?_)
              have hW := hW1
              clear hW1 hk1 hz1
              generalize H1 = H at hW hS ⊢
              have hW := hW.eqS (S' := (up (up T 2 (dayS (daysS (up (T 1) x9 v) d))) 6 (bkF (up (T 1) x9 v) (T 6) 0 ((T 1) 76).toNat (d + 1) 0))) (by
                  funext a
                  by_cases h2 : a = 2
                  · subst h2; rfl
                  by_cases h6 : a = 6
                  · subst h6; rfl
                  simp only [up, if_neg h2, if_neg h6])
              refine ii_iinc (k := 1) (lv' := [(3, .int (iI (zd + 1))), (4, .int (iI zi)), (0, .ref (K 0)), (1, .int (iI zx)), (2, .int (iI v))]) hx hb dX4_isSoWith_59 hl rfl (by decide) rfl (fun ls hl => ?_)
              refine lv_goto (tgt := 13) hx hb dX4_isSoWith_62 (by decide) ?_
              exact ih13 (d + 1) (zd + 1) (by omega) (by omega) (by omega) _ _ hW hS ls (lv_sub hl [0, 2, 3, 4] rfl)
            · -- 28 -> 31
              refine lv_aload_n hx hb dX4_isSoWith_31 rfl (lv_at hl 2 rfl) ?_
              refine r_get (ci := 4) (k := 22) (v := .ref (K 6)) (C := RX4) (T := TX4) (N := 29) Z hB hx hb hts hown rfl in_X4 hW.obj (by decide) q1000 rfl dX4_isSoWith_32 ?_
              refine ii_const hx hb dX4_isSoWith_35 ?_
              refine lv_iload_n hx hb dX4_isSoWith_36 rfl (lv_at hl 1 rfl) ?_
              refine ii_mul hx hb dX4_isSoWith_37 ?_
              refine lv_iload hx hb dX4_isSoWith_38 (lv_at hl 0 rfl) ?_
              refine ii_add hx hb dX4_isSoWith_40 ?_
              refine lv_aload_n hx hb dX4_isSoWith_41 rfl (lv_at hl 2 rfl) ?_
              refine lv_iload hx hb dX4_isSoWith_42 (lv_at hl 0 rfl) ?_
              have hn_11 : (T 1) 76 = (daysS (up (T 1) x9 v) d) 76 := by first | rfl | omega
              refine cqI (va_runV (As := [.int (iI zi)]) (rest := [.int (iI ((5 * zd) + zi)), .ref (K 6)]) ⟨hx, hb, hml, hown, hts⟩ (mX4_place Z K (up (up T 2 (daysS (up (T 1) x9 v) d)) 6 (bkF (up (T 1) x9 v) (T 6) 0 ((T 1) 76).toNat d i)) (daysS (up (T 1) x9 v) d) rfl hwd hn_11 i zi (by omega) (by omega)) (cwV 1 hts (lw_V q1163 q1165 qs51 q83 q1166) rfl rfl rfl (by decide +kernel) ⟨Nat.le_of_ble_eq_true rfl, Nat.le_of_ble_eq_true rfl⟩) (pvR (BornH.S hB hN hS) (OBJ.recv Z hB hW.obj (q := (RX4, TX4, 29)) rfl) hW) rfl rfl hl.1 rfl (lv_room (Nat.le_of_ble_eq_true rfl)) dX4_isSoWith_44 ⟨Nat.zero_le _, Nat.zero_le _⟩) ?_
              have b_771 := hwd.pl i (by omega)
              refine r_iast (k := ((5 * d) + i)) Z hB hx hb hW.were hS (AA.me (by omega)) (by omega) (by omega) (by omega) dX4_isSoWith_47 (MW G K (up (up (up T 2 (daysS (up (T 1) x9 v) d)) 6 (bkF (up (T 1) x9 v) (T 6) 0 ((T 1) 76).toNat d i)) 6 (up (bkF (up (T 1) x9 v) (T 6) 0 ((T 1) 76).toNat d i) ((5 * d) + i) ((daysS (up (T 1) x9 v) d) (2 * i + 1))))) (fun H1 hz oq ha => hW.setA hI (j := 6) (by omega) (by omega) (fun h => absurd h (by omega)) oq ha) (fun H locs hW hS => ?_)
              have hW := hW.eqS (S' := (up (up T 2 (daysS (up (T 1) x9 v) d)) 6 (up (bkF (up (T 1) x9 v) (T 6) 0 ((T 1) 76).toNat d i) ((5 * d) + i) ((daysS (up (T 1) x9 v) d) (2 * i + 1))))) (by
                  funext a
                  by_cases h2 : a = 2
                  · subst h2; rfl
                  by_cases h6 : a = 6
                  · subst h6; rfl
                  simp only [up, if_neg h2, if_neg h6])
              refine ii_iinc (k := 0) (lv' := [(4, .int (iI (zi + 1))), (3, .int (iI zd)), (0, .ref (K 0)), (1, .int (iI zx)), (2, .int (iI v))]) hx hb dX4_isSoWith_48 hl rfl (by decide) rfl (fun ls hl => ?_)
              refine lv_goto (tgt := 22) hx hb dX4_isSoWith_51 (by decide) ?_
              exact ih22 (i + 1) (zi + 1) (by omega) (by omega) (by omega) _ _ (by rw [← wrF_s (by omega) (by omega) (by omega)]; exact hW) hS ls (lv_sub hl [0, 1, 2, 3, 4] rfl)
        exact loop_22 _ 0 0 (by omega) (by omega) (Nat.lt_succ_self _) _ _ hW hS ls (lv_sub hl [0, 1, 2, 3, 4] rfl)
  exact loop_13 _ 0 0 (by omega) (by omega) (Nat.lt_succ_self _) _ _ (hW.eqS (by rw [bkF_0]; exact (up_id (up T 2 (up (T 1) x9 v)) 6).symm)) hS ls (lv_sub hl [0, 1, 2, 3] rfl)

set_option maxHeartbeats 1000000 in
set_option maxRecDepth 100000 in
theorem mX4_which {l : Launch} {G : GG} {s0 : State} {b0 : Nat} (Z : ZZ l G s0 b0) (K : Nat → Nat) (hI : Own s0 K 12) (T : Sta) (F : Nat → Int) (eF : T 1 = F) (hF : WF F) (hD : Dia F) (hd : F 54 ≤ 2000) (hsm : SeenM F) (x9 : Nat) (zx : Int) (hzx : zx = (x9 : Int)) (hx35 : x9 < 35) (hall : ∀ v : Int, 0 ≤ v → v ≤ 3 → WF (up F x9 v) ∧ Dia (up F x9 v)) (sz : Nat) : Met l yX4_which (ws_ yX4_which cX4_which 5 (some .int)) ({ frames := 6, cells := 0, slots := 0, locals := 144 } : Room) (pcM s0 sz (MW G K T) [.ref (K 0), .int (iI zx), .int (iI 3)]) (mI (suS F (sawF F) (F 57).toNat x9 4) (MWx G K T) (AA K 12 sz)) 0 0 (AA K 12 sz) := by
  refine Met.ofW (cc := cX4_which) (maxL := 5) (ret := (some .int)) (by decide) rfl ?_
  intro p e s m args below meth c s₁ B hml hv
  obtain ⟨rfl, hsz, hW, hB⟩ := hv
  subst hsz
  have hx := B.exec
  have hb := B.bytes
  have hr := B.returns
  have hts := atoms_spec (ws := (ws_ yX4_which cX4_which 5 (some .int))) B.pre
  have hts : ∀ w ∈ lw_all, w.before _ s = true := fun w h => hts w (List.mem_cons_of_mem _ h)
  have hown : s.vm.findClass RX4 = some m.cls := findClass_of_methodNamed B.named
  have hlocks := B.notSynchronized
  have hN := AA.old hI hB
  have hS : va_S (AA K 12 s.heap.size) s.heap s.heap [] := va_S.rf
  have hl := lv_entry ([.ref (K 0), .int (iI zx), .int (iI 3)]) (n := 5) (Nat.le_of_ble_eq_true rfl)
  rw [lg_entry_eq]
  generalize (lg_sl ([.ref (K 0), .int (iI zx), .int (iI 3)]) ++ List.replicate (5 - (lg_sl ([.ref (K 0), .int (iI zx), .int (iI 3)])).length) Slot.unset).toArray = ls at hl ⊢
  have hl : lv_has ls 5 [(0, .ref (K 0)), (1, .int (iI zx)), (2, .int (iI 3))] := hl
  subst eF
  refine ii_const hx hb dX4_which_0 ?_
  refine lv_istore_n (lv' := [(3, .int (iI 0)), (0, .ref (K 0)), (1, .int (iI zx)), (2, .int (iI 3))]) hx hb dX4_which_1 rfl hl (by decide) rfl (fun ls hl => ?_)
  refine ii_const hx hb dX4_which_2 ?_
  refine lv_istore (lv' := [(4, .int (iI 0)), (3, .int (iI 0)), (0, .ref (K 0)), (1, .int (iI zx)), (2, .int (iI 3))]) hx hb dX4_which_3 hl (by decide) rfl (fun ls hl => ?_)
  have loop_5 : ∀ (fu : Nat) (v : Nat) (zv : Int) (F2 : Nat → Int) (W2 : Nat → Int), (zv = (v : Int)) → (v ≤ 4) → (5 - v) < fu → ∀ (H : Heap) (locs : List Loc), (MW G K (up (up T 2 F2) 6 W2)) H → va_S (AA K 12 s.heap.size) s.heap H locs → ∀ (ls : Array Slot), lv_has ls 5 [(4, .int (iI zv)), (3, .int (iI (suS (T 1) (sawF (T 1)) ((T 1) 57).toNat x9 v))), (0, .ref (K 0)), (1, .int (iI zx)), (2, .int (iI 3))] → W p l e (headSpec (ws_ yX4_which cX4_which 5 (some .int)) ({ frames := 6, cells := 0, slots := 0, locals := 144 } : Room)).room s m ([.ref (K 0), .int (iI zx), .int (iI 3)] : List Value).toArray below meth c H locs 0 0 (MQ below (mI (suS (T 1) (sawF (T 1)) ((T 1) 57).toNat x9 4) (MWx G K T) (AA K 12 s.heap.size)) ([.ref (K 0), .int (iI zx), .int (iI 3)] : List Value).toArray s 0 0 (AA K 12 s.heap.size)) (F0 m 5 ls []) := by
    intro fu
    induction fu with
    | zero => intro v zv F2 W2 ezv hv4 hmu; exact absurd hmu (Nat.not_lt_zero _)
    | succ fu ih5 =>
      intro v zv F2 W2 ezv hv4 hmu H locs hW hS ls hl
      have hsu := suS_in (T 1) (sawF (T 1)) ((T 1) 57).toNat x9 v (by omega)
      have hpw : v < 4 → 1 ≤ pw2 zv.toNat ∧ pw2 zv.toNat ≤ 8 := by rw [show zv.toNat = v by omega]; exact fun h => pw2_3 h
      refine lv_iload hx hb dX4_which_5 (lv_at hl 0 rfl) ?_
      refine lv_iload_n hx hb dX4_which_7 rfl (lv_at hl 4 rfl) ?_
      refine ii_icmp_gt (tgt := 33) hx hb dX4_which_8 (by decide) (by omega) (by omega) (fun c_1 => ?_) (fun c_1 => ?_)
      · -- 8 -> 33
        have ex_v : 4 = v := by omega
        subst ex_v
        refine lv_iload_n hx hb dX4_which_33 rfl (lv_at hl 1 rfl) ?_
        have hpw9 : (MWx G K T) H := (hW.x (fun a h0 h2 h6 h7 h11 => by first | rfl | simp only [up, if_neg h0, if_neg h2, if_neg h6, if_neg h7, if_neg h11]) (fun j h1 h2 h3 h4 h5 => by first | rfl | simp [up, h1, h2]))
        have he9 : (suS (T 1) (sawF (T 1)) ((T 1) 57).toNat x9 4) = (suS (T 1) (sawF (T 1)) ((T 1) 57).toNat x9 4) := rfl
        exact W.iret hx hb hr (fun t ht hW9 => ⟨⟨_, (), rfl, congrArg iI he9, by show (MWx G K T) t.heap; rw [ht]; exact hpw9⟩, hS.F ht⟩) hS.2.2 dX4_which_34
      · -- 8 -> 11
        refine lv_iload_n hx hb dX4_which_11 rfl (lv_at hl 1 rfl) ?_
        refine lv_aload_n hx hb dX4_which_12 rfl (lv_at hl 2 rfl) ?_
        refine lv_iload_n hx hb dX4_which_13 rfl (lv_at hl 3 rfl) ?_
        refine lv_iload hx hb dX4_which_14 (lv_at hl 0 rfl) ?_
        have hav := hall zv (by omega) (by omega)
        have hpv := hpw (by omega)
        refine cmI (va_runV (As := [.int (iI zx), .int (iI zv)]) (rest := [.int (iI (suS (T 1) (sawF (T 1)) ((T 1) 57).toNat x9 v))]) ⟨hx, hb, hml, hown, hts⟩ (mX4_isSoWith Z K hI (up (up T 2 F2) 6 W2) (T 1) rfl hF hD hd hsm x9 zx (by omega) (by omega) zv (by omega) hav.1 hav.2 H.size) (cwV 2 hts (lw_V q1398 q1400 qs76 q83 q1401) rfl rfl rfl (by decide +kernel) ⟨Nat.le_of_ble_eq_true rfl, Nat.le_of_ble_eq_true rfl⟩) (pvM (BornH.S hB hN hS) (OBJ.recv Z hB hW.obj (q := (RX4, TX4, 29)) rfl) hW) rfl rfl hl.1 rfl (lv_room (Nat.le_of_ble_eq_true rfl)) dX4_which_16 ⟨Nat.zero_le _, Nat.zero_le _⟩) hS (AA.le hS.1) (fun H1 locs hW1 hz1 hk1 hS => ?_)
        have hW := hW1
        clear hW1 hk1 hz1
        generalize H1 = H at hW hS ⊢
        have hW := hW.eqS (S' := (up (up T 2 (daysS (up (T 1) x9 zv) 21)) 6 (bkF (up (T 1) x9 zv) W2 0 ((T 1) 76).toNat 21 0))) (by
            funext a
            by_cases h2 : a = 2
            · subst h2; rfl
            by_cases h6 : a = 6
            · subst h6; rfl
            simp only [up, if_neg h2, if_neg h6])
        generalize daysS (up (T 1) x9 zv) 21 = Fv_2 at hW
        generalize (bkF (up (T 1) x9 zv) W2 0 ((T 1) 76).toNat 21 0) = Wv_5 at hW
        refine cqI (va_runS (As := [.int (iI (b2 (snS (up (T 1) x9 zv) (sawF (T 1)) ((T 1) 57).toNat 21 = 1)))]) (rest := [.int (iI (suS (T 1) (sawF (T 1)) ((T 1) 57).toNat x9 v))]) ⟨hx, hb, hml, hown, hts⟩ (mX4_flag Z (b2 (snS (up (T 1) x9 zv) (sawF (T 1)) ((T 1) 57).toNat 21 = 1)) (b2_01 _)) (va_cwS 1 hts (lw_S q1182 q1183 q83 q1184) rfl rfl rfl (by decide +kernel) ⟨Nat.le_of_ble_eq_true rfl, Nat.le_of_ble_eq_true rfl⟩) (psR (BornH.S hB hN hS) trivial) rfl rfl hl.1 rfl (lv_room (Nat.le_of_ble_eq_true rfl)) dX4_which_19 ⟨Nat.zero_le _, Nat.zero_le _⟩) ?_
        refine lv_iload hx hb dX4_which_22 (lv_at hl 0 rfl) ?_
        refine ii_shlb (P := snS (up (T 1) x9 zv) (sawF (T 1)) ((T 1) 57).toNat 21 = 1) hx hb (by omega) dX4_which_24 ?_
        have b_6 : 0 ≤ (if snS (up (T 1) x9 zv) (sawF (T 1)) ((T 1) 57).toNat 21 = 1 then ((pw2 (zv).toNat : Nat) : Int) else 0) ∧ (if snS (up (T 1) x9 zv) (sawF (T 1)) ((T 1) 57).toNat 21 = 1 then ((pw2 (zv).toNat : Nat) : Int) else 0) < 16 := by split <;> omega
        refine ii_or hx hb (by omega) (by omega) dX4_which_25 ?_
        refine lv_istore_n (lv' := [(3, .int (iI (orZ (suS (T 1) (sawF (T 1)) ((T 1) 57).toNat x9 v) (if snS (up (T 1) x9 zv) (sawF (T 1)) ((T 1) 57).toNat 21 = 1 then ((pw2 (zv).toNat : Nat) : Int) else 0)))), (4, .int (iI zv)), (0, .ref (K 0)), (1, .int (iI zx)), (2, .int (iI 3))]) hx hb dX4_which_26 rfl hl (by decide) rfl (fun ls hl => ?_)
        refine ii_iinc (k := 1) (lv' := [(4, .int (iI (zv + 1))), (3, .int (iI (orZ (suS (T 1) (sawF (T 1)) ((T 1) 57).toNat x9 v) (if snS (up (T 1) x9 zv) (sawF (T 1)) ((T 1) 57).toNat 21 = 1 then ((pw2 (zv).toNat : Nat) : Int) else 0)))), (0, .ref (K 0)), (1, .int (iI zx)), (2, .int (iI 3))]) hx hb dX4_which_27 hl rfl (by decide) rfl (fun ls hl => ?_)
        refine lv_goto (tgt := 5) hx hb dX4_which_30 (by decide) ?_
        have e_7 : (suS (T 1) (sawF (T 1)) ((T 1) 57).toNat x9 (v + 1)) = (orZ (suS (T 1) (sawF (T 1)) ((T 1) 57).toNat x9 v) (if snS (up (T 1) x9 zv) (sawF (T 1)) ((T 1) 57).toNat 21 = 1 then ((pw2 (zv).toNat : Nat) : Int) else 0)) := by subst ezv; simp only [suS, Int.toNat_natCast]
        exact ih5 (v + 1) (zv + 1) Fv_2 Wv_5 (by omega) (by omega) (by omega) _ _ hW hS ls (by rw [e_7]; exact lv_sub hl [0, 1, 2, 3, 4] rfl)
  have e_8 : (suS (T 1) (sawF (T 1)) ((T 1) 57).toNat x9 0) = 0 := rfl
  have hW := hW.eqS (S' := (up (up T 2 (T 2)) 6 (T 6))) (by
      funext a
      by_cases h2 : a = 2
      · subst h2; rfl
      by_cases h6 : a = 6
      · subst h6; rfl
      simp only [up, if_neg h2, if_neg h6])
  exact loop_5 _ 0 0 (T 2) (T 6) (by omega) (by omega) (Nat.lt_succ_self _) _ _ hW hS ls (by rw [e_8]; exact lv_sub hl [0, 1, 2, 3, 4] rfl)

set_option maxHeartbeats 1000000 in
set_option maxRecDepth 100000 in
theorem mX4_kinds {l : Launch} {G : GG} {s0 : State} {b0 : Nat} (Z : ZZ l G s0 b0) (K : Nat → Nat) (hI : Own s0 K 12) (T : Sta) (F : Nat → Int) (eF : T 1 = F) (hF : WF F) (hD : Dia F) (hd : F 54 ≤ 2000) (hsm : SeenM F) (i : Int) (hi : inR i) (sz : Nat) : Met l yX4_kinds (ws_ yX4_kinds cX4_kinds 2 (some .int)) ({ frames := 7, cells := 0, slots := 0, locals := 168 } : Room) (pcM s0 sz (MW G K T) [.ref (K 0), .int (iI i)]) (mI (kindsA F (sawF F) (F 57).toNat i) (MWx G K T) (AA K 12 sz)) 0 0 (AA K 12 sz) := by
  refine Met.ofW (cc := cX4_kinds) (maxL := 2) (ret := (some .int)) (by decide) rfl ?_
  intro p e s m args below meth c s₁ B hml hv
  obtain ⟨rfl, hsz, hW, hB⟩ := hv
  subst hsz
  have hx := B.exec
  have hb := B.bytes
  have hr := B.returns
  have hts := atoms_spec (ws := (ws_ yX4_kinds cX4_kinds 2 (some .int))) B.pre
  have hts : ∀ w ∈ lw_all, w.before _ s = true := fun w h => hts w (List.mem_cons_of_mem _ h)
  have hown : s.vm.findClass RX4 = some m.cls := findClass_of_methodNamed B.named
  have hlocks := B.notSynchronized
  have hN := AA.old hI hB
  have hS : va_S (AA K 12 s.heap.size) s.heap s.heap [] := va_S.rf
  have hl := lv_entry ([.ref (K 0), .int (iI i)]) (n := 2) (Nat.le_of_ble_eq_true rfl)
  rw [lg_entry_eq]
  generalize (lg_sl ([.ref (K 0), .int (iI i)]) ++ List.replicate (2 - (lg_sl ([.ref (K 0), .int (iI i)])).length) Slot.unset).toArray = ls at hl ⊢
  have hl : lv_has ls 2 [(0, .ref (K 0)), (1, .int (iI i))] := hl
  subst eF
  have hn5 := hF.n
  refine lv_aload_n hx hb dX4_kinds_0 rfl (lv_at hl 0 rfl) ?_
  refine lv_iload_n hx hb dX4_kinds_1 rfl (lv_at hl 1 rfl) ?_
  refine cqI (va_runV (As := [.int (iI i)]) (rest := []) ⟨hx, hb, hml, hown, hts⟩ (mX4_isIsle Z K T (T 1) rfl hF i (by omega)) (cwV 1 hts (lw_V q1174 q1176 qs52 q83 q1177) rfl rfl rfl (by decide +kernel) ⟨Nat.le_of_ble_eq_true rfl, Nat.le_of_ble_eq_true rfl⟩) (pvR (BornH.S hB hN hS) (OBJ.recv Z hB hW.obj (q := (RX4, TX4, 29)) rfl) hW) rfl rfl hl.1 rfl (lv_room (Nat.le_of_ble_eq_true rfl)) dX4_kinds_2 ⟨Nat.zero_le _, Nat.zero_le _⟩) ?_
  refine bb_if_eq (P := okI (T 1) i) (tgt := 21) hx hb dX4_kinds_5 (by decide) (fun c_1 => ?_) (fun c_1 => ?_)
  · -- 5 -> 21
    refine ii_const hx hb dX4_kinds_21 ?_
    have hpw9 : (MWx G K T) s.heap := ⟨T, ⟨fun _ _ _ _ _ _ => rfl, fun _ _ _ _ _ _ => rfl⟩, hW⟩
    have he9 : (-1) = (kindsA (T 1) (sawF (T 1)) ((T 1) 57).toNat i) := by unfold kindsA; first | rw [if_pos (by omega), ← su_kd] | rw [if_neg (by omega)]
    exact W.iret hx hb hr (fun t ht hW9 => ⟨⟨_, (), rfl, congrArg iI he9, by show (MWx G K T) t.heap; rw [ht]; exact hpw9⟩, hS.F ht⟩) hS.2.2 dX4_kinds_22
  · -- 5 -> 8
    refine lv_aload_n hx hb dX4_kinds_8 rfl (lv_at hl 0 rfl) ?_
    refine ii_const hx hb dX4_kinds_9 ?_
    refine lv_iload_n hx hb dX4_kinds_10 rfl (lv_at hl 1 rfl) ?_
    refine ii_mul hx hb dX4_kinds_11 ?_
    refine ii_const hx hb dX4_kinds_12 ?_
    refine ii_add hx hb dX4_kinds_13 ?_
    refine ii_const hx hb dX4_kinds_14 ?_
    refine cmI (va_runV (As := [.int (iI ((2 * i) + 0)), .int (iI 3)]) (rest := []) ⟨hx, hb, hml, hown, hts⟩ (mX4_which Z K hI T (T 1) rfl hF hD hd hsm ((2 * i.toNat) + 0) ((2 * i) + 0) (by omega) (by omega) (fun v h0 h3 => ⟨hF.setK (by omega) ⟨h0, h3⟩, fun a ha => by rw [up_n _ _ (by omega)]; exact hD a ha⟩) s.heap.size) (cwV 2 hts (lw_V q1394 q1396 qs75 q83 q1397) rfl rfl rfl (by decide +kernel) ⟨Nat.le_of_ble_eq_true rfl, Nat.le_of_ble_eq_true rfl⟩) (pvM (BornH.S hB hN hS) (OBJ.recv Z hB hW.obj (q := (RX4, TX4, 29)) rfl) hW) rfl rfl hl.1 rfl (lv_room (Nat.le_of_ble_eq_true rfl)) dX4_kinds_15 ⟨Nat.zero_le _, Nat.zero_le _⟩) hS (AA.le hS.1) (fun H1 locs hW1 hz1 hk1 hS => ?_)
    have hW := hW1
    clear hW1 hk1 hz1
    generalize H1 = H at hW hS ⊢
    refine lv_goto (tgt := 22) hx hb dX4_kinds_18 (by decide) ?_
    have hpw9 : (MWx G K T) H := hW
    have he9 : (suS (T 1) (sawF (T 1)) ((T 1) 57).toNat ((2 * i.toNat) + 0) 4) = (kindsA (T 1) (sawF (T 1)) ((T 1) 57).toNat i) := by unfold kindsA; first | rw [if_pos (by omega), ← su_kd] | rw [if_neg (by omega)]
    exact W.iret hx hb hr (fun t ht hW9 => ⟨⟨_, (), rfl, congrArg iI he9, by show (MWx G K T) t.heap; rw [ht]; exact hpw9⟩, hS.F ht⟩) hS.2.2 dX4_kinds_22

set_option maxHeartbeats 1000000 in
set_option maxRecDepth 100000 in
theorem mX4_sulks {l : Launch} {G : GG} {s0 : State} {b0 : Nat} (Z : ZZ l G s0 b0) (K : Nat → Nat) (hI : Own s0 K 12) (T : Sta) (F : Nat → Int) (eF : T 1 = F) (hF : WF F) (hD : Dia F) (hd : F 54 ≤ 2000) (hsm : SeenM F) (i : Int) (hi : inR i) (j : Int) (hj : inR j) (sz : Nat) : Met l yX4_sulks (ws_ yX4_sulks cX4_sulks 3 (some .int)) ({ frames := 7, cells := 0, slots := 0, locals := 168 } : Room) (pcM s0 sz (MW G K T) [.ref (K 0), .int (iI i), .int (iI j)]) (mI (sulksA F (sawF F) (F 57).toNat i j) (MWx G K T) (AA K 12 sz)) 0 0 (AA K 12 sz) := by
  refine Met.ofW (cc := cX4_sulks) (maxL := 3) (ret := (some .int)) (by decide) rfl ?_
  intro p e s m args below meth c s₁ B hml hv
  obtain ⟨rfl, hsz, hW, hB⟩ := hv
  subst hsz
  have hx := B.exec
  have hb := B.bytes
  have hr := B.returns
  have hts := atoms_spec (ws := (ws_ yX4_sulks cX4_sulks 3 (some .int))) B.pre
  have hts : ∀ w ∈ lw_all, w.before _ s = true := fun w h => hts w (List.mem_cons_of_mem _ h)
  have hown : s.vm.findClass RX4 = some m.cls := findClass_of_methodNamed B.named
  have hlocks := B.notSynchronized
  have hN := AA.old hI hB
  have hS : va_S (AA K 12 s.heap.size) s.heap s.heap [] := va_S.rf
  have hl := lv_entry ([.ref (K 0), .int (iI i), .int (iI j)]) (n := 3) (Nat.le_of_ble_eq_true rfl)
  rw [lg_entry_eq]
  generalize (lg_sl ([.ref (K 0), .int (iI i), .int (iI j)]) ++ List.replicate (3 - (lg_sl ([.ref (K 0), .int (iI i), .int (iI j)])).length) Slot.unset).toArray = ls at hl ⊢
  have hl : lv_has ls 3 [(0, .ref (K 0)), (1, .int (iI i)), (2, .int (iI j))] := hl
  subst eF
  have hn5 := hF.n
  refine lv_aload_n hx hb dX4_sulks_0 rfl (lv_at hl 0 rfl) ?_
  refine lv_iload_n hx hb dX4_sulks_1 rfl (lv_at hl 1 rfl) ?_
  refine lv_iload_n hx hb dX4_sulks_2 rfl (lv_at hl 2 rfl) ?_
  refine cqI (va_runV (As := [.int (iI i), .int (iI j)]) (rest := []) ⟨hx, hb, hml, hown, hts⟩ (mX4_areTwo Z K T (T 1) rfl hF i (by omega) j (by omega)) (cwV 2 hts (lw_V q1201 q1203 qs57 q83 q1204) rfl rfl rfl (by decide +kernel) ⟨Nat.le_of_ble_eq_true rfl, Nat.le_of_ble_eq_true rfl⟩) (pvR (BornH.S hB hN hS) (OBJ.recv Z hB hW.obj (q := (RX4, TX4, 29)) rfl) hW) rfl rfl hl.1 rfl (lv_room (Nat.le_of_ble_eq_true rfl)) dX4_sulks_3 ⟨Nat.zero_le _, Nat.zero_le _⟩) ?_
  refine bb_if_eq (P := ok2 (T 1) i j) (tgt := 25) hx hb dX4_sulks_6 (by decide) (fun c_1 => ?_) (fun c_1 => ?_)
  · -- 6 -> 25
    refine ii_const hx hb dX4_sulks_25 ?_
    have hpw9 : (MWx G K T) s.heap := ⟨T, ⟨fun _ _ _ _ _ _ => rfl, fun _ _ _ _ _ _ => rfl⟩, hW⟩
    have he9 : (-1) = (sulksA (T 1) (sawF (T 1)) ((T 1) 57).toNat i j) := by unfold sulksA; first | rw [if_pos (by omega)] | rw [if_neg (by omega)]
    exact W.iret hx hb hr (fun t ht hW9 => ⟨⟨_, (), rfl, congrArg iI he9, by show (MWx G K T) t.heap; rw [ht]; exact hpw9⟩, hS.F ht⟩) hS.2.2 dX4_sulks_26
  · -- 6 -> 9
    refine lv_aload_n hx hb dX4_sulks_9 rfl (lv_at hl 0 rfl) ?_
    refine ii_bipush hx hb dX4_sulks_10 (by decide) ?_
    refine ii_const hx hb dX4_sulks_12 ?_
    refine lv_iload_n hx hb dX4_sulks_13 rfl (lv_at hl 1 rfl) ?_
    refine ii_mul hx hb dX4_sulks_14 ?_
    refine ii_add hx hb dX4_sulks_15 ?_
    refine lv_iload_n hx hb dX4_sulks_16 rfl (lv_at hl 2 rfl) ?_
    refine ii_add hx hb dX4_sulks_17 ?_
    refine ii_const hx hb dX4_sulks_18 ?_
    refine cmI (va_runV (As := [.int (iI ((10 + (5 * i)) + j)), .int (iI 3)]) (rest := []) ⟨hx, hb, hml, hown, hts⟩ (mX4_which Z K hI T (T 1) rfl hF hD hd hsm ((10 + (5 * i.toNat)) + j.toNat) ((10 + (5 * i)) + j) (by omega) (by omega) (fun v h0 h3 => ⟨hF.setC (by omega) (by omega) ⟨h0, h3⟩, fun a ha => by rw [up_n _ _ (by omega)]; exact hD a ha⟩) s.heap.size) (cwV 2 hts (lw_V q1394 q1396 qs75 q83 q1397) rfl rfl rfl (by decide +kernel) ⟨Nat.le_of_ble_eq_true rfl, Nat.le_of_ble_eq_true rfl⟩) (pvM (BornH.S hB hN hS) (OBJ.recv Z hB hW.obj (q := (RX4, TX4, 29)) rfl) hW) rfl rfl hl.1 rfl (lv_room (Nat.le_of_ble_eq_true rfl)) dX4_sulks_19 ⟨Nat.zero_le _, Nat.zero_le _⟩) hS (AA.le hS.1) (fun H1 locs hW1 hz1 hk1 hS => ?_)
    have hW := hW1
    clear hW1 hk1 hz1
    generalize H1 = H at hW hS ⊢
    refine lv_goto (tgt := 26) hx hb dX4_sulks_22 (by decide) ?_
    have hpw9 : (MWx G K T) H := hW
    have he9 : (suS (T 1) (sawF (T 1)) ((T 1) 57).toNat ((10 + (5 * i.toNat)) + j.toNat) 4) = (sulksA (T 1) (sawF (T 1)) ((T 1) 57).toNat i j) := by unfold sulksA; first | rw [if_pos (by omega)] | rw [if_neg (by omega)]
    exact W.iret hx hb hr (fun t ht hW9 => ⟨⟨_, (), rfl, congrArg iI he9, by show (MWx G K T) t.heap; rw [ht]; exact hpw9⟩, hS.F ht⟩) hS.2.2 dX4_sulks_26
