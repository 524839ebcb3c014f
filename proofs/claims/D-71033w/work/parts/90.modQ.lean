/-! MODEL: takes (written by gen/mod16.py) -/
set_option maxRecDepth 100000
set_option maxHeartbeats 1000000 in
set_option maxRecDepth 100000 in
theorem mX4_takes {l : Launch} {G : GG} {s0 : State} {b0 : Nat} (Z : ZZ l G s0 b0) (K : Nat → Nat) (hI : Own s0 K 12) (T : Sta) (P : Nat → Int) (eP : T 0 = P) (hP : PI P) (ht : TapeOK (T 5)) (sz : Nat) : Met l yX4_takes (ws_ yX4_takes cX4_takes 2 none) ({ frames := 1, cells := 0, slots := 0, locals := 25 } : Room) (pcM s0 sz (MW G K T) [.ref (K 0)]) (mV (MW G K (up T 0 (tkP (T 5) P))) (AA K 12 sz)) 0 0 (AA K 12 sz) := by
  refine Met.ofW (cc := cX4_takes) (maxL := 2) (ret := none) (by decide) rfl ?_
  intro p e s m args below meth c s₁ B hml hv
  obtain ⟨rfl, hsz, hW, hB⟩ := hv
  subst hsz
  have hx := B.exec
  have hb := B.bytes
  have hr := B.returns
  have hts := atoms_spec (ws := (ws_ yX4_takes cX4_takes 2 none)) B.pre
  have hts : ∀ w ∈ lw_all, w.before _ s = true := fun w h => hts w (List.mem_cons_of_mem _ h)
  have hown : s.vm.findClass RX4 = some m.cls := findClass_of_methodNamed B.named
  have hlocks := B.notSynchronized
  have hN := AA.old hI hB
  have hS : va_S (AA K 12 s.heap.size) s.heap s.heap [] := va_S.rf
  have hl := lv_entry ([.ref (K 0)]) (n := 2) (Nat.le_of_ble_eq_true rfl)
  rw [lg_entry_eq]
  generalize (lg_sl ([.ref (K 0)]) ++ List.replicate (2 - (lg_sl ([.ref (K 0)])).length) Slot.unset).toArray = ls at hl ⊢
  have hl : lv_has ls 2 [(0, .ref (K 0))] := hl
  subst eP
  refine lv_aload_n hx hb dX4_takes_0 rfl (lv_at hl 0 rfl) ?_
  refine r_get (ci := 4) (k := 15) (v := .int (iI ((T 0) 15))) (C := RX4) (T := TX4) (N := 29) Z hB hx hb hts hown rfl in_X4 hW.obj (by decide) q993 rfl dX4_takes_1 ?_
  refine ii_if_le (tgt := 8) hx hb dX4_takes_4 (by decide) (by omega) (fun c_1 => ?_) (fun c_1 => ?_)
  · -- 4 -> 8
    have loop_8 : ∀ (fu : Nat) (zq : Int), (0 ≤ zq ∧ zq ≤ ((T 0) 10)) → ((wh isSp (T 5) ((T 0) 10).toNat zq.toNat) = spA (T 5) (T 0)) → (((T 0) 10) - zq + 1).toNat < fu → ∀ (H : Heap) (locs : List Loc), (MW G K (up T 0 (up (T 0) 11 zq))) H → va_S (AA K 12 s.heap.size) s.heap H locs → ∀ (ls : Array Slot), lv_has ls 2 [(0, .ref (K 0))] → W p l e (headSpec (ws_ yX4_takes cX4_takes 2 none) ({ frames := 1, cells := 0, slots := 0, locals := 25 } : Room)).room s m ([.ref (K 0)] : List Value).toArray below meth c H locs 0 0 (MQ below (mV (MW G K (up T 0 (tkP (T 5) (T 0)))) (AA K 12 s.heap.size)) ([.ref (K 0)] : List Value).toArray s 0 0 (AA K 12 s.heap.size)) (F0 m 8 ls []) := by
      intro fu
      induction fu with
      | zero => intro zq hzq hinv hmu; exact absurd hmu (Nat.not_lt_zero _)
      | succ fu ih8 =>
        intro zq hzq hinv hmu H locs hW hS ls hl
        refine lv_aload_n hx hb dX4_takes_8 rfl (lv_at hl 0 rfl) ?_
        refine lv_aload_n hx hb dX4_takes_9 rfl (lv_at hl 0 rfl) ?_
        refine r_get (ci := 4) (k := 11) (v := .int (iI zq)) (C := RX4) (T := TX4) (N := 29) Z hB hx hb hts hown rfl in_X4 hW.obj (by decide) q989 rfl dX4_takes_10 ?_
        refine cqI (va_runV (As := [.int (iI zq)]) (rest := []) ⟨hx, hb, hml, hown, hts⟩ (mX4_byteAt Z K (up T 0 (up (T 0) 11 zq)) ((T 0) 10) rfl (by omega) (T 5) rfl ht zq (by omega)) (cwV 1 hts (lw_V q1087 q1089 qs35 q83 q1090) rfl rfl rfl (by decide +kernel) ⟨Nat.le_of_ble_eq_true rfl, Nat.le_of_ble_eq_true rfl⟩) (pvR (BornH.S hB hN hS) (OBJ.recv Z hB hW.obj (q := (RX4, TX4, 29)) rfl) hW) rfl rfl hl.1 rfl (lv_room (Nat.le_of_ble_eq_true rfl)) dX4_takes_13 ⟨Nat.zero_le _, Nat.zero_le _⟩) ?_
        have hby_2 := byA_in ht ((T 0) 10) zq
        refine ii_bipush hx hb dX4_takes_16 (by decide) ?_
        refine ii_icmp_ne (tgt := 34) hx hb dX4_takes_18 (by decide) (by omega) (by omega) (fun c_3 => ?_) (fun c_3 => ?_)
        · -- 18 -> 34
          have hsp := wh_e (C := isSp) (t := T 5) (n := ((T 0) 10)) (p := zq) (by omega) (fun q => c_3 (isSp_i.mp q))
          have hzn : spA (T 5) (T 0) = zq.toNat := hinv.symm.trans hsp
          have hzz : ((zq.toNat : Nat) : Int) = zq := by omega
          refine lv_aload_n hx hb dX4_takes_34 rfl (lv_at hl 0 rfl) ?_
          refine lv_aload_n hx hb dX4_takes_35 rfl (lv_at hl 0 rfl) ?_
          refine r_get (ci := 4) (k := 11) (v := .int (iI zq)) (C := RX4) (T := TX4) (N := 29) Z hB hx hb hts hown rfl in_X4 hW.obj (by decide) q989 rfl dX4_takes_36 ?_
          refine r_put (ci := 4) (k := 12) (C := RX4) (T := TX4) (N := 29) Z hB hx hb hts hown rfl in_X4 tyX4 tyX4_ok nmX4 hW.obj hS (AA.me (by omega)) (by decide) q990 rfl rfl rfl rfl (Nat.le_of_ble_eq_true rfl) dX4_takes_39 (MW G K (up (up T 0 (up (T 0) 11 zq)) 0 (up (up (T 0) 11 zq) 12 zq))) (fun H1 hz oq ho => hW.setO hI (k := 12) oq ho) (fun H locs hW hS => ?_)
          have hW := hW.eqS (S' := (up T 0 (up (up (T 0) 11 zq) 12 zq))) (by
              funext a
              by_cases h0 : a = 0
              · subst h0
                funext j
                by_cases k0 : j = 11
                · subst k0; rfl
                by_cases k1 : j = 12
                · subst k1; rfl
                simp only [up, if_neg k0, if_neg k1, if_true, if_false, Nat.reduceEqDiff, reduceIte]
              simp only [up, if_neg h0])
          refine lv_aload_n hx hb dX4_takes_42 rfl (lv_at hl 0 rfl) ?_
          refine lv_aload_n hx hb dX4_takes_43 rfl (lv_at hl 0 rfl) ?_
          refine r_get (ci := 4) (k := 11) (v := .int (iI zq)) (C := RX4) (T := TX4) (N := 29) Z hB hx hb hts hown rfl in_X4 hW.obj (by decide) q989 rfl dX4_takes_44 ?_
          refine cqI (va_runV (As := [.int (iI zq)]) (rest := []) ⟨hx, hb, hml, hown, hts⟩ (mX4_byteAt Z K (up T 0 (up (up (T 0) 11 zq) 12 zq)) ((T 0) 10) rfl (by omega) (T 5) rfl ht zq (by omega)) (cwV 1 hts (lw_V q1087 q1089 qs35 q83 q1090) rfl rfl rfl (by decide +kernel) ⟨Nat.le_of_ble_eq_true rfl, Nat.le_of_ble_eq_true rfl⟩) (pvR (BornH.S hB hN hS) (OBJ.recv Z hB hW.obj (q := (RX4, TX4, 29)) rfl) hW) rfl rfl hl.1 rfl (lv_room (Nat.le_of_ble_eq_true rfl)) dX4_takes_47 ⟨Nat.zero_le _, Nat.zero_le _⟩) ?_
          have hby_4 := byA_in ht ((T 0) 10) zq
          refine lv_istore_n (lv' := [(1, .int (iI (byA (T 5) ((T 0) 10) zq))), (0, .ref (K 0))]) hx hb dX4_takes_50 rfl hl (by decide) rfl (fun ls hl => ?_)
          refine lv_iload_n hx hb dX4_takes_51 rfl (lv_at hl 0 rfl) ?_
          refine ii_if_ge (tgt := 63) hx hb dX4_takes_52 (by decide) (by omega) (fun c_5 => ?_) (fun c_5 => ?_)
          · -- 52 -> 63
            refine lv_iload_n hx hb dX4_takes_63 rfl (lv_at hl 0 rfl) ?_
            refine ii_i2l hx hb (by omega) dX4_takes_64 ?_
            refine ii_ldc2 (z := 97) hx hb hts hown q1091 dX4_takes_65 (by decide) ?_
            refine ii_ldc2 (z := 122) hx hb hts hown q1092 dX4_takes_68 (by decide) ?_
            refine cqI (va_runS (As := [.long (lI (byA (T 5) ((T 0) 10) zq)), .long (lI 97), .long (lI 122)]) (rest := []) ⟨hx, hb, hml, hown, hts⟩ (mX4_in Z (byA (T 5) ((T 0) 10) zq) (by omega) 97 (by omega) 122 (by omega)) (va_cwS 3 hts (lw_S q1072 q1073 q83 q1074) rfl rfl rfl (by decide +kernel) ⟨Nat.le_of_ble_eq_true rfl, Nat.le_of_ble_eq_true rfl⟩) (psR (BornH.S hB hN hS) trivial) rfl rfl hl.1 rfl (lv_room (Nat.le_of_ble_eq_true rfl)) dX4_takes_71 ⟨Nat.zero_le _, Nat.zero_le _⟩) ?_
            refine bb_if_eq (P := 97 ≤ (byA (T 5) ((T 0) 10) zq) ∧ (byA (T 5) ((T 0) 10) zq) ≤ 122) (tgt := 116) hx hb dX4_takes_74 (by decide) (fun c_6 => ?_) (fun c_6 => ?_)
            · -- 74 -> 116
              refine lv_iload_n hx hb dX4_takes_116 rfl (lv_at hl 0 rfl) ?_
              refine ii_i2l hx hb (by omega) dX4_takes_117 ?_
              refine ii_ldc2 (z := 48) hx hb hts hown q1093 dX4_takes_118 (by decide) ?_
              refine ii_ldc2 (z := 57) hx hb hts hown q1094 dX4_takes_121 (by decide) ?_
              refine cqI (va_runS (As := [.long (lI (byA (T 5) ((T 0) 10) zq)), .long (lI 48), .long (lI 57)]) (rest := []) ⟨hx, hb, hml, hown, hts⟩ (mX4_in Z (byA (T 5) ((T 0) 10) zq) (by omega) 48 (by omega) 57 (by omega)) (va_cwS 3 hts (lw_S q1072 q1073 q83 q1074) rfl rfl rfl (by decide +kernel) ⟨Nat.le_of_ble_eq_true rfl, Nat.le_of_ble_eq_true rfl⟩) (psR (BornH.S hB hN hS) trivial) rfl rfl hl.1 rfl (lv_room (Nat.le_of_ble_eq_true rfl)) dX4_takes_124 ⟨Nat.zero_le _, Nat.zero_le _⟩) ?_
              refine bb_if_eq (P := 48 ≤ (byA (T 5) ((T 0) 10) zq) ∧ (byA (T 5) ((T 0) 10) zq) ≤ 57) (tgt := 243) hx hb dX4_takes_127 (by decide) (fun c_7 => ?_) (fun c_7 => ?_)
              · -- 127 -> 243
                refine lv_aload_n hx hb dX4_takes_243 rfl (lv_at hl 1 rfl) ?_
                refine ii_const hx hb dX4_takes_244 ?_
                refine r_put (ci := 4) (k := 13) (C := RX4) (T := TX4) (N := 29) Z hB hx hb hts hown rfl in_X4 tyX4 tyX4_ok nmX4 hW.obj hS (AA.me (by omega)) (by decide) q991 rfl rfl rfl rfl (Nat.le_of_ble_eq_true rfl) dX4_takes_245 (MW G K (up (up T 0 (up (up (T 0) 11 zq) 12 zq)) 0 (up (up (up (T 0) 11 zq) 12 zq) 13 3))) (fun H1 hz oq ho => hW.setO hI (k := 13) oq ho) (fun H locs hW hS => ?_)
                have hW := hW.eqS (S' := (up T 0 (up (up (up (T 0) 11 zq) 12 zq) 13 3))) (by
                    funext a
                    by_cases h0 : a = 0
                    · subst h0
                      funext j
                      by_cases k0 : j = 11
                      · subst k0; rfl
                      by_cases k1 : j = 12
                      · subst k1; rfl
                      by_cases k2 : j = 13
                      · subst k2; rfl
                      simp only [up, if_neg k0, if_neg k1, if_neg k2, if_true, if_false, Nat.reduceEqDiff, reduceIte]
                    simp only [up, if_neg h0])
                refine lv_aload_n hx hb dX4_takes_248 rfl (lv_at hl 1 rfl) ?_
                refine lv_iload_n hx hb dX4_takes_249 rfl (lv_at hl 0 rfl) ?_
                refine ii_bipush hx hb dX4_takes_250 (by decide) ?_
                refine ii_icmp_ne (tgt := 259) hx hb dX4_takes_252 (by decide) (by omega) (by omega) (fun c_8 => ?_) (fun c_8 => ?_)
                · -- 252 -> 259
                  refine ii_const hx hb dX4_takes_259 ?_
                  refine ii_const hx hb dX4_takes_260 ?_
                  have h15_9 : inR ((up (up (up (T 0) 11 zq) 12 zq) 13 3) 15) := by simp only [up, Nat.reduceEqDiff, if_false, if_true, reduceIte, ite_false]; omega
                  refine cmV (va_runV (As := [.int (iI 0), .int (iI 1)]) (rest := []) ⟨hx, hb, hml, hown, hts⟩ (mX4_needs Z K hI (up T 0 (up (up (up (T 0) 11 zq) 12 zq) 13 3)) (up (up (up (T 0) 11 zq) 12 zq) 13 3) rfl h15_9 0 1 (by omega) H.size) (cwV 2 hts (lw_V q1095 q1097 qs36 q83 q1098) rfl rfl rfl (by decide +kernel) ⟨Nat.le_of_ble_eq_true rfl, Nat.le_of_ble_eq_true rfl⟩) (pvM (BornH.S hB hN hS) (OBJ.recv Z hB hW.obj (q := (RX4, TX4, 29)) rfl) hW) rfl rfl hl.1 rfl (lv_room (Nat.le_of_ble_eq_true rfl)) dX4_takes_261 ⟨Nat.zero_le _, Nat.zero_le _⟩) hS (AA.le hS.1) (fun H1 locs hW1 hz1 hk1 hS => ?_)
                  have hW := hW1
                  clear hW1 hk1 hz1
                  generalize H1 = H at hW hS ⊢
                  have hW := hW.eqS (S' := (up T 0 (ndS (up (up (up (T 0) 11 zq) 12 zq) 13 3) 0 1))) (by
                      funext a
                      by_cases h0 : a = 0
                      · subst h0; rfl
                      simp only [up, if_neg h0])
                  refine lv_aload_n hx hb dX4_takes_264 rfl (lv_at hl 1 rfl) ?_
                  refine lv_dup hx hb dX4_takes_265 rfl ?_
                  refine r_get (ci := 4) (k := 11) (v := .int (iI ((ndS (up (up (up (T 0) 11 zq) 12 zq) 13 3) 0 1) 11))) (C := RX4) (T := TX4) (N := 29) Z hB hx hb hts hown rfl in_X4 hW.obj (by decide) q989 rfl dX4_takes_266 ?_
                  refine ii_const hx hb dX4_takes_269 ?_
                  refine ii_add hx hb dX4_takes_270 ?_
                  refine r_put (ci := 4) (k := 11) (C := RX4) (T := TX4) (N := 29) Z hB hx hb hts hown rfl in_X4 tyX4 tyX4_ok nmX4 hW.obj hS (AA.me (by omega)) (by decide) q989 rfl rfl rfl rfl (Nat.le_of_ble_eq_true rfl) dX4_takes_271 (MW G K (up (up T 0 (ndS (up (up (up (T 0) 11 zq) 12 zq) 13 3) 0 1)) 0 (up (ndS (up (up (up (T 0) 11 zq) 12 zq) 13 3) 0 1) 11 (((ndS (up (up (up (T 0) 11 zq) 12 zq) 13 3) 0 1) 11) + 1)))) (fun H1 hz oq ho => hW.setO hI (k := 11) oq ho) (fun H locs hW hS => ?_)
                  have hW := hW.eqS (S' := (up T 0 (up (ndS (up (up (up (T 0) 11 zq) 12 zq) 13 3) 0 1) 11 (((ndS (up (up (up (T 0) 11 zq) 12 zq) 13 3) 0 1) 11) + 1)))) (by
                      funext a
                      by_cases h0 : a = 0
                      · subst h0
                        funext j
                        by_cases k0 : j = 11
                        · subst k0; rfl
                        simp only [up, if_neg k0, if_true, if_false, Nat.reduceEqDiff, reduceIte]
                      simp only [up, if_neg h0])
                  have hpw9 : (MW G K (up T 0 (tkP (T 5) (T 0)))) H := (by rw [show tkP (T 5) (T 0) = (up (ndS (up (up (up (T 0) 11 zq) 12 zq) 13 3) 0 1) 11 (((ndS (up (up (up (T 0) 11 zq) 12 zq) 13 3) 0 1) 11) + 1)) by unfold tkP; rw [if_neg (by omega), hzn, hzz, if_neg (by omega), if_neg (by omega), if_neg (by omega)]; first | (rw [b2_t (by omega), ndS_o (by omega) (by omega)]; rfl) | (rw [b2_f (by omega), ndS_o (by omega) (by omega)]; rfl)]; exact hW)
                  exact W.vret hx hb hr (fun t ht hW9 => ⟨⟨(), rfl, trivial, by show (MW G K (up T 0 (tkP (T 5) (T 0)))) t.heap; rw [ht]; exact hpw9⟩, hS.F ht⟩) hS.2.2 dX4_takes_274
                · -- 252 -> 255
                  refine ii_const hx hb dX4_takes_255 ?_
                  refine lv_goto (tgt := 260) hx hb dX4_takes_256 (by decide) ?_
                  refine ii_const hx hb dX4_takes_260 ?_
                  have h15_10 : inR ((up (up (up (T 0) 11 zq) 12 zq) 13 3) 15) := by simp only [up, Nat.reduceEqDiff, if_false, if_true, reduceIte, ite_false]; omega
                  refine cmV (va_runV (As := [.int (iI 1), .int (iI 1)]) (rest := []) ⟨hx, hb, hml, hown, hts⟩ (mX4_needs Z K hI (up T 0 (up (up (up (T 0) 11 zq) 12 zq) 13 3)) (up (up (up (T 0) 11 zq) 12 zq) 13 3) rfl h15_10 1 1 (by omega) H.size) (cwV 2 hts (lw_V q1095 q1097 qs36 q83 q1098) rfl rfl rfl (by decide +kernel) ⟨Nat.le_of_ble_eq_true rfl, Nat.le_of_ble_eq_true rfl⟩) (pvM (BornH.S hB hN hS) (OBJ.recv Z hB hW.obj (q := (RX4, TX4, 29)) rfl) hW) rfl rfl hl.1 rfl (lv_room (Nat.le_of_ble_eq_true rfl)) dX4_takes_261 ⟨Nat.zero_le _, Nat.zero_le _⟩) hS (AA.le hS.1) (fun H1 locs hW1 hz1 hk1 hS => ?_)
                  have hW := hW1
                  clear hW1 hk1 hz1
                  generalize H1 = H at hW hS ⊢
                  have hW := hW.eqS (S' := (up T 0 (ndS (up (up (up (T 0) 11 zq) 12 zq) 13 3) 1 1))) (by
                      funext a
                      by_cases h0 : a = 0
                      · subst h0; rfl
                      simp only [up, if_neg h0])
                  refine lv_aload_n hx hb dX4_takes_264 rfl (lv_at hl 1 rfl) ?_
                  refine lv_dup hx hb dX4_takes_265 rfl ?_
                  refine r_get (ci := 4) (k := 11) (v := .int (iI ((ndS (up (up (up (T 0) 11 zq) 12 zq) 13 3) 1 1) 11))) (C := RX4) (T := TX4) (N := 29) Z hB hx hb hts hown rfl in_X4 hW.obj (by decide) q989 rfl dX4_takes_266 ?_
                  refine ii_const hx hb dX4_takes_269 ?_
                  refine ii_add hx hb dX4_takes_270 ?_
                  refine r_put (ci := 4) (k := 11) (C := RX4) (T := TX4) (N := 29) Z hB hx hb hts hown rfl in_X4 tyX4 tyX4_ok nmX4 hW.obj hS (AA.me (by omega)) (by decide) q989 rfl rfl rfl rfl (Nat.le_of_ble_eq_true rfl) dX4_takes_271 (MW G K (up (up T 0 (ndS (up (up (up (T 0) 11 zq) 12 zq) 13 3) 1 1)) 0 (up (ndS (up (up (up (T 0) 11 zq) 12 zq) 13 3) 1 1) 11 (((ndS (up (up (up (T 0) 11 zq) 12 zq) 13 3) 1 1) 11) + 1)))) (fun H1 hz oq ho => hW.setO hI (k := 11) oq ho) (fun H locs hW hS => ?_)
                  have hW := hW.eqS (S' := (up T 0 (up (ndS (up (up (up (T 0) 11 zq) 12 zq) 13 3) 1 1) 11 (((ndS (up (up (up (T 0) 11 zq) 12 zq) 13 3) 1 1) 11) + 1)))) (by
                      funext a
                      by_cases h0 : a = 0
                      · subst h0
                        funext j
                        by_cases k0 : j = 11
                        · subst k0; rfl
                        simp only [up, if_neg k0, if_true, if_false, Nat.reduceEqDiff, reduceIte]
                      simp only [up, if_neg h0])
                  have hpw9 : (MW G K (up T 0 (tkP (T 5) (T 0)))) H := (by rw [show tkP (T 5) (T 0) = (up (ndS (up (up (up (T 0) 11 zq) 12 zq) 13 3) 1 1) 11 (((ndS (up (up (up (T 0) 11 zq) 12 zq) 13 3) 1 1) 11) + 1)) by unfold tkP; rw [if_neg (by omega), hzn, hzz, if_neg (by omega), if_neg (by omega), if_neg (by omega)]; first | (rw [b2_t (by omega), ndS_o (by omega) (by omega)]; rfl) | (rw [b2_f (by omega), ndS_o (by omega) (by omega)]; rfl)]; exact hW)
                  exact W.vret hx hb hr (fun t ht hW9 => ⟨⟨(), rfl, trivial, by show (MW G K (up T 0 (tkP (T 5) (T 0)))) t.heap; rw [ht]; exact hpw9⟩, hS.F ht⟩) hS.2.2 dX4_takes_274
              · -- 127 -> 130
                refine lv_aload_n hx hb dX4_takes_130 rfl (lv_at hl 1 rfl) ?_
                refine ii_const hx hb dX4_takes_131 ?_
                refine r_put (ci := 4) (k := 13) (C := RX4) (T := TX4) (N := 29) Z hB hx hb hts hown rfl in_X4 tyX4 tyX4_ok nmX4 hW.obj hS (AA.me (by omega)) (by decide) q991 rfl rfl rfl rfl (Nat.le_of_ble_eq_true rfl) dX4_takes_132 (MW G K (up (up T 0 (up (up (T 0) 11 zq) 12 zq)) 0 (up (up (up (T 0) 11 zq) 12 zq) 13 2))) (fun H1 hz oq ho => hW.setO hI (k := 13) oq ho) (fun H locs hW hS => ?_)
                have hW := hW.eqS (S' := (up T 0 (up (up (up (T 0) 11 zq) 12 zq) 13 2))) (by
                    funext a
                    by_cases h0 : a = 0
                    · subst h0
                      funext j
                      by_cases k0 : j = 11
                      · subst k0; rfl
                      by_cases k1 : j = 12
                      · subst k1; rfl
                      by_cases k2 : j = 13
                      · subst k2; rfl
                      simp only [up, if_neg k0, if_neg k1, if_neg k2, if_true, if_false, Nat.reduceEqDiff, reduceIte]
                    simp only [up, if_neg h0])
                refine lv_aload_n hx hb dX4_takes_135 rfl (lv_at hl 1 rfl) ?_
                refine ii_const hx hb dX4_takes_136 ?_
                refine r_put (ci := 4) (k := 14) (C := RX4) (T := TX4) (N := 29) Z hB hx hb hts hown rfl in_X4 tyX4 tyX4_ok nmX4 hW.obj hS (AA.me (by omega)) (by decide) q992 rfl rfl rfl rfl (Nat.le_of_ble_eq_true rfl) dX4_takes_137 (MW G K (up (up T 0 (up (up (up (T 0) 11 zq) 12 zq) 13 2)) 0 (up (up (up (up (T 0) 11 zq) 12 zq) 13 2) 14 0))) (fun H1 hz oq ho => hW.setO hI (k := 14) oq ho) (fun H locs hW hS => ?_)
                have hW := hW.eqS (S' := (up T 0 (up (up (up (up (T 0) 11 zq) 12 zq) 13 2) 14 0))) (by
                    funext a
                    by_cases h0 : a = 0
                    · subst h0
                      funext j
                      by_cases k0 : j = 11
                      · subst k0; rfl
                      by_cases k1 : j = 12
                      · subst k1; rfl
                      by_cases k2 : j = 13
                      · subst k2; rfl
                      by_cases k3 : j = 14
                      · subst k3; rfl
                      simp only [up, if_neg k0, if_neg k1, if_neg k2, if_neg k3, if_true, if_false, Nat.reduceEqDiff, reduceIte]
                    simp only [up, if_neg h0])
                have loop_140 : ∀ (fu : Nat) (zr : Int) (k : Nat), (zq ≤ zr ∧ zr ≤ ((T 0) 10)) → (zr = zq + (k : Int)) → ((wh isDi (T 5) ((T 0) 10).toNat zr.toNat) = (wh isDi (T 5) ((T 0) 10).toNat zq.toNat)) → (((T 0) 10) - zr + 1).toNat < fu → ∀ (H : Heap) (locs : List Loc), (MW G K (up T 0 (up (up (up (up (T 0) 11 zr) 12 zq) 13 2) 14 (dvK (T 5) ((T 0) 10) zq k)))) H → va_S (AA K 12 s.heap.size) s.heap H locs → ∀ (ls : Array Slot), lv_has ls 2 [(1, .int (iI (byA (T 5) ((T 0) 10) zq))), (0, .ref (K 0))] → W p l e (headSpec (ws_ yX4_takes cX4_takes 2 none) ({ frames := 1, cells := 0, slots := 0, locals := 25 } : Room)).room s m ([.ref (K 0)] : List Value).toArray below meth c H locs 0 0 (MQ below (mV (MW G K (up T 0 (tkP (T 5) (T 0)))) (AA K 12 s.heap.size)) ([.ref (K 0)] : List Value).toArray s 0 0 (AA K 12 s.heap.size)) (F0 m 140 ls []) := by
                  intro fu
                  induction fu with
                  | zero => intro zr k hzr9 ezr hinv2 hmu; exact absurd hmu (Nat.not_lt_zero _)
                  | succ fu ih140 =>
                    intro zr k hzr9 ezr hinv2 hmu H locs hW hS ls hl
                    refine lv_aload_n hx hb dX4_takes_140 rfl (lv_at hl 1 rfl) ?_
                    refine lv_aload_n hx hb dX4_takes_141 rfl (lv_at hl 1 rfl) ?_
                    refine r_get (ci := 4) (k := 11) (v := .int (iI zr)) (C := RX4) (T := TX4) (N := 29) Z hB hx hb hts hown rfl in_X4 hW.obj (by decide) q989 rfl dX4_takes_142 ?_
                    refine cqI (va_runV (As := [.int (iI zr)]) (rest := []) ⟨hx, hb, hml, hown, hts⟩ (mX4_byteAt Z K (up T 0 (up (up (up (up (T 0) 11 zr) 12 zq) 13 2) 14 (dvK (T 5) ((T 0) 10) zq k))) ((T 0) 10) rfl (by omega) (T 5) rfl ht zr (by omega)) (cwV 1 hts (lw_V q1087 q1089 qs35 q83 q1090) rfl rfl rfl (by decide +kernel) ⟨Nat.le_of_ble_eq_true rfl, Nat.le_of_ble_eq_true rfl⟩) (pvR (BornH.S hB hN hS) (OBJ.recv Z hB hW.obj (q := (RX4, TX4, 29)) rfl) hW) rfl rfl hl.1 rfl (lv_room (Nat.le_of_ble_eq_true rfl)) dX4_takes_145 ⟨Nat.zero_le _, Nat.zero_le _⟩) ?_
                    have hby_11 := byA_in ht ((T 0) 10) zr
                    refine ii_i2l hx hb (by omega) dX4_takes_148 ?_
                    refine ii_ldc2 (z := 48) hx hb hts hown q1093 dX4_takes_149 (by decide) ?_
                    refine ii_ldc2 (z := 57) hx hb hts hown q1094 dX4_takes_152 (by decide) ?_
                    refine cqI (va_runS (As := [.long (lI (byA (T 5) ((T 0) 10) zr)), .long (lI 48), .long (lI 57)]) (rest := []) ⟨hx, hb, hml, hown, hts⟩ (mX4_in Z (byA (T 5) ((T 0) 10) zr) (by omega) 48 (by omega) 57 (by omega)) (va_cwS 3 hts (lw_S q1072 q1073 q83 q1074) rfl rfl rfl (by decide +kernel) ⟨Nat.le_of_ble_eq_true rfl, Nat.le_of_ble_eq_true rfl⟩) (psR (BornH.S hB hN hS) trivial) rfl rfl hl.1 rfl (lv_room (Nat.le_of_ble_eq_true rfl)) dX4_takes_155 ⟨Nat.zero_le _, Nat.zero_le _⟩) ?_
                    refine bb_if_eq (P := 48 ≤ (byA (T 5) ((T 0) 10) zr) ∧ (byA (T 5) ((T 0) 10) zr) ≤ 57) (tgt := 217) hx hb dX4_takes_158 (by decide) (fun c_12 => ?_) (fun c_12 => ?_)
                    · -- 158 -> 217
                      have hlo := wh_e (C := isDi) (t := T 5) (n := ((T 0) 10)) (p := zr) (by omega) (fun q => c_12 (isDi_i.mp q))
                      have hwn : (wh isDi (T 5) ((T 0) 10).toNat zq.toNat) = zr.toNat := hinv2.symm.trans hlo
                      have hzr : ((zr.toNat : Nat) : Int) = zr := by omega
                      refine lv_aload_n hx hb dX4_takes_217 rfl (lv_at hl 1 rfl) ?_
                      refine lv_aload_n hx hb dX4_takes_218 rfl (lv_at hl 1 rfl) ?_
                      refine r_get (ci := 4) (k := 11) (v := .int (iI zr)) (C := RX4) (T := TX4) (N := 29) Z hB hx hb hts hown rfl in_X4 hW.obj (by decide) q989 rfl dX4_takes_219 ?_
                      refine lv_aload_n hx hb dX4_takes_222 rfl (lv_at hl 1 rfl) ?_
                      refine r_get (ci := 4) (k := 12) (v := .int (iI zq)) (C := RX4) (T := TX4) (N := 29) Z hB hx hb hts hown rfl in_X4 hW.obj (by decide) q990 rfl dX4_takes_223 ?_
                      refine ii_sub hx hb dX4_takes_226 ?_
                      refine ii_const hx hb dX4_takes_227 ?_
                      refine ii_icmp_gt (tgt := 235) hx hb dX4_takes_228 (by decide) (by omega) (by omega) (fun c_13 => ?_) (fun c_13 => ?_)
                      · -- 228 -> 235
                        refine ii_const hx hb dX4_takes_235 ?_
                        refine ii_const hx hb dX4_takes_236 ?_
                        have h15_14 : inR ((up (up (up (up (T 0) 11 zr) 12 zq) 13 2) 14 (dvK (T 5) ((T 0) 10) zq k)) 15) := by simp only [up, Nat.reduceEqDiff, if_false, if_true, reduceIte, ite_false]; omega
                        refine cmV (va_runV (As := [.int (iI 0), .int (iI 1)]) (rest := []) ⟨hx, hb, hml, hown, hts⟩ (mX4_needs Z K hI (up T 0 (up (up (up (up (T 0) 11 zr) 12 zq) 13 2) 14 (dvK (T 5) ((T 0) 10) zq k))) (up (up (up (up (T 0) 11 zr) 12 zq) 13 2) 14 (dvK (T 5) ((T 0) 10) zq k)) rfl h15_14 0 1 (by omega) H.size) (cwV 2 hts (lw_V q1095 q1097 qs36 q83 q1098) rfl rfl rfl (by decide +kernel) ⟨Nat.le_of_ble_eq_true rfl, Nat.le_of_ble_eq_true rfl⟩) (pvM (BornH.S hB hN hS) (OBJ.recv Z hB hW.obj (q := (RX4, TX4, 29)) rfl) hW) rfl rfl hl.1 rfl (lv_room (Nat.le_of_ble_eq_true rfl)) dX4_takes_237 ⟨Nat.zero_le _, Nat.zero_le _⟩) hS (AA.le hS.1) (fun H1 locs hW1 hz1 hk1 hS => ?_)
                        have hW := hW1
                        clear hW1 hk1 hz1
                        generalize H1 = H at hW hS ⊢
                        have hW := hW.eqS (S' := (up T 0 (ndS (up (up (up (up (T 0) 11 zr) 12 zq) 13 2) 14 (dvK (T 5) ((T 0) 10) zq k)) 0 1))) (by
                            funext a
                            by_cases h0 : a = 0
                            · subst h0; rfl
                            simp only [up, if_neg h0])
                        refine lv_goto (tgt := 274) hx hb dX4_takes_240 (by decide) ?_
                        have hpw9 : (MW G K (up T 0 (tkP (T 5) (T 0)))) H := (by rw [show tkP (T 5) (T 0) = (ndS (up (up (up (up (T 0) 11 zr) 12 zq) 13 2) 14 (dvK (T 5) ((T 0) 10) zq k)) 0 1) by unfold tkP; rw [if_neg (by omega), hzn, hzz, if_neg (by omega), if_neg (by omega), if_pos (by omega), hwn, hzr, show zr.toNat - zq.toNat = k by omega]; first | rw [b2_t (by omega)] | rw [b2_f (by omega)]]; exact hW)
                        exact W.vret hx hb hr (fun t ht hW9 => ⟨⟨(), rfl, trivial, by show (MW G K (up T 0 (tkP (T 5) (T 0)))) t.heap; rw [ht]; exact hpw9⟩, hS.F ht⟩) hS.2.2 dX4_takes_274
                      · -- 228 -> 231
                        refine ii_const hx hb dX4_takes_231 ?_
                        refine lv_goto (tgt := 236) hx hb dX4_takes_232 (by decide) ?_
                        refine ii_const hx hb dX4_takes_236 ?_
                        have h15_15 : inR ((up (up (up (up (T 0) 11 zr) 12 zq) 13 2) 14 (dvK (T 5) ((T 0) 10) zq k)) 15) := by simp only [up, Nat.reduceEqDiff, if_false, if_true, reduceIte, ite_false]; omega
                        refine cmV (va_runV (As := [.int (iI 1), .int (iI 1)]) (rest := []) ⟨hx, hb, hml, hown, hts⟩ (mX4_needs Z K hI (up T 0 (up (up (up (up (T 0) 11 zr) 12 zq) 13 2) 14 (dvK (T 5) ((T 0) 10) zq k))) (up (up (up (up (T 0) 11 zr) 12 zq) 13 2) 14 (dvK (T 5) ((T 0) 10) zq k)) rfl h15_15 1 1 (by omega) H.size) (cwV 2 hts (lw_V q1095 q1097 qs36 q83 q1098) rfl rfl rfl (by decide +kernel) ⟨Nat.le_of_ble_eq_true rfl, Nat.le_of_ble_eq_true rfl⟩) (pvM (BornH.S hB hN hS) (OBJ.recv Z hB hW.obj (q := (RX4, TX4, 29)) rfl) hW) rfl rfl hl.1 rfl (lv_room (Nat.le_of_ble_eq_true rfl)) dX4_takes_237 ⟨Nat.zero_le _, Nat.zero_le _⟩) hS (AA.le hS.1) (fun H1 locs hW1 hz1 hk1 hS => ?_)
                        have hW := hW1
                        clear hW1 hk1 hz1
                        generalize H1 = H at hW hS ⊢
                        have hW := hW.eqS (S' := (up T 0 (ndS (up (up (up (up (T 0) 11 zr) 12 zq) 13 2) 14 (dvK (T 5) ((T 0) 10) zq k)) 1 1))) (by
                            funext a
                            by_cases h0 : a = 0
                            · subst h0; rfl
                            simp only [up, if_neg h0])
                        refine lv_goto (tgt := 274) hx hb dX4_takes_240 (by decide) ?_
                        have hpw9 : (MW G K (up T 0 (tkP (T 5) (T 0)))) H := (by rw [show tkP (T 5) (T 0) = (ndS (up (up (up (up (T 0) 11 zr) 12 zq) 13 2) 14 (dvK (T 5) ((T 0) 10) zq k)) 1 1) by unfold tkP; rw [if_neg (by omega), hzn, hzz, if_neg (by omega), if_neg (by omega), if_pos (by omega), hwn, hzr, show zr.toNat - zq.toNat = k by omega]; first | rw [b2_t (by omega)] | rw [b2_f (by omega)]]; exact hW)
                        exact W.vret hx hb hr (fun t ht hW9 => ⟨⟨(), rfl, trivial, by show (MW G K (up T 0 (tkP (T 5) (T 0)))) t.heap; rw [ht]; exact hpw9⟩, hS.F ht⟩) hS.2.2 dX4_takes_274
                    · -- 158 -> 161
                      have hwb2 := wh_b (C := isDi) (t := T 5) (n := ((T 0) 10)) (p := zr) (by omega) (isDi_i.mpr c_12) (by decide)
                      refine lv_aload_n hx hb dX4_takes_161 rfl (lv_at hl 1 rfl) ?_
                      refine lv_aload_n hx hb dX4_takes_162 rfl (lv_at hl 1 rfl) ?_
                      refine r_get (ci := 4) (k := 11) (v := .int (iI zr)) (C := RX4) (T := TX4) (N := 29) Z hB hx hb hts hown rfl in_X4 hW.obj (by decide) q989 rfl dX4_takes_163 ?_
                      refine lv_aload_n hx hb dX4_takes_166 rfl (lv_at hl 1 rfl) ?_
                      refine r_get (ci := 4) (k := 12) (v := .int (iI zq)) (C := RX4) (T := TX4) (N := 29) Z hB hx hb hts hown rfl in_X4 hW.obj (by decide) q990 rfl dX4_takes_167 ?_
                      refine ii_sub hx hb dX4_takes_170 ?_
                      refine ii_const hx hb dX4_takes_171 ?_
                      refine ii_icmp_ge (tgt := 197) hx hb dX4_takes_172 (by decide) (by omega) (by omega) (fun c_16 => ?_) (fun c_16 => ?_)
                      · -- 172 -> 197
                        refine lv_aload_n hx hb dX4_takes_197 rfl (lv_at hl 1 rfl) ?_
                        refine r_get (ci := 4) (k := 14) (v := .int (iI (dvK (T 5) ((T 0) 10) zq k))) (C := RX4) (T := TX4) (N := 29) Z hB hx hb hts hown rfl in_X4 hW.obj (by decide) q992 rfl dX4_takes_198 ?_
                        refine r_put (ci := 4) (k := 14) (C := RX4) (T := TX4) (N := 29) Z hB hx hb hts hown rfl in_X4 tyX4 tyX4_ok nmX4 hW.obj hS (AA.me (by omega)) (by decide) q992 rfl rfl rfl rfl (Nat.le_of_ble_eq_true rfl) dX4_takes_201 (MW G K (up (up T 0 (up (up (up (up (T 0) 11 zr) 12 zq) 13 2) 14 (dvK (T 5) ((T 0) 10) zq k))) 0 (up (up (up (up (up (T 0) 11 zr) 12 zq) 13 2) 14 (dvK (T 5) ((T 0) 10) zq k)) 14 (dvK (T 5) ((T 0) 10) zq k)))) (fun H1 hz oq ho => hW.setO hI (k := 14) oq ho) (fun H locs hW hS => ?_)
                        have hW := hW.eqS (S' := (up T 0 (up (up (up (up (T 0) 11 zr) 12 zq) 13 2) 14 (dvK (T 5) ((T 0) 10) zq k)))) (by
                            funext a
                            by_cases h0 : a = 0
                            · subst h0
                              funext j
                              by_cases k0 : j = 11
                              · subst k0; rfl
                              by_cases k1 : j = 12
                              · subst k1; rfl
                              by_cases k2 : j = 13
                              · subst k2; rfl
                              by_cases k3 : j = 14
                              · subst k3; rfl
                              simp only [up, if_neg k0, if_neg k1, if_neg k2, if_neg k3, if_true, if_false, Nat.reduceEqDiff, reduceIte]
                            simp only [up, if_neg h0])
                        refine lv_aload_n hx hb dX4_takes_204 rfl (lv_at hl 1 rfl) ?_
                        refine lv_dup hx hb dX4_takes_205 rfl ?_
                        refine r_get (ci := 4) (k := 11) (v := .int (iI zr)) (C := RX4) (T := TX4) (N := 29) Z hB hx hb hts hown rfl in_X4 hW.obj (by decide) q989 rfl dX4_takes_206 ?_
                        refine ii_const hx hb dX4_takes_209 ?_
                        refine ii_add hx hb dX4_takes_210 ?_
                        refine r_put (ci := 4) (k := 11) (C := RX4) (T := TX4) (N := 29) Z hB hx hb hts hown rfl in_X4 tyX4 tyX4_ok nmX4 hW.obj hS (AA.me (by omega)) (by decide) q989 rfl rfl rfl rfl (Nat.le_of_ble_eq_true rfl) dX4_takes_211 (MW G K (up (up T 0 (up (up (up (up (T 0) 11 zr) 12 zq) 13 2) 14 (dvK (T 5) ((T 0) 10) zq k))) 0 (up (up (up (up (up (T 0) 11 zr) 12 zq) 13 2) 14 (dvK (T 5) ((T 0) 10) zq k)) 11 (zr + 1)))) (fun H1 hz oq ho => hW.setO hI (k := 11) oq ho) (fun H locs hW hS => ?_)
                        have hW := hW.eqS (S' := (up T 0 (up (up (up (up (T 0) 11 (zr + 1)) 12 zq) 13 2) 14 (dvK (T 5) ((T 0) 10) zq k)))) (by
                            funext a
                            by_cases h0 : a = 0
                            · subst h0
                              funext j
                              by_cases k0 : j = 11
                              · subst k0; rfl
                              by_cases k1 : j = 12
                              · subst k1; rfl
                              by_cases k2 : j = 13
                              · subst k2; rfl
                              by_cases k3 : j = 14
                              · subst k3; rfl
                              simp only [up, if_neg k0, if_neg k1, if_neg k2, if_neg k3, if_true, if_false, Nat.reduceEqDiff, reduceIte]
                            simp only [up, if_neg h0])
                        refine lv_goto (tgt := 140) hx hb dX4_takes_214 (by decide) ?_
                        exact ih140 (zr + 1) (k + 1) (by omega) (by omega) (hwb2.2.symm.trans hinv2) (by omega) _ _ (by rw [show dvK (T 5) ((T 0) 10) zq (k + 1) = (dvK (T 5) ((T 0) 10) zq k) by simp only [dvK]; rw [← ezr]; first | exact if_pos (by omega) | exact if_neg (by omega)]; exact hW) hS ls (lv_sub hl [0, 1] rfl)
                      · -- 172 -> 175
                        refine ii_bipush hx hb dX4_takes_175 (by decide) ?_
                        refine lv_aload_n hx hb dX4_takes_177 rfl (lv_at hl 1 rfl) ?_
                        refine r_get (ci := 4) (k := 14) (v := .int (iI (dvK (T 5) ((T 0) 10) zq k))) (C := RX4) (T := TX4) (N := 29) Z hB hx hb hts hown rfl in_X4 hW.obj (by decide) q992 rfl dX4_takes_178 ?_
                        refine ii_mul hx hb dX4_takes_181 ?_
                        refine lv_aload_n hx hb dX4_takes_182 rfl (lv_at hl 1 rfl) ?_
                        refine lv_aload_n hx hb dX4_takes_183 rfl (lv_at hl 1 rfl) ?_
                        refine r_get (ci := 4) (k := 11) (v := .int (iI zr)) (C := RX4) (T := TX4) (N := 29) Z hB hx hb hts hown rfl in_X4 hW.obj (by decide) q989 rfl dX4_takes_184 ?_
                        refine cqI (va_runV (As := [.int (iI zr)]) (rest := [.int (iI (10 * (dvK (T 5) ((T 0) 10) zq k))), .ref (K 0)]) ⟨hx, hb, hml, hown, hts⟩ (mX4_byteAt Z K (up T 0 (up (up (up (up (T 0) 11 zr) 12 zq) 13 2) 14 (dvK (T 5) ((T 0) 10) zq k))) ((T 0) 10) rfl (by omega) (T 5) rfl ht zr (by omega)) (cwV 1 hts (lw_V q1087 q1089 qs35 q83 q1090) rfl rfl rfl (by decide +kernel) ⟨Nat.le_of_ble_eq_true rfl, Nat.le_of_ble_eq_true rfl⟩) (pvR (BornH.S hB hN hS) (OBJ.recv Z hB hW.obj (q := (RX4, TX4, 29)) rfl) hW) rfl rfl hl.1 rfl (lv_room (Nat.le_of_ble_eq_true rfl)) dX4_takes_187 ⟨Nat.zero_le _, Nat.zero_le _⟩) ?_
                        have hby_17 := byA_in ht ((T 0) 10) zr
                        refine ii_add hx hb dX4_takes_190 ?_
                        refine ii_bipush hx hb dX4_takes_191 (by decide) ?_
                        refine ii_sub hx hb dX4_takes_193 ?_
                        refine lv_goto (tgt := 201) hx hb dX4_takes_194 (by decide) ?_
                        refine r_put (ci := 4) (k := 14) (C := RX4) (T := TX4) (N := 29) Z hB hx hb hts hown rfl in_X4 tyX4 tyX4_ok nmX4 hW.obj hS (AA.me (by omega)) (by decide) q992 rfl rfl rfl rfl (Nat.le_of_ble_eq_true rfl) dX4_takes_201 (MW G K (up (up T 0 (up (up (up (up (T 0) 11 zr) 12 zq) 13 2) 14 (dvK (T 5) ((T 0) 10) zq k))) 0 (up (up (up (up (up (T 0) 11 zr) 12 zq) 13 2) 14 (dvK (T 5) ((T 0) 10) zq k)) 14 (((10 * (dvK (T 5) ((T 0) 10) zq k)) + (byA (T 5) ((T 0) 10) zr)) - 48)))) (fun H1 hz oq ho => hW.setO hI (k := 14) oq ho) (fun H locs hW hS => ?_)
                        have hW := hW.eqS (S' := (up T 0 (up (up (up (up (T 0) 11 zr) 12 zq) 13 2) 14 (((10 * (dvK (T 5) ((T 0) 10) zq k)) + (byA (T 5) ((T 0) 10) zr)) - 48)))) (by
                            funext a
                            by_cases h0 : a = 0
                            · subst h0
                              funext j
                              by_cases k0 : j = 11
                              · subst k0; rfl
                              by_cases k1 : j = 12
                              · subst k1; rfl
                              by_cases k2 : j = 13
                              · subst k2; rfl
                              by_cases k3 : j = 14
                              · subst k3; rfl
                              simp only [up, if_neg k0, if_neg k1, if_neg k2, if_neg k3, if_true, if_false, Nat.reduceEqDiff, reduceIte]
                            simp only [up, if_neg h0])
                        refine lv_aload_n hx hb dX4_takes_204 rfl (lv_at hl 1 rfl) ?_
                        refine lv_dup hx hb dX4_takes_205 rfl ?_
                        refine r_get (ci := 4) (k := 11) (v := .int (iI zr)) (C := RX4) (T := TX4) (N := 29) Z hB hx hb hts hown rfl in_X4 hW.obj (by decide) q989 rfl dX4_takes_206 ?_
                        refine ii_const hx hb dX4_takes_209 ?_
                        refine ii_add hx hb dX4_takes_210 ?_
                        refine r_put (ci := 4) (k := 11) (C := RX4) (T := TX4) (N := 29) Z hB hx hb hts hown rfl in_X4 tyX4 tyX4_ok nmX4 hW.obj hS (AA.me (by omega)) (by decide) q989 rfl rfl rfl rfl (Nat.le_of_ble_eq_true rfl) dX4_takes_211 (MW G K (up (up T 0 (up (up (up (up (T 0) 11 zr) 12 zq) 13 2) 14 (((10 * (dvK (T 5) ((T 0) 10) zq k)) + (byA (T 5) ((T 0) 10) zr)) - 48))) 0 (up (up (up (up (up (T 0) 11 zr) 12 zq) 13 2) 14 (((10 * (dvK (T 5) ((T 0) 10) zq k)) + (byA (T 5) ((T 0) 10) zr)) - 48)) 11 (zr + 1)))) (fun H1 hz oq ho => hW.setO hI (k := 11) oq ho) (fun H locs hW hS => ?_)
                        have hW := hW.eqS (S' := (up T 0 (up (up (up (up (T 0) 11 (zr + 1)) 12 zq) 13 2) 14 (((10 * (dvK (T 5) ((T 0) 10) zq k)) + (byA (T 5) ((T 0) 10) zr)) - 48)))) (by
                            funext a
                            by_cases h0 : a = 0
                            · subst h0
                              funext j
                              by_cases k0 : j = 11
                              · subst k0; rfl
                              by_cases k1 : j = 12
                              · subst k1; rfl
                              by_cases k2 : j = 13
                              · subst k2; rfl
                              by_cases k3 : j = 14
                              · subst k3; rfl
                              simp only [up, if_neg k0, if_neg k1, if_neg k2, if_neg k3, if_true, if_false, Nat.reduceEqDiff, reduceIte]
                            simp only [up, if_neg h0])
                        refine lv_goto (tgt := 140) hx hb dX4_takes_214 (by decide) ?_
                        exact ih140 (zr + 1) (k + 1) (by omega) (by omega) (hwb2.2.symm.trans hinv2) (by omega) _ _ (by rw [show dvK (T 5) ((T 0) 10) zq (k + 1) = (((10 * (dvK (T 5) ((T 0) 10) zq k)) + (byA (T 5) ((T 0) 10) zr)) - 48) by simp only [dvK]; rw [← ezr]; first | exact if_pos (by omega) | exact if_neg (by omega)]; exact hW) hS ls (lv_sub hl [0, 1] rfl)
                exact loop_140 _ zq 0 (by omega) (by omega) (rfl) (Nat.lt_succ_self _) _ _ hW hS ls (lv_sub hl [0, 1] rfl)
            · -- 74 -> 77
              refine lv_aload_n hx hb dX4_takes_77 rfl (lv_at hl 1 rfl) ?_
              refine ii_const hx hb dX4_takes_78 ?_
              refine r_put (ci := 4) (k := 13) (C := RX4) (T := TX4) (N := 29) Z hB hx hb hts hown rfl in_X4 tyX4 tyX4_ok nmX4 hW.obj hS (AA.me (by omega)) (by decide) q991 rfl rfl rfl rfl (Nat.le_of_ble_eq_true rfl) dX4_takes_79 (MW G K (up (up T 0 (up (up (T 0) 11 zq) 12 zq)) 0 (up (up (up (T 0) 11 zq) 12 zq) 13 1))) (fun H1 hz oq ho => hW.setO hI (k := 13) oq ho) (fun H locs hW hS => ?_)
              have hW := hW.eqS (S' := (up T 0 (up (up (up (T 0) 11 zq) 12 zq) 13 1))) (by
                  funext a
                  by_cases h0 : a = 0
                  · subst h0
                    funext j
                    by_cases k0 : j = 11
                    · subst k0; rfl
                    by_cases k1 : j = 12
                    · subst k1; rfl
                    by_cases k2 : j = 13
                    · subst k2; rfl
                    simp only [up, if_neg k0, if_neg k1, if_neg k2, if_true, if_false, Nat.reduceEqDiff, reduceIte]
                  simp only [up, if_neg h0])
              have loop_82 : ∀ (fu : Nat) (zr : Int), (zq ≤ zr ∧ zr ≤ ((T 0) 10)) → ((wh isLo (T 5) ((T 0) 10).toNat zr.toNat) = (wh isLo (T 5) ((T 0) 10).toNat zq.toNat)) → (((T 0) 10) - zr + 1).toNat < fu → ∀ (H : Heap) (locs : List Loc), (MW G K (up T 0 (up (up (up (T 0) 11 zr) 12 zq) 13 1))) H → va_S (AA K 12 s.heap.size) s.heap H locs → ∀ (ls : Array Slot), lv_has ls 2 [(1, .int (iI (byA (T 5) ((T 0) 10) zq))), (0, .ref (K 0))] → W p l e (headSpec (ws_ yX4_takes cX4_takes 2 none) ({ frames := 1, cells := 0, slots := 0, locals := 25 } : Room)).room s m ([.ref (K 0)] : List Value).toArray below meth c H locs 0 0 (MQ below (mV (MW G K (up T 0 (tkP (T 5) (T 0)))) (AA K 12 s.heap.size)) ([.ref (K 0)] : List Value).toArray s 0 0 (AA K 12 s.heap.size)) (F0 m 82 ls []) := by
                intro fu
                induction fu with
                | zero => intro zr hzr9 hinv2 hmu; exact absurd hmu (Nat.not_lt_zero _)
                | succ fu ih82 =>
                  intro zr hzr9 hinv2 hmu H locs hW hS ls hl
                  refine lv_aload_n hx hb dX4_takes_82 rfl (lv_at hl 1 rfl) ?_
                  refine lv_aload_n hx hb dX4_takes_83 rfl (lv_at hl 1 rfl) ?_
                  refine r_get (ci := 4) (k := 11) (v := .int (iI zr)) (C := RX4) (T := TX4) (N := 29) Z hB hx hb hts hown rfl in_X4 hW.obj (by decide) q989 rfl dX4_takes_84 ?_
                  refine cqI (va_runV (As := [.int (iI zr)]) (rest := []) ⟨hx, hb, hml, hown, hts⟩ (mX4_byteAt Z K (up T 0 (up (up (up (T 0) 11 zr) 12 zq) 13 1)) ((T 0) 10) rfl (by omega) (T 5) rfl ht zr (by omega)) (cwV 1 hts (lw_V q1087 q1089 qs35 q83 q1090) rfl rfl rfl (by decide +kernel) ⟨Nat.le_of_ble_eq_true rfl, Nat.le_of_ble_eq_true rfl⟩) (pvR (BornH.S hB hN hS) (OBJ.recv Z hB hW.obj (q := (RX4, TX4, 29)) rfl) hW) rfl rfl hl.1 rfl (lv_room (Nat.le_of_ble_eq_true rfl)) dX4_takes_87 ⟨Nat.zero_le _, Nat.zero_le _⟩) ?_
                  have hby_18 := byA_in ht ((T 0) 10) zr
                  refine ii_i2l hx hb (by omega) dX4_takes_90 ?_
                  refine ii_ldc2 (z := 97) hx hb hts hown q1091 dX4_takes_91 (by decide) ?_
                  refine ii_ldc2 (z := 122) hx hb hts hown q1092 dX4_takes_94 (by decide) ?_
                  refine cqI (va_runS (As := [.long (lI (byA (T 5) ((T 0) 10) zr)), .long (lI 97), .long (lI 122)]) (rest := []) ⟨hx, hb, hml, hown, hts⟩ (mX4_in Z (byA (T 5) ((T 0) 10) zr) (by omega) 97 (by omega) 122 (by omega)) (va_cwS 3 hts (lw_S q1072 q1073 q83 q1074) rfl rfl rfl (by decide +kernel) ⟨Nat.le_of_ble_eq_true rfl, Nat.le_of_ble_eq_true rfl⟩) (psR (BornH.S hB hN hS) trivial) rfl rfl hl.1 rfl (lv_room (Nat.le_of_ble_eq_true rfl)) dX4_takes_97 ⟨Nat.zero_le _, Nat.zero_le _⟩) ?_
                  refine bb_if_eq (P := 97 ≤ (byA (T 5) ((T 0) 10) zr) ∧ (byA (T 5) ((T 0) 10) zr) ≤ 122) (tgt := 274) hx hb dX4_takes_100 (by decide) (fun c_19 => ?_) (fun c_19 => ?_)
                  · -- 100 -> 274
                    have hlo := wh_e (C := isLo) (t := T 5) (n := ((T 0) 10)) (p := zr) (by omega) (fun q => c_19 (isLo_i.mp q))
                    have hwn : (wh isLo (T 5) ((T 0) 10).toNat zq.toNat) = zr.toNat := hinv2.symm.trans hlo
                    have hzr : ((zr.toNat : Nat) : Int) = zr := by omega
                    have hpw9 : (MW G K (up T 0 (tkP (T 5) (T 0)))) H := (by rw [show tkP (T 5) (T 0) = (up (up (up (T 0) 11 zr) 12 zq) 13 1) by unfold tkP; rw [if_neg (by omega), hzn, hzz, if_neg (by omega), if_pos (by omega), hwn, hzr]]; exact hW)
                    exact W.vret hx hb hr (fun t ht hW9 => ⟨⟨(), rfl, trivial, by show (MW G K (up T 0 (tkP (T 5) (T 0)))) t.heap; rw [ht]; exact hpw9⟩, hS.F ht⟩) hS.2.2 dX4_takes_274
                  · -- 100 -> 103
                    have hwb2 := wh_b (C := isLo) (t := T 5) (n := ((T 0) 10)) (p := zr) (by omega) (isLo_i.mpr c_19) (by decide)
                    refine lv_aload_n hx hb dX4_takes_103 rfl (lv_at hl 1 rfl) ?_
                    refine lv_dup hx hb dX4_takes_104 rfl ?_
                    refine r_get (ci := 4) (k := 11) (v := .int (iI zr)) (C := RX4) (T := TX4) (N := 29) Z hB hx hb hts hown rfl in_X4 hW.obj (by decide) q989 rfl dX4_takes_105 ?_
                    refine ii_const hx hb dX4_takes_108 ?_
                    refine ii_add hx hb dX4_takes_109 ?_
                    refine r_put (ci := 4) (k := 11) (C := RX4) (T := TX4) (N := 29) Z hB hx hb hts hown rfl in_X4 tyX4 tyX4_ok nmX4 hW.obj hS (AA.me (by omega)) (by decide) q989 rfl rfl rfl rfl (Nat.le_of_ble_eq_true rfl) dX4_takes_110 (MW G K (up (up T 0 (up (up (up (T 0) 11 zr) 12 zq) 13 1)) 0 (up (up (up (up (T 0) 11 zr) 12 zq) 13 1) 11 (zr + 1)))) (fun H1 hz oq ho => hW.setO hI (k := 11) oq ho) (fun H locs hW hS => ?_)
                    have hW := hW.eqS (S' := (up T 0 (up (up (up (T 0) 11 (zr + 1)) 12 zq) 13 1))) (by
                        funext a
                        by_cases h0 : a = 0
                        · subst h0
                          funext j
                          by_cases k0 : j = 11
                          · subst k0; rfl
                          by_cases k1 : j = 12
                          · subst k1; rfl
                          by_cases k2 : j = 13
                          · subst k2; rfl
                          simp only [up, if_neg k0, if_neg k1, if_neg k2, if_true, if_false, Nat.reduceEqDiff, reduceIte]
                        simp only [up, if_neg h0])
                    refine lv_goto (tgt := 82) hx hb dX4_takes_113 (by decide) ?_
                    exact ih82 (zr + 1) (by omega) (hwb2.2.symm.trans hinv2) (by omega) _ _ hW hS ls (lv_sub hl [0, 1] rfl)
              exact loop_82 _ zq (by omega) (rfl) (Nat.lt_succ_self _) _ _ hW hS ls (lv_sub hl [0, 1] rfl)
          · -- 52 -> 55
            refine lv_aload_n hx hb dX4_takes_55 rfl (lv_at hl 1 rfl) ?_
            refine ii_const hx hb dX4_takes_56 ?_
            refine r_put (ci := 4) (k := 13) (C := RX4) (T := TX4) (N := 29) Z hB hx hb hts hown rfl in_X4 tyX4 tyX4_ok nmX4 hW.obj hS (AA.me (by omega)) (by decide) q991 rfl rfl rfl rfl (Nat.le_of_ble_eq_true rfl) dX4_takes_57 (MW G K (up (up T 0 (up (up (T 0) 11 zq) 12 zq)) 0 (up (up (up (T 0) 11 zq) 12 zq) 13 0))) (fun H1 hz oq ho => hW.setO hI (k := 13) oq ho) (fun H locs hW hS => ?_)
            have hW := hW.eqS (S' := (up T 0 (up (up (up (T 0) 11 zq) 12 zq) 13 0))) (by
                funext a
                by_cases h0 : a = 0
                · subst h0
                  funext j
                  by_cases k0 : j = 11
                  · subst k0; rfl
                  by_cases k1 : j = 12
                  · subst k1; rfl
                  by_cases k2 : j = 13
                  · subst k2; rfl
                  simp only [up, if_neg k0, if_neg k1, if_neg k2, if_true, if_false, Nat.reduceEqDiff, reduceIte]
                simp only [up, if_neg h0])
            refine lv_goto (tgt := 274) hx hb dX4_takes_60 (by decide) ?_
            have hpw9 : (MW G K (up T 0 (tkP (T 5) (T 0)))) H := (by rw [show tkP (T 5) (T 0) = (up (up (up (T 0) 11 zq) 12 zq) 13 0) by unfold tkP; rw [if_neg (by omega), hzn, hzz, if_pos (by omega)]]; exact hW)
            exact W.vret hx hb hr (fun t ht hW9 => ⟨⟨(), rfl, trivial, by show (MW G K (up T 0 (tkP (T 5) (T 0)))) t.heap; rw [ht]; exact hpw9⟩, hS.F ht⟩) hS.2.2 dX4_takes_274
        · -- 18 -> 21
          have hwb := wh_b (C := isSp) (t := T 5) (n := ((T 0) 10)) (p := zq) (by omega) (isSp_i.mpr c_3) (by decide)
          refine lv_aload_n hx hb dX4_takes_21 rfl (lv_at hl 0 rfl) ?_
          refine lv_dup hx hb dX4_takes_22 rfl ?_
          refine r_get (ci := 4) (k := 11) (v := .int (iI zq)) (C := RX4) (T := TX4) (N := 29) Z hB hx hb hts hown rfl in_X4 hW.obj (by decide) q989 rfl dX4_takes_23 ?_
          refine ii_const hx hb dX4_takes_26 ?_
          refine ii_add hx hb dX4_takes_27 ?_
          refine r_put (ci := 4) (k := 11) (C := RX4) (T := TX4) (N := 29) Z hB hx hb hts hown rfl in_X4 tyX4 tyX4_ok nmX4 hW.obj hS (AA.me (by omega)) (by decide) q989 rfl rfl rfl rfl (Nat.le_of_ble_eq_true rfl) dX4_takes_28 (MW G K (up (up T 0 (up (T 0) 11 zq)) 0 (up (up (T 0) 11 zq) 11 (zq + 1)))) (fun H1 hz oq ho => hW.setO hI (k := 11) oq ho) (fun H locs hW hS => ?_)
          have hW := hW.eqS (S' := (up T 0 (up (T 0) 11 (zq + 1)))) (by
              funext a
              by_cases h0 : a = 0
              · subst h0
                funext j
                by_cases k0 : j = 11
                · subst k0; rfl
                simp only [up, if_neg k0, if_true, if_false, Nat.reduceEqDiff, reduceIte]
              simp only [up, if_neg h0])
          refine lv_goto (tgt := 8) hx hb dX4_takes_31 (by decide) ?_
          exact ih8 (zq + 1) (by omega) (hwb.2.symm.trans hinv) (by omega) _ _ hW hS ls (lv_sub hl [0] rfl)
    have hW := hW.eqS (S' := (up T 0 (up (T 0) 11 ((T 0) 11)))) (by
        funext a
        by_cases h0 : a = 0
        · subst h0
          funext j
          by_cases k0 : j = 11
          · subst k0; rfl
          simp only [up, if_neg k0, if_true, if_false, Nat.reduceEqDiff, reduceIte]
        simp only [up, if_neg h0])
    exact loop_8 _ ((T 0) 11) (by omega) (rfl) (Nat.lt_succ_self _) _ _ hW hS ls (lv_sub hl [0] rfl)
  · -- 4 -> 7
    have hpw9 : (MW G K (up T 0 (tkP (T 5) (T 0)))) s.heap := (by rw [show tkP (T 5) (T 0) = T 0 from if_pos (by omega), show up T 0 (T 0) = T from up_id T 0]; exact hW)
    exact W.vret hx hb hr (fun t ht hW9 => ⟨⟨(), rfl, trivial, by show (MW G K (up T 0 (tkP (T 5) (T 0)))) t.heap; rw [ht]; exact hpw9⟩, hS.F ht⟩) hS.2.2 dX4_takes_7
