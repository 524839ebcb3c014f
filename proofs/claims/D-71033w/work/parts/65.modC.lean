/-! MODEL: a day (written by gen/mod2.py) -/
set_option maxRecDepth 100000
set_option maxHeartbeats 1000000 in
set_option maxRecDepth 100000 in
theorem mX4_drifts {l : Launch} {G : GG} {s0 : State} {b0 : Nat} (Z : ZZ l G s0 b0) (K : Nat → Nat) (hI : Own s0 K 12) (T : Sta) (F : Nat → Int) (eF : T 2 = F) (hF : WF F) (eN : T 1 76 = F 76) (i : Nat) (zi : Int) (hzi : zi = (i : Int)) (h5i : i < 5) (hD : Dia F) (sz : Nat) : Met l yX4_drifts (ws_ yX4_drifts cX4_drifts 7 none) ({ frames := 3, cells := 0, slots := 0, locals := 70 } : Room) (pcM s0 sz (MW G K T) [.ref (K 0), .int (iI zi)]) (mV (MW G K (up T 2 (drS F i))) (AA K 12 sz)) 0 0 (AA K 12 sz) := by
  refine Met.ofW (cc := cX4_drifts) (maxL := 7) (ret := none) (by decide) rfl ?_
  intro p e s m args below meth c s₁ B hml hv
  obtain ⟨rfl, hsz, hW, hB⟩ := hv
  subst hsz
  have hx := B.exec
  have hb := B.bytes
  have hr := B.returns
  have hts := atoms_spec (ws := (ws_ yX4_drifts cX4_drifts 7 none)) B.pre
  have hts : ∀ w ∈ lw_all, w.before _ s = true := fun w h => hts w (List.mem_cons_of_mem _ h)
  have hown : s.vm.findClass RX4 = some m.cls := findClass_of_methodNamed B.named
  have hlocks := B.notSynchronized
  have hN := AA.old hI hB
  have hS : va_S (AA K 12 s.heap.size) s.heap s.heap [] := va_S.rf
  have hl := lv_entry ([.ref (K 0), .int (iI zi)]) (n := 7) (Nat.le_of_ble_eq_true rfl)
  rw [lg_entry_eq]
  generalize (lg_sl ([.ref (K 0), .int (iI zi)]) ++ List.replicate (7 - (lg_sl ([.ref (K 0), .int (iI zi)])).length) Slot.unset).toArray = ls at hl ⊢
  have hl : lv_has ls 7 [(0, .ref (K 0)), (1, .int (iI zi))] := hl
  subst eF
  have hn5 := hF.n
  have hrm := hF.rm
  refine lv_aload_n hx hb dX4_drifts_0 rfl (lv_at hl 0 rfl) ?_
  refine lv_iload_n hx hb dX4_drifts_1 rfl (lv_at hl 1 rfl) ?_
  have hn_1 : (T 1) 76 = (T 2) 76 := by first | rfl | omega
  refine cqI (va_runV (As := [.int (iI zi)]) (rest := []) ⟨hx, hb, hml, hown, hts⟩ (mX4_driftOf Z K T (T 2) rfl hF hn_1 i zi (by omega) (by omega) hD) (cwV 1 hts (lw_V q1185 q1187 qs54 q83 q1188) rfl rfl rfl (by decide +kernel) ⟨Nat.le_of_ble_eq_true rfl, Nat.le_of_ble_eq_true rfl⟩) (pvR (BornH.S hB hN hS) (OBJ.recv Z hB hW.obj (q := (RX4, TX4, 29)) rfl) hW) rfl rfl hl.1 rfl (lv_room (Nat.le_of_ble_eq_true rfl)) dX4_drifts_2 ⟨Nat.zero_le _, Nat.zero_le _⟩) ?_
  have b_712 := mdr_in (s := sulkS (T 2) i ((T 2) 76).toNat) (hF.kd i (by omega)) (by have q := sulkS_in hF i (by omega) ((T 2) 76).toNat (by have := hF.n; omega); have := hF.n; omega)
  have hmd := mdr_is (kd := (T 2 (2 * i + 0))) (s := (sulkS (T 2) i ((T 2) 76).toNat)) (hF.kd i (by omega))
  have hmb := mdr_in (hF.kd i (by omega)) (show -15 ≤ (sulkS (T 2) i ((T 2) 76).toNat) ∧ (sulkS (T 2) i ((T 2) 76).toNat) ≤ 15 by have q := sulkS_in hF i (by omega) ((T 2) 76).toNat (by omega); omega)
  generalize ed : (mdr ((T 2) (2 * i + 0)) (sulkS (T 2) i ((T 2) 76).toNat)) = d9 at hmd hmb ⊢
  have had := az_def d9
  refine lv_istore_n (lv' := [(2, .int (iI d9)), (0, .ref (K 0)), (1, .int (iI zi))]) hx hb dX4_drifts_5 rfl hl (by decide) rfl (fun ls hl => ?_)
  refine lv_iload_n hx hb dX4_drifts_6 rfl (lv_at hl 0 rfl) ?_
  refine ii_if_ge (tgt := 14) hx hb dX4_drifts_7 (by decide) (by omega) (fun c_2 => ?_) (fun c_2 => ?_)
  · -- 7 -> 14
    refine ii_const hx hb dX4_drifts_14 ?_
    refine lv_istore_n (lv' := [(3, .int (iI 1)), (2, .int (iI d9)), (0, .ref (K 0)), (1, .int (iI zi))]) hx hb dX4_drifts_15 rfl hl (by decide) rfl (fun ls hl => ?_)
    refine ii_const hx hb dX4_drifts_16 ?_
    refine lv_istore (lv' := [(4, .int (iI 0)), (3, .int (iI 1)), (2, .int (iI d9)), (0, .ref (K 0)), (1, .int (iI zi))]) hx hb dX4_drifts_17 hl (by decide) rfl (fun ls hl => ?_)
    refine ii_const hx hb dX4_drifts_19 ?_
    refine lv_istore (lv' := [(5, .int (iI 0)), (4, .int (iI 0)), (3, .int (iI 1)), (2, .int (iI d9)), (0, .ref (K 0)), (1, .int (iI zi))]) hx hb dX4_drifts_20 hl (by decide) rfl (fun ls hl => ?_)
    have loop_22 : ∀ (fu : Nat) (j : Nat) (zj : Int) (zst : Int) (F1 : Nat → Int), (zj = (j : Int)) → (j ≤ (az d9).toNat) → (zst = 0 ∨ zst = 1) → (WF F1) → (F1 76 = T 2 76) → ((zst = 0 → walkS i (sgS (sulkS (T 2) i ((T 2) 76).toNat)) ((az d9).toNat - j) F1 = drS (T 2) i) ∧ (zst = 1 → F1 = drS (T 2) i)) → ((az d9).toNat + 1 - j) < fu → ∀ (H : Heap) (locs : List Loc), (MW G K (up T 2 F1)) H → va_S (AA K 12 s.heap.size) s.heap H locs → ∀ (ls : Array Slot), lv_has ls 7 [(5, .int (iI zj)), (4, .int (iI zst)), (3, .int (iI 1)), (2, .int (iI d9)), (0, .ref (K 0)), (1, .int (iI zi))] → W p l e (headSpec (ws_ yX4_drifts cX4_drifts 7 none) ({ frames := 3, cells := 0, slots := 0, locals := 70 } : Room)).room s m ([.ref (K 0), .int (iI zi)] : List Value).toArray below meth c H locs 0 0 (MQ below (mV (MW G K (up T 2 (drS (T 2) i))) (AA K 12 s.heap.size)) ([.ref (K 0), .int (iI zi)] : List Value).toArray s 0 0 (AA K 12 s.heap.size)) (F0 m 22 ls []) := by
      intro fu
      induction fu with
      | zero => intro j zj zst F1 ezj hj hst hF1 h76 hinv hmu; exact absurd hmu (Nat.not_lt_zero _)
      | succ fu ih22 =>
        intro j zj zst F1 ezj hj hst hF1 h76 hinv hmu H locs hW hS ls hl
        refine lv_iload hx hb dX4_drifts_22 (lv_at hl 0 rfl) ?_
        refine lv_iload_n hx hb dX4_drifts_24 rfl (lv_at hl 3 rfl) ?_
        refine cqI (va_runS (As := [.int (iI d9)]) (rest := [.int (iI zj)]) ⟨hx, hb, hml, hown, hts⟩ (mX4_sizeOf Z d9 (by omega)) (va_cwS 1 hts (lw_S q1167 q1168 q83 q1169) rfl rfl rfl (by decide +kernel) ⟨Nat.le_of_ble_eq_true rfl, Nat.le_of_ble_eq_true rfl⟩) (psR (BornH.S hB hN hS) trivial) rfl rfl hl.1 rfl (lv_room (Nat.le_of_ble_eq_true rfl)) dX4_drifts_25 ⟨Nat.zero_le _, Nat.zero_le _⟩) ?_
        have b_713 := az_in d9
        refine ii_icmp_ge (tgt := 127) hx hb dX4_drifts_28 (by decide) (by omega) (by omega) (fun c_3 => ?_) (fun c_3 => ?_)
        · -- 28 -> 127
          have hpw9 : (MW G K (up T 2 (drS (T 2) i))) H := (hW.eqS (congrArg (up T 2) (show F1 = drS (T 2) i from (by first | exact hinv.2 (by omega) | exact hst.elim (fun q => by have h := hinv.1 q; rw [show (az d9).toNat - j = 0 by omega] at h; exact h) (fun q => hinv.2 q)))))
          exact W.vret hx hb hr (fun t ht hW9 => ⟨⟨(), rfl, trivial, by show (MW G K (up T 2 (drS (T 2) i))) t.heap; rw [ht]; exact hpw9⟩, hS.F ht⟩) hS.2.2 dX4_drifts_127
        · -- 28 -> 31
          refine lv_iload hx hb dX4_drifts_31 (lv_at hl 1 rfl) ?_
          refine ii_if_ne (tgt := 127) hx hb dX4_drifts_33 (by decide) (by omega) (fun c_4 => ?_) (fun c_4 => ?_)
          · -- 33 -> 127
            have hpw9 : (MW G K (up T 2 (drS (T 2) i))) H := (hW.eqS (congrArg (up T 2) (show F1 = drS (T 2) i from (by first | exact hinv.2 (by omega) | exact hst.elim (fun q => by have h := hinv.1 q; rw [show (az d9).toNat - j = 0 by omega] at h; exact h) (fun q => hinv.2 q)))))
            exact W.vret hx hb hr (fun t ht hW9 => ⟨⟨(), rfl, trivial, by show (MW G K (up T 2 (drS (T 2) i))) t.heap; rw [ht]; exact hpw9⟩, hS.F ht⟩) hS.2.2 dX4_drifts_127
          · -- 33 -> 36
            have hsg : sgS (sulkS (T 2) i ((T 2) 76).toNat) = 1 := by first | exact hmd.2.1 (by omega) | exact hmd.2.2 (by omega)
            refine lv_aload_n hx hb dX4_drifts_36 rfl (lv_at hl 4 rfl) ?_
            refine lv_iload_n hx hb dX4_drifts_37 rfl (lv_at hl 5 rfl) ?_
            have hn_5 : (T 1) 76 = F1 76 := by first | rfl | omega
            refine cqI (va_runV (As := [.int (iI zi)]) (rest := []) ⟨hx, hb, hml, hown, hts⟩ (mX4_place Z K (up T 2 F1) F1 rfl hF1 hn_5 i zi (by omega) (by omega)) (cwV 1 hts (lw_V q1163 q1165 qs51 q83 q1166) rfl rfl rfl (by decide +kernel) ⟨Nat.le_of_ble_eq_true rfl, Nat.le_of_ble_eq_true rfl⟩) (pvR (BornH.S hB hN hS) (OBJ.recv Z hB hW.obj (q := (RX4, TX4, 29)) rfl) hW) rfl rfl hl.1 rfl (lv_room (Nat.le_of_ble_eq_true rfl)) dX4_drifts_38 ⟨Nat.zero_le _, Nat.zero_le _⟩) ?_
            have b_714 := hF1.pl i (by omega)
            refine lv_iload_n hx hb dX4_drifts_41 rfl (lv_at hl 2 rfl) ?_
            refine ii_add hx hb dX4_drifts_42 ?_
            refine lv_istore (lv' := [(6, .int (iI ((F1 (2 * i + 1)) + 1))), (5, .int (iI zj)), (4, .int (iI zst)), (3, .int (iI 1)), (2, .int (iI d9)), (0, .ref (K 0)), (1, .int (iI zi))]) hx hb dX4_drifts_43 hl (by decide) rfl (fun ls hl => ?_)
            refine lv_iload hx hb dX4_drifts_45 (lv_at hl 0 rfl) ?_
            refine cqI (va_runS (As := [.int (iI ((F1 (2 * i + 1)) + 1))]) (rest := []) ⟨hx, hb, hml, hown, hts⟩ (mX4_isFathom Z ((F1 (2 * i + 1)) + 1) (by omega)) (va_cwS 1 hts (lw_S q1223 q1224 q83 q1225) rfl rfl rfl (by decide +kernel) ⟨Nat.le_of_ble_eq_true rfl, Nat.le_of_ble_eq_true rfl⟩) (psR (BornH.S hB hN hS) trivial) rfl rfl hl.1 rfl (lv_room (Nat.le_of_ble_eq_true rfl)) dX4_drifts_47 ⟨Nat.zero_le _, Nat.zero_le _⟩) ?_
            refine bb_if_eq (P := 0 ≤ ((F1 (2 * i + 1)) + 1) ∧ ((F1 (2 * i + 1)) + 1) ≤ 99) (tgt := 63) hx hb dX4_drifts_50 (by decide) (fun c_6 => ?_) (fun c_6 => ?_)
            · -- 50 -> 63
              refine ii_const hx hb dX4_drifts_63 ?_
              refine lv_goto (tgt := 68) hx hb dX4_drifts_64 (by decide) ?_
              refine lv_istore (lv' := [(4, .int (iI 1)), (6, .int (iI ((F1 (2 * i + 1)) + 1))), (5, .int (iI zj)), (3, .int (iI 1)), (2, .int (iI d9)), (0, .ref (K 0)), (1, .int (iI zi))]) hx hb dX4_drifts_68 hl (by decide) rfl (fun ls hl => ?_)
              refine lv_iload hx hb dX4_drifts_70 (lv_at hl 0 rfl) ?_
              refine ii_if_ne (tgt := 98) hx hb dX4_drifts_72 (by decide) (by omega) (fun c_7 => ?_) (fun c_7 => ?_)
              · -- 72 -> 98
                refine lv_aload_n hx hb dX4_drifts_98 rfl (lv_at hl 5 rfl) ?_
                refine r_get (ci := 4) (k := 1) (v := .ref (K 2)) (C := RX4) (T := TX4) (N := 29) Z hB hx hb hts hown rfl in_X4 hW.obj (by decide) q979 rfl dX4_drifts_99 ?_
                refine ii_const hx hb dX4_drifts_102 ?_
                refine lv_iload_n hx hb dX4_drifts_103 rfl (lv_at hl 6 rfl) ?_
                refine ii_mul hx hb dX4_drifts_104 ?_
                refine ii_const hx hb dX4_drifts_105 ?_
                refine ii_add hx hb dX4_drifts_106 ?_
                refine lv_dup2_11 hx hb dX4_drifts_107 rfl rfl ?_
                have b_715 := hF1.pl i (by omega)
                refine r_iald (k := (2 * i + 1)) (f := F1) Z hB hx hb hW.now (by omega) (by omega) (by omega) dX4_drifts_108 ?_
                refine lv_iload hx hb dX4_drifts_109 (lv_at hl 0 rfl) ?_
                refine ii_if_eq (tgt := 118) hx hb dX4_drifts_111 (by decide) (by omega) (fun c_8 => ?_) (fun c_8 => ?_)
                · -- 111 -> 118
                  exact absurd c_8 (by omega)
                · -- 111 -> 114
                  refine ii_const hx hb dX4_drifts_114 ?_
                  refine lv_goto (tgt := 119) hx hb dX4_drifts_115 (by decide) ?_
                  refine ii_add hx hb dX4_drifts_119 ?_
                  refine r_iast (k := (2 * i + 1)) Z hB hx hb hW.now hS (AA.me (by omega)) (by omega) (by omega) (by omega) dX4_drifts_120 (MW G K (up (up T 2 F1) 2 (up F1 (2 * i + 1) ((F1 (2 * i + 1)) + 0)))) (fun H1 hz oq ha => hW.setA hI (j := 2) (by omega) (by omega) (fun h => absurd h (by omega)) oq ha) (fun H locs hW hS => ?_)
                  have hW := hW.eqS (S' := (up T 2 (up F1 (2 * i + 1) ((F1 (2 * i + 1)) + 0)))) (by
                      funext a
                      by_cases h2 : a = 2
                      · subst h2; rfl
                      simp only [up, if_neg h2])
                  refine ii_iinc (k := 2) (lv' := [(5, .int (iI (zj + 1))), (4, .int (iI 1)), (6, .int (iI ((F1 (2 * i + 1)) + 1))), (3, .int (iI 1)), (2, .int (iI d9)), (0, .ref (K 0)), (1, .int (iI zi))]) hx hb dX4_drifts_121 hl rfl (by decide) rfl (fun ls hl => ?_)
                  refine lv_goto (tgt := 22) hx hb dX4_drifts_124 (by decide) ?_
                  exact ih22 (j + 1) (zj + 1) 1 (up F1 (2 * i + 1) ((F1 (2 * i + 1)) + 0)) (by omega) (by omega) (by omega) (by first | (rw [Int.add_zero, up_id]; exact hF1) | exact hF1.move (by omega) (by omega) | (rw [Int.add_zero, up_id]; exact WF.bump hF1)) (by first | (rw [up_n _ _ (by omega)]; exact h76) | (rw [up_n _ _ (by omega), up_n _ _ (by omega)]; exact h76)) (by first | exact ⟨fun h => absurd h (by omega), fun _ => by rw [Int.add_zero, up_id]; have h := hinv.1 (by omega); rw [show (az d9).toNat - j = ((az d9).toNat - (j + 1)) + 1 by omega, hsg, walkS_stop (by first | exact Or.inl (by assumption) | exact Or.inr (by assumption))] at h; exact h⟩ | exact ⟨fun h => absurd h (by omega), fun _ => by rw [Int.add_zero, up_id]; have h := hinv.1 (by omega); rw [show (az d9).toNat - j = ((az d9).toNat - (j + 1)) + 1 by omega, hsg, walkS_bump (by omega) (by assumption) (tk_is.mp (by assumption))] at h; exact h⟩ | exact ⟨fun _ => by rw [hsg]; have h := hinv.1 (by omega); rw [show (az d9).toNat - j = ((az d9).toNat - (j + 1)) + 1 by omega, hsg, walkS_step (by omega) (by assumption) (Classical.not_not.mp (fun q => absurd (tk_is.mpr q) (by assumption)))] at h; exact h, fun h => absurd h (by omega)⟩) (by omega) _ _ hW hS ls (lv_sub hl [0, 1, 3, 4, 5, 6] rfl)
              · -- 72 -> 75
                exact absurd c_7 (by omega)
            · -- 50 -> 53
              refine lv_aload_n hx hb dX4_drifts_53 rfl (lv_at hl 5 rfl) ?_
              refine lv_iload_n hx hb dX4_drifts_54 rfl (lv_at hl 6 rfl) ?_
              refine lv_iload hx hb dX4_drifts_55 (lv_at hl 0 rfl) ?_
              have hn_9 : (T 1) 76 = F1 76 := by first | rfl | omega
              refine cqI (va_runV (As := [.int (iI zi), .int (iI ((F1 (2 * i + 1)) + 1))]) (rest := []) ⟨hx, hb, hml, hown, hts⟩ (mX4_isHeld Z K (up T 2 F1) F1 rfl hF1 hn_9 i zi (by omega) (by omega) ((F1 (2 * i + 1)) + 1) (by omega)) (cwV 2 hts (lw_V q1281 q1283 qs66 q83 q1284) rfl rfl rfl (by decide +kernel) ⟨Nat.le_of_ble_eq_true rfl, Nat.le_of_ble_eq_true rfl⟩) (pvR (BornH.S hB hN hS) (OBJ.recv Z hB hW.obj (q := (RX4, TX4, 29)) rfl) hW) rfl rfl hl.1 rfl (lv_room (Nat.le_of_ble_eq_true rfl)) dX4_drifts_57 ⟨Nat.zero_le _, Nat.zero_le _⟩) ?_
              refine bb_if_eq (P := heldS F1 i ((F1 (2 * i + 1)) + 1) (F1 53).toNat = true) (tgt := 67) hx hb dX4_drifts_60 (by decide) (fun c_10 => ?_) (fun c_10 => ?_)
              · -- 60 -> 67
                refine ii_const hx hb dX4_drifts_67 ?_
                refine lv_istore (lv' := [(4, .int (iI 0)), (6, .int (iI ((F1 (2 * i + 1)) + 1))), (5, .int (iI zj)), (3, .int (iI 1)), (2, .int (iI d9)), (0, .ref (K 0)), (1, .int (iI zi))]) hx hb dX4_drifts_68 hl (by decide) rfl (fun ls hl => ?_)
                refine lv_iload hx hb dX4_drifts_70 (lv_at hl 0 rfl) ?_
                refine ii_if_ne (tgt := 98) hx hb dX4_drifts_72 (by decide) (by omega) (fun c_11 => ?_) (fun c_11 => ?_)
                · -- 72 -> 98
                  exact absurd c_11 (by omega)
                · -- 72 -> 75
                  refine lv_aload_n hx hb dX4_drifts_75 rfl (lv_at hl 5 rfl) ?_
                  refine lv_iload hx hb dX4_drifts_76 (lv_at hl 1 rfl) ?_
                  have hn_12 : (T 1) 76 = F1 76 := by first | rfl | omega
                  refine cqI (va_runV (As := [.int (iI ((F1 (2 * i + 1)) + 1))]) (rest := []) ⟨hx, hb, hml, hown, hts⟩ (mX4_isTaken Z K (up T 2 F1) F1 rfl hF1 hn_12 ((F1 (2 * i + 1)) + 1) (by omega)) (cwV 1 hts (lw_V q1227 q1229 qs59 q83 q1230) rfl rfl rfl (by decide +kernel) ⟨Nat.le_of_ble_eq_true rfl, Nat.le_of_ble_eq_true rfl⟩) (pvR (BornH.S hB hN hS) (OBJ.recv Z hB hW.obj (q := (RX4, TX4, 29)) rfl) hW) rfl rfl hl.1 rfl (lv_room (Nat.le_of_ble_eq_true rfl)) dX4_drifts_78 ⟨Nat.zero_le _, Nat.zero_le _⟩) ?_
                  refine bb_if_eq (P := tkB F1 ((F1 (2 * i + 1)) + 1) (F1 76).toNat = true) (tgt := 98) hx hb dX4_drifts_81 (by decide) (fun c_13 => ?_) (fun c_13 => ?_)
                  · -- 81 -> 98
                    refine lv_aload_n hx hb dX4_drifts_98 rfl (lv_at hl 5 rfl) ?_
                    refine r_get (ci := 4) (k := 1) (v := .ref (K 2)) (C := RX4) (T := TX4) (N := 29) Z hB hx hb hts hown rfl in_X4 hW.obj (by decide) q979 rfl dX4_drifts_99 ?_
                    refine ii_const hx hb dX4_drifts_102 ?_
                    refine lv_iload_n hx hb dX4_drifts_103 rfl (lv_at hl 6 rfl) ?_
                    refine ii_mul hx hb dX4_drifts_104 ?_
                    refine ii_const hx hb dX4_drifts_105 ?_
                    refine ii_add hx hb dX4_drifts_106 ?_
                    refine lv_dup2_11 hx hb dX4_drifts_107 rfl rfl ?_
                    have b_716 := hF1.pl i (by omega)
                    refine r_iald (k := (2 * i + 1)) (f := F1) Z hB hx hb hW.now (by omega) (by omega) (by omega) dX4_drifts_108 ?_
                    refine lv_iload hx hb dX4_drifts_109 (lv_at hl 0 rfl) ?_
                    refine ii_if_eq (tgt := 118) hx hb dX4_drifts_111 (by decide) (by omega) (fun c_14 => ?_) (fun c_14 => ?_)
                    · -- 111 -> 118
                      refine lv_iload_n hx hb dX4_drifts_118 rfl (lv_at hl 3 rfl) ?_
                      refine ii_add hx hb dX4_drifts_119 ?_
                      refine r_iast (k := (2 * i + 1)) Z hB hx hb hW.now hS (AA.me (by omega)) (by omega) (by omega) (by omega) dX4_drifts_120 (MW G K (up (up T 2 F1) 2 (up F1 (2 * i + 1) ((F1 (2 * i + 1)) + 1)))) (fun H1 hz oq ha => hW.setA hI (j := 2) (by omega) (by omega) (fun h => absurd h (by omega)) oq ha) (fun H locs hW hS => ?_)
                      have hW := hW.eqS (S' := (up T 2 (up F1 (2 * i + 1) ((F1 (2 * i + 1)) + 1)))) (by
                          funext a
                          by_cases h2 : a = 2
                          · subst h2; rfl
                          simp only [up, if_neg h2])
                      refine ii_iinc (k := 2) (lv' := [(5, .int (iI (zj + 1))), (4, .int (iI 0)), (6, .int (iI ((F1 (2 * i + 1)) + 1))), (3, .int (iI 1)), (2, .int (iI d9)), (0, .ref (K 0)), (1, .int (iI zi))]) hx hb dX4_drifts_121 hl rfl (by decide) rfl (fun ls hl => ?_)
                      refine lv_goto (tgt := 22) hx hb dX4_drifts_124 (by decide) ?_
                      exact ih22 (j + 1) (zj + 1) 0 (up F1 (2 * i + 1) ((F1 (2 * i + 1)) + 1)) (by omega) (by omega) (by omega) (by first | (rw [Int.add_zero, up_id]; exact hF1) | exact hF1.move (by omega) (by omega) | (rw [Int.add_zero, up_id]; exact WF.bump hF1)) (by first | (rw [up_n _ _ (by omega)]; exact h76) | (rw [up_n _ _ (by omega), up_n _ _ (by omega)]; exact h76)) (by first | exact ⟨fun h => absurd h (by omega), fun _ => by rw [Int.add_zero, up_id]; have h := hinv.1 (by omega); rw [show (az d9).toNat - j = ((az d9).toNat - (j + 1)) + 1 by omega, hsg, walkS_stop (by first | exact Or.inl (by assumption) | exact Or.inr (by assumption))] at h; exact h⟩ | exact ⟨fun h => absurd h (by omega), fun _ => by rw [Int.add_zero, up_id]; have h := hinv.1 (by omega); rw [show (az d9).toNat - j = ((az d9).toNat - (j + 1)) + 1 by omega, hsg, walkS_bump (by omega) (by assumption) (tk_is.mp (by assumption))] at h; exact h⟩ | exact ⟨fun _ => by rw [hsg]; have h := hinv.1 (by omega); rw [show (az d9).toNat - j = ((az d9).toNat - (j + 1)) + 1 by omega, hsg, walkS_step (by omega) (by assumption) (Classical.not_not.mp (fun q => absurd (tk_is.mpr q) (by assumption)))] at h; exact h, fun h => absurd h (by omega)⟩) (by omega) _ _ hW hS ls (lv_sub hl [0, 1, 3, 4, 5, 6] rfl)
                    · -- 111 -> 114
                      exact absurd c_14 (by omega)
                  · -- 81 -> 84
                    refine ii_const hx hb dX4_drifts_84 ?_
                    refine lv_istore (lv' := [(4, .int (iI 1)), (6, .int (iI ((F1 (2 * i + 1)) + 1))), (5, .int (iI zj)), (3, .int (iI 1)), (2, .int (iI d9)), (0, .ref (K 0)), (1, .int (iI zi))]) hx hb dX4_drifts_85 hl (by decide) rfl (fun ls hl => ?_)
                    refine lv_aload_n hx hb dX4_drifts_87 rfl (lv_at hl 5 rfl) ?_
                    refine r_get (ci := 4) (k := 1) (v := .ref (K 2)) (C := RX4) (T := TX4) (N := 29) Z hB hx hb hts hown rfl in_X4 hW.obj (by decide) q979 rfl dX4_drifts_88 ?_
                    refine ii_bipush hx hb dX4_drifts_91 (by decide) ?_
                    refine lv_dup2_11 hx hb dX4_drifts_93 rfl rfl ?_
                    refine r_iald (k := 56) (f := F1) Z hB hx hb hW.now (by omega) (by omega) (by omega) dX4_drifts_94 ?_
                    refine ii_const hx hb dX4_drifts_95 ?_
                    refine ii_add hx hb dX4_drifts_96 ?_
                    refine r_iast (k := 56) Z hB hx hb hW.now hS (AA.me (by omega)) (by omega) (by omega) (by omega) dX4_drifts_97 (MW G K (up (up T 2 F1) 2 (up F1 56 ((F1 56) + 1)))) (fun H1 hz oq ha => hW.setA hI (j := 2) (by omega) (by omega) (fun h => absurd h (by omega)) oq ha) (fun H locs hW hS => ?_)
                    have hW := hW.eqS (S' := (up T 2 (up F1 56 ((F1 56) + 1)))) (by
                        funext a
                        by_cases h2 : a = 2
                        · subst h2; rfl
                        simp only [up, if_neg h2])
                    refine lv_aload_n hx hb dX4_drifts_98 rfl (lv_at hl 5 rfl) ?_
                    refine r_get (ci := 4) (k := 1) (v := .ref (K 2)) (C := RX4) (T := TX4) (N := 29) Z hB hx hb hts hown rfl in_X4 hW.obj (by decide) q979 rfl dX4_drifts_99 ?_
                    refine ii_const hx hb dX4_drifts_102 ?_
                    refine lv_iload_n hx hb dX4_drifts_103 rfl (lv_at hl 6 rfl) ?_
                    refine ii_mul hx hb dX4_drifts_104 ?_
                    refine ii_const hx hb dX4_drifts_105 ?_
                    refine ii_add hx hb dX4_drifts_106 ?_
                    refine lv_dup2_11 hx hb dX4_drifts_107 rfl rfl ?_
                    refine r_iald (k := (2 * i + 1)) (f := (up F1 56 ((F1 56) + 1))) Z hB hx hb hW.now (by omega) (by omega) (by omega) dX4_drifts_108 ?_
                    refine lv_iload hx hb dX4_drifts_109 (lv_at hl 0 rfl) ?_
                    refine ii_if_eq (tgt := 118) hx hb dX4_drifts_111 (by decide) (by omega) (fun c_15 => ?_) (fun c_15 => ?_)
                    · -- 111 -> 118
                      exact absurd c_15 (by omega)
                    · -- 111 -> 114
                      refine ii_const hx hb dX4_drifts_114 ?_
                      refine lv_goto (tgt := 119) hx hb dX4_drifts_115 (by decide) ?_
                      refine ii_add hx hb dX4_drifts_119 ?_
                      refine r_iast (k := (2 * i + 1)) Z hB hx hb hW.now hS (AA.me (by omega)) (by omega) (by omega) (by omega) dX4_drifts_120 (MW G K (up (up T 2 (up F1 56 ((F1 56) + 1))) 2 (up (up F1 56 ((F1 56) + 1)) (2 * i + 1) (((up F1 56 ((F1 56) + 1)) (2 * i + 1)) + 0)))) (fun H1 hz oq ha => hW.setA hI (j := 2) (by omega) (by omega) (fun h => absurd h (by omega)) oq ha) (fun H locs hW hS => ?_)
                      have hW := hW.eqS (S' := (up T 2 (up (up F1 56 ((F1 56) + 1)) (2 * i + 1) (((up F1 56 ((F1 56) + 1)) (2 * i + 1)) + 0)))) (by
                          funext a
                          by_cases h2 : a = 2
                          · subst h2; rfl
                          simp only [up, if_neg h2])
                      refine ii_iinc (k := 2) (lv' := [(5, .int (iI (zj + 1))), (4, .int (iI 1)), (6, .int (iI ((F1 (2 * i + 1)) + 1))), (3, .int (iI 1)), (2, .int (iI d9)), (0, .ref (K 0)), (1, .int (iI zi))]) hx hb dX4_drifts_121 hl rfl (by decide) rfl (fun ls hl => ?_)
                      refine lv_goto (tgt := 22) hx hb dX4_drifts_124 (by decide) ?_
                      exact ih22 (j + 1) (zj + 1) 1 (up (up F1 56 ((F1 56) + 1)) (2 * i + 1) (((up F1 56 ((F1 56) + 1)) (2 * i + 1)) + 0)) (by omega) (by omega) (by omega) (by first | (rw [Int.add_zero, up_id]; exact hF1) | exact hF1.move (by omega) (by omega) | (rw [Int.add_zero, up_id]; exact WF.bump hF1)) (by first | (rw [up_n _ _ (by omega)]; exact h76) | (rw [up_n _ _ (by omega), up_n _ _ (by omega)]; exact h76)) (by first | exact ⟨fun h => absurd h (by omega), fun _ => by rw [Int.add_zero, up_id]; have h := hinv.1 (by omega); rw [show (az d9).toNat - j = ((az d9).toNat - (j + 1)) + 1 by omega, hsg, walkS_stop (by first | exact Or.inl (by assumption) | exact Or.inr (by assumption))] at h; exact h⟩ | exact ⟨fun h => absurd h (by omega), fun _ => by rw [Int.add_zero, up_id]; have h := hinv.1 (by omega); rw [show (az d9).toNat - j = ((az d9).toNat - (j + 1)) + 1 by omega, hsg, walkS_bump (by omega) (by assumption) (tk_is.mp (by assumption))] at h; exact h⟩ | exact ⟨fun _ => by rw [hsg]; have h := hinv.1 (by omega); rw [show (az d9).toNat - j = ((az d9).toNat - (j + 1)) + 1 by omega, hsg, walkS_step (by omega) (by assumption) (Classical.not_not.mp (fun q => absurd (tk_is.mpr q) (by assumption)))] at h; exact h, fun h => absurd h (by omega)⟩) (by omega) _ _ hW hS ls (lv_sub hl [0, 1, 3, 4, 5, 6] rfl)
              · -- 60 -> 63
                refine ii_const hx hb dX4_drifts_63 ?_
                refine lv_goto (tgt := 68) hx hb dX4_drifts_64 (by decide) ?_
                refine lv_istore (lv' := [(4, .int (iI 1)), (6, .int (iI ((F1 (2 * i + 1)) + 1))), (5, .int (iI zj)), (3, .int (iI 1)), (2, .int (iI d9)), (0, .ref (K 0)), (1, .int (iI zi))]) hx hb dX4_drifts_68 hl (by decide) rfl (fun ls hl => ?_)
                refine lv_iload hx hb dX4_drifts_70 (lv_at hl 0 rfl) ?_
                refine ii_if_ne (tgt := 98) hx hb dX4_drifts_72 (by decide) (by omega) (fun c_16 => ?_) (fun c_16 => ?_)
                · -- 72 -> 98
                  refine lv_aload_n hx hb dX4_drifts_98 rfl (lv_at hl 5 rfl) ?_
                  refine r_get (ci := 4) (k := 1) (v := .ref (K 2)) (C := RX4) (T := TX4) (N := 29) Z hB hx hb hts hown rfl in_X4 hW.obj (by decide) q979 rfl dX4_drifts_99 ?_
                  refine ii_const hx hb dX4_drifts_102 ?_
                  refine lv_iload_n hx hb dX4_drifts_103 rfl (lv_at hl 6 rfl) ?_
                  refine ii_mul hx hb dX4_drifts_104 ?_
                  refine ii_const hx hb dX4_drifts_105 ?_
                  refine ii_add hx hb dX4_drifts_106 ?_
                  refine lv_dup2_11 hx hb dX4_drifts_107 rfl rfl ?_
                  have b_717 := hF1.pl i (by omega)
                  refine r_iald (k := (2 * i + 1)) (f := F1) Z hB hx hb hW.now (by omega) (by omega) (by omega) dX4_drifts_108 ?_
                  refine lv_iload hx hb dX4_drifts_109 (lv_at hl 0 rfl) ?_
                  refine ii_if_eq (tgt := 118) hx hb dX4_drifts_111 (by decide) (by omega) (fun c_17 => ?_) (fun c_17 => ?_)
                  · -- 111 -> 118
                    exact absurd c_17 (by omega)
                  · -- 111 -> 114
                    refine ii_const hx hb dX4_drifts_114 ?_
                    refine lv_goto (tgt := 119) hx hb dX4_drifts_115 (by decide) ?_
                    refine ii_add hx hb dX4_drifts_119 ?_
                    refine r_iast (k := (2 * i + 1)) Z hB hx hb hW.now hS (AA.me (by omega)) (by omega) (by omega) (by omega) dX4_drifts_120 (MW G K (up (up T 2 F1) 2 (up F1 (2 * i + 1) ((F1 (2 * i + 1)) + 0)))) (fun H1 hz oq ha => hW.setA hI (j := 2) (by omega) (by omega) (fun h => absurd h (by omega)) oq ha) (fun H locs hW hS => ?_)
                    have hW := hW.eqS (S' := (up T 2 (up F1 (2 * i + 1) ((F1 (2 * i + 1)) + 0)))) (by
                        funext a
                        by_cases h2 : a = 2
                        · subst h2; rfl
                        simp only [up, if_neg h2])
                    refine ii_iinc (k := 2) (lv' := [(5, .int (iI (zj + 1))), (4, .int (iI 1)), (6, .int (iI ((F1 (2 * i + 1)) + 1))), (3, .int (iI 1)), (2, .int (iI d9)), (0, .ref (K 0)), (1, .int (iI zi))]) hx hb dX4_drifts_121 hl rfl (by decide) rfl (fun ls hl => ?_)
                    refine lv_goto (tgt := 22) hx hb dX4_drifts_124 (by decide) ?_
                    exact ih22 (j + 1) (zj + 1) 1 (up F1 (2 * i + 1) ((F1 (2 * i + 1)) + 0)) (by omega) (by omega) (by omega) (by first | (rw [Int.add_zero, up_id]; exact hF1) | exact hF1.move (by omega) (by omega) | (rw [Int.add_zero, up_id]; exact WF.bump hF1)) (by first | (rw [up_n _ _ (by omega)]; exact h76) | (rw [up_n _ _ (by omega), up_n _ _ (by omega)]; exact h76)) (by first | exact ⟨fun h => absurd h (by omega), fun _ => by rw [Int.add_zero, up_id]; have h := hinv.1 (by omega); rw [show (az d9).toNat - j = ((az d9).toNat - (j + 1)) + 1 by omega, hsg, walkS_stop (by first | exact Or.inl (by assumption) | exact Or.inr (by assumption))] at h; exact h⟩ | exact ⟨fun h => absurd h (by omega), fun _ => by rw [Int.add_zero, up_id]; have h := hinv.1 (by omega); rw [show (az d9).toNat - j = ((az d9).toNat - (j + 1)) + 1 by omega, hsg, walkS_bump (by omega) (by assumption) (tk_is.mp (by assumption))] at h; exact h⟩ | exact ⟨fun _ => by rw [hsg]; have h := hinv.1 (by omega); rw [show (az d9).toNat - j = ((az d9).toNat - (j + 1)) + 1 by omega, hsg, walkS_step (by omega) (by assumption) (Classical.not_not.mp (fun q => absurd (tk_is.mpr q) (by assumption)))] at h; exact h, fun h => absurd h (by omega)⟩) (by omega) _ _ hW hS ls (lv_sub hl [0, 1, 3, 4, 5, 6] rfl)
                · -- 72 -> 75
                  exact absurd c_16 (by omega)
    exact loop_22 _ 0 0 0 (T 2) (by omega) (by omega) (by omega) (hF) (rfl) (⟨fun _ => by rw [hmd.1]; rfl, fun h => absurd h (by omega)⟩) (Nat.lt_succ_self _) _ _ (by rw [show up T 2 (T 2) = T from up_id T 2]; exact hW) hS ls (lv_sub hl [0, 1, 2, 3, 4, 5] rfl)
  · -- 7 -> 10
    refine ii_const hx hb dX4_drifts_10 ?_
    refine lv_goto (tgt := 15) hx hb dX4_drifts_11 (by decide) ?_
    refine lv_istore_n (lv' := [(3, .int (iI (-1))), (2, .int (iI d9)), (0, .ref (K 0)), (1, .int (iI zi))]) hx hb dX4_drifts_15 rfl hl (by decide) rfl (fun ls hl => ?_)
    refine ii_const hx hb dX4_drifts_16 ?_
    refine lv_istore (lv' := [(4, .int (iI 0)), (3, .int (iI (-1))), (2, .int (iI d9)), (0, .ref (K 0)), (1, .int (iI zi))]) hx hb dX4_drifts_17 hl (by decide) rfl (fun ls hl => ?_)
    refine ii_const hx hb dX4_drifts_19 ?_
    refine lv_istore (lv' := [(5, .int (iI 0)), (4, .int (iI 0)), (3, .int (iI (-1))), (2, .int (iI d9)), (0, .ref (K 0)), (1, .int (iI zi))]) hx hb dX4_drifts_20 hl (by decide) rfl (fun ls hl => ?_)
    have loop_22 : ∀ (fu : Nat) (j : Nat) (zj : Int) (zst : Int) (F1 : Nat → Int), (zj = (j : Int)) → (j ≤ (az d9).toNat) → (zst = 0 ∨ zst = 1) → (WF F1) → (F1 76 = T 2 76) → ((zst = 0 → walkS i (sgS (sulkS (T 2) i ((T 2) 76).toNat)) ((az d9).toNat - j) F1 = drS (T 2) i) ∧ (zst = 1 → F1 = drS (T 2) i)) → ((az d9).toNat + 1 - j) < fu → ∀ (H : Heap) (locs : List Loc), (MW G K (up T 2 F1)) H → va_S (AA K 12 s.heap.size) s.heap H locs → ∀ (ls : Array Slot), lv_has ls 7 [(5, .int (iI zj)), (4, .int (iI zst)), (3, .int (iI (-1))), (2, .int (iI d9)), (0, .ref (K 0)), (1, .int (iI zi))] → W p l e (headSpec (ws_ yX4_drifts cX4_drifts 7 none) ({ frames := 3, cells := 0, slots := 0, locals := 70 } : Room)).room s m ([.ref (K 0), .int (iI zi)] : List Value).toArray below meth c H locs 0 0 (MQ below (mV (MW G K (up T 2 (drS (T 2) i))) (AA K 12 s.heap.size)) ([.ref (K 0), .int (iI zi)] : List Value).toArray s 0 0 (AA K 12 s.heap.size)) (F0 m 22 ls []) := by
      intro fu
      induction fu with
      | zero => intro j zj zst F1 ezj hj hst hF1 h76 hinv hmu; exact absurd hmu (Nat.not_lt_zero _)
      | succ fu ih22 =>
        intro j zj zst F1 ezj hj hst hF1 h76 hinv hmu H locs hW hS ls hl
        refine lv_iload hx hb dX4_drifts_22 (lv_at hl 0 rfl) ?_
        refine lv_iload_n hx hb dX4_drifts_24 rfl (lv_at hl 3 rfl) ?_
        refine cqI (va_runS (As := [.int (iI d9)]) (rest := [.int (iI zj)]) ⟨hx, hb, hml, hown, hts⟩ (mX4_sizeOf Z d9 (by omega)) (va_cwS 1 hts (lw_S q1167 q1168 q83 q1169) rfl rfl rfl (by decide +kernel) ⟨Nat.le_of_ble_eq_true rfl, Nat.le_of_ble_eq_true rfl⟩) (psR (BornH.S hB hN hS) trivial) rfl rfl hl.1 rfl (lv_room (Nat.le_of_ble_eq_true rfl)) dX4_drifts_25 ⟨Nat.zero_le _, Nat.zero_le _⟩) ?_
        have b_718 := az_in d9
        refine ii_icmp_ge (tgt := 127) hx hb dX4_drifts_28 (by decide) (by omega) (by omega) (fun c_18 => ?_) (fun c_18 => ?_)
        · -- 28 -> 127
          have hpw9 : (MW G K (up T 2 (drS (T 2) i))) H := (hW.eqS (congrArg (up T 2) (show F1 = drS (T 2) i from (by first | exact hinv.2 (by omega) | exact hst.elim (fun q => by have h := hinv.1 q; rw [show (az d9).toNat - j = 0 by omega] at h; exact h) (fun q => hinv.2 q)))))
          exact W.vret hx hb hr (fun t ht hW9 => ⟨⟨(), rfl, trivial, by show (MW G K (up T 2 (drS (T 2) i))) t.heap; rw [ht]; exact hpw9⟩, hS.F ht⟩) hS.2.2 dX4_drifts_127
        · -- 28 -> 31
          refine lv_iload hx hb dX4_drifts_31 (lv_at hl 1 rfl) ?_
          refine ii_if_ne (tgt := 127) hx hb dX4_drifts_33 (by decide) (by omega) (fun c_19 => ?_) (fun c_19 => ?_)
          · -- 33 -> 127
            have hpw9 : (MW G K (up T 2 (drS (T 2) i))) H := (hW.eqS (congrArg (up T 2) (show F1 = drS (T 2) i from (by first | exact hinv.2 (by omega) | exact hst.elim (fun q => by have h := hinv.1 q; rw [show (az d9).toNat - j = 0 by omega] at h; exact h) (fun q => hinv.2 q)))))
            exact W.vret hx hb hr (fun t ht hW9 => ⟨⟨(), rfl, trivial, by show (MW G K (up T 2 (drS (T 2) i))) t.heap; rw [ht]; exact hpw9⟩, hS.F ht⟩) hS.2.2 dX4_drifts_127
          · -- 33 -> 36
            have hsg : sgS (sulkS (T 2) i ((T 2) 76).toNat) = (-1) := by first | exact hmd.2.1 (by omega) | exact hmd.2.2 (by omega)
            refine lv_aload_n hx hb dX4_drifts_36 rfl (lv_at hl 4 rfl) ?_
            refine lv_iload_n hx hb dX4_drifts_37 rfl (lv_at hl 5 rfl) ?_
            have hn_20 : (T 1) 76 = F1 76 := by first | rfl | omega
            refine cqI (va_runV (As := [.int (iI zi)]) (rest := []) ⟨hx, hb, hml, hown, hts⟩ (mX4_place Z K (up T 2 F1) F1 rfl hF1 hn_20 i zi (by omega) (by omega)) (cwV 1 hts (lw_V q1163 q1165 qs51 q83 q1166) rfl rfl rfl (by decide +kernel) ⟨Nat.le_of_ble_eq_true rfl, Nat.le_of_ble_eq_true rfl⟩) (pvR (BornH.S hB hN hS) (OBJ.recv Z hB hW.obj (q := (RX4, TX4, 29)) rfl) hW) rfl rfl hl.1 rfl (lv_room (Nat.le_of_ble_eq_true rfl)) dX4_drifts_38 ⟨Nat.zero_le _, Nat.zero_le _⟩) ?_
            have b_719 := hF1.pl i (by omega)
            refine lv_iload_n hx hb dX4_drifts_41 rfl (lv_at hl 2 rfl) ?_
            refine ii_add hx hb dX4_drifts_42 ?_
            refine lv_istore (lv' := [(6, .int (iI ((F1 (2 * i + 1)) + (-1)))), (5, .int (iI zj)), (4, .int (iI zst)), (3, .int (iI (-1))), (2, .int (iI d9)), (0, .ref (K 0)), (1, .int (iI zi))]) hx hb dX4_drifts_43 hl (by decide) rfl (fun ls hl => ?_)
            refine lv_iload hx hb dX4_drifts_45 (lv_at hl 0 rfl) ?_
            refine cqI (va_runS (As := [.int (iI ((F1 (2 * i + 1)) + (-1)))]) (rest := []) ⟨hx, hb, hml, hown, hts⟩ (mX4_isFathom Z ((F1 (2 * i + 1)) + (-1)) (by omega)) (va_cwS 1 hts (lw_S q1223 q1224 q83 q1225) rfl rfl rfl (by decide +kernel) ⟨Nat.le_of_ble_eq_true rfl, Nat.le_of_ble_eq_true rfl⟩) (psR (BornH.S hB hN hS) trivial) rfl rfl hl.1 rfl (lv_room (Nat.le_of_ble_eq_true rfl)) dX4_drifts_47 ⟨Nat.zero_le _, Nat.zero_le _⟩) ?_
            refine bb_if_eq (P := 0 ≤ ((F1 (2 * i + 1)) + (-1)) ∧ ((F1 (2 * i + 1)) + (-1)) ≤ 99) (tgt := 63) hx hb dX4_drifts_50 (by decide) (fun c_21 => ?_) (fun c_21 => ?_)
            · -- 50 -> 63
              refine ii_const hx hb dX4_drifts_63 ?_
              refine lv_goto (tgt := 68) hx hb dX4_drifts_64 (by decide) ?_
              refine lv_istore (lv' := [(4, .int (iI 1)), (6, .int (iI ((F1 (2 * i + 1)) + (-1)))), (5, .int (iI zj)), (3, .int (iI (-1))), (2, .int (iI d9)), (0, .ref (K 0)), (1, .int (iI zi))]) hx hb dX4_drifts_68 hl (by decide) rfl (fun ls hl => ?_)
              refine lv_iload hx hb dX4_drifts_70 (lv_at hl 0 rfl) ?_
              refine ii_if_ne (tgt := 98) hx hb dX4_drifts_72 (by decide) (by omega) (fun c_22 => ?_) (fun c_22 => ?_)
              · -- 72 -> 98
                refine lv_aload_n hx hb dX4_drifts_98 rfl (lv_at hl 5 rfl) ?_
                refine r_get (ci := 4) (k := 1) (v := .ref (K 2)) (C := RX4) (T := TX4) (N := 29) Z hB hx hb hts hown rfl in_X4 hW.obj (by decide) q979 rfl dX4_drifts_99 ?_
                refine ii_const hx hb dX4_drifts_102 ?_
                refine lv_iload_n hx hb dX4_drifts_103 rfl (lv_at hl 6 rfl) ?_
                refine ii_mul hx hb dX4_drifts_104 ?_
                refine ii_const hx hb dX4_drifts_105 ?_
                refine ii_add hx hb dX4_drifts_106 ?_
                refine lv_dup2_11 hx hb dX4_drifts_107 rfl rfl ?_
                have b_720 := hF1.pl i (by omega)
                refine r_iald (k := (2 * i + 1)) (f := F1) Z hB hx hb hW.now (by omega) (by omega) (by omega) dX4_drifts_108 ?_
                refine lv_iload hx hb dX4_drifts_109 (lv_at hl 0 rfl) ?_
                refine ii_if_eq (tgt := 118) hx hb dX4_drifts_111 (by decide) (by omega) (fun c_23 => ?_) (fun c_23 => ?_)
                · -- 111 -> 118
                  exact absurd c_23 (by omega)
                · -- 111 -> 114
                  refine ii_const hx hb dX4_drifts_114 ?_
                  refine lv_goto (tgt := 119) hx hb dX4_drifts_115 (by decide) ?_
                  refine ii_add hx hb dX4_drifts_119 ?_
                  refine r_iast (k := (2 * i + 1)) Z hB hx hb hW.now hS (AA.me (by omega)) (by omega) (by omega) (by omega) dX4_drifts_120 (MW G K (up (up T 2 F1) 2 (up F1 (2 * i + 1) ((F1 (2 * i + 1)) + 0)))) (fun H1 hz oq ha => hW.setA hI (j := 2) (by omega) (by omega) (fun h => absurd h (by omega)) oq ha) (fun H locs hW hS => ?_)
                  have hW := hW.eqS (S' := (up T 2 (up F1 (2 * i + 1) ((F1 (2 * i + 1)) + 0)))) (by
                      funext a
                      by_cases h2 : a = 2
                      · subst h2; rfl
                      simp only [up, if_neg h2])
                  refine ii_iinc (k := 2) (lv' := [(5, .int (iI (zj + 1))), (4, .int (iI 1)), (6, .int (iI ((F1 (2 * i + 1)) + (-1)))), (3, .int (iI (-1))), (2, .int (iI d9)), (0, .ref (K 0)), (1, .int (iI zi))]) hx hb dX4_drifts_121 hl rfl (by decide) rfl (fun ls hl => ?_)
                  refine lv_goto (tgt := 22) hx hb dX4_drifts_124 (by decide) ?_
                  exact ih22 (j + 1) (zj + 1) 1 (up F1 (2 * i + 1) ((F1 (2 * i + 1)) + 0)) (by omega) (by omega) (by omega) (by first | (rw [Int.add_zero, up_id]; exact hF1) | exact hF1.move (by omega) (by omega) | (rw [Int.add_zero, up_id]; exact WF.bump hF1)) (by first | (rw [up_n _ _ (by omega)]; exact h76) | (rw [up_n _ _ (by omega), up_n _ _ (by omega)]; exact h76)) (by first | exact ⟨fun h => absurd h (by omega), fun _ => by rw [Int.add_zero, up_id]; have h := hinv.1 (by omega); rw [show (az d9).toNat - j = ((az d9).toNat - (j + 1)) + 1 by omega, hsg, walkS_stop (by first | exact Or.inl (by assumption) | exact Or.inr (by assumption))] at h; exact h⟩ | exact ⟨fun h => absurd h (by omega), fun _ => by rw [Int.add_zero, up_id]; have h := hinv.1 (by omega); rw [show (az d9).toNat - j = ((az d9).toNat - (j + 1)) + 1 by omega, hsg, walkS_bump (by omega) (by assumption) (tk_is.mp (by assumption))] at h; exact h⟩ | exact ⟨fun _ => by rw [hsg]; have h := hinv.1 (by omega); rw [show (az d9).toNat - j = ((az d9).toNat - (j + 1)) + 1 by omega, hsg, walkS_step (by omega) (by assumption) (Classical.not_not.mp (fun q => absurd (tk_is.mpr q) (by assumption)))] at h; exact h, fun h => absurd h (by omega)⟩) (by omega) _ _ hW hS ls (lv_sub hl [0, 1, 3, 4, 5, 6] rfl)
              · -- 72 -> 75
                exact absurd c_22 (by omega)
            · -- 50 -> 53
              refine lv_aload_n hx hb dX4_drifts_53 rfl (lv_at hl 5 rfl) ?_
              refine lv_iload_n hx hb dX4_drifts_54 rfl (lv_at hl 6 rfl) ?_
              refine lv_iload hx hb dX4_drifts_55 (lv_at hl 0 rfl) ?_
              have hn_24 : (T 1) 76 = F1 76 := by first | rfl | omega
              refine cqI (va_runV (As := [.int (iI zi), .int (iI ((F1 (2 * i + 1)) + (-1)))]) (rest := []) ⟨hx, hb, hml, hown, hts⟩ (mX4_isHeld Z K (up T 2 F1) F1 rfl hF1 hn_24 i zi (by omega) (by omega) ((F1 (2 * i + 1)) + (-1)) (by omega)) (cwV 2 hts (lw_V q1281 q1283 qs66 q83 q1284) rfl rfl rfl (by decide +kernel) ⟨Nat.le_of_ble_eq_true rfl, Nat.le_of_ble_eq_true rfl⟩) (pvR (BornH.S hB hN hS) (OBJ.recv Z hB hW.obj (q := (RX4, TX4, 29)) rfl) hW) rfl rfl hl.1 rfl (lv_room (Nat.le_of_ble_eq_true rfl)) dX4_drifts_57 ⟨Nat.zero_le _, Nat.zero_le _⟩) ?_
              refine bb_if_eq (P := heldS F1 i ((F1 (2 * i + 1)) + (-1)) (F1 53).toNat = true) (tgt := 67) hx hb dX4_drifts_60 (by decide) (fun c_25 => ?_) (fun c_25 => ?_)
              · -- 60 -> 67
                refine ii_const hx hb dX4_drifts_67 ?_
                refine lv_istore (lv' := [(4, .int (iI 0)), (6, .int (iI ((F1 (2 * i + 1)) + (-1)))), (5, .int (iI zj)), (3, .int (iI (-1))), (2, .int (iI d9)), (0, .ref (K 0)), (1, .int (iI zi))]) hx hb dX4_drifts_68 hl (by decide) rfl (fun ls hl => ?_)
                refine lv_iload hx hb dX4_drifts_70 (lv_at hl 0 rfl) ?_
                refine ii_if_ne (tgt := 98) hx hb dX4_drifts_72 (by decide) (by omega) (fun c_26 => ?_) (fun c_26 => ?_)
                · -- 72 -> 98
                  exact absurd c_26 (by omega)
                · -- 72 -> 75
                  refine lv_aload_n hx hb dX4_drifts_75 rfl (lv_at hl 5 rfl) ?_
                  refine lv_iload hx hb dX4_drifts_76 (lv_at hl 1 rfl) ?_
                  have hn_27 : (T 1) 76 = F1 76 := by first | rfl | omega
                  refine cqI (va_runV (As := [.int (iI ((F1 (2 * i + 1)) + (-1)))]) (rest := []) ⟨hx, hb, hml, hown, hts⟩ (mX4_isTaken Z K (up T 2 F1) F1 rfl hF1 hn_27 ((F1 (2 * i + 1)) + (-1)) (by omega)) (cwV 1 hts (lw_V q1227 q1229 qs59 q83 q1230) rfl rfl rfl (by decide +kernel) ⟨Nat.le_of_ble_eq_true rfl, Nat.le_of_ble_eq_true rfl⟩) (pvR (BornH.S hB hN hS) (OBJ.recv Z hB hW.obj (q := (RX4, TX4, 29)) rfl) hW) rfl rfl hl.1 rfl (lv_room (Nat.le_of_ble_eq_true rfl)) dX4_drifts_78 ⟨Nat.zero_le _, Nat.zero_le _⟩) ?_
                  refine bb_if_eq (P := tkB F1 ((F1 (2 * i + 1)) + (-1)) (F1 76).toNat = true) (tgt := 98) hx hb dX4_drifts_81 (by decide) (fun c_28 => ?_) (fun c_28 => ?_)
                  · -- 81 -> 98
                    refine lv_aload_n hx hb dX4_drifts_98 rfl (lv_at hl 5 rfl) ?_
                    refine r_get (ci := 4) (k := 1) (v := .ref (K 2)) (C := RX4) (T := TX4) (N := 29) Z hB hx hb hts hown rfl in_X4 hW.obj (by decide) q979 rfl dX4_drifts_99 ?_
                    refine ii_const hx hb dX4_drifts_102 ?_
                    refine lv_iload_n hx hb dX4_drifts_103 rfl (lv_at hl 6 rfl) ?_
                    refine ii_mul hx hb dX4_drifts_104 ?_
                    refine ii_const hx hb dX4_drifts_105 ?_
                    refine ii_add hx hb dX4_drifts_106 ?_
                    refine lv_dup2_11 hx hb dX4_drifts_107 rfl rfl ?_
                    have b_721 := hF1.pl i (by omega)
                    refine r_iald (k := (2 * i + 1)) (f := F1) Z hB hx hb hW.now (by omega) (by omega) (by omega) dX4_drifts_108 ?_
                    refine lv_iload hx hb dX4_drifts_109 (lv_at hl 0 rfl) ?_
                    refine ii_if_eq (tgt := 118) hx hb dX4_drifts_111 (by decide) (by omega) (fun c_29 => ?_) (fun c_29 => ?_)
                    · -- 111 -> 118
                      refine lv_iload_n hx hb dX4_drifts_118 rfl (lv_at hl 3 rfl) ?_
                      refine ii_add hx hb dX4_drifts_119 ?_
                      refine r_iast (k := (2 * i + 1)) Z hB hx hb hW.now hS (AA.me (by omega)) (by omega) (by omega) (by omega) dX4_drifts_120 (MW G K (up (up T 2 F1) 2 (up F1 (2 * i + 1) ((F1 (2 * i + 1)) + (-1))))) (fun H1 hz oq ha => hW.setA hI (j := 2) (by omega) (by omega) (fun h => absurd h (by omega)) oq ha) (fun H locs hW hS => ?_)
                      have hW := hW.eqS (S' := (up T 2 (up F1 (2 * i + 1) ((F1 (2 * i + 1)) + (-1))))) (by
                          funext a
                          by_cases h2 : a = 2
                          · subst h2; rfl
                          simp only [up, if_neg h2])
                      refine ii_iinc (k := 2) (lv' := [(5, .int (iI (zj + 1))), (4, .int (iI 0)), (6, .int (iI ((F1 (2 * i + 1)) + (-1)))), (3, .int (iI (-1))), (2, .int (iI d9)), (0, .ref (K 0)), (1, .int (iI zi))]) hx hb dX4_drifts_121 hl rfl (by decide) rfl (fun ls hl => ?_)
                      refine lv_goto (tgt := 22) hx hb dX4_drifts_124 (by decide) ?_
                      exact ih22 (j + 1) (zj + 1) 0 (up F1 (2 * i + 1) ((F1 (2 * i + 1)) + (-1))) (by omega) (by omega) (by omega) (by first | (rw [Int.add_zero, up_id]; exact hF1) | exact hF1.move (by omega) (by omega) | (rw [Int.add_zero, up_id]; exact WF.bump hF1)) (by first | (rw [up_n _ _ (by omega)]; exact h76) | (rw [up_n _ _ (by omega), up_n _ _ (by omega)]; exact h76)) (by first | exact ⟨fun h => absurd h (by omega), fun _ => by rw [Int.add_zero, up_id]; have h := hinv.1 (by omega); rw [show (az d9).toNat - j = ((az d9).toNat - (j + 1)) + 1 by omega, hsg, walkS_stop (by first | exact Or.inl (by assumption) | exact Or.inr (by assumption))] at h; exact h⟩ | exact ⟨fun h => absurd h (by omega), fun _ => by rw [Int.add_zero, up_id]; have h := hinv.1 (by omega); rw [show (az d9).toNat - j = ((az d9).toNat - (j + 1)) + 1 by omega, hsg, walkS_bump (by omega) (by assumption) (tk_is.mp (by assumption))] at h; exact h⟩ | exact ⟨fun _ => by rw [hsg]; have h := hinv.1 (by omega); rw [show (az d9).toNat - j = ((az d9).toNat - (j + 1)) + 1 by omega, hsg, walkS_step (by omega) (by assumption) (Classical.not_not.mp (fun q => absurd (tk_is.mpr q) (by assumption)))] at h; exact h, fun h => absurd h (by omega)⟩) (by omega) _ _ hW hS ls (lv_sub hl [0, 1, 3, 4, 5, 6] rfl)
                    · -- 111 -> 114
                      exact absurd c_29 (by omega)
                  · -- 81 -> 84
                    refine ii_const hx hb dX4_drifts_84 ?_
                    refine lv_istore (lv' := [(4, .int (iI 1)), (6, .int (iI ((F1 (2 * i + 1)) + (-1)))), (5, .int (iI zj)), (3, .int (iI (-1))), (2, .int (iI d9)), (0, .ref (K 0)), (1, .int (iI zi))]) hx hb dX4_drifts_85 hl (by decide) rfl (fun ls hl => ?_)
                    refine lv_aload_n hx hb dX4_drifts_87 rfl (lv_at hl 5 rfl) ?_
                    refine r_get (ci := 4) (k := 1) (v := .ref (K 2)) (C := RX4) (T := TX4) (N := 29) Z hB hx hb hts hown rfl in_X4 hW.obj (by decide) q979 rfl dX4_drifts_88 ?_
                    refine ii_bipush hx hb dX4_drifts_91 (by decide) ?_
                    refine lv_dup2_11 hx hb dX4_drifts_93 rfl rfl ?_
                    refine r_iald (k := 56) (f := F1) Z hB hx hb hW.now (by omega) (by omega) (by omega) dX4_drifts_94 ?_
                    refine ii_const hx hb dX4_drifts_95 ?_
                    refine ii_add hx hb dX4_drifts_96 ?_
                    refine r_iast (k := 56) Z hB hx hb hW.now hS (AA.me (by omega)) (by omega) (by omega) (by omega) dX4_drifts_97 (MW G K (up (up T 2 F1) 2 (up F1 56 ((F1 56) + 1)))) (fun H1 hz oq ha => hW.setA hI (j := 2) (by omega) (by omega) (fun h => absurd h (by omega)) oq ha) (fun H locs hW hS => ?_)
                    have hW := hW.eqS (S' := (up T 2 (up F1 56 ((F1 56) + 1)))) (by
                        funext a
                        by_cases h2 : a = 2
                        · subst h2; rfl
                        simp only [up, if_neg h2])
                    refine lv_aload_n hx hb dX4_drifts_98 rfl (lv_at hl 5 rfl) ?_
                    refine r_get (ci := 4) (k := 1) (v := .ref (K 2)) (C := RX4) (T := TX4) (N := 29) Z hB hx hb hts hown rfl in_X4 hW.obj (by decide) q979 rfl dX4_drifts_99 ?_
                    refine ii_const hx hb dX4_drifts_102 ?_
                    refine lv_iload_n hx hb dX4_drifts_103 rfl (lv_at hl 6 rfl) ?_
                    refine ii_mul hx hb dX4_drifts_104 ?_
                    refine ii_const hx hb dX4_drifts_105 ?_
                    refine ii_add hx hb dX4_drifts_106 ?_
                    refine lv_dup2_11 hx hb dX4_drifts_107 rfl rfl ?_
                    refine r_iald (k := (2 * i + 1)) (f := (up F1 56 ((F1 56) + 1))) Z hB hx hb hW.now (by omega) (by omega) (by omega) dX4_drifts_108 ?_
                    refine lv_iload hx hb dX4_drifts_109 (lv_at hl 0 rfl) ?_
                    refine ii_if_eq (tgt := 118) hx hb dX4_drifts_111 (by decide) (by omega) (fun c_30 => ?_) (fun c_30 => ?_)
                    · -- 111 -> 118
                      exact absurd c_30 (by omega)
                    · -- 111 -> 114
                      refine ii_const hx hb dX4_drifts_114 ?_
                      refine lv_goto (tgt := 119) hx hb dX4_drifts_115 (by decide) ?_
                      refine ii_add hx hb dX4_drifts_119 ?_
                      refine r_iast (k := (2 * i + 1)) Z hB hx hb hW.now hS (AA.me (by omega)) (by omega) (by omega) (by omega) dX4_drifts_120 (MW G K (up (up T 2 (up F1 56 ((F1 56) + 1))) 2 (up (up F1 56 ((F1 56) + 1)) (2 * i + 1) (((up F1 56 ((F1 56) + 1)) (2 * i + 1)) + 0)))) (fun H1 hz oq ha => hW.setA hI (j := 2) (by omega) (by omega) (fun h => absurd h (by omega)) oq ha) (fun H locs hW hS => ?_)
                      have hW := hW.eqS (S' := (up T 2 (up (up F1 56 ((F1 56) + 1)) (2 * i + 1) (((up F1 56 ((F1 56) + 1)) (2 * i + 1)) + 0)))) (by
                          funext a
                          by_cases h2 : a = 2
                          · subst h2; rfl
                          simp only [up, if_neg h2])
                      refine ii_iinc (k := 2) (lv' := [(5, .int (iI (zj + 1))), (4, .int (iI 1)), (6, .int (iI ((F1 (2 * i + 1)) + (-1)))), (3, .int (iI (-1))), (2, .int (iI d9)), (0, .ref (K 0)), (1, .int (iI zi))]) hx hb dX4_drifts_121 hl rfl (by decide) rfl (fun ls hl => ?_)
                      refine lv_goto (tgt := 22) hx hb dX4_drifts_124 (by decide) ?_
                      exact ih22 (j + 1) (zj + 1) 1 (up (up F1 56 ((F1 56) + 1)) (2 * i + 1) (((up F1 56 ((F1 56) + 1)) (2 * i + 1)) + 0)) (by omega) (by omega) (by omega) (by first | (rw [Int.add_zero, up_id]; exact hF1) | exact hF1.move (by omega) (by omega) | (rw [Int.add_zero, up_id]; exact WF.bump hF1)) (by first | (rw [up_n _ _ (by omega)]; exact h76) | (rw [up_n _ _ (by omega), up_n _ _ (by omega)]; exact h76)) (by first | exact ⟨fun h => absurd h (by omega), fun _ => by rw [Int.add_zero, up_id]; have h := hinv.1 (by omega); rw [show (az d9).toNat - j = ((az d9).toNat - (j + 1)) + 1 by omega, hsg, walkS_stop (by first | exact Or.inl (by assumption) | exact Or.inr (by assumption))] at h; exact h⟩ | exact ⟨fun h => absurd h (by omega), fun _ => by rw [Int.add_zero, up_id]; have h := hinv.1 (by omega); rw [show (az d9).toNat - j = ((az d9).toNat - (j + 1)) + 1 by omega, hsg, walkS_bump (by omega) (by assumption) (tk_is.mp (by assumption))] at h; exact h⟩ | exact ⟨fun _ => by rw [hsg]; have h := hinv.1 (by omega); rw [show (az d9).toNat - j = ((az d9).toNat - (j + 1)) + 1 by omega, hsg, walkS_step (by omega) (by assumption) (Classical.not_not.mp (fun q => absurd (tk_is.mpr q) (by assumption)))] at h; exact h, fun h => absurd h (by omega)⟩) (by omega) _ _ hW hS ls (lv_sub hl [0, 1, 3, 4, 5, 6] rfl)
              · -- 60 -> 63
                refine ii_const hx hb dX4_drifts_63 ?_
                refine lv_goto (tgt := 68) hx hb dX4_drifts_64 (by decide) ?_
                refine lv_istore (lv' := [(4, .int (iI 1)), (6, .int (iI ((F1 (2 * i + 1)) + (-1)))), (5, .int (iI zj)), (3, .int (iI (-1))), (2, .int (iI d9)), (0, .ref (K 0)), (1, .int (iI zi))]) hx hb dX4_drifts_68 hl (by decide) rfl (fun ls hl => ?_)
                refine lv_iload hx hb dX4_drifts_70 (lv_at hl 0 rfl) ?_
                refine ii_if_ne (tgt := 98) hx hb dX4_drifts_72 (by decide) (by omega) (fun c_31 => ?_) (fun c_31 => ?_)
                · -- 72 -> 98
                  refine lv_aload_n hx hb dX4_drifts_98 rfl (lv_at hl 5 rfl) ?_
                  refine r_get (ci := 4) (k := 1) (v := .ref (K 2)) (C := RX4) (T := TX4) (N := 29) Z hB hx hb hts hown rfl in_X4 hW.obj (by decide) q979 rfl dX4_drifts_99 ?_
                  refine ii_const hx hb dX4_drifts_102 ?_
                  refine lv_iload_n hx hb dX4_drifts_103 rfl (lv_at hl 6 rfl) ?_
                  refine ii_mul hx hb dX4_drifts_104 ?_
                  refine ii_const hx hb dX4_drifts_105 ?_
                  refine ii_add hx hb dX4_drifts_106 ?_
                  refine lv_dup2_11 hx hb dX4_drifts_107 rfl rfl ?_
                  have b_722 := hF1.pl i (by omega)
                  refine r_iald (k := (2 * i + 1)) (f := F1) Z hB hx hb hW.now (by omega) (by omega) (by omega) dX4_drifts_108 ?_
                  refine lv_iload hx hb dX4_drifts_109 (lv_at hl 0 rfl) ?_
                  refine ii_if_eq (tgt := 118) hx hb dX4_drifts_111 (by decide) (by omega) (fun c_32 => ?_) (fun c_32 => ?_)
                  · -- 111 -> 118
                    exact absurd c_32 (by omega)
                  · -- 111 -> 114
                    refine ii_const hx hb dX4_drifts_114 ?_
                    refine lv_goto (tgt := 119) hx hb dX4_drifts_115 (by decide) ?_
                    refine ii_add hx hb dX4_drifts_119 ?_
                    refine r_iast (k := (2 * i + 1)) Z hB hx hb hW.now hS (AA.me (by omega)) (by omega) (by omega) (by omega) dX4_drifts_120 (MW G K (up (up T 2 F1) 2 (up F1 (2 * i + 1) ((F1 (2 * i + 1)) + 0)))) (fun H1 hz oq ha => hW.setA hI (j := 2) (by omega) (by omega) (fun h => absurd h (by omega)) oq ha) (fun H locs hW hS => ?_)
                    have hW := hW.eqS (S' := (up T 2 (up F1 (2 * i + 1) ((F1 (2 * i + 1)) + 0)))) (by
                        funext a
                        by_cases h2 : a = 2
                        · subst h2; rfl
                        simp only [up, if_neg h2])
                    refine ii_iinc (k := 2) (lv' := [(5, .int (iI (zj + 1))), (4, .int (iI 1)), (6, .int (iI ((F1 (2 * i + 1)) + (-1)))), (3, .int (iI (-1))), (2, .int (iI d9)), (0, .ref (K 0)), (1, .int (iI zi))]) hx hb dX4_drifts_121 hl rfl (by decide) rfl (fun ls hl => ?_)
                    refine lv_goto (tgt := 22) hx hb dX4_drifts_124 (by decide) ?_
                    exact ih22 (j + 1) (zj + 1) 1 (up F1 (2 * i + 1) ((F1 (2 * i + 1)) + 0)) (by omega) (by omega) (by omega) (by first | (rw [Int.add_zero, up_id]; exact hF1) | exact hF1.move (by omega) (by omega) | (rw [Int.add_zero, up_id]; exact WF.bump hF1)) (by first | (rw [up_n _ _ (by omega)]; exact h76) | (rw [up_n _ _ (by omega), up_n _ _ (by omega)]; exact h76)) (by first | exact ⟨fun h => absurd h (by omega), fun _ => by rw [Int.add_zero, up_id]; have h := hinv.1 (by omega); rw [show (az d9).toNat - j = ((az d9).toNat - (j + 1)) + 1 by omega, hsg, walkS_stop (by first | exact Or.inl (by assumption) | exact Or.inr (by assumption))] at h; exact h⟩ | exact ⟨fun h => absurd h (by omega), fun _ => by rw [Int.add_zero, up_id]; have h := hinv.1 (by omega); rw [show (az d9).toNat - j = ((az d9).toNat - (j + 1)) + 1 by omega, hsg, walkS_bump (by omega) (by assumption) (tk_is.mp (by assumption))] at h; exact h⟩ | exact ⟨fun _ => by rw [hsg]; have h := hinv.1 (by omega); rw [show (az d9).toNat - j = ((az d9).toNat - (j + 1)) + 1 by omega, hsg, walkS_step (by omega) (by assumption) (Classical.not_not.mp (fun q => absurd (tk_is.mpr q) (by assumption)))] at h; exact h, fun h => absurd h (by omega)⟩) (by omega) _ _ hW hS ls (lv_sub hl [0, 1, 3, 4, 5, 6] rfl)
                · -- 72 -> 75
                  exact absurd c_31 (by omega)
    exact loop_22 _ 0 0 0 (T 2) (by omega) (by omega) (by omega) (hF) (rfl) (⟨fun _ => by rw [hmd.1]; rfl, fun h => absurd h (by omega)⟩) (Nat.lt_succ_self _) _ _ (by rw [show up T 2 (T 2) = T from up_id T 2]; exact hW) hS ls (lv_sub hl [0, 1, 2, 3, 4, 5] rfl)

set_option maxHeartbeats 1000000 in
set_option maxRecDepth 100000 in
theorem mX4_dayGoes {l : Launch} {G : GG} {s0 : State} {b0 : Nat} (Z : ZZ l G s0 b0) (K : Nat → Nat) (hI : Own s0 K 12) (T : Sta) (F : Nat → Int) (eF : T 2 = F) (hF : WF F) (eN : T 1 76 = F 76) (zb : Int) (hb9 : zb = 0 ∨ zb = 1) (hD : Dia F) (sz : Nat) : Met l yX4_dayGoes (ws_ yX4_dayGoes cX4_dayGoes 4 none) ({ frames := 4, cells := 0, slots := 0, locals := 96 } : Room) (pcM s0 sz (MW G K T) [.ref (K 0), .int (iI zb)]) (mV (MW G K (up T 2 (stepS F zb))) (AA K 12 sz)) 0 0 (AA K 12 sz) := by
  refine Met.ofW (cc := cX4_dayGoes) (maxL := 4) (ret := none) (by decide) rfl ?_
  intro p e s m args below meth c s₁ B hml hv
  obtain ⟨rfl, hsz, hW, hB⟩ := hv
  subst hsz
  have hx := B.exec
  have hb := B.bytes
  have hr := B.returns
  have hts := atoms_spec (ws := (ws_ yX4_dayGoes cX4_dayGoes 4 none)) B.pre
  have hts : ∀ w ∈ lw_all, w.before _ s = true := fun w h => hts w (List.mem_cons_of_mem _ h)
  have hown : s.vm.findClass RX4 = some m.cls := findClass_of_methodNamed B.named
  have hlocks := B.notSynchronized
  have hN := AA.old hI hB
  have hS : va_S (AA K 12 s.heap.size) s.heap s.heap [] := va_S.rf
  have hl := lv_entry ([.ref (K 0), .int (iI zb)]) (n := 4) (Nat.le_of_ble_eq_true rfl)
  rw [lg_entry_eq]
  generalize (lg_sl ([.ref (K 0), .int (iI zb)]) ++ List.replicate (4 - (lg_sl ([.ref (K 0), .int (iI zb)])).length) Slot.unset).toArray = ls at hl ⊢
  have hl : lv_has ls 4 [(0, .ref (K 0)), (1, .int (iI zb))] := hl
  subst eF
  have hn5 := hF.n
  have hrm := hF.rm
  refine lv_aload_n hx hb dX4_dayGoes_0 rfl (lv_at hl 0 rfl) ?_
  refine r_get (ci := 4) (k := 1) (v := .ref (K 2)) (C := RX4) (T := TX4) (N := 29) Z hB hx hb hts hown rfl in_X4 hW.obj (by decide) q979 rfl dX4_dayGoes_1 ?_
  refine ii_bipush hx hb dX4_dayGoes_4 (by decide) ?_
  have b_723 := hF.day
  refine r_iald (k := 54) (f := (T 2)) Z hB hx hb hW.now (by omega) (by omega) (by omega) dX4_dayGoes_6 ?_
  refine ii_bipush hx hb dX4_dayGoes_7 (by decide) ?_
  refine ii_rem hx hb (by omega) (by omega) dX4_dayGoes_9 ?_
  refine lv_aload_n hx hb dX4_dayGoes_10 rfl (lv_at hl 0 rfl) ?_
  refine r_get (ci := 4) (k := 1) (v := .ref (K 2)) (C := RX4) (T := TX4) (N := 29) Z hB hx hb hts hown rfl in_X4 hW.obj (by decide) q979 rfl dX4_dayGoes_11 ?_
  refine ii_bipush hx hb dX4_dayGoes_14 (by decide) ?_
  have b_724 := hF.fe
  refine r_iald (k := 55) (f := (T 2)) Z hB hx hb hW.now (by omega) (by omega) (by omega) dX4_dayGoes_16 ?_
  refine ii_icmp_ne (tgt := 24) hx hb dX4_dayGoes_17 (by decide) (by omega) (by omega) (fun c_1 => ?_) (fun c_1 => ?_)
  · -- 17 -> 24
    refine ii_const hx hb dX4_dayGoes_24 ?_
    refine lv_istore_n (lv' := [(2, .int (iI 0)), (0, .ref (K 0)), (1, .int (iI zb))]) hx hb dX4_dayGoes_25 rfl hl (by decide) rfl (fun ls hl => ?_)
    refine ii_const hx hb dX4_dayGoes_26 ?_
    refine lv_istore_n (lv' := [(3, .int (iI 0)), (2, .int (iI 0)), (0, .ref (K 0)), (1, .int (iI zb))]) hx hb dX4_dayGoes_27 rfl hl (by decide) rfl (fun ls hl => ?_)
    have loop_28 : ∀ (fu : Nat) (i : Nat) (zi : Int) (F1 : Nat → Int), (zi = (i : Int)) → (i ≤ ((T 2) 76).toNat) → (WF F1) → (Dia F1) → (goS (T 2) i = F1) → (F1 76 = T 2 76) → (F1 54 = T 2 54) → (F1 55 = T 2 55) → (zb = 1 → i = 0) → (6 - i) < fu → ∀ (H : Heap) (locs : List Loc), (MW G K (up T 2 F1)) H → va_S (AA K 12 s.heap.size) s.heap H locs → ∀ (ls : Array Slot), lv_has ls 4 [(3, .int (iI zi)), (2, .int (iI 0)), (0, .ref (K 0)), (1, .int (iI zb))] → W p l e (headSpec (ws_ yX4_dayGoes cX4_dayGoes 4 none) ({ frames := 4, cells := 0, slots := 0, locals := 96 } : Room)).room s m ([.ref (K 0), .int (iI zb)] : List Value).toArray below meth c H locs 0 0 (MQ below (mV (MW G K (up T 2 (stepS (T 2) zb))) (AA K 12 s.heap.size)) ([.ref (K 0), .int (iI zb)] : List Value).toArray s 0 0 (AA K 12 s.heap.size)) (F0 m 28 ls []) := by
      intro fu
      induction fu with
      | zero => intro i zi F1 ezi hi hF1 hD1 hinv h76 h54 h55 hi0 hmu; exact absurd hmu (Nat.not_lt_zero _)
      | succ fu ih28 =>
        intro i zi F1 ezi hi hF1 hD1 hinv h76 h54 h55 hi0 hmu H locs hW hS ls hl
        refine lv_iload_n hx hb dX4_dayGoes_28 rfl (lv_at hl 0 rfl) ?_
        refine lv_aload_n hx hb dX4_dayGoes_29 rfl (lv_at hl 2 rfl) ?_
        refine r_get (ci := 4) (k := 3) (v := .int (iI ((T 1) 76))) (C := RX4) (T := TX4) (N := 29) Z hB hx hb hts hown rfl in_X4 hW.obj (by decide) q981 rfl dX4_dayGoes_30 ?_
        refine ii_icmp_ge (tgt := 63) hx hb dX4_dayGoes_33 (by decide) (by omega) (by omega) (fun c_2 => ?_) (fun c_2 => ?_)
        · -- 33 -> 63
          refine lv_aload_n hx hb dX4_dayGoes_63 rfl (lv_at hl 2 rfl) ?_
          refine r_get (ci := 4) (k := 1) (v := .ref (K 2)) (C := RX4) (T := TX4) (N := 29) Z hB hx hb hts hown rfl in_X4 hW.obj (by decide) q979 rfl dX4_dayGoes_64 ?_
          refine ii_bipush hx hb dX4_dayGoes_67 (by decide) ?_
          refine lv_dup2_11 hx hb dX4_dayGoes_69 rfl rfl ?_
          have b_725 := hF1.day
          refine r_iald (k := 54) (f := F1) Z hB hx hb hW.now (by omega) (by omega) (by omega) dX4_dayGoes_70 ?_
          refine ii_const hx hb dX4_dayGoes_71 ?_
          refine ii_add hx hb dX4_dayGoes_72 ?_
          refine r_iast (k := 54) Z hB hx hb hW.now hS (AA.me (by omega)) (by omega) (by omega) (by omega) dX4_dayGoes_73 (MW G K (up (up T 2 F1) 2 (up F1 54 ((F1 54) + 1)))) (fun H1 hz oq ha => hW.setA hI (j := 2) (by omega) (by omega) (fun h => absurd h (by omega)) oq ha) (fun H locs hW hS => ?_)
          have hW := hW.eqS (S' := (up T 2 (up F1 54 ((F1 54) + 1)))) (by
              funext a
              by_cases h2 : a = 2
              · subst h2; rfl
              simp only [up, if_neg h2])
          have hpw9 : (MW G K (up T 2 (stepS (T 2) zb))) H := (hW.eqS (congrArg (up T 2) (show (up F1 54 ((F1 54) + 1)) = stepS (T 2) zb from hb9.elim (fun q => by unfold stepS; rw [if_pos q, dayS, show ((T 2) 76).toNat = i by omega, hinv]) (fun q => by unfold stepS; rw [if_neg (by omega)]; have e0 := hi0 q; subst e0; rw [← hinv]; rfl))))
          exact W.vret hx hb hr (fun t ht hW9 => ⟨⟨(), rfl, trivial, by show (MW G K (up T 2 (stepS (T 2) zb))) t.heap; rw [ht]; exact hpw9⟩, hS.F ht⟩) hS.2.2 dX4_dayGoes_74
        · -- 33 -> 36
          refine lv_iload_n hx hb dX4_dayGoes_36 rfl (lv_at hl 3 rfl) ?_
          refine ii_if_ne (tgt := 63) hx hb dX4_dayGoes_37 (by decide) (by omega) (fun c_3 => ?_) (fun c_3 => ?_)
          · -- 37 -> 63
            refine lv_aload_n hx hb dX4_dayGoes_63 rfl (lv_at hl 2 rfl) ?_
            refine r_get (ci := 4) (k := 1) (v := .ref (K 2)) (C := RX4) (T := TX4) (N := 29) Z hB hx hb hts hown rfl in_X4 hW.obj (by decide) q979 rfl dX4_dayGoes_64 ?_
            refine ii_bipush hx hb dX4_dayGoes_67 (by decide) ?_
            refine lv_dup2_11 hx hb dX4_dayGoes_69 rfl rfl ?_
            have b_726 := hF1.day
            refine r_iald (k := 54) (f := F1) Z hB hx hb hW.now (by omega) (by omega) (by omega) dX4_dayGoes_70 ?_
            refine ii_const hx hb dX4_dayGoes_71 ?_
            refine ii_add hx hb dX4_dayGoes_72 ?_
            refine r_iast (k := 54) Z hB hx hb hW.now hS (AA.me (by omega)) (by omega) (by omega) (by omega) dX4_dayGoes_73 (MW G K (up (up T 2 F1) 2 (up F1 54 ((F1 54) + 1)))) (fun H1 hz oq ha => hW.setA hI (j := 2) (by omega) (by omega) (fun h => absurd h (by omega)) oq ha) (fun H locs hW hS => ?_)
            have hW := hW.eqS (S' := (up T 2 (up F1 54 ((F1 54) + 1)))) (by
                funext a
                by_cases h2 : a = 2
                · subst h2; rfl
                simp only [up, if_neg h2])
            have hpw9 : (MW G K (up T 2 (stepS (T 2) zb))) H := (hW.eqS (congrArg (up T 2) (show (up F1 54 ((F1 54) + 1)) = stepS (T 2) zb from hb9.elim (fun q => by unfold stepS; rw [if_pos q, dayS, show ((T 2) 76).toNat = i by omega, hinv]) (fun q => by unfold stepS; rw [if_neg (by omega)]; have e0 := hi0 q; subst e0; rw [← hinv]; rfl))))
            exact W.vret hx hb hr (fun t ht hW9 => ⟨⟨(), rfl, trivial, by show (MW G K (up T 2 (stepS (T 2) zb))) t.heap; rw [ht]; exact hpw9⟩, hS.F ht⟩) hS.2.2 dX4_dayGoes_74
          · -- 37 -> 40
            refine lv_iload_n hx hb dX4_dayGoes_40 rfl (lv_at hl 1 rfl) ?_
            refine ii_if_eq (tgt := 52) hx hb dX4_dayGoes_41 (by decide) (by omega) (fun c_4 => ?_) (fun c_4 => ?_)
            · -- 41 -> 52
              refine lv_aload_n hx hb dX4_dayGoes_52 rfl (lv_at hl 2 rfl) ?_
              refine lv_iload_n hx hb dX4_dayGoes_53 rfl (lv_at hl 0 rfl) ?_
              have hn_5 : (T 1) 76 = F1 76 := by first | rfl | omega
              refine cmV (va_runV (As := [.int (iI zi)]) (rest := []) ⟨hx, hb, hml, hown, hts⟩ (mX4_drifts Z K hI (up T 2 F1) F1 rfl hF1 hn_5 i zi (by omega) (by omega) hD1 H.size) (cwV 1 hts (lw_V q1285 q1287 qs67 q83 q1288) rfl rfl rfl (by decide +kernel) ⟨Nat.le_of_ble_eq_true rfl, Nat.le_of_ble_eq_true rfl⟩) (pvM (BornH.S hB hN hS) (OBJ.recv Z hB hW.obj (q := (RX4, TX4, 29)) rfl) hW) rfl rfl hl.1 rfl (lv_room (Nat.le_of_ble_eq_true rfl)) dX4_dayGoes_54 ⟨Nat.zero_le _, Nat.zero_le _⟩) hS (AA.le hS.1) (fun H1 locs hW1 hz1 hk1 hS => ?_)
              have hW := hW1
              clear hW1 hk1 hz1
              generalize H1 = H at hW hS ⊢
              have hW := hW.eqS (S' := (up T 2 (drS F1 i))) (by
                  funext a
                  by_cases h2 : a = 2
                  · subst h2; rfl
                  simp only [up, if_neg h2])
              refine ii_iinc (k := 0) (lv' := [(3, .int (iI (zi + 1))), (2, .int (iI 0)), (0, .ref (K 0)), (1, .int (iI zb))]) hx hb dX4_dayGoes_57 hl rfl (by decide) rfl (fun ls hl => ?_)
              refine lv_goto (tgt := 28) hx hb dX4_dayGoes_60 (by decide) ?_
              exact ih28 (i + 1) (zi + 1) (drS F1 i) (by omega) (by omega) (by first | exact comeS_wf hF1 (by omega) | exact drS_wf hF1 (by omega)) (fun a ha => by first | (rw [comeS_same _ (by omega)]; exact hD1 a ha) | (rw [drS_same _ (by omega) (by omega)]; exact hD1 a ha)) (by simp only [goS]; rw [hinv]; first | exact if_pos (by omega) | exact if_neg (by omega)) (by first | (rw [comeS_same _ (by omega)]; exact h76) | (rw [drS_same _ (by omega) (by omega)]; exact h76)) (by first | (rw [comeS_same _ (by omega)]; exact h54) | (rw [drS_same _ (by omega) (by omega)]; exact h54)) (by first | (rw [comeS_same _ (by omega)]; exact h55) | (rw [drS_same _ (by omega) (by omega)]; exact h55)) (fun h => absurd h (by omega)) (by omega) _ _ hW hS ls (lv_sub hl [0, 1, 2, 3] rfl)
            · -- 41 -> 44
              exact absurd c_4 (by omega)
    exact loop_28 _ 0 0 (T 2) (by omega) (by omega) (hF) (hD) (rfl) (rfl) (rfl) (rfl) (fun _ => rfl) (Nat.lt_succ_self _) _ _ (by rw [show up T 2 (T 2) = T from up_id T 2]; exact hW) hS ls (lv_sub hl [0, 1, 2, 3] rfl)
  · -- 17 -> 20
    refine ii_const hx hb dX4_dayGoes_20 ?_
    refine lv_goto (tgt := 25) hx hb dX4_dayGoes_21 (by decide) ?_
    refine lv_istore_n (lv' := [(2, .int (iI 1)), (0, .ref (K 0)), (1, .int (iI zb))]) hx hb dX4_dayGoes_25 rfl hl (by decide) rfl (fun ls hl => ?_)
    refine ii_const hx hb dX4_dayGoes_26 ?_
    refine lv_istore_n (lv' := [(3, .int (iI 0)), (2, .int (iI 1)), (0, .ref (K 0)), (1, .int (iI zb))]) hx hb dX4_dayGoes_27 rfl hl (by decide) rfl (fun ls hl => ?_)
    have loop_28 : ∀ (fu : Nat) (i : Nat) (zi : Int) (F1 : Nat → Int), (zi = (i : Int)) → (i ≤ ((T 2) 76).toNat) → (WF F1) → (Dia F1) → (goS (T 2) i = F1) → (F1 76 = T 2 76) → (F1 54 = T 2 54) → (F1 55 = T 2 55) → (zb = 1 → i = 0) → (6 - i) < fu → ∀ (H : Heap) (locs : List Loc), (MW G K (up T 2 F1)) H → va_S (AA K 12 s.heap.size) s.heap H locs → ∀ (ls : Array Slot), lv_has ls 4 [(3, .int (iI zi)), (2, .int (iI 1)), (0, .ref (K 0)), (1, .int (iI zb))] → W p l e (headSpec (ws_ yX4_dayGoes cX4_dayGoes 4 none) ({ frames := 4, cells := 0, slots := 0, locals := 96 } : Room)).room s m ([.ref (K 0), .int (iI zb)] : List Value).toArray below meth c H locs 0 0 (MQ below (mV (MW G K (up T 2 (stepS (T 2) zb))) (AA K 12 s.heap.size)) ([.ref (K 0), .int (iI zb)] : List Value).toArray s 0 0 (AA K 12 s.heap.size)) (F0 m 28 ls []) := by
      intro fu
      induction fu with
      | zero => intro i zi F1 ezi hi hF1 hD1 hinv h76 h54 h55 hi0 hmu; exact absurd hmu (Nat.not_lt_zero _)
      | succ fu ih28 =>
        intro i zi F1 ezi hi hF1 hD1 hinv h76 h54 h55 hi0 hmu H locs hW hS ls hl
        refine lv_iload_n hx hb dX4_dayGoes_28 rfl (lv_at hl 0 rfl) ?_
        refine lv_aload_n hx hb dX4_dayGoes_29 rfl (lv_at hl 2 rfl) ?_
        refine r_get (ci := 4) (k := 3) (v := .int (iI ((T 1) 76))) (C := RX4) (T := TX4) (N := 29) Z hB hx hb hts hown rfl in_X4 hW.obj (by decide) q981 rfl dX4_dayGoes_30 ?_
        refine ii_icmp_ge (tgt := 63) hx hb dX4_dayGoes_33 (by decide) (by omega) (by omega) (fun c_6 => ?_) (fun c_6 => ?_)
        · -- 33 -> 63
          refine lv_aload_n hx hb dX4_dayGoes_63 rfl (lv_at hl 2 rfl) ?_
          refine r_get (ci := 4) (k := 1) (v := .ref (K 2)) (C := RX4) (T := TX4) (N := 29) Z hB hx hb hts hown rfl in_X4 hW.obj (by decide) q979 rfl dX4_dayGoes_64 ?_
          refine ii_bipush hx hb dX4_dayGoes_67 (by decide) ?_
          refine lv_dup2_11 hx hb dX4_dayGoes_69 rfl rfl ?_
          have b_727 := hF1.day
          refine r_iald (k := 54) (f := F1) Z hB hx hb hW.now (by omega) (by omega) (by omega) dX4_dayGoes_70 ?_
          refine ii_const hx hb dX4_dayGoes_71 ?_
          refine ii_add hx hb dX4_dayGoes_72 ?_
          refine r_iast (k := 54) Z hB hx hb hW.now hS (AA.me (by omega)) (by omega) (by omega) (by omega) dX4_dayGoes_73 (MW G K (up (up T 2 F1) 2 (up F1 54 ((F1 54) + 1)))) (fun H1 hz oq ha => hW.setA hI (j := 2) (by omega) (by omega) (fun h => absurd h (by omega)) oq ha) (fun H locs hW hS => ?_)
          have hW := hW.eqS (S' := (up T 2 (up F1 54 ((F1 54) + 1)))) (by
              funext a
              by_cases h2 : a = 2
              · subst h2; rfl
              simp only [up, if_neg h2])
          have hpw9 : (MW G K (up T 2 (stepS (T 2) zb))) H := (hW.eqS (congrArg (up T 2) (show (up F1 54 ((F1 54) + 1)) = stepS (T 2) zb from hb9.elim (fun q => by unfold stepS; rw [if_pos q, dayS, show ((T 2) 76).toNat = i by omega, hinv]) (fun q => by unfold stepS; rw [if_neg (by omega)]; have e0 := hi0 q; subst e0; rw [← hinv]; rfl))))
          exact W.vret hx hb hr (fun t ht hW9 => ⟨⟨(), rfl, trivial, by show (MW G K (up T 2 (stepS (T 2) zb))) t.heap; rw [ht]; exact hpw9⟩, hS.F ht⟩) hS.2.2 dX4_dayGoes_74
        · -- 33 -> 36
          refine lv_iload_n hx hb dX4_dayGoes_36 rfl (lv_at hl 3 rfl) ?_
          refine ii_if_ne (tgt := 63) hx hb dX4_dayGoes_37 (by decide) (by omega) (fun c_7 => ?_) (fun c_7 => ?_)
          · -- 37 -> 63
            refine lv_aload_n hx hb dX4_dayGoes_63 rfl (lv_at hl 2 rfl) ?_
            refine r_get (ci := 4) (k := 1) (v := .ref (K 2)) (C := RX4) (T := TX4) (N := 29) Z hB hx hb hts hown rfl in_X4 hW.obj (by decide) q979 rfl dX4_dayGoes_64 ?_
            refine ii_bipush hx hb dX4_dayGoes_67 (by decide) ?_
            refine lv_dup2_11 hx hb dX4_dayGoes_69 rfl rfl ?_
            have b_728 := hF1.day
            refine r_iald (k := 54) (f := F1) Z hB hx hb hW.now (by omega) (by omega) (by omega) dX4_dayGoes_70 ?_
            refine ii_const hx hb dX4_dayGoes_71 ?_
            refine ii_add hx hb dX4_dayGoes_72 ?_
            refine r_iast (k := 54) Z hB hx hb hW.now hS (AA.me (by omega)) (by omega) (by omega) (by omega) dX4_dayGoes_73 (MW G K (up (up T 2 F1) 2 (up F1 54 ((F1 54) + 1)))) (fun H1 hz oq ha => hW.setA hI (j := 2) (by omega) (by omega) (fun h => absurd h (by omega)) oq ha) (fun H locs hW hS => ?_)
            have hW := hW.eqS (S' := (up T 2 (up F1 54 ((F1 54) + 1)))) (by
                funext a
                by_cases h2 : a = 2
                · subst h2; rfl
                simp only [up, if_neg h2])
            have hpw9 : (MW G K (up T 2 (stepS (T 2) zb))) H := (hW.eqS (congrArg (up T 2) (show (up F1 54 ((F1 54) + 1)) = stepS (T 2) zb from hb9.elim (fun q => by unfold stepS; rw [if_pos q, dayS, show ((T 2) 76).toNat = i by omega, hinv]) (fun q => by unfold stepS; rw [if_neg (by omega)]; have e0 := hi0 q; subst e0; rw [← hinv]; rfl))))
            exact W.vret hx hb hr (fun t ht hW9 => ⟨⟨(), rfl, trivial, by show (MW G K (up T 2 (stepS (T 2) zb))) t.heap; rw [ht]; exact hpw9⟩, hS.F ht⟩) hS.2.2 dX4_dayGoes_74
          · -- 37 -> 40
            refine lv_iload_n hx hb dX4_dayGoes_40 rfl (lv_at hl 1 rfl) ?_
            refine ii_if_eq (tgt := 52) hx hb dX4_dayGoes_41 (by decide) (by omega) (fun c_8 => ?_) (fun c_8 => ?_)
            · -- 41 -> 52
              exact absurd c_8 (by omega)
            · -- 41 -> 44
              refine lv_aload_n hx hb dX4_dayGoes_44 rfl (lv_at hl 2 rfl) ?_
              refine lv_iload_n hx hb dX4_dayGoes_45 rfl (lv_at hl 0 rfl) ?_
              have hn_9 : (T 1) 76 = F1 76 := by first | rfl | omega
              refine cmV (va_runV (As := [.int (iI zi)]) (rest := []) ⟨hx, hb, hml, hown, hts⟩ (mX4_feasts Z K hI (up T 2 F1) F1 rfl hF1 hn_9 i zi (by omega) (by omega) H.size) (cwV 1 hts (lw_V q1277 q1279 qs65 q83 q1280) rfl rfl rfl (by decide +kernel) ⟨Nat.le_of_ble_eq_true rfl, Nat.le_of_ble_eq_true rfl⟩) (pvM (BornH.S hB hN hS) (OBJ.recv Z hB hW.obj (q := (RX4, TX4, 29)) rfl) hW) rfl rfl hl.1 rfl (lv_room (Nat.le_of_ble_eq_true rfl)) dX4_dayGoes_46 ⟨Nat.zero_le _, Nat.zero_le _⟩) hS (AA.le hS.1) (fun H1 locs hW1 hz1 hk1 hS => ?_)
              have hW := hW1
              clear hW1 hk1 hz1
              generalize H1 = H at hW hS ⊢
              have hW := hW.eqS (S' := (up T 2 (comeS F1 i))) (by
                  funext a
                  by_cases h2 : a = 2
                  · subst h2; rfl
                  simp only [up, if_neg h2])
              refine lv_goto (tgt := 57) hx hb dX4_dayGoes_49 (by decide) ?_
              refine ii_iinc (k := 0) (lv' := [(3, .int (iI (zi + 1))), (2, .int (iI 1)), (0, .ref (K 0)), (1, .int (iI zb))]) hx hb dX4_dayGoes_57 hl rfl (by decide) rfl (fun ls hl => ?_)
              refine lv_goto (tgt := 28) hx hb dX4_dayGoes_60 (by decide) ?_
              exact ih28 (i + 1) (zi + 1) (comeS F1 i) (by omega) (by omega) (by first | exact comeS_wf hF1 (by omega) | exact drS_wf hF1 (by omega)) (fun a ha => by first | (rw [comeS_same _ (by omega)]; exact hD1 a ha) | (rw [drS_same _ (by omega) (by omega)]; exact hD1 a ha)) (by simp only [goS]; rw [hinv]; first | exact if_pos (by omega) | exact if_neg (by omega)) (by first | (rw [comeS_same _ (by omega)]; exact h76) | (rw [drS_same _ (by omega) (by omega)]; exact h76)) (by first | (rw [comeS_same _ (by omega)]; exact h54) | (rw [drS_same _ (by omega) (by omega)]; exact h54)) (by first | (rw [comeS_same _ (by omega)]; exact h55) | (rw [drS_same _ (by omega) (by omega)]; exact h55)) (fun h => absurd h (by omega)) (by omega) _ _ hW hS ls (lv_sub hl [0, 1, 2, 3] rfl)
    exact loop_28 _ 0 0 (T 2) (by omega) (by omega) (hF) (hD) (rfl) (rfl) (rfl) (rfl) (fun _ => rfl) (Nat.lt_succ_self _) _ _ (by rw [show up T 2 (T 2) = T from up_id T 2]; exact hW) hS ls (lv_sub hl [0, 1, 2, 3] rfl)

set_option maxHeartbeats 1000000 in
set_option maxRecDepth 100000 in
theorem mX4_daysGo {l : Launch} {G : GG} {s0 : State} {b0 : Nat} (Z : ZZ l G s0 b0) (K : Nat → Nat) (hI : Own s0 K 12) (T : Sta) (F : Nat → Int) (eF : T 2 = F) (hF : WF F) (eN : T 1 76 = F 76) (hD : Dia F) (n : Nat) (zn : Int) (hzn : zn = (n : Int)) (hd : F 54 + (n : Int) ≤ 100000) (sz : Nat) : Met l yX4_daysGo (ws_ yX4_daysGo cX4_daysGo 3 none) ({ frames := 5, cells := 0, slots := 0, locals := 119 } : Room) (pcM s0 sz (MW G K T) [.ref (K 0), .int (iI zn)]) (mV (MW G K (up T 2 (daysS F n))) (AA K 12 sz)) 0 0 (AA K 12 sz) := by
  refine Met.ofW (cc := cX4_daysGo) (maxL := 3) (ret := none) (by decide) rfl ?_
  intro p e s m args below meth c s₁ B hml hv
  obtain ⟨rfl, hsz, hW, hB⟩ := hv
  subst hsz
  have hx := B.exec
  have hb := B.bytes
  have hr := B.returns
  have hts := atoms_spec (ws := (ws_ yX4_daysGo cX4_daysGo 3 none)) B.pre
  have hts : ∀ w ∈ lw_all, w.before _ s = true := fun w h => hts w (List.mem_cons_of_mem _ h)
  have hown : s.vm.findClass RX4 = some m.cls := findClass_of_methodNamed B.named
  have hlocks := B.notSynchronized
  have hN := AA.old hI hB
  have hS : va_S (AA K 12 s.heap.size) s.heap s.heap [] := va_S.rf
  have hl := lv_entry ([.ref (K 0), .int (iI zn)]) (n := 3) (Nat.le_of_ble_eq_true rfl)
  rw [lg_entry_eq]
  generalize (lg_sl ([.ref (K 0), .int (iI zn)]) ++ List.replicate (3 - (lg_sl ([.ref (K 0), .int (iI zn)])).length) Slot.unset).toArray = ls at hl ⊢
  have hl : lv_has ls 3 [(0, .ref (K 0)), (1, .int (iI zn))] := hl
  subst eF
  have hn5 := hF.n
  have hrm := hF.rm
  have hday := hF.day
  refine ii_const hx hb dX4_daysGo_0 ?_
  refine lv_istore_n (lv' := [(2, .int (iI 0)), (0, .ref (K 0)), (1, .int (iI zn))]) hx hb dX4_daysGo_1 rfl hl (by decide) rfl (fun ls hl => ?_)
  have loop_2 : ∀ (fu : Nat) (i : Nat) (zi : Int), (zi = (i : Int)) → (i ≤ n) → (n + 1 - i) < fu → ∀ (H : Heap) (locs : List Loc), (MW G K (up T 2 (daysS (T 2) i))) H → va_S (AA K 12 s.heap.size) s.heap H locs → ∀ (ls : Array Slot), lv_has ls 3 [(2, .int (iI zi)), (0, .ref (K 0)), (1, .int (iI zn))] → W p l e (headSpec (ws_ yX4_daysGo cX4_daysGo 3 none) ({ frames := 5, cells := 0, slots := 0, locals := 119 } : Room)).room s m ([.ref (K 0), .int (iI zn)] : List Value).toArray below meth c H locs 0 0 (MQ below (mV (MW G K (up T 2 (daysS (T 2) n))) (AA K 12 s.heap.size)) ([.ref (K 0), .int (iI zn)] : List Value).toArray s 0 0 (AA K 12 s.heap.size)) (F0 m 2 ls []) := by
    intro fu
    induction fu with
    | zero => intro i zi ezi hi hmu; exact absurd hmu (Nat.not_lt_zero _)
    | succ fu ih2 =>
      intro i zi ezi hi hmu H locs hW hS ls hl
      have hwd := daysS_wf hF i (by omega)
      have hDd := Dia.days hF hD i (by omega)
      have h76 : daysS (T 2) i 76 = T 2 76 := daysS_same hF (by omega) (by omega) (by omega) i (by omega)
      refine lv_iload_n hx hb dX4_daysGo_2 rfl (lv_at hl 0 rfl) ?_
      refine lv_iload_n hx hb dX4_daysGo_3 rfl (lv_at hl 2 rfl) ?_
      refine ii_icmp_ge (tgt := 18) hx hb dX4_daysGo_4 (by decide) (by omega) (by omega) (fun c_1 => ?_) (fun c_1 => ?_)
      · -- 4 -> 18
        have ex_i : n = i := by omega
        subst ex_i
        have hpw9 : (MW G K (up T 2 (daysS (T 2) n))) H := hW
        exact W.vret hx hb hr (fun t ht hW9 => ⟨⟨(), rfl, trivial, by show (MW G K (up T 2 (daysS (T 2) n))) t.heap; rw [ht]; exact hpw9⟩, hS.F ht⟩) hS.2.2 dX4_daysGo_18
      · -- 4 -> 7
        refine lv_aload_n hx hb dX4_daysGo_7 rfl (lv_at hl 1 rfl) ?_
        refine ii_const hx hb dX4_daysGo_8 ?_
        have hn_2 : (T 1) 76 = (daysS (T 2) i) 76 := by first | rfl | omega
        refine cmV (va_runV (As := [.int (iI 0)]) (rest := []) ⟨hx, hb, hml, hown, hts⟩ (mX4_dayGoes Z K hI (up T 2 (daysS (T 2) i)) (daysS (T 2) i) rfl hwd hn_2 0 (by omega) hDd H.size) (cwV 1 hts (lw_V q1273 q1275 qs64 q83 q1276) rfl rfl rfl (by decide +kernel) ⟨Nat.le_of_ble_eq_true rfl, Nat.le_of_ble_eq_true rfl⟩) (pvM (BornH.S hB hN hS) (OBJ.recv Z hB hW.obj (q := (RX4, TX4, 29)) rfl) hW) rfl rfl hl.1 rfl (lv_room (Nat.le_of_ble_eq_true rfl)) dX4_daysGo_9 ⟨Nat.zero_le _, Nat.zero_le _⟩) hS (AA.le hS.1) (fun H1 locs hW1 hz1 hk1 hS => ?_)
        have hW := hW1
        clear hW1 hk1 hz1
        generalize H1 = H at hW hS ⊢
        have hW := hW.eqS (S' := (up T 2 (dayS (daysS (T 2) i)))) (by
            funext a
            by_cases h2 : a = 2
            · subst h2; rfl
            simp only [up, if_neg h2])
        refine ii_iinc (k := 0) (lv' := [(2, .int (iI (zi + 1))), (0, .ref (K 0)), (1, .int (iI zn))]) hx hb dX4_daysGo_12 hl rfl (by decide) rfl (fun ls hl => ?_)
        refine lv_goto (tgt := 2) hx hb dX4_daysGo_15 (by decide) ?_
        exact ih2 (i + 1) (zi + 1) (by omega) (by omega) (by omega) _ _ hW hS ls (lv_sub hl [0, 1, 2] rfl)
  exact loop_2 _ 0 0 (by omega) (by omega) (Nat.lt_succ_self _) _ _ (by rw [show daysS (T 2) 0 = T 2 from rfl, show up T 2 (T 2) = T from up_id T 2]; exact hW) hS ls (lv_sub hl [0, 1, 2] rfl)
