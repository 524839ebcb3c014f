/-! COMPONENT: days tried, 3 (written by gen/comp4.py) -/
set_option maxRecDepth 100000
set_option maxHeartbeats 1000000 in
set_option maxRecDepth 100000 in
theorem mX0_match {l : Launch} {G : GG} {s0 : State} {b0 : Nat} (Z : ZZ l G s0 b0) (A : Nat → Nat) (hI : Own s0 A 156) (S : Sta) (R : Nat → Option Nat) (hF0 : WF (S 20)) (hd : S 20 54 ≤ 2000) (h56 : 0 ≤ S 20 56 ∧ S 20 56 ≤ 1000000) (len : Int) (hlen : inR len) (what : Int) (hwhat : inR what) (sz : Nat) : Met l yX0_match (ws_ yX0_match cX0_match 6 (some .int)) ({ frames := 8, cells := 0, slots := 0, locals := 174 } : Room) (pcM s0 sz (CW G A S R) [.ref (A 0), .int (iI len), .int (iI what)]) (mI (matchA (S 20) len what) (CWx G A S R) (AA A 156 sz)) 0 0 (AA A 156 sz) := by
  refine Met.ofW (cc := cX0_match) (maxL := 6) (ret := (some .int)) (by decide) rfl ?_
  intro p e s m args below meth c s₁ B hml hv
  obtain ⟨rfl, hsz, hW, hB⟩ := hv
  subst hsz
  have hx := B.exec
  have hb := B.bytes
  have hr := B.returns
  have hts := atoms_spec (ws := (ws_ yX0_match cX0_match 6 (some .int))) B.pre
  have hts : ∀ w ∈ lw_all, w.before _ s = true := fun w h => hts w (List.mem_cons_of_mem _ h)
  have hown : s.vm.findClass RX0 = some m.cls := findClass_of_methodNamed B.named
  have hlocks := B.notSynchronized
  have hN := AA.old hI hB
  have hS : va_S (AA A 156 s.heap.size) s.heap s.heap [] := va_S.rf
  have hl := lv_entry ([.ref (A 0), .int (iI len), .int (iI what)]) (n := 6) (Nat.le_of_ble_eq_true rfl)
  rw [lg_entry_eq]
  generalize (lg_sl ([.ref (A 0), .int (iI len), .int (iI what)]) ++ List.replicate (6 - (lg_sl ([.ref (A 0), .int (iI len), .int (iI what)])).length) Slot.unset).toArray = ls at hl ⊢
  have hl : lv_has ls 6 [(0, .ref (A 0)), (1, .int (iI len)), (2, .int (iI what))] := hl
  have hn5 := hF0.n
  have hr6 := hF0.rm
  refine lv_iload_n hx hb dX0_match_0 rfl (lv_at hl 1 rfl) ?_
  refine ii_i2l hx hb (by omega) dX0_match_1 ?_
  refine ii_lconst (z := 1) hx hb dX0_match_2 rfl ?_
  refine ii_ldc2 (z := 30) hx hb hts hown q545 dX0_match_3 (by decide) ?_
  refine cqI (va_runS (As := [.long (lI len), .long (lI 1), .long (lI 30)]) (rest := []) ⟨hx, hb, hml, hown, hts⟩ (mX0_isIn Z len (by omega) 1 (by omega) 30 (by omega)) (va_cwS 3 hts (lw_S q106 q107 q79 q108) rfl rfl rfl (by decide +kernel) ⟨Nat.le_of_ble_eq_true rfl, Nat.le_of_ble_eq_true rfl⟩) (psR (BornH.S hB hN hS) trivial) rfl rfl hl.1 rfl (lv_room (Nat.le_of_ble_eq_true rfl)) dX0_match_6 ⟨Nat.zero_le _, Nat.zero_le _⟩) ?_
  refine bb_if_eq (P := 1 ≤ len ∧ len ≤ 30) (tgt := 19) hx hb dX0_match_9 (by decide) (fun c_1 => ?_) (fun c_1 => ?_)
  · -- 9 -> 19
    refine ii_const hx hb dX0_match_19 ?_
    have hpw9 : (CWx G A S R) s.heap := (hW.x (fun a h0 h3 h1 h2 h4 => by first | rfl | simp only [up, if_neg h0, if_neg h3, if_neg h1, if_neg h2, if_neg h4]) (fun j h2 h5 h6 => by first | rfl | simp [up, h2]))
    have he9 : (-1) = (matchA (S 20) len what) := by unfold matchA; exact (if_pos (by omega)).symm
    exact W.iret hx hb hr (fun t ht hW9 => ⟨⟨_, (), rfl, congrArg iI he9, by show (CWx G A S R) t.heap; rw [ht]; exact hpw9⟩, hS.F ht⟩) hS.2.2 dX0_match_20
  · -- 9 -> 12
    refine lv_iload_n hx hb dX0_match_12 rfl (lv_at hl 2 rfl) ?_
    refine cqI (va_runS (As := [.int (iI what)]) (rest := []) ⟨hx, hb, hml, hown, hts⟩ (mX0_isPart Z what (by omega)) (va_cwS 1 hts (lw_S q617 q618 q79 q619) rfl rfl rfl (by decide +kernel) ⟨Nat.le_of_ble_eq_true rfl, Nat.le_of_ble_eq_true rfl⟩) (psR (BornH.S hB hN hS) trivial) rfl rfl hl.1 rfl (lv_room (Nat.le_of_ble_eq_true rfl)) dX0_match_13 ⟨Nat.zero_le _, Nat.zero_le _⟩) ?_
    refine bb_if_ne (P := 0 ≤ what ∧ what ≤ 1) (tgt := 21) hx hb dX0_match_16 (by decide) (fun c_2 => ?_) (fun c_2 => ?_)
    · -- 16 -> 21
      refine lv_aload_n hx hb dX0_match_21 rfl (lv_at hl 0 rfl) ?_
      refine r_get (ci := 0) (k := 3) (v := .ref (A 36)) (C := RX0) (T := TX0) (N := 16) Z hB hx hb hts hown rfl in_X0 hW.obj (by decide) q796 rfl dX0_match_22 ?_
      have b_645 := hF0.rm 
      refine r_getN (ci := 1) (k := 4) (v := .int (iI ((S 20) 53))) (C := RX1) (T := TX1) (N := 8) Z hB hx hb hts hown rfl in_X1 (((hW.fw (f := 0) (by omega) (F := (S 20)) rfl)).1) (by decide) q149 rfl dX0_match_25 ?_
      refine ii_bipush hx hb dX0_match_28 (by decide) ?_
      refine ii_icmp_ne (tgt := 36) hx hb dX0_match_30 (by decide) (by omega) (by omega) (fun c_3 => ?_) (fun c_3 => ?_)
      · -- 30 -> 36
        refine lv_aload_n hx hb dX0_match_36 rfl (lv_at hl 0 rfl) ?_
        refine lv_aload_n hx hb dX0_match_37 rfl (lv_at hl 0 rfl) ?_
        refine lv_aload_n hx hb dX0_match_38 rfl (lv_at hl 0 rfl) ?_
        refine r_get (ci := 0) (k := 3) (v := .ref (A 36)) (C := RX0) (T := TX0) (N := 16) Z hB hx hb hts hown rfl in_X0 hW.obj (by decide) q796 rfl dX0_match_39 ?_
        refine ii_bipush hx hb dX0_match_42 (by decide) ?_
        have hd_4 : (S 20) 54 ≤ 2000 := by omega
        refine cmI (va_runV (As := [.ref (A 36), .int (iI 30)]) (rest := [.ref (A 0)]) ⟨hx, hb, hml, hown, hts⟩ (mX0_spreadBehind_0 Z A hI S R hF0 (S 20) rfl hd_4 30 30 (by omega) (by omega) s.heap.size) (cwV 2 hts (lw_V q620 q622 qs23 q79 q623) rfl rfl rfl (by decide +kernel) ⟨Nat.le_of_ble_eq_true rfl, Nat.le_of_ble_eq_true rfl⟩) (pvM (BornH.S hB hN hS) (OBJ.recv Z hB hW.obj (q := (RX0, TX0, 16)) rfl) hW) rfl rfl hl.1 rfl (lv_room (Nat.le_of_ble_eq_true rfl)) dX0_match_44 ⟨Nat.zero_le _, Nat.zero_le _⟩) hS (AA.le hS.1) (fun H1 locs hW1 hz1 hk1 hS => ?_)
        have hW := hW1
        clear hW1 hk1 hz1
        generalize H1 = H at hW hS ⊢
        have hwf_5 : WF (daysS (S 20) 30) := daysS_wf hF0 30 (by omega)
        generalize daysS (S 20) 30 = Fv_6 at hW hwf_5
        have bv_7 : 0 ≤ (spd (S 20) 30) ∧ (spd (S 20) 30) ≤ 99 := spd_in hF0 30 (by omega)
        generalize evv : (spd (S 20) 30) = v_8 at bv_7 ⊢
        refine r_put (ci := 0) (k := 6) (C := RX0) (T := TX0) (N := 16) Z hB hx hb hts hown rfl in_X0 tyX0 tyX0_ok nmX0 hW.obj hS (Or.inl ⟨0, by omega, rfl⟩) (by decide) q799 rfl rfl rfl rfl (Nat.le_of_ble_eq_true rfl) dX0_match_47 (CW G A (up (up S 21 Fv_6) 0 (up (S 0) 2 v_8)) R) (fun H1 hz oq ho => hW.setO hI (k := 2) (by omega) oq ho) (fun H locs hW hS => ?_)
        have hW := hW.eqS (S' := (up (up S 0 (up (S 0) 2 v_8)) 21 Fv_6)) (by
            funext a
            by_cases h0 : a = 0
            · subst h0
              funext j
              by_cases k0 : j = 2
              · subst k0; rfl
              simp only [up, if_neg k0, if_true, if_false, Nat.reduceEqDiff, reduceIte]
            by_cases h21 : a = 21
            · subst h21; rfl
            simp only [up, if_neg h0, if_neg h21])
        refine ii_bipush hx hb dX0_match_50 (by decide) ?_
        refine lv_istore_n (lv' := [(3, .int (iI (-4))), (0, .ref (A 0)), (1, .int (iI len)), (2, .int (iI what))]) hx hb dX0_match_52 rfl hl (by decide) rfl (fun ls hl => ?_)
        refine ii_const hx hb dX0_match_53 ?_
        refine lv_istore (lv' := [(4, .int (iI 0)), (3, .int (iI (-4))), (0, .ref (A 0)), (1, .int (iI len)), (2, .int (iI what))]) hx hb dX0_match_54 hl (by decide) rfl (fun ls hl => ?_)
        have loop_56 : ∀ (fu : Nat) (i : Nat) (zi : Int) (best : Int) (least : Int) (F1 : Nat → Int) (F2 : Nat → Int), (zi = (i : Int)) → (i ≤ (S 20 76).toNat) → (mtO (S 20) len i = (best, least)) → ((-4 ≤ best ∧ best ≤ 100) ∧ 0 ≤ least ∧ least ≤ 1000000) → (6 - i) < fu → ∀ (H : Heap) (locs : List Loc), (CW G A (up (up (up S 0 (up (S 0) 2 least)) 21 F1) 22 F2) R) H → va_S (AA A 156 s.heap.size) s.heap H locs → ∀ (ls : Array Slot), lv_has ls 6 [(4, .int (iI zi)), (3, .int (iI best)), (0, .ref (A 0)), (1, .int (iI len)), (2, .int (iI what))] → W p l e (headSpec (ws_ yX0_match cX0_match 6 (some .int)) ({ frames := 8, cells := 0, slots := 0, locals := 174 } : Room)).room s m ([.ref (A 0), .int (iI len), .int (iI what)] : List Value).toArray below meth c H locs 0 0 (MQ below (mI (matchA (S 20) len what) (CWx G A S R) (AA A 156 s.heap.size)) ([.ref (A 0), .int (iI len), .int (iI what)] : List Value).toArray s 0 0 (AA A 156 s.heap.size)) (F0 m 56 ls []) := by
          intro fu
          induction fu with
          | zero => intro i zi best least F1 F2 ezi hi hp hbl hmu; exact absurd hmu (Nat.not_lt_zero _)
          | succ fu ih56 =>
            intro i zi best least F1 F2 ezi hi hp hbl hmu H locs hW hS ls hl
            refine lv_iload hx hb dX0_match_56 (lv_at hl 0 rfl) ?_
            refine lv_aload_n hx hb dX0_match_58 rfl (lv_at hl 2 rfl) ?_
            refine r_get (ci := 0) (k := 3) (v := .ref (A 36)) (C := RX0) (T := TX0) (N := 16) Z hB hx hb hts hown rfl in_X0 hW.obj (by decide) q796 rfl dX0_match_59 ?_
            have b_648 := hF0.n 
            refine r_getN (ci := 1) (k := 3) (v := .int (iI ((S 20) 76))) (C := RX1) (T := TX1) (N := 8) Z hB hx hb hts hown rfl in_X1 (((hW.fw (f := 0) (by omega) (F := (S 20)) rfl)).1) (by decide) q147 rfl dX0_match_62 ?_
            refine ii_icmp_ge (tgt := 151) hx hb dX0_match_65 (by decide) (by omega) (by omega) (fun c_9 => ?_) (fun c_9 => ?_)
            · -- 65 -> 151
              have ex_i : (S 20 76).toNat = i := by omega
              subst ex_i
              refine lv_iload_n hx hb dX0_match_151 rfl (lv_at hl 1 rfl) ?_
              refine ii_bipush hx hb dX0_match_152 (by decide) ?_
              refine ii_icmp_eq (tgt := 161) hx hb dX0_match_154 (by decide) (by omega) (by omega) (fun c_10 => ?_) (fun c_10 => ?_)
              · -- 154 -> 161
                refine lv_iload_n hx hb dX0_match_161 rfl (lv_at hl 1 rfl) ?_
                refine lv_goto (tgt := 169) hx hb dX0_match_162 (by decide) ?_
                have hpw9 : (CWx G A S R) H := (hW.x (fun a h0 h3 h1 h2 h4 => by first | rfl | simp only [up, if_neg h0, if_neg h3, if_neg h1, if_neg h2, if_neg h4]) (fun j h2 h5 h6 => by first | rfl | simp [up, h2]))
                have he9 : best = (matchA (S 20) len what) := by unfold matchA jdA; rw [if_neg (by omega), if_neg (by omega), hp]; dsimp only; split <;> omega
                exact W.iret hx hb hr (fun t ht hW9 => ⟨⟨_, (), rfl, congrArg iI he9, by show (CWx G A S R) t.heap; rw [ht]; exact hpw9⟩, hS.F ht⟩) hS.2.2 dX0_match_169
              · -- 154 -> 157
                refine lv_iload_n hx hb dX0_match_157 rfl (lv_at hl 4 rfl) ?_
                refine ii_if_ne (tgt := 165) hx hb dX0_match_158 (by decide) (by omega) (fun c_11 => ?_) (fun c_11 => ?_)
                · -- 158 -> 165
                  refine lv_aload_n hx hb dX0_match_165 rfl (lv_at hl 2 rfl) ?_
                  refine r_get (ci := 0) (k := 6) (v := .int (iI least)) (C := RX0) (T := TX0) (N := 16) Z hB hx hb hts hown rfl in_X0 hW.obj (by decide) q799 rfl dX0_match_166 ?_
                  have hpw9 : (CWx G A S R) H := (hW.x (fun a h0 h3 h1 h2 h4 => by first | rfl | simp only [up, if_neg h0, if_neg h3, if_neg h1, if_neg h2, if_neg h4]) (fun j h2 h5 h6 => by first | rfl | simp [up, h2]))
                  have he9 : least = (matchA (S 20) len what) := by unfold matchA jdA; rw [if_neg (by omega), if_neg (by omega), hp]; dsimp only; split <;> omega
                  exact W.iret hx hb hr (fun t ht hW9 => ⟨⟨_, (), rfl, congrArg iI he9, by show (CWx G A S R) t.heap; rw [ht]; exact hpw9⟩, hS.F ht⟩) hS.2.2 dX0_match_169
                · -- 158 -> 161
                  refine lv_iload_n hx hb dX0_match_161 rfl (lv_at hl 1 rfl) ?_
                  refine lv_goto (tgt := 169) hx hb dX0_match_162 (by decide) ?_
                  have hpw9 : (CWx G A S R) H := (hW.x (fun a h0 h3 h1 h2 h4 => by first | rfl | simp only [up, if_neg h0, if_neg h3, if_neg h1, if_neg h2, if_neg h4]) (fun j h2 h5 h6 => by first | rfl | simp [up, h2]))
                  have he9 : best = (matchA (S 20) len what) := by unfold matchA jdA; rw [if_neg (by omega), if_neg (by omega), hp]; dsimp only; split <;> omega
                  exact W.iret hx hb hr (fun t ht hW9 => ⟨⟨_, (), rfl, congrArg iI he9, by show (CWx G A S R) t.heap; rw [ht]; exact hpw9⟩, hS.F ht⟩) hS.2.2 dX0_match_169
            · -- 65 -> 68
              refine lv_iload hx hb dX0_match_68 (lv_at hl 0 rfl) ?_
              refine ii_const hx hb dX0_match_70 ?_
              refine ii_add hx hb dX0_match_71 ?_
              refine lv_istore (lv' := [(5, .int (iI (zi + 1))), (4, .int (iI zi)), (3, .int (iI best)), (0, .ref (A 0)), (1, .int (iI len)), (2, .int (iI what))]) hx hb dX0_match_72 hl (by decide) rfl (fun ls hl => ?_)
              have loop_74 : ∀ (fu : Nat) (q : Nat) (zj : Int) (best : Int) (least : Int) (F1 : Nat → Int) (F2 : Nat → Int), (zj = (i : Int) + 1 + (q : Int)) → (i + 1 + q ≤ (S 20 76).toNat) → (mtI (S 20) len i q (mtO (S 20) len i) = (best, least)) → ((-4 ≤ best ∧ best ≤ 100) ∧ 0 ≤ least ∧ least ≤ 1000000) → (6 - q) < fu → ∀ (H : Heap) (locs : List Loc), (CW G A (up (up (up S 0 (up (S 0) 2 least)) 21 F1) 22 F2) R) H → va_S (AA A 156 s.heap.size) s.heap H locs → ∀ (ls : Array Slot), lv_has ls 6 [(5, .int (iI zj)), (4, .int (iI zi)), (3, .int (iI best)), (0, .ref (A 0)), (1, .int (iI len)), (2, .int (iI what))] → W p l e (headSpec (ws_ yX0_match cX0_match 6 (some .int)) ({ frames := 8, cells := 0, slots := 0, locals := 174 } : Room)).room s m ([.ref (A 0), .int (iI len), .int (iI what)] : List Value).toArray below meth c H locs 0 0 (MQ below (mI (matchA (S 20) len what) (CWx G A S R) (AA A 156 s.heap.size)) ([.ref (A 0), .int (iI len), .int (iI what)] : List Value).toArray s 0 0 (AA A 156 s.heap.size)) (F0 m 74 ls []) := by
                intro fu
                induction fu with
                | zero => intro q zj best least F1 F2 ezj hc hp2 hbl2 hmu; exact absurd hmu (Nat.not_lt_zero _)
                | succ fu ih74 =>
                  intro q zj best least F1 F2 ezj hc hp2 hbl2 hmu H locs hW hS ls hl
                  refine lv_iload hx hb dX0_match_74 (lv_at hl 0 rfl) ?_
                  refine lv_aload_n hx hb dX0_match_76 rfl (lv_at hl 3 rfl) ?_
                  refine r_get (ci := 0) (k := 3) (v := .ref (A 36)) (C := RX0) (T := TX0) (N := 16) Z hB hx hb hts hown rfl in_X0 hW.obj (by decide) q796 rfl dX0_match_77 ?_
                  have b_652 := hF0.n 
                  refine r_getN (ci := 1) (k := 3) (v := .int (iI ((S 20) 76))) (C := RX1) (T := TX1) (N := 8) Z hB hx hb hts hown rfl in_X1 (((hW.fw (f := 0) (by omega) (F := (S 20)) rfl)).1) (by decide) q147 rfl dX0_match_80 ?_
                  refine ii_icmp_ge (tgt := 145) hx hb dX0_match_83 (by decide) (by omega) (by omega) (fun c_12 => ?_) (fun c_12 => ?_)
                  · -- 83 -> 145
                    refine ii_iinc (k := 1) (lv' := [(4, .int (iI (zi + 1))), (5, .int (iI zj)), (3, .int (iI best)), (0, .ref (A 0)), (1, .int (iI len)), (2, .int (iI what))]) hx hb dX0_match_145 hl rfl (by decide) rfl (fun ls hl => ?_)
                    refine lv_goto (tgt := 56) hx hb dX0_match_148 (by decide) ?_
                    exact ih56 (i + 1) (zi + 1) best least F1 F2 (by omega) (by omega) (by simp only [mtO]; rw [show (S 20 76).toNat - (i + 1) = q by omega]; exact hp2) (by omega) (by omega) _ _ hW hS ls (lv_sub hl [0, 2, 3, 4, 5] rfl)
                  · -- 83 -> 86
                    refine lv_aload_n hx hb dX0_match_86 rfl (lv_at hl 3 rfl) ?_
                    refine r_get (ci := 0) (k := 5) (v := .ref (A 76)) (C := RX0) (T := TX0) (N := 16) Z hB hx hb hts hown rfl in_X0 hW.obj (by decide) q798 rfl dX0_match_87 ?_
                    refine lv_aload_n hx hb dX0_match_90 rfl (lv_at hl 3 rfl) ?_
                    refine r_get (ci := 0) (k := 3) (v := .ref (A 36)) (C := RX0) (T := TX0) (N := 16) Z hB hx hb hts hown rfl in_X0 hW.obj (by decide) q796 rfl dX0_match_91 ?_
                    refine cmV (va_runV (As := [.ref (A 36)]) (rest := []) ⟨hx, hb, hml, hown, hts⟩ (mX1_takes Z (fa A 2) (hI.fa (by omega)) F2 (fa A 0) (S 20) (fa_apart hI (f := 2) (g := 0) (by omega) (by omega) (by omega)) H.size) (cwV 1 hts (lw_V q424 q425 q426 q80 q427) rfl rfl rfl (by decide +kernel) ⟨Nat.le_of_ble_eq_true rfl, Nat.le_of_ble_eq_true rfl⟩) (pvM (BornH.S hB hN hS) (OBJ.recv Z hB ((hW.fw (f := 2) (by omega) (F := F2) (up_s _ _ _))).1 (q := (RX1, TX1, 8)) rfl) (⟨(hW.fw (f := 2) (by omega) (F := F2) (up_s _ _ _)), (hW.fw (f := 0) (by omega) (F := (S 20)) rfl)⟩)) rfl rfl hl.1 rfl (lv_room (Nat.le_of_ble_eq_true rfl)) dX0_match_94 ⟨Nat.zero_le _, Nat.zero_le _⟩) hS (AA.fa (by omega) hS.1) (fun H1 locs hW1 hz1 hk1 hS => ?_)
                    have hW := hW.joinF hI (f := 2) (by omega) hk1 hW1
                    clear hW1 hk1 hz1
                    generalize H1 = H at hW hS ⊢
                    have hW := hW.eqS (S' := (up (up (up S 0 (up (S 0) 2 least)) 21 F1) 22 (S 20))) (by
                        funext a
                        by_cases h0 : a = 0
                        · subst h0
                          funext j
                          by_cases k0 : j = 2
                          · subst k0; rfl
                          simp only [up, if_neg k0, if_true, if_false, Nat.reduceEqDiff, reduceIte]
                        by_cases h21 : a = 21
                        · subst h21; rfl
                        by_cases h22 : a = 22
                        · subst h22; rfl
                        simp only [up, if_neg h0, if_neg h21, if_neg h22])
                    refine lv_aload_n hx hb dX0_match_97 rfl (lv_at hl 3 rfl) ?_
                    refine r_get (ci := 0) (k := 5) (v := .ref (A 76)) (C := RX0) (T := TX0) (N := 16) Z hB hx hb hts hown rfl in_X0 hW.obj (by decide) q798 rfl dX0_match_98 ?_
                    refine lv_iload hx hb dX0_match_101 (lv_at hl 1 rfl) ?_
                    refine lv_iload hx hb dX0_match_103 (lv_at hl 0 rfl) ?_
                    refine lv_iload_n hx hb dX0_match_105 rfl (lv_at hl 4 rfl) ?_
                    refine cmV (va_runV (As := [.int (iI zi), .int (iI zj), .int (iI len)]) (rest := []) ⟨hx, hb, hml, hown, hts⟩ (mX1_weds Z (fa A 2) (hI.fa (by omega)) (S 20) hF0 zi zj len (by omega) H.size) (cwV 3 hts (lw_V q550 q417 q418 q80 q419) rfl rfl rfl (by decide +kernel) ⟨Nat.le_of_ble_eq_true rfl, Nat.le_of_ble_eq_true rfl⟩) (pvM (BornH.S hB hN hS) (OBJ.recv Z hB ((hW.fw (f := 2) (by omega) (F := (S 20)) (up_s _ _ _))).1 (q := (RX1, TX1, 8)) rfl) (hW.fw (f := 2) (by omega) (F := (S 20)) (up_s _ _ _))) rfl rfl hl.1 rfl (lv_room (Nat.le_of_ble_eq_true rfl)) dX0_match_106 ⟨Nat.zero_le _, Nat.zero_le _⟩) hS (AA.fa (by omega) hS.1) (fun H1 locs hW1 hz1 hk1 hS => ?_)
                    have hW := hW.joinF hI (f := 2) (by omega) hk1 hW1
                    clear hW1 hk1 hz1
                    generalize H1 = H at hW hS ⊢
                    have hW := hW.eqS (S' := (up (up (up S 0 (up (S 0) 2 least)) 21 F1) 22 (wedS (S 20) zi zj len))) (by
                        funext a
                        by_cases h0 : a = 0
                        · subst h0
                          funext j
                          by_cases k0 : j = 2
                          · subst k0; rfl
                          simp only [up, if_neg k0, if_true, if_false, Nat.reduceEqDiff, reduceIte]
                        by_cases h21 : a = 21
                        · subst h21; rfl
                        by_cases h22 : a = 22
                        · subst h22; rfl
                        simp only [up, if_neg h0, if_neg h21, if_neg h22])
                    refine lv_aload_n hx hb dX0_match_109 rfl (lv_at hl 3 rfl) ?_
                    refine lv_aload_n hx hb dX0_match_110 rfl (lv_at hl 3 rfl) ?_
                    refine lv_aload_n hx hb dX0_match_111 rfl (lv_at hl 3 rfl) ?_
                    refine r_get (ci := 0) (k := 5) (v := .ref (A 76)) (C := RX0) (T := TX0) (N := 16) Z hB hx hb hts hown rfl in_X0 hW.obj (by decide) q798 rfl dX0_match_112 ?_
                    refine ii_bipush hx hb dX0_match_115 (by decide) ?_
                    have h22 : WF (wedS (S 20) zi zj len) := hF0.wed (by omega) (by omega) (by omega) (by omega)
                    have h54 : (wedS (S 20) zi zj len) 54 = S 20 54 := wedS_same hF0 (by omega) _ _ _ (by omega) (by omega)
                    have hd_13 : (wedS (S 20) zi zj len) 54 ≤ 2000 := by omega
                    refine cmI (va_runV (As := [.ref (A 76), .int (iI 30)]) (rest := [.ref (A 0)]) ⟨hx, hb, hml, hown, hts⟩ (mX0_spreadBehind_2 Z A hI (up (up (up S 0 (up (S 0) 2 least)) 21 F1) 22 (wedS (S 20) zi zj len)) R hF0 (wedS (S 20) zi zj len) rfl h22 hd_13 30 30 (by omega) (by omega) H.size) (cwV 2 hts (lw_V q620 q622 qs23 q79 q623) rfl rfl rfl (by decide +kernel) ⟨Nat.le_of_ble_eq_true rfl, Nat.le_of_ble_eq_true rfl⟩) (pvM (BornH.S hB hN hS) (OBJ.recv Z hB hW.obj (q := (RX0, TX0, 16)) rfl) hW) rfl rfl hl.1 rfl (lv_room (Nat.le_of_ble_eq_true rfl)) dX0_match_117 ⟨Nat.zero_le _, Nat.zero_le _⟩) hS (AA.le hS.1) (fun H1 locs hW1 hz1 hk1 hS => ?_)
                    have hW := hW1
                    clear hW1 hk1 hz1
                    generalize H1 = H at hW hS ⊢
                    have hwf_14 : WF (daysS (wedS (S 20) zi zj len) 30) := daysS_wf h22 30 (by omega)
                    generalize daysS (wedS (S 20) zi zj len) 30 = Fv_15 at hW hwf_14
                    have hW := hW.eqS (S' := (up (up (up S 0 (up (S 0) 2 least)) 21 Fv_15) 22 (wedS (S 20) zi zj len))) (by
                        funext a
                        by_cases h0 : a = 0
                        · subst h0
                          funext j
                          by_cases k0 : j = 2
                          · subst k0; rfl
                          simp only [up, if_neg k0, if_true, if_false, Nat.reduceEqDiff, reduceIte]
                        by_cases h21 : a = 21
                        · subst h21; rfl
                        by_cases h22 : a = 22
                        · subst h22; rfl
                        simp only [up, if_neg h0, if_neg h21, if_neg h22])
                    have bv_16 : 0 ≤ (spd (wedS (S 20) zi zj len) 30) ∧ (spd (wedS (S 20) zi zj len) 30) ≤ 99 := spd_in h22 30 (by omega)
                    generalize evv : (spd (wedS (S 20) zi zj len) 30) = v_17 at bv_16 ⊢
                    have hle_18 : inR least := by omega
                    refine cmI (va_runV (As := [.int (iI v_17)]) (rest := []) ⟨hx, hb, hml, hown, hts⟩ (mX0_isLess Z A hI (up (up (up S 0 (up (S 0) 2 least)) 21 Fv_15) 22 (wedS (S 20) zi zj len)) R v_17 (by omega) hle_18 H.size) (cwV 1 hts (lw_V q624 q626 qs24 q79 q627) rfl rfl rfl (by decide +kernel) ⟨Nat.le_of_ble_eq_true rfl, Nat.le_of_ble_eq_true rfl⟩) (pvM (BornH.S hB hN hS) (OBJ.recv Z hB hW.obj (q := (RX0, TX0, 16)) rfl) hW) rfl rfl hl.1 rfl (lv_room (Nat.le_of_ble_eq_true rfl)) dX0_match_120 ⟨Nat.zero_le _, Nat.zero_le _⟩) hS (AA.le hS.1) (fun H1 locs hW1 hz1 hk1 hS => ?_)
                    have hW := hW1
                    clear hW1 hk1 hz1
                    generalize H1 = H at hW hS ⊢
                    have hW := hW.eqS (S' := (up (up (up S 0 (up (up (S 0) 2 least) 2 (min least v_17))) 21 Fv_15) 22 (wedS (S 20) zi zj len))) (by
                        funext a
                        by_cases h0 : a = 0
                        · subst h0
                          funext j
                          by_cases k0 : j = 2
                          · subst k0; rfl
                          by_cases k1 : j = 2
                          · subst k1; rfl
                          simp only [up, if_neg k0, if_neg k1, if_true, if_false, Nat.reduceEqDiff, reduceIte]
                        by_cases h21 : a = 21
                        · subst h21; rfl
                        by_cases h22 : a = 22
                        · subst h22; rfl
                        simp only [up, if_neg h0, if_neg h21, if_neg h22])
                    refine bb_if_eq (P := v_17 < least) (tgt := 137) hx hb dX0_match_123 (by decide) (fun c_19 => ?_) (fun c_19 => ?_)
                    · -- 123 -> 137
                      refine lv_iload_n hx hb dX0_match_137 rfl (lv_at hl 2 rfl) ?_
                      refine lv_istore_n (lv' := [(3, .int (iI best)), (5, .int (iI zj)), (4, .int (iI zi)), (0, .ref (A 0)), (1, .int (iI len)), (2, .int (iI what))]) hx hb dX0_match_138 rfl hl (by decide) rfl (fun ls hl => ?_)
                      refine ii_iinc (k := 1) (lv' := [(5, .int (iI (zj + 1))), (3, .int (iI best)), (4, .int (iI zi)), (0, .ref (A 0)), (1, .int (iI len)), (2, .int (iI what))]) hx hb dX0_match_139 hl rfl (by decide) rfl (fun ls hl => ?_)
                      refine lv_goto (tgt := 74) hx hb dX0_match_142 (by decide) ?_
                      have hW := hW.eqS (S' := (up (up (up S 0 (up (S 0) 2 (min least v_17))) 21 Fv_15) 22 (wedS (S 20) zi zj len))) (by
                          funext a
                          by_cases h0 : a = 0
                          · subst h0
                            funext j
                            by_cases k0 : j = 2
                            · subst k0; rfl
                            by_cases k1 : j = 2
                            · subst k1; rfl
                            simp only [up, if_neg k0, if_neg k1, if_true, if_false, Nat.reduceEqDiff, reduceIte]
                          by_cases h21 : a = 21
                          · subst h21; rfl
                          by_cases h22 : a = 22
                          · subst h22; rfl
                          simp only [up, if_neg h0, if_neg h21, if_neg h22])
                      exact ih74 (q + 1) (zj + 1) best (min least v_17) Fv_15 (wedS (S 20) zi zj len) (by omega) (by omega) (by first | exact jd_y hp2 (by omega) (by rw [← ezj, ← ezi]; exact evv) (by assumption) | exact jd_n hp2 (by rw [← ezj, ← ezi]; exact evv) (by assumption)) (by omega) (by omega) _ _ hW hS ls (lv_sub hl [0, 2, 1, 3, 4, 5] rfl)
                    · -- 123 -> 126
                      refine ii_bipush hx hb dX0_match_126 (by decide) ?_
                      refine lv_iload hx hb dX0_match_128 (lv_at hl 1 rfl) ?_
                      refine ii_mul hx hb dX0_match_130 ?_
                      refine lv_iload hx hb dX0_match_131 (lv_at hl 0 rfl) ?_
                      refine ii_add hx hb dX0_match_133 ?_
                      refine lv_goto (tgt := 138) hx hb dX0_match_134 (by decide) ?_
                      refine lv_istore_n (lv' := [(3, .int (iI ((10 * zi) + zj))), (5, .int (iI zj)), (4, .int (iI zi)), (0, .ref (A 0)), (1, .int (iI len)), (2, .int (iI what))]) hx hb dX0_match_138 rfl hl (by decide) rfl (fun ls hl => ?_)
                      refine ii_iinc (k := 1) (lv' := [(5, .int (iI (zj + 1))), (3, .int (iI ((10 * zi) + zj))), (4, .int (iI zi)), (0, .ref (A 0)), (1, .int (iI len)), (2, .int (iI what))]) hx hb dX0_match_139 hl rfl (by decide) rfl (fun ls hl => ?_)
                      refine lv_goto (tgt := 74) hx hb dX0_match_142 (by decide) ?_
                      have hW := hW.eqS (S' := (up (up (up S 0 (up (S 0) 2 (min least v_17))) 21 Fv_15) 22 (wedS (S 20) zi zj len))) (by
                          funext a
                          by_cases h0 : a = 0
                          · subst h0
                            funext j
                            by_cases k0 : j = 2
                            · subst k0; rfl
                            by_cases k1 : j = 2
                            · subst k1; rfl
                            simp only [up, if_neg k0, if_neg k1, if_true, if_false, Nat.reduceEqDiff, reduceIte]
                          by_cases h21 : a = 21
                          · subst h21; rfl
                          by_cases h22 : a = 22
                          · subst h22; rfl
                          simp only [up, if_neg h0, if_neg h21, if_neg h22])
                      exact ih74 (q + 1) (zj + 1) ((10 * zi) + zj) (min least v_17) Fv_15 (wedS (S 20) zi zj len) (by omega) (by omega) (by first | exact jd_y hp2 (by omega) (by rw [← ezj, ← ezi]; exact evv) (by assumption) | exact jd_n hp2 (by rw [← ezj, ← ezi]; exact evv) (by assumption)) (by omega) (by omega) _ _ hW hS ls (lv_sub hl [0, 2, 1, 3, 4, 5] rfl)
              exact loop_74 _ 0 (zi + 1) best least F1 F2 (by omega) (by omega) (hp) (by omega) (Nat.lt_succ_self _) _ _ hW hS ls (lv_sub hl [0, 1, 2, 3, 4, 5] rfl)
        have hW := hW.eqS (S' := (up (up (up S 0 (up (S 0) 2 v_8)) 21 Fv_6) 22 (S 22))) (by
            funext a
            by_cases h0 : a = 0
            · subst h0
              funext j
              by_cases k0 : j = 2
              · subst k0; rfl
              by_cases k1 : j = 2
              · subst k1; rfl
              simp only [up, if_neg k0, if_neg k1, if_true, if_false, Nat.reduceEqDiff, reduceIte]
            by_cases h21 : a = 21
            · subst h21; rfl
            by_cases h22 : a = 22
            · subst h22; rfl
            simp only [up, if_neg h0, if_neg h21, if_neg h22])
        exact loop_56 _ 0 0 (-4) v_8 Fv_6 (S 22) (by omega) (by omega) (by rw [← evv]; rfl) (by omega) (Nat.lt_succ_self _) _ _ hW hS ls (lv_sub hl [0, 1, 2, 3, 4] rfl)
      · -- 30 -> 33
        refine ii_bipush hx hb dX0_match_33 (by decide) ?_
        have hpw9 : (CWx G A S R) s.heap := (hW.x (fun a h0 h3 h1 h2 h4 => by first | rfl | simp only [up, if_neg h0, if_neg h3, if_neg h1, if_neg h2, if_neg h4]) (fun j h2 h5 h6 => by first | rfl | simp [up, h2]))
        have he9 : (-3) = (matchA (S 20) len what) := by unfold matchA; rw [if_neg (by omega), if_pos (by omega)]
        exact W.iret hx hb hr (fun t ht hW9 => ⟨⟨_, (), rfl, congrArg iI he9, by show (CWx G A S R) t.heap; rw [ht]; exact hpw9⟩, hS.F ht⟩) hS.2.2 dX0_match_35
    · -- 16 -> 19
      refine ii_const hx hb dX0_match_19 ?_
      have hpw9 : (CWx G A S R) s.heap := (hW.x (fun a h0 h3 h1 h2 h4 => by first | rfl | simp only [up, if_neg h0, if_neg h3, if_neg h1, if_neg h2, if_neg h4]) (fun j h2 h5 h6 => by first | rfl | simp [up, h2]))
      have he9 : (-1) = (matchA (S 20) len what) := by unfold matchA; exact (if_pos (by omega)).symm
      exact W.iret hx hb hr (fun t ht hW9 => ⟨⟨_, (), rfl, congrArg iI he9, by show (CWx G A S R) t.heap; rw [ht]; exact hpw9⟩, hS.F ht⟩) hS.2.2 dX0_match_20

set_option maxHeartbeats 1000000 in
set_option maxRecDepth 100000 in
theorem mX0_fray {l : Launch} {G : GG} {s0 : State} {b0 : Nat} (Z : ZZ l G s0 b0) (A : Nat → Nat) (hI : Own s0 A 156) (S : Sta) (R : Nat → Option Nat) (hF0 : WF (S 20)) (hd : S 20 54 ≤ 2000) (h56 : 0 ≤ S 20 56 ∧ S 20 56 ≤ 1000000) (what : Int) (hwhat : inR what) (sz : Nat) : Met l yX0_fray (ws_ yX0_fray cX0_fray 4 (some .int)) ({ frames := 8, cells := 0, slots := 0, locals := 173 } : Room) (pcM s0 sz (CW G A S R) [.ref (A 0), .int (iI what)]) (mI (frayA (S 20) what) (CWx G A S R) (AA A 156 sz)) 0 0 (AA A 156 sz) := by
  refine Met.ofW (cc := cX0_fray) (maxL := 4) (ret := (some .int)) (by decide) rfl ?_
  intro p e s m args below meth c s₁ B hml hv
  obtain ⟨rfl, hsz, hW, hB⟩ := hv
  subst hsz
  have hx := B.exec
  have hb := B.bytes
  have hr := B.returns
  have hts := atoms_spec (ws := (ws_ yX0_fray cX0_fray 4 (some .int))) B.pre
  have hts : ∀ w ∈ lw_all, w.before _ s = true := fun w h => hts w (List.mem_cons_of_mem _ h)
  have hown : s.vm.findClass RX0 = some m.cls := findClass_of_methodNamed B.named
  have hlocks := B.notSynchronized
  have hN := AA.old hI hB
  have hS : va_S (AA A 156 s.heap.size) s.heap s.heap [] := va_S.rf
  have hl := lv_entry ([.ref (A 0), .int (iI what)]) (n := 4) (Nat.le_of_ble_eq_true rfl)
  rw [lg_entry_eq]
  generalize (lg_sl ([.ref (A 0), .int (iI what)]) ++ List.replicate (4 - (lg_sl ([.ref (A 0), .int (iI what)])).length) Slot.unset).toArray = ls at hl ⊢
  have hl : lv_has ls 4 [(0, .ref (A 0)), (1, .int (iI what))] := hl
  have hn5 := hF0.n
  have hr6 := hF0.rm
  refine lv_iload_n hx hb dX0_fray_0 rfl (lv_at hl 1 rfl) ?_
  refine cqI (va_runS (As := [.int (iI what)]) (rest := []) ⟨hx, hb, hml, hown, hts⟩ (mX0_isPart Z what (by omega)) (va_cwS 1 hts (lw_S q617 q618 q79 q619) rfl rfl rfl (by decide +kernel) ⟨Nat.le_of_ble_eq_true rfl, Nat.le_of_ble_eq_true rfl⟩) (psR (BornH.S hB hN hS) trivial) rfl rfl hl.1 rfl (lv_room (Nat.le_of_ble_eq_true rfl)) dX0_fray_1 ⟨Nat.zero_le _, Nat.zero_le _⟩) ?_
  refine bb_if_ne (P := 0 ≤ what ∧ what ≤ 1) (tgt := 9) hx hb dX0_fray_4 (by decide) (fun c_1 => ?_) (fun c_1 => ?_)
  · -- 4 -> 9
    refine lv_aload_n hx hb dX0_fray_9 rfl (lv_at hl 0 rfl) ?_
    refine lv_aload_n hx hb dX0_fray_10 rfl (lv_at hl 0 rfl) ?_
    refine lv_aload_n hx hb dX0_fray_11 rfl (lv_at hl 0 rfl) ?_
    refine r_get (ci := 0) (k := 3) (v := .ref (A 36)) (C := RX0) (T := TX0) (N := 16) Z hB hx hb hts hown rfl in_X0 hW.obj (by decide) q796 rfl dX0_fray_12 ?_
    have hd_2 : (S 20) 54 ≤ 2000 := by omega
    refine cmI (va_runV (As := [.ref (A 36)]) (rest := [.ref (A 0)]) ⟨hx, hb, hml, hown, hts⟩ (mX0_bumpsOf_0 Z A hI S R hF0 (S 20) rfl hd_2 (S 20) rfl s.heap.size) (cwV 1 hts (lw_V q632 q634 qs25 q79 q635) rfl rfl rfl (by decide +kernel) ⟨Nat.le_of_ble_eq_true rfl, Nat.le_of_ble_eq_true rfl⟩) (pvM (BornH.S hB hN hS) (OBJ.recv Z hB hW.obj (q := (RX0, TX0, 16)) rfl) hW) rfl rfl hl.1 rfl (lv_room (Nat.le_of_ble_eq_true rfl)) dX0_fray_15 ⟨Nat.zero_le _, Nat.zero_le _⟩) hS (AA.le hS.1) (fun H1 locs hW1 hz1 hk1 hS => ?_)
    have hW := hW1
    clear hW1 hk1 hz1
    generalize H1 = H at hW hS ⊢
    have hwf_3 : WF (daysS (S 20) 30) := daysS_wf hF0 30 (by omega)
    generalize daysS (S 20) 30 = Fv_4 at hW hwf_3
    have b_656 := daysS_56 hF0 30 (by omega)
    have b_657 : bmp (S 20) (S 20) = daysS (S 20) 30 56 - (S 20) 56 := rfl
    have bv_5 : -1000000000 ≤ (bmp (S 20) (S 20)) ∧ (bmp (S 20) (S 20)) ≤ 1000000000 := by omega
    generalize evv : (bmp (S 20) (S 20)) = v_6 at bv_5 ⊢
    refine r_put (ci := 0) (k := 6) (C := RX0) (T := TX0) (N := 16) Z hB hx hb hts hown rfl in_X0 tyX0 tyX0_ok nmX0 hW.obj hS (Or.inl ⟨0, by omega, rfl⟩) (by decide) q799 rfl rfl rfl rfl (Nat.le_of_ble_eq_true rfl) dX0_fray_18 (CW G A (up (up S 21 Fv_4) 0 (up (S 0) 2 v_6)) R) (fun H1 hz oq ho => hW.setO hI (k := 2) (by omega) oq ho) (fun H locs hW hS => ?_)
    have hW := hW.eqS (S' := (up (up S 0 (up (S 0) 2 v_6)) 21 Fv_4)) (by
        funext a
        by_cases h0 : a = 0
        · subst h0
          funext j
          by_cases k0 : j = 2
          · subst k0; rfl
          simp only [up, if_neg k0, if_true, if_false, Nat.reduceEqDiff, reduceIte]
        by_cases h21 : a = 21
        · subst h21; rfl
        simp only [up, if_neg h0, if_neg h21])
    refine ii_bipush hx hb dX0_fray_21 (by decide) ?_
    refine lv_istore_n (lv' := [(2, .int (iI (-4))), (0, .ref (A 0)), (1, .int (iI what))]) hx hb dX0_fray_23 rfl hl (by decide) rfl (fun ls hl => ?_)
    refine ii_const hx hb dX0_fray_24 ?_
    refine lv_istore_n (lv' := [(3, .int (iI 0)), (2, .int (iI (-4))), (0, .ref (A 0)), (1, .int (iI what))]) hx hb dX0_fray_25 rfl hl (by decide) rfl (fun ls hl => ?_)
    have loop_26 : ∀ (fu : Nat) (k : Nat) (zk : Int) (best : Int) (least : Int) (F1 : Nat → Int) (F2 : Nat → Int), (zk = (k : Int)) → (k ≤ (S 20 53).toNat) → (frO (S 20) k = (best, least)) → ((-4 ≤ best ∧ best ≤ 100) ∧ -1000000000 ≤ least ∧ least ≤ 1000000000) → (7 - k) < fu → ∀ (H : Heap) (locs : List Loc), (CW G A (up (up (up S 0 (up (S 0) 2 least)) 21 F1) 22 F2) R) H → va_S (AA A 156 s.heap.size) s.heap H locs → ∀ (ls : Array Slot), lv_has ls 4 [(3, .int (iI zk)), (2, .int (iI best)), (0, .ref (A 0)), (1, .int (iI what))] → W p l e (headSpec (ws_ yX0_fray cX0_fray 4 (some .int)) ({ frames := 8, cells := 0, slots := 0, locals := 173 } : Room)).room s m ([.ref (A 0), .int (iI what)] : List Value).toArray below meth c H locs 0 0 (MQ below (mI (frayA (S 20) what) (CWx G A S R) (AA A 156 s.heap.size)) ([.ref (A 0), .int (iI what)] : List Value).toArray s 0 0 (AA A 156 s.heap.size)) (F0 m 26 ls []) := by
      intro fu
      induction fu with
      | zero => intro k zk best least F1 F2 ezk hk hp hbl hmu; exact absurd hmu (Nat.not_lt_zero _)
      | succ fu ih26 =>
        intro k zk best least F1 F2 ezk hk hp hbl hmu H locs hW hS ls hl
        refine lv_iload_n hx hb dX0_fray_26 rfl (lv_at hl 0 rfl) ?_
        refine lv_aload_n hx hb dX0_fray_27 rfl (lv_at hl 2 rfl) ?_
        refine r_get (ci := 0) (k := 3) (v := .ref (A 36)) (C := RX0) (T := TX0) (N := 16) Z hB hx hb hts hown rfl in_X0 hW.obj (by decide) q796 rfl dX0_fray_28 ?_
        have b_659 := hF0.rm 
        refine r_getN (ci := 1) (k := 4) (v := .int (iI ((S 20) 53))) (C := RX1) (T := TX1) (N := 8) Z hB hx hb hts hown rfl in_X1 (((hW.fw (f := 0) (by omega) (F := (S 20)) rfl)).1) (by decide) q149 rfl dX0_fray_31 ?_
        refine ii_icmp_ge (tgt := 69) hx hb dX0_fray_34 (by decide) (by omega) (by omega) (fun c_7 => ?_) (fun c_7 => ?_)
        · -- 34 -> 69
          have ex_k : (S 20 53).toNat = k := by omega
          subst ex_k
          refine lv_iload_n hx hb dX0_fray_69 rfl (lv_at hl 1 rfl) ?_
          refine ii_bipush hx hb dX0_fray_70 (by decide) ?_
          refine ii_icmp_eq (tgt := 79) hx hb dX0_fray_72 (by decide) (by omega) (by omega) (fun c_8 => ?_) (fun c_8 => ?_)
          · -- 72 -> 79
            refine lv_iload_n hx hb dX0_fray_79 rfl (lv_at hl 1 rfl) ?_
            refine lv_goto (tgt := 87) hx hb dX0_fray_80 (by decide) ?_
            have hpw9 : (CWx G A S R) H := (hW.x (fun a h0 h3 h1 h2 h4 => by first | rfl | simp only [up, if_neg h0, if_neg h3, if_neg h1, if_neg h2, if_neg h4]) (fun j h2 h5 h6 => by first | rfl | simp [up, h2]))
            have he9 : best = (frayA (S 20) what) := by unfold frayA jdA; rw [if_neg (by omega), hp]; dsimp only; split <;> omega
            exact W.iret hx hb hr (fun t ht hW9 => ⟨⟨_, (), rfl, congrArg iI he9, by show (CWx G A S R) t.heap; rw [ht]; exact hpw9⟩, hS.F ht⟩) hS.2.2 dX0_fray_87
          · -- 72 -> 75
            refine lv_iload_n hx hb dX0_fray_75 rfl (lv_at hl 3 rfl) ?_
            refine ii_if_ne (tgt := 83) hx hb dX0_fray_76 (by decide) (by omega) (fun c_9 => ?_) (fun c_9 => ?_)
            · -- 76 -> 83
              refine lv_aload_n hx hb dX0_fray_83 rfl (lv_at hl 2 rfl) ?_
              refine r_get (ci := 0) (k := 6) (v := .int (iI least)) (C := RX0) (T := TX0) (N := 16) Z hB hx hb hts hown rfl in_X0 hW.obj (by decide) q799 rfl dX0_fray_84 ?_
              have hpw9 : (CWx G A S R) H := (hW.x (fun a h0 h3 h1 h2 h4 => by first | rfl | simp only [up, if_neg h0, if_neg h3, if_neg h1, if_neg h2, if_neg h4]) (fun j h2 h5 h6 => by first | rfl | simp [up, h2]))
              have he9 : least = (frayA (S 20) what) := by unfold frayA jdA; rw [if_neg (by omega), hp]; dsimp only; split <;> omega
              exact W.iret hx hb hr (fun t ht hW9 => ⟨⟨_, (), rfl, congrArg iI he9, by show (CWx G A S R) t.heap; rw [ht]; exact hpw9⟩, hS.F ht⟩) hS.2.2 dX0_fray_87
            · -- 76 -> 79
              refine lv_iload_n hx hb dX0_fray_79 rfl (lv_at hl 1 rfl) ?_
              refine lv_goto (tgt := 87) hx hb dX0_fray_80 (by decide) ?_
              have hpw9 : (CWx G A S R) H := (hW.x (fun a h0 h3 h1 h2 h4 => by first | rfl | simp only [up, if_neg h0, if_neg h3, if_neg h1, if_neg h2, if_neg h4]) (fun j h2 h5 h6 => by first | rfl | simp [up, h2]))
              have he9 : best = (frayA (S 20) what) := by unfold frayA jdA; rw [if_neg (by omega), hp]; dsimp only; split <;> omega
              exact W.iret hx hb hr (fun t ht hW9 => ⟨⟨_, (), rfl, congrArg iI he9, by show (CWx G A S R) t.heap; rw [ht]; exact hpw9⟩, hS.F ht⟩) hS.2.2 dX0_fray_87
        · -- 34 -> 37
          refine lv_aload_n hx hb dX0_fray_37 rfl (lv_at hl 2 rfl) ?_
          refine lv_iload_n hx hb dX0_fray_38 rfl (lv_at hl 0 rfl) ?_
          have hk_10 : (k : Int) < (S 20) 53 := by omega
          refine cmV (va_runV (As := [.int (iI zk)]) (rest := []) ⟨hx, hb, hml, hown, hts⟩ (mX0_looses Z A hI (up (up (up S 0 (up (S 0) 2 least)) 21 F1) 22 F2) R hF0 k zk (by omega) hk_10 H.size) (cwV 1 hts (lw_V q636 q638 qs26 q79 q639) rfl rfl rfl (by decide +kernel) ⟨Nat.le_of_ble_eq_true rfl, Nat.le_of_ble_eq_true rfl⟩) (pvM (BornH.S hB hN hS) (OBJ.recv Z hB hW.obj (q := (RX0, TX0, 16)) rfl) hW) rfl rfl hl.1 rfl (lv_room (Nat.le_of_ble_eq_true rfl)) dX0_fray_39 ⟨Nat.zero_le _, Nat.zero_le _⟩) hS (AA.le hS.1) (fun H1 locs hW1 hz1 hk1 hS => ?_)
          have hW := hW1
          clear hW1 hk1 hz1
          generalize H1 = H at hW hS ⊢
          have hW := hW.eqS (S' := (up (up (up S 0 (up (S 0) 2 least)) 21 F1) 22 (frayF (S 20) k))) (by
              funext a
              by_cases h0 : a = 0
              · subst h0
                funext j
                by_cases k0 : j = 2
                · subst k0; rfl
                simp only [up, if_neg k0, if_true, if_false, Nat.reduceEqDiff, reduceIte]
              by_cases h21 : a = 21
              · subst h21; rfl
              by_cases h22 : a = 22
              · subst h22; rfl
              simp only [up, if_neg h0, if_neg h21, if_neg h22])
          have hwf_11 : WF (frayF (S 20) k) := (frayF_wf hF0 k (by omega))
          refine lv_aload_n hx hb dX0_fray_42 rfl (lv_at hl 2 rfl) ?_
          refine lv_aload_n hx hb dX0_fray_43 rfl (lv_at hl 2 rfl) ?_
          refine lv_aload_n hx hb dX0_fray_44 rfl (lv_at hl 2 rfl) ?_
          refine r_get (ci := 0) (k := 5) (v := .ref (A 76)) (C := RX0) (T := TX0) (N := 16) Z hB hx hb hts hown rfl in_X0 hW.obj (by decide) q798 rfl dX0_fray_45 ?_
          have h54 : frayF (S 20) k 54 = S 20 54 := frayF_same hF0 k (by omega) (by omega)
          have h56f : frayF (S 20) k 56 = S 20 56 := frayF_same hF0 k (by omega) (by omega)
          have hd_12 : (frayF (S 20) k) 54 ≤ 2000 := by omega
          refine cmI (va_runV (As := [.ref (A 76)]) (rest := [.ref (A 0)]) ⟨hx, hb, hml, hown, hts⟩ (mX0_bumpsOf_2 Z A hI (up (up (up S 0 (up (S 0) 2 least)) 21 F1) 22 (frayF (S 20) k)) R hF0 (frayF (S 20) k) rfl hwf_11 hd_12 (S 20) rfl H.size) (cwV 1 hts (lw_V q632 q634 qs25 q79 q635) rfl rfl rfl (by decide +kernel) ⟨Nat.le_of_ble_eq_true rfl, Nat.le_of_ble_eq_true rfl⟩) (pvM (BornH.S hB hN hS) (OBJ.recv Z hB hW.obj (q := (RX0, TX0, 16)) rfl) hW) rfl rfl hl.1 rfl (lv_room (Nat.le_of_ble_eq_true rfl)) dX0_fray_48 ⟨Nat.zero_le _, Nat.zero_le _⟩) hS (AA.le hS.1) (fun H1 locs hW1 hz1 hk1 hS => ?_)
          have hW := hW1
          clear hW1 hk1 hz1
          generalize H1 = H at hW hS ⊢
          have hwf_13 : WF (daysS (frayF (S 20) k) 30) := daysS_wf hwf_11 30 (by omega)
          generalize daysS (frayF (S 20) k) 30 = Fv_14 at hW hwf_13
          have hW := hW.eqS (S' := (up (up (up S 0 (up (S 0) 2 least)) 21 Fv_14) 22 (frayF (S 20) k))) (by
              funext a
              by_cases h0 : a = 0
              · subst h0
                funext j
                by_cases k0 : j = 2
                · subst k0; rfl
                simp only [up, if_neg k0, if_true, if_false, Nat.reduceEqDiff, reduceIte]
              by_cases h21 : a = 21
              · subst h21; rfl
              by_cases h22 : a = 22
              · subst h22; rfl
              simp only [up, if_neg h0, if_neg h21, if_neg h22])
          have b_662 := daysS_56 hwf_11 30 (by omega)
          have b_663 : bmp (S 20) (frayF (S 20) k) = daysS (frayF (S 20) k) 30 56 - (S 20) 56 := rfl
          have bv_15 : -1000000000 ≤ (bmp (S 20) (frayF (S 20) k)) ∧ (bmp (S 20) (frayF (S 20) k)) ≤ 1000000000 := by omega
          generalize evv : (bmp (S 20) (frayF (S 20) k)) = v_16 at bv_15 ⊢
          have hle_17 : inR least := by omega
          refine cmI (va_runV (As := [.int (iI v_16)]) (rest := []) ⟨hx, hb, hml, hown, hts⟩ (mX0_isLess Z A hI (up (up (up S 0 (up (S 0) 2 least)) 21 Fv_14) 22 (frayF (S 20) k)) R v_16 (by omega) hle_17 H.size) (cwV 1 hts (lw_V q624 q626 qs24 q79 q627) rfl rfl rfl (by decide +kernel) ⟨Nat.le_of_ble_eq_true rfl, Nat.le_of_ble_eq_true rfl⟩) (pvM (BornH.S hB hN hS) (OBJ.recv Z hB hW.obj (q := (RX0, TX0, 16)) rfl) hW) rfl rfl hl.1 rfl (lv_room (Nat.le_of_ble_eq_true rfl)) dX0_fray_51 ⟨Nat.zero_le _, Nat.zero_le _⟩) hS (AA.le hS.1) (fun H1 locs hW1 hz1 hk1 hS => ?_)
          have hW := hW1
          clear hW1 hk1 hz1
          generalize H1 = H at hW hS ⊢
          have hW := hW.eqS (S' := (up (up (up S 0 (up (up (S 0) 2 least) 2 (min least v_16))) 21 Fv_14) 22 (frayF (S 20) k))) (by
              funext a
              by_cases h0 : a = 0
              · subst h0
                funext j
                by_cases k0 : j = 2
                · subst k0; rfl
                by_cases k1 : j = 2
                · subst k1; rfl
                simp only [up, if_neg k0, if_neg k1, if_true, if_false, Nat.reduceEqDiff, reduceIte]
              by_cases h21 : a = 21
              · subst h21; rfl
              by_cases h22 : a = 22
              · subst h22; rfl
              simp only [up, if_neg h0, if_neg h21, if_neg h22])
          refine bb_if_eq (P := v_16 < least) (tgt := 61) hx hb dX0_fray_54 (by decide) (fun c_18 => ?_) (fun c_18 => ?_)
          · -- 54 -> 61
            refine lv_iload_n hx hb dX0_fray_61 rfl (lv_at hl 1 rfl) ?_
            refine lv_istore_n (lv' := [(2, .int (iI best)), (3, .int (iI zk)), (0, .ref (A 0)), (1, .int (iI what))]) hx hb dX0_fray_62 rfl hl (by decide) rfl (fun ls hl => ?_)
            refine ii_iinc (k := 1) (lv' := [(3, .int (iI (zk + 1))), (2, .int (iI best)), (0, .ref (A 0)), (1, .int (iI what))]) hx hb dX0_fray_63 hl rfl (by decide) rfl (fun ls hl => ?_)
            refine lv_goto (tgt := 26) hx hb dX0_fray_66 (by decide) ?_
            have hW := hW.eqS (S' := (up (up (up S 0 (up (S 0) 2 (min least v_16))) 21 Fv_14) 22 (frayF (S 20) k))) (by
                funext a
                by_cases h0 : a = 0
                · subst h0
                  funext j
                  by_cases k0 : j = 2
                  · subst k0; rfl
                  by_cases k1 : j = 2
                  · subst k1; rfl
                  simp only [up, if_neg k0, if_neg k1, if_true, if_false, Nat.reduceEqDiff, reduceIte]
                by_cases h21 : a = 21
                · subst h21; rfl
                by_cases h22 : a = 22
                · subst h22; rfl
                simp only [up, if_neg h0, if_neg h21, if_neg h22])
            exact ih26 (k + 1) (zk + 1) best (min least v_16) Fv_14 (frayF (S 20) k) (by omega) (by omega) (by first | exact jd_y hp (by omega) evv (by assumption) | exact jd_n hp evv (by assumption)) (by omega) (by omega) _ _ hW hS ls (lv_sub hl [0, 1, 2, 3] rfl)
          · -- 54 -> 57
            refine lv_iload_n hx hb dX0_fray_57 rfl (lv_at hl 0 rfl) ?_
            refine lv_goto (tgt := 62) hx hb dX0_fray_58 (by decide) ?_
            refine lv_istore_n (lv' := [(2, .int (iI zk)), (3, .int (iI zk)), (0, .ref (A 0)), (1, .int (iI what))]) hx hb dX0_fray_62 rfl hl (by decide) rfl (fun ls hl => ?_)
            refine ii_iinc (k := 1) (lv' := [(3, .int (iI (zk + 1))), (2, .int (iI zk)), (0, .ref (A 0)), (1, .int (iI what))]) hx hb dX0_fray_63 hl rfl (by decide) rfl (fun ls hl => ?_)
            refine lv_goto (tgt := 26) hx hb dX0_fray_66 (by decide) ?_
            have hW := hW.eqS (S' := (up (up (up S 0 (up (S 0) 2 (min least v_16))) 21 Fv_14) 22 (frayF (S 20) k))) (by
                funext a
                by_cases h0 : a = 0
                · subst h0
                  funext j
                  by_cases k0 : j = 2
                  · subst k0; rfl
                  by_cases k1 : j = 2
                  · subst k1; rfl
                  simp only [up, if_neg k0, if_neg k1, if_true, if_false, Nat.reduceEqDiff, reduceIte]
                by_cases h21 : a = 21
                · subst h21; rfl
                by_cases h22 : a = 22
                · subst h22; rfl
                simp only [up, if_neg h0, if_neg h21, if_neg h22])
            exact ih26 (k + 1) (zk + 1) zk (min least v_16) Fv_14 (frayF (S 20) k) (by omega) (by omega) (by first | exact jd_y hp (by omega) evv (by assumption) | exact jd_n hp evv (by assumption)) (by omega) (by omega) _ _ hW hS ls (lv_sub hl [0, 1, 2, 3] rfl)
    have hW := hW.eqS (S' := (up (up (up S 0 (up (S 0) 2 v_6)) 21 Fv_4) 22 (S 22))) (by
        funext a
        by_cases h0 : a = 0
        · subst h0
          funext j
          by_cases k0 : j = 2
          · subst k0; rfl
          by_cases k1 : j = 2
          · subst k1; rfl
          simp only [up, if_neg k0, if_neg k1, if_true, if_false, Nat.reduceEqDiff, reduceIte]
        by_cases h21 : a = 21
        · subst h21; rfl
        by_cases h22 : a = 22
        · subst h22; rfl
        simp only [up, if_neg h0, if_neg h21, if_neg h22])
    exact loop_26 _ 0 0 (-4) v_6 Fv_4 (S 22) (by omega) (by omega) (by rw [← evv]; rfl) (by omega) (Nat.lt_succ_self _) _ _ hW hS ls (lv_sub hl [0, 1, 2, 3] rfl)
  · -- 4 -> 7
    refine ii_const hx hb dX0_fray_7 ?_
    have hpw9 : (CWx G A S R) s.heap := (hW.x (fun a h0 h3 h1 h2 h4 => by first | rfl | simp only [up, if_neg h0, if_neg h3, if_neg h1, if_neg h2, if_neg h4]) (fun j h2 h5 h6 => by first | rfl | simp [up, h2]))
    have he9 : (-1) = (frayA (S 20) what) := by unfold frayA; exact (if_pos (by omega)).symm
    exact W.iret hx hb hr (fun t ht hW9 => ⟨⟨_, (), rfl, congrArg iI he9, by show (CWx G A S R) t.heap; rw [ht]; exact hpw9⟩, hS.F ht⟩) hS.2.2 dX0_fray_8

set_option maxHeartbeats 1000000 in
set_option maxRecDepth 100000 in
theorem mX0_soothe {l : Launch} {G : GG} {s0 : State} {b0 : Nat} (Z : ZZ l G s0 b0) (A : Nat → Nat) (hI : Own s0 A 156) (S : Sta) (R : Nat → Option Nat) (hF0 : WF (S 20)) (hd : S 20 54 ≤ 2000) (h56 : 0 ≤ S 20 56 ∧ S 20 56 ≤ 1000000) (what : Int) (hwhat : inR what) (sz : Nat) : Met l yX0_soothe (ws_ yX0_soothe cX0_soothe 5 (some .int)) ({ frames := 8, cells := 0, slots := 0, locals := 174 } : Room) (pcM s0 sz (CW G A S R) [.ref (A 0), .int (iI what)]) (mI (sootheA (S 20) what) (CWx G A S R) (AA A 156 sz)) 0 0 (AA A 156 sz) := by
  refine Met.ofW (cc := cX0_soothe) (maxL := 5) (ret := (some .int)) (by decide) rfl ?_
  intro p e s m args below meth c s₁ B hml hv
  obtain ⟨rfl, hsz, hW, hB⟩ := hv
  subst hsz
  have hx := B.exec
  have hb := B.bytes
  have hr := B.returns
  have hts := atoms_spec (ws := (ws_ yX0_soothe cX0_soothe 5 (some .int))) B.pre
  have hts : ∀ w ∈ lw_all, w.before _ s = true := fun w h => hts w (List.mem_cons_of_mem _ h)
  have hown : s.vm.findClass RX0 = some m.cls := findClass_of_methodNamed B.named
  have hlocks := B.notSynchronized
  have hN := AA.old hI hB
  have hS : va_S (AA A 156 s.heap.size) s.heap s.heap [] := va_S.rf
  have hl := lv_entry ([.ref (A 0), .int (iI what)]) (n := 5) (Nat.le_of_ble_eq_true rfl)
  rw [lg_entry_eq]
  generalize (lg_sl ([.ref (A 0), .int (iI what)]) ++ List.replicate (5 - (lg_sl ([.ref (A 0), .int (iI what)])).length) Slot.unset).toArray = ls at hl ⊢
  have hl : lv_has ls 5 [(0, .ref (A 0)), (1, .int (iI what))] := hl
  have hn5 := hF0.n
  have hr6 := hF0.rm
  refine lv_iload_n hx hb dX0_soothe_0 rfl (lv_at hl 1 rfl) ?_
  refine cqI (va_runS (As := [.int (iI what)]) (rest := []) ⟨hx, hb, hml, hown, hts⟩ (mX0_isPart Z what (by omega)) (va_cwS 1 hts (lw_S q617 q618 q79 q619) rfl rfl rfl (by decide +kernel) ⟨Nat.le_of_ble_eq_true rfl, Nat.le_of_ble_eq_true rfl⟩) (psR (BornH.S hB hN hS) trivial) rfl rfl hl.1 rfl (lv_room (Nat.le_of_ble_eq_true rfl)) dX0_soothe_1 ⟨Nat.zero_le _, Nat.zero_le _⟩) ?_
  refine bb_if_ne (P := 0 ≤ what ∧ what ≤ 1) (tgt := 9) hx hb dX0_soothe_4 (by decide) (fun c_1 => ?_) (fun c_1 => ?_)
  · -- 4 -> 9
    refine lv_aload_n hx hb dX0_soothe_9 rfl (lv_at hl 0 rfl) ?_
    refine lv_aload_n hx hb dX0_soothe_10 rfl (lv_at hl 0 rfl) ?_
    refine lv_aload_n hx hb dX0_soothe_11 rfl (lv_at hl 0 rfl) ?_
    refine r_get (ci := 0) (k := 3) (v := .ref (A 36)) (C := RX0) (T := TX0) (N := 16) Z hB hx hb hts hown rfl in_X0 hW.obj (by decide) q796 rfl dX0_soothe_12 ?_
    refine ii_bipush hx hb dX0_soothe_15 (by decide) ?_
    have hd_2 : (S 20) 54 ≤ 2000 := by omega
    refine cmI (va_runV (As := [.ref (A 36), .int (iI 30)]) (rest := [.ref (A 0)]) ⟨hx, hb, hml, hown, hts⟩ (mX0_spreadBehind_0 Z A hI S R hF0 (S 20) rfl hd_2 30 30 (by omega) (by omega) s.heap.size) (cwV 2 hts (lw_V q620 q622 qs23 q79 q623) rfl rfl rfl (by decide +kernel) ⟨Nat.le_of_ble_eq_true rfl, Nat.le_of_ble_eq_true rfl⟩) (pvM (BornH.S hB hN hS) (OBJ.recv Z hB hW.obj (q := (RX0, TX0, 16)) rfl) hW) rfl rfl hl.1 rfl (lv_room (Nat.le_of_ble_eq_true rfl)) dX0_soothe_17 ⟨Nat.zero_le _, Nat.zero_le _⟩) hS (AA.le hS.1) (fun H1 locs hW1 hz1 hk1 hS => ?_)
    have hW := hW1
    clear hW1 hk1 hz1
    generalize H1 = H at hW hS ⊢
    have hwf_3 : WF (daysS (S 20) 30) := daysS_wf hF0 30 (by omega)
    generalize daysS (S 20) 30 = Fv_4 at hW hwf_3
    have bv_5 : 0 ≤ (spd (S 20) 30) ∧ (spd (S 20) 30) ≤ 99 := spd_in hF0 30 (by omega)
    generalize evv : (spd (S 20) 30) = v_6 at bv_5 ⊢
    refine r_put (ci := 0) (k := 6) (C := RX0) (T := TX0) (N := 16) Z hB hx hb hts hown rfl in_X0 tyX0 tyX0_ok nmX0 hW.obj hS (Or.inl ⟨0, by omega, rfl⟩) (by decide) q799 rfl rfl rfl rfl (Nat.le_of_ble_eq_true rfl) dX0_soothe_20 (CW G A (up (up S 21 Fv_4) 0 (up (S 0) 2 v_6)) R) (fun H1 hz oq ho => hW.setO hI (k := 2) (by omega) oq ho) (fun H locs hW hS => ?_)
    have hW := hW.eqS (S' := (up (up S 0 (up (S 0) 2 v_6)) 21 Fv_4)) (by
        funext a
        by_cases h0 : a = 0
        · subst h0
          funext j
          by_cases k0 : j = 2
          · subst k0; rfl
          simp only [up, if_neg k0, if_true, if_false, Nat.reduceEqDiff, reduceIte]
        by_cases h21 : a = 21
        · subst h21; rfl
        simp only [up, if_neg h0, if_neg h21])
    refine ii_bipush hx hb dX0_soothe_23 (by decide) ?_
    refine lv_istore_n (lv' := [(2, .int (iI (-4))), (0, .ref (A 0)), (1, .int (iI what))]) hx hb dX0_soothe_25 rfl hl (by decide) rfl (fun ls hl => ?_)
    refine ii_const hx hb dX0_soothe_26 ?_
    refine lv_istore_n (lv' := [(3, .int (iI 0)), (2, .int (iI (-4))), (0, .ref (A 0)), (1, .int (iI what))]) hx hb dX0_soothe_27 rfl hl (by decide) rfl (fun ls hl => ?_)
    have loop_28 : ∀ (fu : Nat) (i : Nat) (zi : Int) (best : Int) (least : Int) (F1 : Nat → Int) (F2 : Nat → Int), (zi = (i : Int)) → (i ≤ (S 20 76).toNat) → (soO (S 20) i = (best, least)) → ((-4 ≤ best ∧ best ≤ 100) ∧ 0 ≤ least ∧ least ≤ 1000000) → (6 - i) < fu → ∀ (H : Heap) (locs : List Loc), (CW G A (up (up (up S 0 (up (S 0) 2 least)) 21 F1) 22 F2) R) H → va_S (AA A 156 s.heap.size) s.heap H locs → ∀ (ls : Array Slot), lv_has ls 5 [(3, .int (iI zi)), (2, .int (iI best)), (0, .ref (A 0)), (1, .int (iI what))] → W p l e (headSpec (ws_ yX0_soothe cX0_soothe 5 (some .int)) ({ frames := 8, cells := 0, slots := 0, locals := 174 } : Room)).room s m ([.ref (A 0), .int (iI what)] : List Value).toArray below meth c H locs 0 0 (MQ below (mI (sootheA (S 20) what) (CWx G A S R) (AA A 156 s.heap.size)) ([.ref (A 0), .int (iI what)] : List Value).toArray s 0 0 (AA A 156 s.heap.size)) (F0 m 28 ls []) := by
      intro fu
      induction fu with
      | zero => intro i zi best least F1 F2 ezi hi hp hbl hmu; exact absurd hmu (Nat.not_lt_zero _)
      | succ fu ih28 =>
        intro i zi best least F1 F2 ezi hi hp hbl hmu H locs hW hS ls hl
        refine lv_iload_n hx hb dX0_soothe_28 rfl (lv_at hl 0 rfl) ?_
        refine lv_aload_n hx hb dX0_soothe_29 rfl (lv_at hl 2 rfl) ?_
        refine r_get (ci := 0) (k := 3) (v := .ref (A 36)) (C := RX0) (T := TX0) (N := 16) Z hB hx hb hts hown rfl in_X0 hW.obj (by decide) q796 rfl dX0_soothe_30 ?_
        have b_664 := hF0.n 
        refine r_getN (ci := 1) (k := 3) (v := .int (iI ((S 20) 76))) (C := RX1) (T := TX1) (N := 8) Z hB hx hb hts hown rfl in_X1 (((hW.fw (f := 0) (by omega) (F := (S 20)) rfl)).1) (by decide) q147 rfl dX0_soothe_33 ?_
        refine ii_icmp_ge (tgt := 134) hx hb dX0_soothe_36 (by decide) (by omega) (by omega) (fun c_7 => ?_) (fun c_7 => ?_)
        · -- 36 -> 134
          have ex_i : (S 20 76).toNat = i := by omega
          subst ex_i
          refine lv_iload_n hx hb dX0_soothe_134 rfl (lv_at hl 1 rfl) ?_
          refine ii_bipush hx hb dX0_soothe_135 (by decide) ?_
          refine ii_icmp_eq (tgt := 144) hx hb dX0_soothe_137 (by decide) (by omega) (by omega) (fun c_8 => ?_) (fun c_8 => ?_)
          · -- 137 -> 144
            refine lv_iload_n hx hb dX0_soothe_144 rfl (lv_at hl 1 rfl) ?_
            refine lv_goto (tgt := 152) hx hb dX0_soothe_145 (by decide) ?_
            have hpw9 : (CWx G A S R) H := (hW.x (fun a h0 h3 h1 h2 h4 => by first | rfl | simp only [up, if_neg h0, if_neg h3, if_neg h1, if_neg h2, if_neg h4]) (fun j h2 h5 h6 => by first | rfl | simp [up, h2]))
            have he9 : best = (sootheA (S 20) what) := by unfold sootheA jdA; rw [if_neg (by omega), hp]; dsimp only; split <;> omega
            exact W.iret hx hb hr (fun t ht hW9 => ⟨⟨_, (), rfl, congrArg iI he9, by show (CWx G A S R) t.heap; rw [ht]; exact hpw9⟩, hS.F ht⟩) hS.2.2 dX0_soothe_152
          · -- 137 -> 140
            refine lv_iload_n hx hb dX0_soothe_140 rfl (lv_at hl 3 rfl) ?_
            refine ii_if_ne (tgt := 148) hx hb dX0_soothe_141 (by decide) (by omega) (fun c_9 => ?_) (fun c_9 => ?_)
            · -- 141 -> 148
              refine lv_aload_n hx hb dX0_soothe_148 rfl (lv_at hl 2 rfl) ?_
              refine r_get (ci := 0) (k := 6) (v := .int (iI least)) (C := RX0) (T := TX0) (N := 16) Z hB hx hb hts hown rfl in_X0 hW.obj (by decide) q799 rfl dX0_soothe_149 ?_
              have hpw9 : (CWx G A S R) H := (hW.x (fun a h0 h3 h1 h2 h4 => by first | rfl | simp only [up, if_neg h0, if_neg h3, if_neg h1, if_neg h2, if_neg h4]) (fun j h2 h5 h6 => by first | rfl | simp [up, h2]))
              have he9 : least = (sootheA (S 20) what) := by unfold sootheA jdA; rw [if_neg (by omega), hp]; dsimp only; split <;> omega
              exact W.iret hx hb hr (fun t ht hW9 => ⟨⟨_, (), rfl, congrArg iI he9, by show (CWx G A S R) t.heap; rw [ht]; exact hpw9⟩, hS.F ht⟩) hS.2.2 dX0_soothe_152
            · -- 141 -> 144
              refine lv_iload_n hx hb dX0_soothe_144 rfl (lv_at hl 1 rfl) ?_
              refine lv_goto (tgt := 152) hx hb dX0_soothe_145 (by decide) ?_
              have hpw9 : (CWx G A S R) H := (hW.x (fun a h0 h3 h1 h2 h4 => by first | rfl | simp only [up, if_neg h0, if_neg h3, if_neg h1, if_neg h2, if_neg h4]) (fun j h2 h5 h6 => by first | rfl | simp [up, h2]))
              have he9 : best = (sootheA (S 20) what) := by unfold sootheA jdA; rw [if_neg (by omega), hp]; dsimp only; split <;> omega
              exact W.iret hx hb hr (fun t ht hW9 => ⟨⟨_, (), rfl, congrArg iI he9, by show (CWx G A S R) t.heap; rw [ht]; exact hpw9⟩, hS.F ht⟩) hS.2.2 dX0_soothe_152
        · -- 36 -> 39
          refine ii_const hx hb dX0_soothe_39 ?_
          refine lv_istore (lv' := [(4, .int (iI 0)), (3, .int (iI zi)), (2, .int (iI best)), (0, .ref (A 0)), (1, .int (iI what))]) hx hb dX0_soothe_40 hl (by decide) rfl (fun ls hl => ?_)
          have loop_42 : ∀ (fu : Nat) (j : Nat) (zj : Int) (best : Int) (least : Int) (F1 : Nat → Int) (F2 : Nat → Int), (zj = (j : Int)) → (j ≤ (S 20 76).toNat) → (soI (S 20) i j (soO (S 20) i) = (best, least)) → ((-4 ≤ best ∧ best ≤ 100) ∧ 0 ≤ least ∧ least ≤ 1000000) → (6 - j) < fu → ∀ (H : Heap) (locs : List Loc), (CW G A (up (up (up S 0 (up (S 0) 2 least)) 21 F1) 22 F2) R) H → va_S (AA A 156 s.heap.size) s.heap H locs → ∀ (ls : Array Slot), lv_has ls 5 [(4, .int (iI zj)), (3, .int (iI zi)), (2, .int (iI best)), (0, .ref (A 0)), (1, .int (iI what))] → W p l e (headSpec (ws_ yX0_soothe cX0_soothe 5 (some .int)) ({ frames := 8, cells := 0, slots := 0, locals := 174 } : Room)).room s m ([.ref (A 0), .int (iI what)] : List Value).toArray below meth c H locs 0 0 (MQ below (mI (sootheA (S 20) what) (CWx G A S R) (AA A 156 s.heap.size)) ([.ref (A 0), .int (iI what)] : List Value).toArray s 0 0 (AA A 156 s.heap.size)) (F0 m 42 ls []) := by
            intro fu
            induction fu with
            | zero => intro j zj best least F1 F2 ezj hj hp2 hbl2 hmu; exact absurd hmu (Nat.not_lt_zero _)
            | succ fu ih42 =>
              intro j zj best least F1 F2 ezj hj hp2 hbl2 hmu H locs hW hS ls hl
              refine lv_iload hx hb dX0_soothe_42 (lv_at hl 0 rfl) ?_
              refine lv_aload_n hx hb dX0_soothe_44 rfl (lv_at hl 3 rfl) ?_
              refine r_get (ci := 0) (k := 3) (v := .ref (A 36)) (C := RX0) (T := TX0) (N := 16) Z hB hx hb hts hown rfl in_X0 hW.obj (by decide) q796 rfl dX0_soothe_45 ?_
              have b_668 := hF0.n 
              refine r_getN (ci := 1) (k := 3) (v := .int (iI ((S 20) 76))) (C := RX1) (T := TX1) (N := 8) Z hB hx hb hts hown rfl in_X1 (((hW.fw (f := 0) (by omega) (F := (S 20)) rfl)).1) (by decide) q147 rfl dX0_soothe_48 ?_
              refine ii_icmp_ge (tgt := 128) hx hb dX0_soothe_51 (by decide) (by omega) (by omega) (fun c_10 => ?_) (fun c_10 => ?_)
              · -- 51 -> 128
                refine ii_iinc (k := 1) (lv' := [(3, .int (iI (zi + 1))), (4, .int (iI zj)), (2, .int (iI best)), (0, .ref (A 0)), (1, .int (iI what))]) hx hb dX0_soothe_128 hl rfl (by decide) rfl (fun ls hl => ?_)
                refine lv_goto (tgt := 28) hx hb dX0_soothe_131 (by decide) ?_
                exact ih28 (i + 1) (zi + 1) best least F1 F2 (by omega) (by omega) (by simp only [soO]; rw [show (S 20 76).toNat = j by omega]; exact hp2) (by omega) (by omega) _ _ hW hS ls (lv_sub hl [0, 2, 3, 4] rfl)
              · -- 51 -> 54
                refine lv_aload_n hx hb dX0_soothe_54 rfl (lv_at hl 3 rfl) ?_
                refine r_get (ci := 0) (k := 3) (v := .ref (A 36)) (C := RX0) (T := TX0) (N := 16) Z hB hx hb hts hown rfl in_X0 hW.obj (by decide) q796 rfl dX0_soothe_55 ?_
                refine r_getN (ci := 1) (k := 1) (v := .ref ((fa A 0) 7)) (C := RX1) (T := TX1) (N := 8) Z hB hx hb hts hown rfl in_X1 (((hW.fw (f := 0) (by omega) (F := (S 20)) rfl)).1) (by decide) q142 rfl dX0_soothe_58 ?_
                refine lv_iload_n hx hb dX0_soothe_61 rfl (lv_at hl 1 rfl) ?_
                refine r_aald (t := 1) (ty := .array .int) (k := i) Z hB hx hb rfl rfl (((hW.fw (f := 0) (by omega) (F := (S 20)) rfl)).2.2.2.1) (by omega) (by omega) (by omega) rfl dX0_soothe_62 ?_
                refine lv_iload hx hb dX0_soothe_63 (lv_at hl 0 rfl) ?_
                have b_676 := hF0.cr i j (by omega) (by omega)
                refine r_iald (k := j) Z hB hx hb (((hW.fw (f := 0) (by omega) (F := (S 20)) rfl)).2.2.2.2.1 i (by omega)) (by omega) (by omega) (by omega) dX0_soothe_65 ?_
                refine ii_if_le (tgt := 122) hx hb dX0_soothe_66 (by decide) (by omega) (fun c_11 => ?_) (fun c_11 => ?_)
                · -- 66 -> 122
                  refine ii_iinc (k := 0) (lv' := [(4, .int (iI (zj + 1))), (3, .int (iI zi)), (2, .int (iI best)), (0, .ref (A 0)), (1, .int (iI what))]) hx hb dX0_soothe_122 hl rfl (by decide) rfl (fun ls hl => ?_)
                  refine lv_goto (tgt := 42) hx hb dX0_soothe_125 (by decide) ?_
                  exact ih42 (j + 1) (zj + 1) best least F1 F2 (by omega) (by omega) (by simp only [soI]; first | (rw [if_neg (by omega)]; exact hp2) | (rw [if_pos (by omega)]; first | exact jd_y hp2 (by omega) evv (by assumption) | exact jd_n hp2 evv (by assumption))) (by omega) (by omega) _ _ hW hS ls (lv_sub hl [0, 1, 2, 3, 4] rfl)
                · -- 66 -> 69
                  refine lv_aload_n hx hb dX0_soothe_69 rfl (lv_at hl 3 rfl) ?_
                  refine r_get (ci := 0) (k := 5) (v := .ref (A 76)) (C := RX0) (T := TX0) (N := 16) Z hB hx hb hts hown rfl in_X0 hW.obj (by decide) q798 rfl dX0_soothe_70 ?_
                  refine lv_aload_n hx hb dX0_soothe_73 rfl (lv_at hl 3 rfl) ?_
                  refine r_get (ci := 0) (k := 3) (v := .ref (A 36)) (C := RX0) (T := TX0) (N := 16) Z hB hx hb hts hown rfl in_X0 hW.obj (by decide) q796 rfl dX0_soothe_74 ?_
                  refine cmV (va_runV (As := [.ref (A 36)]) (rest := []) ⟨hx, hb, hml, hown, hts⟩ (mX1_takes Z (fa A 2) (hI.fa (by omega)) F2 (fa A 0) (S 20) (fa_apart hI (f := 2) (g := 0) (by omega) (by omega) (by omega)) H.size) (cwV 1 hts (lw_V q424 q425 q426 q80 q427) rfl rfl rfl (by decide +kernel) ⟨Nat.le_of_ble_eq_true rfl, Nat.le_of_ble_eq_true rfl⟩) (pvM (BornH.S hB hN hS) (OBJ.recv Z hB ((hW.fw (f := 2) (by omega) (F := F2) (up_s _ _ _))).1 (q := (RX1, TX1, 8)) rfl) (⟨(hW.fw (f := 2) (by omega) (F := F2) (up_s _ _ _)), (hW.fw (f := 0) (by omega) (F := (S 20)) rfl)⟩)) rfl rfl hl.1 rfl (lv_room (Nat.le_of_ble_eq_true rfl)) dX0_soothe_77 ⟨Nat.zero_le _, Nat.zero_le _⟩) hS (AA.fa (by omega) hS.1) (fun H1 locs hW1 hz1 hk1 hS => ?_)
                  have hW := hW.joinF hI (f := 2) (by omega) hk1 hW1
                  clear hW1 hk1 hz1
                  generalize H1 = H at hW hS ⊢
                  have hW := hW.eqS (S' := (up (up (up S 0 (up (S 0) 2 least)) 21 F1) 22 (S 20))) (by
                      funext a
                      by_cases h0 : a = 0
                      · subst h0
                        funext j
                        by_cases k0 : j = 2
                        · subst k0; rfl
                        simp only [up, if_neg k0, if_true, if_false, Nat.reduceEqDiff, reduceIte]
                      by_cases h21 : a = 21
                      · subst h21; rfl
                      by_cases h22 : a = 22
                      · subst h22; rfl
                      simp only [up, if_neg h0, if_neg h21, if_neg h22])
                  refine lv_aload_n hx hb dX0_soothe_80 rfl (lv_at hl 3 rfl) ?_
                  refine r_get (ci := 0) (k := 5) (v := .ref (A 76)) (C := RX0) (T := TX0) (N := 16) Z hB hx hb hts hown rfl in_X0 hW.obj (by decide) q798 rfl dX0_soothe_81 ?_
                  refine r_getN (ci := 1) (k := 1) (v := .ref ((fa A 2) 7)) (C := RX1) (T := TX1) (N := 8) Z hB hx hb hts hown rfl in_X1 (((hW.fw (f := 2) (by omega) (F := (S 20)) (up_s _ _ _))).1) (by decide) q142 rfl dX0_soothe_84 ?_
                  refine lv_iload_n hx hb dX0_soothe_87 rfl (lv_at hl 1 rfl) ?_
                  refine r_aald (t := 1) (ty := .array .int) (k := i) Z hB hx hb rfl rfl (((hW.fw (f := 2) (by omega) (F := (S 20)) (up_s _ _ _))).2.2.2.1) (by omega) (by omega) (by omega) rfl dX0_soothe_88 ?_
                  refine lv_iload hx hb dX0_soothe_89 (lv_at hl 0 rfl) ?_
                  refine ii_const hx hb dX0_soothe_91 ?_
                  refine r_iast (k := j) Z hB hx hb (((hW.fw (f := 2) (by omega) (F := (S 20)) (up_s _ _ _))).2.2.2.2.1 i (by omega)) hS (Or.inl ⟨36 + 20 * 2 + (8 + i), by omega, rfl⟩) (by omega) (by omega) (by omega) dX0_soothe_92 (CW G A (up (up (up (up S 0 (up (S 0) 2 least)) 21 F1) 22 (S 20)) 22 (up (S 20) (10 + 5 * i + j) 0)) R) (fun H1 hz oq ha => hW.storeF hI (f := 2) (c := 8 + i) (by omega) (by omega) oq (FW.setC ((hW.fw (f := 2) (by omega) (F := (S 20)) (up_s _ _ _))) (hI.fa (f := 2) (by omega)) (by omega) (by omega) oq ha)) (fun H locs hW hS => ?_)
                  have hW := hW.eqS (S' := (up (up (up S 0 (up (S 0) 2 least)) 21 F1) 22 (up (S 20) (10 + 5 * i + j) 0))) (by
                      funext a
                      by_cases h0 : a = 0
                      · subst h0
                        funext j
                        by_cases k0 : j = 2
                        · subst k0; rfl
                        simp only [up, if_neg k0, if_true, if_false, Nat.reduceEqDiff, reduceIte]
                      by_cases h21 : a = 21
                      · subst h21; rfl
                      by_cases h22 : a = 22
                      · subst h22; rfl
                      simp only [up, if_neg h0, if_neg h21, if_neg h22])
                  refine lv_aload_n hx hb dX0_soothe_93 rfl (lv_at hl 3 rfl) ?_
                  refine lv_aload_n hx hb dX0_soothe_94 rfl (lv_at hl 3 rfl) ?_
                  refine lv_aload_n hx hb dX0_soothe_95 rfl (lv_at hl 3 rfl) ?_
                  refine r_get (ci := 0) (k := 5) (v := .ref (A 76)) (C := RX0) (T := TX0) (N := 16) Z hB hx hb hts hown rfl in_X0 hW.obj (by decide) q798 rfl dX0_soothe_96 ?_
                  refine ii_bipush hx hb dX0_soothe_99 (by decide) ?_
                  have h22 : WF (up (S 20) (10 + 5 * i + j) 0) := hF0.setC (by omega) (by omega) (by omega)
                  have h54 : (up (S 20) (10 + 5 * i + j) 0) 54 = S 20 54 := up_n _ _ (by omega)
                  have hd_12 : (up (S 20) (10 + 5 * i + j) 0) 54 ≤ 2000 := by omega
                  refine cmI (va_runV (As := [.ref (A 76), .int (iI 30)]) (rest := [.ref (A 0)]) ⟨hx, hb, hml, hown, hts⟩ (mX0_spreadBehind_2 Z A hI (up (up (up S 0 (up (S 0) 2 least)) 21 F1) 22 (up (S 20) (10 + 5 * i + j) 0)) R hF0 (up (S 20) (10 + 5 * i + j) 0) rfl h22 hd_12 30 30 (by omega) (by omega) H.size) (cwV 2 hts (lw_V q620 q622 qs23 q79 q623) rfl rfl rfl (by decide +kernel) ⟨Nat.le_of_ble_eq_true rfl, Nat.le_of_ble_eq_true rfl⟩) (pvM (BornH.S hB hN hS) (OBJ.recv Z hB hW.obj (q := (RX0, TX0, 16)) rfl) hW) rfl rfl hl.1 rfl (lv_room (Nat.le_of_ble_eq_true rfl)) dX0_soothe_101 ⟨Nat.zero_le _, Nat.zero_le _⟩) hS (AA.le hS.1) (fun H1 locs hW1 hz1 hk1 hS => ?_)
                  have hW := hW1
                  clear hW1 hk1 hz1
                  generalize H1 = H at hW hS ⊢
                  have hwf_13 : WF (daysS (up (S 20) (10 + 5 * i + j) 0) 30) := daysS_wf h22 30 (by omega)
                  generalize daysS (up (S 20) (10 + 5 * i + j) 0) 30 = Fv_14 at hW hwf_13
                  have hW := hW.eqS (S' := (up (up (up S 0 (up (S 0) 2 least)) 21 Fv_14) 22 (up (S 20) (10 + 5 * i + j) 0))) (by
                      funext a
                      by_cases h0 : a = 0
                      · subst h0
                        funext j
                        by_cases k0 : j = 2
                        · subst k0; rfl
                        simp only [up, if_neg k0, if_true, if_false, Nat.reduceEqDiff, reduceIte]
                      by_cases h21 : a = 21
                      · subst h21; rfl
                      by_cases h22 : a = 22
                      · subst h22; rfl
                      simp only [up, if_neg h0, if_neg h21, if_neg h22])
                  have bv_15 : 0 ≤ (spd (up (S 20) (10 + 5 * i + j) 0) 30) ∧ (spd (up (S 20) (10 + 5 * i + j) 0) 30) ≤ 99 := spd_in h22 30 (by omega)
                  generalize evv : (spd (up (S 20) (10 + 5 * i + j) 0) 30) = v_16 at bv_15 ⊢
                  have hle_17 : inR least := by omega
                  refine cmI (va_runV (As := [.int (iI v_16)]) (rest := []) ⟨hx, hb, hml, hown, hts⟩ (mX0_isLess Z A hI (up (up (up S 0 (up (S 0) 2 least)) 21 Fv_14) 22 (up (S 20) (10 + 5 * i + j) 0)) R v_16 (by omega) hle_17 H.size) (cwV 1 hts (lw_V q624 q626 qs24 q79 q627) rfl rfl rfl (by decide +kernel) ⟨Nat.le_of_ble_eq_true rfl, Nat.le_of_ble_eq_true rfl⟩) (pvM (BornH.S hB hN hS) (OBJ.recv Z hB hW.obj (q := (RX0, TX0, 16)) rfl) hW) rfl rfl hl.1 rfl (lv_room (Nat.le_of_ble_eq_true rfl)) dX0_soothe_104 ⟨Nat.zero_le _, Nat.zero_le _⟩) hS (AA.le hS.1) (fun H1 locs hW1 hz1 hk1 hS => ?_)
                  have hW := hW1
                  clear hW1 hk1 hz1
                  generalize H1 = H at hW hS ⊢
                  have hW := hW.eqS (S' := (up (up (up S 0 (up (up (S 0) 2 least) 2 (min least v_16))) 21 Fv_14) 22 (up (S 20) (10 + 5 * i + j) 0))) (by
                      funext a
                      by_cases h0 : a = 0
                      · subst h0
                        funext j
                        by_cases k0 : j = 2
                        · subst k0; rfl
                        by_cases k1 : j = 2
                        · subst k1; rfl
                        simp only [up, if_neg k0, if_neg k1, if_true, if_false, Nat.reduceEqDiff, reduceIte]
                      by_cases h21 : a = 21
                      · subst h21; rfl
                      by_cases h22 : a = 22
                      · subst h22; rfl
                      simp only [up, if_neg h0, if_neg h21, if_neg h22])
                  refine bb_if_eq (P := v_16 < least) (tgt := 120) hx hb dX0_soothe_107 (by decide) (fun c_18 => ?_) (fun c_18 => ?_)
                  · -- 107 -> 120
                    refine lv_iload_n hx hb dX0_soothe_120 rfl (lv_at hl 2 rfl) ?_
                    refine lv_istore_n (lv' := [(2, .int (iI best)), (4, .int (iI zj)), (3, .int (iI zi)), (0, .ref (A 0)), (1, .int (iI what))]) hx hb dX0_soothe_121 rfl hl (by decide) rfl (fun ls hl => ?_)
                    refine ii_iinc (k := 1) (lv' := [(4, .int (iI (zj + 1))), (2, .int (iI best)), (3, .int (iI zi)), (0, .ref (A 0)), (1, .int (iI what))]) hx hb dX0_soothe_122 hl rfl (by decide) rfl (fun ls hl => ?_)
                    refine lv_goto (tgt := 42) hx hb dX0_soothe_125 (by decide) ?_
                    have hW := hW.eqS (S' := (up (up (up S 0 (up (S 0) 2 (min least v_16))) 21 Fv_14) 22 (up (S 20) (10 + 5 * i + j) 0))) (by
                        funext a
                        by_cases h0 : a = 0
                        · subst h0
                          funext j
                          by_cases k0 : j = 2
                          · subst k0; rfl
                          by_cases k1 : j = 2
                          · subst k1; rfl
                          simp only [up, if_neg k0, if_neg k1, if_true, if_false, Nat.reduceEqDiff, reduceIte]
                        by_cases h21 : a = 21
                        · subst h21; rfl
                        by_cases h22 : a = 22
                        · subst h22; rfl
                        simp only [up, if_neg h0, if_neg h21, if_neg h22])
                    exact ih42 (j + 1) (zj + 1) best (min least v_16) Fv_14 (up (S 20) (10 + 5 * i + j) 0) (by omega) (by omega) (by simp only [soI]; first | (rw [if_neg (by omega)]; exact hp2) | (rw [if_pos (by omega)]; first | exact jd_y hp2 (by omega) evv (by assumption) | exact jd_n hp2 evv (by assumption))) (by omega) (by omega) _ _ hW hS ls (lv_sub hl [0, 2, 1, 3, 4] rfl)
                  · -- 107 -> 110
                    refine ii_bipush hx hb dX0_soothe_110 (by decide) ?_
                    refine lv_iload_n hx hb dX0_soothe_112 rfl (lv_at hl 1 rfl) ?_
                    refine ii_mul hx hb dX0_soothe_113 ?_
                    refine lv_iload hx hb dX0_soothe_114 (lv_at hl 0 rfl) ?_
                    refine ii_add hx hb dX0_soothe_116 ?_
                    refine lv_goto (tgt := 121) hx hb dX0_soothe_117 (by decide) ?_
                    refine lv_istore_n (lv' := [(2, .int (iI ((10 * zi) + zj))), (4, .int (iI zj)), (3, .int (iI zi)), (0, .ref (A 0)), (1, .int (iI what))]) hx hb dX0_soothe_121 rfl hl (by decide) rfl (fun ls hl => ?_)
                    refine ii_iinc (k := 1) (lv' := [(4, .int (iI (zj + 1))), (2, .int (iI ((10 * zi) + zj))), (3, .int (iI zi)), (0, .ref (A 0)), (1, .int (iI what))]) hx hb dX0_soothe_122 hl rfl (by decide) rfl (fun ls hl => ?_)
                    refine lv_goto (tgt := 42) hx hb dX0_soothe_125 (by decide) ?_
                    have hW := hW.eqS (S' := (up (up (up S 0 (up (S 0) 2 (min least v_16))) 21 Fv_14) 22 (up (S 20) (10 + 5 * i + j) 0))) (by
                        funext a
                        by_cases h0 : a = 0
                        · subst h0
                          funext j
                          by_cases k0 : j = 2
                          · subst k0; rfl
                          by_cases k1 : j = 2
                          · subst k1; rfl
                          simp only [up, if_neg k0, if_neg k1, if_true, if_false, Nat.reduceEqDiff, reduceIte]
                        by_cases h21 : a = 21
                        · subst h21; rfl
                        by_cases h22 : a = 22
                        · subst h22; rfl
                        simp only [up, if_neg h0, if_neg h21, if_neg h22])
                    exact ih42 (j + 1) (zj + 1) ((10 * zi) + zj) (min least v_16) Fv_14 (up (S 20) (10 + 5 * i + j) 0) (by omega) (by omega) (by simp only [soI]; first | (rw [if_neg (by omega)]; exact hp2) | (rw [if_pos (by omega)]; first | exact jd_y hp2 (by omega) evv (by assumption) | exact jd_n hp2 evv (by assumption))) (by omega) (by omega) _ _ hW hS ls (lv_sub hl [0, 2, 1, 3, 4] rfl)
          exact loop_42 _ 0 0 best least F1 F2 (by omega) (by omega) (hp) (by omega) (Nat.lt_succ_self _) _ _ hW hS ls (lv_sub hl [0, 1, 2, 3, 4] rfl)
    have hW := hW.eqS (S' := (up (up (up S 0 (up (S 0) 2 v_6)) 21 Fv_4) 22 (S 22))) (by
        funext a
        by_cases h0 : a = 0
        · subst h0
          funext j
          by_cases k0 : j = 2
          · subst k0; rfl
          by_cases k1 : j = 2
          · subst k1; rfl
          simp only [up, if_neg k0, if_neg k1, if_true, if_false, Nat.reduceEqDiff, reduceIte]
        by_cases h21 : a = 21
        · subst h21; rfl
        by_cases h22 : a = 22
        · subst h22; rfl
        simp only [up, if_neg h0, if_neg h21, if_neg h22])
    exact loop_28 _ 0 0 (-4) v_6 Fv_4 (S 22) (by omega) (by omega) (by rw [← evv]; rfl) (by omega) (Nat.lt_succ_self _) _ _ hW hS ls (lv_sub hl [0, 1, 2, 3] rfl)
  · -- 4 -> 7
    refine ii_const hx hb dX0_soothe_7 ?_
    have hpw9 : (CWx G A S R) s.heap := (hW.x (fun a h0 h3 h1 h2 h4 => by first | rfl | simp only [up, if_neg h0, if_neg h3, if_neg h1, if_neg h2, if_neg h4]) (fun j h2 h5 h6 => by first | rfl | simp [up, h2]))
    have he9 : (-1) = (sootheA (S 20) what) := by unfold sootheA; exact (if_pos (by omega)).symm
    exact W.iret hx hb hr (fun t ht hW9 => ⟨⟨_, (), rfl, congrArg iI he9, by show (CWx G A S R) t.heap; rw [ht]; exact hpw9⟩, hS.F ht⟩) hS.2.2 dX0_soothe_8

set_option maxHeartbeats 1000000 in
set_option maxRecDepth 100000 in
theorem mX0_holy {l : Launch} {G : GG} {s0 : State} {b0 : Nat} (Z : ZZ l G s0 b0) (A : Nat → Nat) (hI : Own s0 A 156) (S : Sta) (R : Nat → Option Nat) (hF0 : WF (S 20)) (hd : S 20 54 ≤ 2000) (h56 : 0 ≤ S 20 56 ∧ S 20 56 ≤ 1000000) (n : Int) (hn : inR n) (what : Int) (hwhat : inR what) (sz : Nat) : Met l yX0_holy (ws_ yX0_holy cX0_holy 5 (some .int)) ({ frames := 8, cells := 0, slots := 0, locals := 174 } : Room) (pcM s0 sz (CW G A S R) [.ref (A 0), .int (iI n), .int (iI what)]) (mI (holyA (S 20) n what) (CWx G A S R) (AA A 156 sz)) 0 0 (AA A 156 sz) := by
  refine Met.ofW (cc := cX0_holy) (maxL := 5) (ret := (some .int)) (by decide) rfl ?_
  intro p e s m args below meth c s₁ B hml hv
  obtain ⟨rfl, hsz, hW, hB⟩ := hv
  subst hsz
  have hx := B.exec
  have hb := B.bytes
  have hr := B.returns
  have hts := atoms_spec (ws := (ws_ yX0_holy cX0_holy 5 (some .int))) B.pre
  have hts : ∀ w ∈ lw_all, w.before _ s = true := fun w h => hts w (List.mem_cons_of_mem _ h)
  have hown : s.vm.findClass RX0 = some m.cls := findClass_of_methodNamed B.named
  have hlocks := B.notSynchronized
  have hN := AA.old hI hB
  have hS : va_S (AA A 156 s.heap.size) s.heap s.heap [] := va_S.rf
  have hl := lv_entry ([.ref (A 0), .int (iI n), .int (iI what)]) (n := 5) (Nat.le_of_ble_eq_true rfl)
  rw [lg_entry_eq]
  generalize (lg_sl ([.ref (A 0), .int (iI n), .int (iI what)]) ++ List.replicate (5 - (lg_sl ([.ref (A 0), .int (iI n), .int (iI what)])).length) Slot.unset).toArray = ls at hl ⊢
  have hl : lv_has ls 5 [(0, .ref (A 0)), (1, .int (iI n)), (2, .int (iI what))] := hl
  have hn5 := hF0.n
  have hr6 := hF0.rm
  refine lv_iload_n hx hb dX0_holy_0 rfl (lv_at hl 1 rfl) ?_
  refine cqI (va_runS (As := [.int (iI n)]) (rest := []) ⟨hx, hb, hml, hown, hts⟩ (mX0_isLong Z n (by omega)) (va_cwS 1 hts (lw_S q591 q592 q79 q593) rfl rfl rfl (by decide +kernel) ⟨Nat.le_of_ble_eq_true rfl, Nat.le_of_ble_eq_true rfl⟩) (psR (BornH.S hB hN hS) trivial) rfl rfl hl.1 rfl (lv_room (Nat.le_of_ble_eq_true rfl)) dX0_holy_1 ⟨Nat.zero_le _, Nat.zero_le _⟩) ?_
  refine bb_if_eq (P := 0 ≤ n ∧ n ≤ 60) (tgt := 14) hx hb dX0_holy_4 (by decide) (fun c_1 => ?_) (fun c_1 => ?_)
  · -- 4 -> 14
    refine ii_const hx hb dX0_holy_14 ?_
    have hpw9 : (CWx G A S R) s.heap := (hW.x (fun a h0 h3 h1 h2 h4 => by first | rfl | simp only [up, if_neg h0, if_neg h3, if_neg h1, if_neg h2, if_neg h4]) (fun j h2 h5 h6 => by first | rfl | simp [up, h2]))
    have he9 : (-1) = (holyA (S 20) n what) := by unfold holyA; exact (if_pos (by omega)).symm
    exact W.iret hx hb hr (fun t ht hW9 => ⟨⟨_, (), rfl, congrArg iI he9, by show (CWx G A S R) t.heap; rw [ht]; exact hpw9⟩, hS.F ht⟩) hS.2.2 dX0_holy_15
  · -- 4 -> 7
    refine lv_iload_n hx hb dX0_holy_7 rfl (lv_at hl 2 rfl) ?_
    refine cqI (va_runS (As := [.int (iI what)]) (rest := []) ⟨hx, hb, hml, hown, hts⟩ (mX0_isPart Z what (by omega)) (va_cwS 1 hts (lw_S q617 q618 q79 q619) rfl rfl rfl (by decide +kernel) ⟨Nat.le_of_ble_eq_true rfl, Nat.le_of_ble_eq_true rfl⟩) (psR (BornH.S hB hN hS) trivial) rfl rfl hl.1 rfl (lv_room (Nat.le_of_ble_eq_true rfl)) dX0_holy_8 ⟨Nat.zero_le _, Nat.zero_le _⟩) ?_
    refine bb_if_ne (P := 0 ≤ what ∧ what ≤ 1) (tgt := 16) hx hb dX0_holy_11 (by decide) (fun c_2 => ?_) (fun c_2 => ?_)
    · -- 11 -> 16
      refine lv_aload_n hx hb dX0_holy_16 rfl (lv_at hl 0 rfl) ?_
      refine ii_ldc (z := 1000000) hx hb hts hown q648 dX0_holy_17 (by decide) ?_
      refine r_put (ci := 0) (k := 6) (C := RX0) (T := TX0) (N := 16) Z hB hx hb hts hown rfl in_X0 tyX0 tyX0_ok nmX0 hW.obj hS (Or.inl ⟨0, by omega, rfl⟩) (by decide) q799 rfl rfl rfl rfl (Nat.le_of_ble_eq_true rfl) dX0_holy_19 (CW G A (up S 0 (up (S 0) 2 1000000)) R) (fun H1 hz oq ho => hW.setO hI (k := 2) (by omega) oq ho) (fun H locs hW hS => ?_)
      refine ii_const hx hb dX0_holy_22 ?_
      refine lv_istore_n (lv' := [(3, .int (iI 0)), (0, .ref (A 0)), (1, .int (iI n)), (2, .int (iI what))]) hx hb dX0_holy_23 rfl hl (by decide) rfl (fun ls hl => ?_)
      refine lv_aload_n hx hb dX0_holy_24 rfl (lv_at hl 1 rfl) ?_
      refine r_get (ci := 0) (k := 5) (v := .ref (A 76)) (C := RX0) (T := TX0) (N := 16) Z hB hx hb hts hown rfl in_X0 hW.obj (by decide) q798 rfl dX0_holy_25 ?_
      refine lv_aload_n hx hb dX0_holy_28 rfl (lv_at hl 1 rfl) ?_
      refine r_get (ci := 0) (k := 3) (v := .ref (A 36)) (C := RX0) (T := TX0) (N := 16) Z hB hx hb hts hown rfl in_X0 hW.obj (by decide) q796 rfl dX0_holy_29 ?_
      refine cmV (va_runV (As := [.ref (A 36)]) (rest := []) ⟨hx, hb, hml, hown, hts⟩ (mX1_takes Z (fa A 2) (hI.fa (by omega)) (S 22) (fa A 0) (S 20) (fa_apart hI (f := 2) (g := 0) (by omega) (by omega) (by omega)) H.size) (cwV 1 hts (lw_V q424 q425 q426 q80 q427) rfl rfl rfl (by decide +kernel) ⟨Nat.le_of_ble_eq_true rfl, Nat.le_of_ble_eq_true rfl⟩) (pvM (BornH.S hB hN hS) (OBJ.recv Z hB ((hW.fw (f := 2) (by omega) (F := (S 22)) rfl)).1 (q := (RX1, TX1, 8)) rfl) (⟨(hW.fw (f := 2) (by omega) (F := (S 22)) rfl), (hW.fw (f := 0) (by omega) (F := (S 20)) rfl)⟩)) rfl rfl hl.1 rfl (lv_room (Nat.le_of_ble_eq_true rfl)) dX0_holy_32 ⟨Nat.zero_le _, Nat.zero_le _⟩) hS (AA.fa (by omega) hS.1) (fun H1 locs hW1 hz1 hk1 hS => ?_)
      have hW := hW.joinF hI (f := 2) (by omega) hk1 hW1
      clear hW1 hk1 hz1
      generalize H1 = H at hW hS ⊢
      refine ii_const hx hb dX0_holy_35 ?_
      refine lv_istore (lv' := [(4, .int (iI 0)), (3, .int (iI 0)), (0, .ref (A 0)), (1, .int (iI n)), (2, .int (iI what))]) hx hb dX0_holy_36 hl (by decide) rfl (fun ls hl => ?_)
      have loop_38 : ∀ (fu : Nat) (v : Nat) (zv : Int) (best : Int) (least : Int) (F1 : Nat → Int) (F2 : Nat → Int), (zv = (v : Int)) → (v ≤ 7) → (hoO (S 20) n.toNat v = (best, least)) → ((-4 ≤ best ∧ best ≤ 100) ∧ 0 ≤ least ∧ least ≤ 1000000) → (∀ v9 : Int, up F2 55 v9 = up (S 20) 55 v9) → (8 - v) < fu → ∀ (H : Heap) (locs : List Loc), (CW G A (up (up (up S 0 (up (S 0) 2 least)) 21 F1) 22 F2) R) H → va_S (AA A 156 s.heap.size) s.heap H locs → ∀ (ls : Array Slot), lv_has ls 5 [(4, .int (iI zv)), (3, .int (iI best)), (0, .ref (A 0)), (1, .int (iI n)), (2, .int (iI what))] → W p l e (headSpec (ws_ yX0_holy cX0_holy 5 (some .int)) ({ frames := 8, cells := 0, slots := 0, locals := 174 } : Room)).room s m ([.ref (A 0), .int (iI n), .int (iI what)] : List Value).toArray below meth c H locs 0 0 (MQ below (mI (holyA (S 20) n what) (CWx G A S R) (AA A 156 s.heap.size)) ([.ref (A 0), .int (iI n), .int (iI what)] : List Value).toArray s 0 0 (AA A 156 s.heap.size)) (F0 m 38 ls []) := by
        intro fu
        induction fu with
        | zero => intro v zv best least F1 F2 ezv hv9 hp hbl hF2e hmu; exact absurd hmu (Nat.not_lt_zero _)
        | succ fu ih38 =>
          intro v zv best least F1 F2 ezv hv9 hp hbl hF2e hmu H locs hW hS ls hl
          refine lv_iload hx hb dX0_holy_38 (lv_at hl 0 rfl) ?_
          refine ii_bipush hx hb dX0_holy_40 (by decide) ?_
          refine ii_icmp_ge (tgt := 83) hx hb dX0_holy_42 (by decide) (by omega) (by omega) (fun c_3 => ?_) (fun c_3 => ?_)
          · -- 42 -> 83
            refine lv_iload_n hx hb dX0_holy_83 rfl (lv_at hl 4 rfl) ?_
            refine ii_if_ne (tgt := 91) hx hb dX0_holy_84 (by decide) (by omega) (fun c_4 => ?_) (fun c_4 => ?_)
            · -- 84 -> 91
              refine lv_aload_n hx hb dX0_holy_91 rfl (lv_at hl 2 rfl) ?_
              refine r_get (ci := 0) (k := 6) (v := .int (iI least)) (C := RX0) (T := TX0) (N := 16) Z hB hx hb hts hown rfl in_X0 hW.obj (by decide) q799 rfl dX0_holy_92 ?_
              have hpw9 : (CWx G A S R) H := (hW.x (fun a h0 h3 h1 h2 h4 => by first | rfl | simp only [up, if_neg h0, if_neg h3, if_neg h1, if_neg h2, if_neg h4]) (fun j h2 h5 h6 => by first | rfl | simp [up, h2]))
              have he9 : least = (holyA (S 20) n what) := by unfold holyA; rw [if_neg (by omega), show 7 = v by omega, hp]; split <;> omega
              exact W.iret hx hb hr (fun t ht hW9 => ⟨⟨_, (), rfl, congrArg iI he9, by show (CWx G A S R) t.heap; rw [ht]; exact hpw9⟩, hS.F ht⟩) hS.2.2 dX0_holy_95
            · -- 84 -> 87
              refine lv_iload_n hx hb dX0_holy_87 rfl (lv_at hl 1 rfl) ?_
              refine lv_goto (tgt := 95) hx hb dX0_holy_88 (by decide) ?_
              have hpw9 : (CWx G A S R) H := (hW.x (fun a h0 h3 h1 h2 h4 => by first | rfl | simp only [up, if_neg h0, if_neg h3, if_neg h1, if_neg h2, if_neg h4]) (fun j h2 h5 h6 => by first | rfl | simp [up, h2]))
              have he9 : best = (holyA (S 20) n what) := by unfold holyA; rw [if_neg (by omega), show 7 = v by omega, hp]; split <;> omega
              exact W.iret hx hb hr (fun t ht hW9 => ⟨⟨_, (), rfl, congrArg iI he9, by show (CWx G A S R) t.heap; rw [ht]; exact hpw9⟩, hS.F ht⟩) hS.2.2 dX0_holy_95
          · -- 42 -> 45
            refine lv_aload_n hx hb dX0_holy_45 rfl (lv_at hl 2 rfl) ?_
            refine r_get (ci := 0) (k := 5) (v := .ref (A 76)) (C := RX0) (T := TX0) (N := 16) Z hB hx hb hts hown rfl in_X0 hW.obj (by decide) q798 rfl dX0_holy_46 ?_
            refine lv_iload hx hb dX0_holy_49 (lv_at hl 0 rfl) ?_
            refine r_putN (ci := 1) (k := 5) (C := RX1) (T := TX1) (N := 8) Z hB hx hb hts hown rfl in_X1 tyX1 tyX1_ok nmX1 (((hW.fw (f := 2) (by omega) (F := F2) (up_s _ _ _))).1) hS (Or.inl ⟨36 + 20 * 2 + (0), by omega, rfl⟩) (by decide) q153 rfl rfl rfl rfl (Nat.le_of_ble_eq_true rfl) dX0_holy_51 (CW G A (up (up (up (up S 0 (up (S 0) 2 least)) 21 F1) 22 F2) 22 (up F2 55 zv)) R) (fun H1 hz oq ho => hW.storeF hI (f := 2) (c := 0) (by omega) (by omega) oq (FW.setO ((hW.fw (f := 2) (by omega) (F := F2) (up_s _ _ _))) (hI.fa (f := 2) (by omega)) (k := 55) (by omega) oq ho)) (fun H locs hW hS => ?_)
            have hW := hW.eqS (S' := (up (up (up S 0 (up (S 0) 2 least)) 21 F1) 22 (up F2 55 zv))) (by
                funext a
                by_cases h0 : a = 0
                · subst h0
                  funext j
                  by_cases k0 : j = 2
                  · subst k0; rfl
                  simp only [up, if_neg k0, if_true, if_false, Nat.reduceEqDiff, reduceIte]
                by_cases h21 : a = 21
                · subst h21; rfl
                by_cases h22 : a = 22
                · subst h22; rfl
                simp only [up, if_neg h0, if_neg h21, if_neg h22])
            rw [hF2e] at hW
            have h22 : WF (up (S 20) 55 zv) := hF0.setFe (by omega)
            have h54 : (up (S 20) 55 zv) 54 = S 20 54 := up_n _ _ (by omega)
            refine lv_aload_n hx hb dX0_holy_54 rfl (lv_at hl 2 rfl) ?_
            refine lv_aload_n hx hb dX0_holy_55 rfl (lv_at hl 2 rfl) ?_
            refine lv_aload_n hx hb dX0_holy_56 rfl (lv_at hl 2 rfl) ?_
            refine r_get (ci := 0) (k := 5) (v := .ref (A 76)) (C := RX0) (T := TX0) (N := 16) Z hB hx hb hts hown rfl in_X0 hW.obj (by decide) q798 rfl dX0_holy_57 ?_
            refine lv_iload_n hx hb dX0_holy_60 rfl (lv_at hl 3 rfl) ?_
            have hd_5 : (up (S 20) 55 zv) 54 ≤ 2000 := by omega
            refine cmI (va_runV (As := [.ref (A 76), .int (iI n)]) (rest := [.ref (A 0)]) ⟨hx, hb, hml, hown, hts⟩ (mX0_spreadBehind_2 Z A hI (up (up (up S 0 (up (S 0) 2 least)) 21 F1) 22 (up (S 20) 55 zv)) R hF0 (up (S 20) 55 zv) rfl h22 hd_5 (n).toNat n (by omega) (by omega) H.size) (cwV 2 hts (lw_V q620 q622 qs23 q79 q623) rfl rfl rfl (by decide +kernel) ⟨Nat.le_of_ble_eq_true rfl, Nat.le_of_ble_eq_true rfl⟩) (pvM (BornH.S hB hN hS) (OBJ.recv Z hB hW.obj (q := (RX0, TX0, 16)) rfl) hW) rfl rfl hl.1 rfl (lv_room (Nat.le_of_ble_eq_true rfl)) dX0_holy_61 ⟨Nat.zero_le _, Nat.zero_le _⟩) hS (AA.le hS.1) (fun H1 locs hW1 hz1 hk1 hS => ?_)
            have hW := hW1
            clear hW1 hk1 hz1
            generalize H1 = H at hW hS ⊢
            have hwf_6 : WF (daysS (up (S 20) 55 zv) (n).toNat) := daysS_wf h22 (n).toNat (by omega)
            generalize daysS (up (S 20) 55 zv) (n).toNat = Fv_7 at hW hwf_6
            have hW := hW.eqS (S' := (up (up (up S 0 (up (S 0) 2 least)) 21 Fv_7) 22 (up (S 20) 55 zv))) (by
                funext a
                by_cases h0 : a = 0
                · subst h0
                  funext j
                  by_cases k0 : j = 2
                  · subst k0; rfl
                  simp only [up, if_neg k0, if_true, if_false, Nat.reduceEqDiff, reduceIte]
                by_cases h21 : a = 21
                · subst h21; rfl
                by_cases h22 : a = 22
                · subst h22; rfl
                simp only [up, if_neg h0, if_neg h21, if_neg h22])
            have bv_8 : 0 ≤ (spd (up (S 20) 55 zv) (n).toNat) ∧ (spd (up (S 20) 55 zv) (n).toNat) ≤ 99 := spd_in h22 (n).toNat (by omega)
            generalize evv : (spd (up (S 20) 55 zv) (n).toNat) = v_9 at bv_8 ⊢
            have hle_10 : inR least := by omega
            refine cmI (va_runV (As := [.int (iI v_9)]) (rest := []) ⟨hx, hb, hml, hown, hts⟩ (mX0_isLess Z A hI (up (up (up S 0 (up (S 0) 2 least)) 21 Fv_7) 22 (up (S 20) 55 zv)) R v_9 (by omega) hle_10 H.size) (cwV 1 hts (lw_V q624 q626 qs24 q79 q627) rfl rfl rfl (by decide +kernel) ⟨Nat.le_of_ble_eq_true rfl, Nat.le_of_ble_eq_true rfl⟩) (pvM (BornH.S hB hN hS) (OBJ.recv Z hB hW.obj (q := (RX0, TX0, 16)) rfl) hW) rfl rfl hl.1 rfl (lv_room (Nat.le_of_ble_eq_true rfl)) dX0_holy_64 ⟨Nat.zero_le _, Nat.zero_le _⟩) hS (AA.le hS.1) (fun H1 locs hW1 hz1 hk1 hS => ?_)
            have hW := hW1
            clear hW1 hk1 hz1
            generalize H1 = H at hW hS ⊢
            have hW := hW.eqS (S' := (up (up (up S 0 (up (up (S 0) 2 least) 2 (min least v_9))) 21 Fv_7) 22 (up (S 20) 55 zv))) (by
                funext a
                by_cases h0 : a = 0
                · subst h0
                  funext j
                  by_cases k0 : j = 2
                  · subst k0; rfl
                  by_cases k1 : j = 2
                  · subst k1; rfl
                  simp only [up, if_neg k0, if_neg k1, if_true, if_false, Nat.reduceEqDiff, reduceIte]
                by_cases h21 : a = 21
                · subst h21; rfl
                by_cases h22 : a = 22
                · subst h22; rfl
                simp only [up, if_neg h0, if_neg h21, if_neg h22])
            refine bb_if_eq (P := v_9 < least) (tgt := 75) hx hb dX0_holy_67 (by decide) (fun c_11 => ?_) (fun c_11 => ?_)
            · -- 67 -> 75
              refine lv_iload_n hx hb dX0_holy_75 rfl (lv_at hl 1 rfl) ?_
              refine lv_istore_n (lv' := [(3, .int (iI best)), (4, .int (iI zv)), (0, .ref (A 0)), (1, .int (iI n)), (2, .int (iI what))]) hx hb dX0_holy_76 rfl hl (by decide) rfl (fun ls hl => ?_)
              refine ii_iinc (k := 1) (lv' := [(4, .int (iI (zv + 1))), (3, .int (iI best)), (0, .ref (A 0)), (1, .int (iI n)), (2, .int (iI what))]) hx hb dX0_holy_77 hl rfl (by decide) rfl (fun ls hl => ?_)
              refine lv_goto (tgt := 38) hx hb dX0_holy_80 (by decide) ?_
              have hW := hW.eqS (S' := (up (up (up S 0 (up (S 0) 2 (min least v_9))) 21 Fv_7) 22 (up (S 20) 55 zv))) (by
                  funext a
                  by_cases h0 : a = 0
                  · subst h0
                    funext j
                    by_cases k0 : j = 2
                    · subst k0; rfl
                    by_cases k1 : j = 2
                    · subst k1; rfl
                    simp only [up, if_neg k0, if_neg k1, if_true, if_false, Nat.reduceEqDiff, reduceIte]
                  by_cases h21 : a = 21
                  · subst h21; rfl
                  by_cases h22 : a = 22
                  · subst h22; rfl
                  simp only [up, if_neg h0, if_neg h21, if_neg h22])
              exact ih38 (v + 1) (zv + 1) best (min least v_9) Fv_7 (up (S 20) 55 zv) (by omega) (by omega) (by first | exact jd_y hp (by omega) (by rw [← ezv]; exact evv) (by assumption) | exact jd_n hp (by rw [← ezv]; exact evv) (by assumption)) (by omega) (fun v9 => up_up _ _ _ _) (by omega) _ _ hW hS ls (lv_sub hl [0, 1, 2, 3, 4] rfl)
            · -- 67 -> 70
              refine lv_iload hx hb dX0_holy_70 (lv_at hl 0 rfl) ?_
              refine lv_goto (tgt := 76) hx hb dX0_holy_72 (by decide) ?_
              refine lv_istore_n (lv' := [(3, .int (iI zv)), (4, .int (iI zv)), (0, .ref (A 0)), (1, .int (iI n)), (2, .int (iI what))]) hx hb dX0_holy_76 rfl hl (by decide) rfl (fun ls hl => ?_)
              refine ii_iinc (k := 1) (lv' := [(4, .int (iI (zv + 1))), (3, .int (iI zv)), (0, .ref (A 0)), (1, .int (iI n)), (2, .int (iI what))]) hx hb dX0_holy_77 hl rfl (by decide) rfl (fun ls hl => ?_)
              refine lv_goto (tgt := 38) hx hb dX0_holy_80 (by decide) ?_
              have hW := hW.eqS (S' := (up (up (up S 0 (up (S 0) 2 (min least v_9))) 21 Fv_7) 22 (up (S 20) 55 zv))) (by
                  funext a
                  by_cases h0 : a = 0
                  · subst h0
                    funext j
                    by_cases k0 : j = 2
                    · subst k0; rfl
                    by_cases k1 : j = 2
                    · subst k1; rfl
                    simp only [up, if_neg k0, if_neg k1, if_true, if_false, Nat.reduceEqDiff, reduceIte]
                  by_cases h21 : a = 21
                  · subst h21; rfl
                  by_cases h22 : a = 22
                  · subst h22; rfl
                  simp only [up, if_neg h0, if_neg h21, if_neg h22])
              exact ih38 (v + 1) (zv + 1) zv (min least v_9) Fv_7 (up (S 20) 55 zv) (by omega) (by omega) (by first | exact jd_y hp (by omega) (by rw [← ezv]; exact evv) (by assumption) | exact jd_n hp (by rw [← ezv]; exact evv) (by assumption)) (by omega) (fun v9 => up_up _ _ _ _) (by omega) _ _ hW hS ls (lv_sub hl [0, 1, 2, 3, 4] rfl)
      have hW := hW.eqS (S' := (up (up (up S 0 (up (S 0) 2 1000000)) 21 (S 21)) 22 (S 20))) (by
          funext a
          by_cases h0 : a = 0
          · subst h0
            funext j
            by_cases k0 : j = 2
            · subst k0; rfl
            by_cases k1 : j = 2
            · subst k1; rfl
            simp only [up, if_neg k0, if_neg k1, if_true, if_false, Nat.reduceEqDiff, reduceIte]
          by_cases h21 : a = 21
          · subst h21; rfl
          by_cases h22 : a = 22
          · subst h22; rfl
          simp only [up, if_neg h0, if_neg h21, if_neg h22])
      exact loop_38 _ 0 0 0 1000000 (S 21) (S 20) (by omega) (by omega) (rfl) (by omega) (fun v9 => rfl) (Nat.lt_succ_self _) _ _ hW hS ls (lv_sub hl [0, 1, 2, 3, 4] rfl)
    · -- 11 -> 14
      refine ii_const hx hb dX0_holy_14 ?_
      have hpw9 : (CWx G A S R) s.heap := (hW.x (fun a h0 h3 h1 h2 h4 => by first | rfl | simp only [up, if_neg h0, if_neg h3, if_neg h1, if_neg h2, if_neg h4]) (fun j h2 h5 h6 => by first | rfl | simp [up, h2]))
      have he9 : (-1) = (holyA (S 20) n what) := by unfold holyA; exact (if_pos (by omega)).symm
      exact W.iret hx hb hr (fun t ht hW9 => ⟨⟨_, (), rfl, congrArg iI he9, by show (CWx G A S R) t.heap; rw [ht]; exact hpw9⟩, hS.F ht⟩) hS.2.2 dX0_holy_15

set_option maxHeartbeats 1000000 in
set_option maxRecDepth 100000 in
theorem mX0_kind {l : Launch} {G : GG} {s0 : State} {b0 : Nat} (Z : ZZ l G s0 b0) (A : Nat → Nat) (hI : Own s0 A 156) (S : Sta) (R : Nat → Option Nat) (hF0 : WF (S 20)) (hd : S 20 54 ≤ 2000) (h56 : 0 ≤ S 20 56 ∧ S 20 56 ≤ 1000000) (i : Int) (hi : inR i) (n : Int) (hn : inR n) (what : Int) (hwhat : inR what) (sz : Nat) : Met l yX0_kind (ws_ yX0_kind cX0_kind 6 (some .int)) ({ frames := 8, cells := 0, slots := 0, locals := 174 } : Room) (pcM s0 sz (CW G A S R) [.ref (A 0), .int (iI i), .int (iI n), .int (iI what)]) (mI (kindA (S 20) i n what) (CWx G A S R) (AA A 156 sz)) 0 0 (AA A 156 sz) := by
  refine Met.ofW (cc := cX0_kind) (maxL := 6) (ret := (some .int)) (by decide) rfl ?_
  intro p e s m args below meth c s₁ B hml hv
  obtain ⟨rfl, hsz, hW, hB⟩ := hv
  subst hsz
  have hx := B.exec
  have hb := B.bytes
  have hr := B.returns
  have hts := atoms_spec (ws := (ws_ yX0_kind cX0_kind 6 (some .int))) B.pre
  have hts : ∀ w ∈ lw_all, w.before _ s = true := fun w h => hts w (List.mem_cons_of_mem _ h)
  have hown : s.vm.findClass RX0 = some m.cls := findClass_of_methodNamed B.named
  have hlocks := B.notSynchronized
  have hN := AA.old hI hB
  have hS : va_S (AA A 156 s.heap.size) s.heap s.heap [] := va_S.rf
  have hl := lv_entry ([.ref (A 0), .int (iI i), .int (iI n), .int (iI what)]) (n := 6) (Nat.le_of_ble_eq_true rfl)
  rw [lg_entry_eq]
  generalize (lg_sl ([.ref (A 0), .int (iI i), .int (iI n), .int (iI what)]) ++ List.replicate (6 - (lg_sl ([.ref (A 0), .int (iI i), .int (iI n), .int (iI what)])).length) Slot.unset).toArray = ls at hl ⊢
  have hl : lv_has ls 6 [(0, .ref (A 0)), (1, .int (iI i)), (2, .int (iI n)), (3, .int (iI what))] := hl
  have hn5 := hF0.n
  have hr6 := hF0.rm
  refine lv_aload_n hx hb dX0_kind_0 rfl (lv_at hl 0 rfl) ?_
  refine lv_iload_n hx hb dX0_kind_1 rfl (lv_at hl 1 rfl) ?_
  refine cqI (va_runV (As := [.int (iI i)]) (rest := []) ⟨hx, hb, hml, hown, hts⟩ (mX0_isIsle Z A S R hF0 i (by omega)) (cwV 1 hts (lw_V q449 q451 qs14 q79 q453) rfl rfl rfl (by decide +kernel) ⟨Nat.le_of_ble_eq_true rfl, Nat.le_of_ble_eq_true rfl⟩) (pvR (BornH.S hB hN hS) (OBJ.recv Z hB hW.obj (q := (RX0, TX0, 16)) rfl) hW) rfl rfl hl.1 rfl (lv_room (Nat.le_of_ble_eq_true rfl)) dX0_kind_2 ⟨Nat.zero_le _, Nat.zero_le _⟩) ?_
  refine bb_if_eq (P := okI (S 20) i) (tgt := 22) hx hb dX0_kind_5 (by decide) (fun c_1 => ?_) (fun c_1 => ?_)
  · -- 5 -> 22
    refine ii_const hx hb dX0_kind_22 ?_
    have hpw9 : (CWx G A S R) s.heap := (hW.x (fun a h0 h3 h1 h2 h4 => by first | rfl | simp only [up, if_neg h0, if_neg h3, if_neg h1, if_neg h2, if_neg h4]) (fun j h2 h5 h6 => by first | rfl | simp [up, h2]))
    have he9 : (-1) = (kindA (S 20) i n what) := by unfold kindA; exact (if_pos (by omega)).symm
    exact W.iret hx hb hr (fun t ht hW9 => ⟨⟨_, (), rfl, congrArg iI he9, by show (CWx G A S R) t.heap; rw [ht]; exact hpw9⟩, hS.F ht⟩) hS.2.2 dX0_kind_23
  · -- 5 -> 8
    refine lv_iload_n hx hb dX0_kind_8 rfl (lv_at hl 2 rfl) ?_
    refine cqI (va_runS (As := [.int (iI n)]) (rest := []) ⟨hx, hb, hml, hown, hts⟩ (mX0_isLong Z n (by omega)) (va_cwS 1 hts (lw_S q591 q592 q79 q593) rfl rfl rfl (by decide +kernel) ⟨Nat.le_of_ble_eq_true rfl, Nat.le_of_ble_eq_true rfl⟩) (psR (BornH.S hB hN hS) trivial) rfl rfl hl.1 rfl (lv_room (Nat.le_of_ble_eq_true rfl)) dX0_kind_9 ⟨Nat.zero_le _, Nat.zero_le _⟩) ?_
    refine bb_if_eq (P := 0 ≤ n ∧ n ≤ 60) (tgt := 22) hx hb dX0_kind_12 (by decide) (fun c_2 => ?_) (fun c_2 => ?_)
    · -- 12 -> 22
      refine ii_const hx hb dX0_kind_22 ?_
      have hpw9 : (CWx G A S R) s.heap := (hW.x (fun a h0 h3 h1 h2 h4 => by first | rfl | simp only [up, if_neg h0, if_neg h3, if_neg h1, if_neg h2, if_neg h4]) (fun j h2 h5 h6 => by first | rfl | simp [up, h2]))
      have he9 : (-1) = (kindA (S 20) i n what) := by unfold kindA; exact (if_pos (by omega)).symm
      exact W.iret hx hb hr (fun t ht hW9 => ⟨⟨_, (), rfl, congrArg iI he9, by show (CWx G A S R) t.heap; rw [ht]; exact hpw9⟩, hS.F ht⟩) hS.2.2 dX0_kind_23
    · -- 12 -> 15
      refine lv_iload_n hx hb dX0_kind_15 rfl (lv_at hl 3 rfl) ?_
      refine cqI (va_runS (As := [.int (iI what)]) (rest := []) ⟨hx, hb, hml, hown, hts⟩ (mX0_isPart Z what (by omega)) (va_cwS 1 hts (lw_S q617 q618 q79 q619) rfl rfl rfl (by decide +kernel) ⟨Nat.le_of_ble_eq_true rfl, Nat.le_of_ble_eq_true rfl⟩) (psR (BornH.S hB hN hS) trivial) rfl rfl hl.1 rfl (lv_room (Nat.le_of_ble_eq_true rfl)) dX0_kind_16 ⟨Nat.zero_le _, Nat.zero_le _⟩) ?_
      refine bb_if_ne (P := 0 ≤ what ∧ what ≤ 1) (tgt := 24) hx hb dX0_kind_19 (by decide) (fun c_3 => ?_) (fun c_3 => ?_)
      · -- 19 -> 24
        refine lv_aload_n hx hb dX0_kind_24 rfl (lv_at hl 0 rfl) ?_
        refine ii_ldc (z := 1000000) hx hb hts hown q648 dX0_kind_25 (by decide) ?_
        refine r_put (ci := 0) (k := 6) (C := RX0) (T := TX0) (N := 16) Z hB hx hb hts hown rfl in_X0 tyX0 tyX0_ok nmX0 hW.obj hS (Or.inl ⟨0, by omega, rfl⟩) (by decide) q799 rfl rfl rfl rfl (Nat.le_of_ble_eq_true rfl) dX0_kind_27 (CW G A (up S 0 (up (S 0) 2 1000000)) R) (fun H1 hz oq ho => hW.setO hI (k := 2) (by omega) oq ho) (fun H locs hW hS => ?_)
        refine ii_const hx hb dX0_kind_30 ?_
        refine lv_istore (lv' := [(4, .int (iI 0)), (0, .ref (A 0)), (1, .int (iI i)), (2, .int (iI n)), (3, .int (iI what))]) hx hb dX0_kind_31 hl (by decide) rfl (fun ls hl => ?_)
        refine lv_aload_n hx hb dX0_kind_33 rfl (lv_at hl 1 rfl) ?_
        refine r_get (ci := 0) (k := 5) (v := .ref (A 76)) (C := RX0) (T := TX0) (N := 16) Z hB hx hb hts hown rfl in_X0 hW.obj (by decide) q798 rfl dX0_kind_34 ?_
        refine lv_aload_n hx hb dX0_kind_37 rfl (lv_at hl 1 rfl) ?_
        refine r_get (ci := 0) (k := 3) (v := .ref (A 36)) (C := RX0) (T := TX0) (N := 16) Z hB hx hb hts hown rfl in_X0 hW.obj (by decide) q796 rfl dX0_kind_38 ?_
        refine cmV (va_runV (As := [.ref (A 36)]) (rest := []) ⟨hx, hb, hml, hown, hts⟩ (mX1_takes Z (fa A 2) (hI.fa (by omega)) (S 22) (fa A 0) (S 20) (fa_apart hI (f := 2) (g := 0) (by omega) (by omega) (by omega)) H.size) (cwV 1 hts (lw_V q424 q425 q426 q80 q427) rfl rfl rfl (by decide +kernel) ⟨Nat.le_of_ble_eq_true rfl, Nat.le_of_ble_eq_true rfl⟩) (pvM (BornH.S hB hN hS) (OBJ.recv Z hB ((hW.fw (f := 2) (by omega) (F := (S 22)) rfl)).1 (q := (RX1, TX1, 8)) rfl) (⟨(hW.fw (f := 2) (by omega) (F := (S 22)) rfl), (hW.fw (f := 0) (by omega) (F := (S 20)) rfl)⟩)) rfl rfl hl.1 rfl (lv_room (Nat.le_of_ble_eq_true rfl)) dX0_kind_41 ⟨Nat.zero_le _, Nat.zero_le _⟩) hS (AA.fa (by omega) hS.1) (fun H1 locs hW1 hz1 hk1 hS => ?_)
        have hW := hW.joinF hI (f := 2) (by omega) hk1 hW1
        clear hW1 hk1 hz1
        generalize H1 = H at hW hS ⊢
        refine ii_const hx hb dX0_kind_44 ?_
        refine lv_istore (lv' := [(5, .int (iI 0)), (4, .int (iI 0)), (0, .ref (A 0)), (1, .int (iI i)), (2, .int (iI n)), (3, .int (iI what))]) hx hb dX0_kind_45 hl (by decide) rfl (fun ls hl => ?_)
        have loop_47 : ∀ (fu : Nat) (v : Nat) (zv : Int) (best : Int) (least : Int) (F1 : Nat → Int) (F2 : Nat → Int), (zv = (v : Int)) → (v ≤ 4) → (kiO (S 20) i.toNat n.toNat v = (best, least)) → ((-4 ≤ best ∧ best ≤ 100) ∧ 0 ≤ least ∧ least ≤ 1000000) → (∀ v9 : Int, up F2 (2 * i.toNat + 0) v9 = up (S 20) (2 * i.toNat + 0) v9) → (5 - v) < fu → ∀ (H : Heap) (locs : List Loc), (CW G A (up (up (up S 0 (up (S 0) 2 least)) 21 F1) 22 F2) R) H → va_S (AA A 156 s.heap.size) s.heap H locs → ∀ (ls : Array Slot), lv_has ls 6 [(5, .int (iI zv)), (4, .int (iI best)), (0, .ref (A 0)), (1, .int (iI i)), (2, .int (iI n)), (3, .int (iI what))] → W p l e (headSpec (ws_ yX0_kind cX0_kind 6 (some .int)) ({ frames := 8, cells := 0, slots := 0, locals := 174 } : Room)).room s m ([.ref (A 0), .int (iI i), .int (iI n), .int (iI what)] : List Value).toArray below meth c H locs 0 0 (MQ below (mI (kindA (S 20) i n what) (CWx G A S R) (AA A 156 s.heap.size)) ([.ref (A 0), .int (iI i), .int (iI n), .int (iI what)] : List Value).toArray s 0 0 (AA A 156 s.heap.size)) (F0 m 47 ls []) := by
          intro fu
          induction fu with
          | zero => intro v zv best least F1 F2 ezv hv9 hp hbl hF2e hmu; exact absurd hmu (Nat.not_lt_zero _)
          | succ fu ih47 =>
            intro v zv best least F1 F2 ezv hv9 hp hbl hF2e hmu H locs hW hS ls hl
            refine lv_iload hx hb dX0_kind_47 (lv_at hl 0 rfl) ?_
            refine ii_const hx hb dX0_kind_49 ?_
            refine ii_icmp_ge (tgt := 97) hx hb dX0_kind_50 (by decide) (by omega) (by omega) (fun c_4 => ?_) (fun c_4 => ?_)
            · -- 50 -> 97
              refine lv_iload_n hx hb dX0_kind_97 rfl (lv_at hl 5 rfl) ?_
              refine ii_if_ne (tgt := 106) hx hb dX0_kind_98 (by decide) (by omega) (fun c_5 => ?_) (fun c_5 => ?_)
              · -- 98 -> 106
                refine lv_aload_n hx hb dX0_kind_106 rfl (lv_at hl 2 rfl) ?_
                refine r_get (ci := 0) (k := 6) (v := .int (iI least)) (C := RX0) (T := TX0) (N := 16) Z hB hx hb hts hown rfl in_X0 hW.obj (by decide) q799 rfl dX0_kind_107 ?_
                have hpw9 : (CWx G A S R) H := (hW.x (fun a h0 h3 h1 h2 h4 => by first | rfl | simp only [up, if_neg h0, if_neg h3, if_neg h1, if_neg h2, if_neg h4]) (fun j h2 h5 h6 => by first | rfl | simp [up, h2]))
                have he9 : least = (kindA (S 20) i n what) := by unfold kindA; rw [if_neg (by omega), show 4 = v by omega, hp]; split <;> omega
                exact W.iret hx hb hr (fun t ht hW9 => ⟨⟨_, (), rfl, congrArg iI he9, by show (CWx G A S R) t.heap; rw [ht]; exact hpw9⟩, hS.F ht⟩) hS.2.2 dX0_kind_110
              · -- 98 -> 101
                refine lv_iload hx hb dX0_kind_101 (lv_at hl 1 rfl) ?_
                refine lv_goto (tgt := 110) hx hb dX0_kind_103 (by decide) ?_
                have hpw9 : (CWx G A S R) H := (hW.x (fun a h0 h3 h1 h2 h4 => by first | rfl | simp only [up, if_neg h0, if_neg h3, if_neg h1, if_neg h2, if_neg h4]) (fun j h2 h5 h6 => by first | rfl | simp [up, h2]))
                have he9 : best = (kindA (S 20) i n what) := by unfold kindA; rw [if_neg (by omega), show 4 = v by omega, hp]; split <;> omega
                exact W.iret hx hb hr (fun t ht hW9 => ⟨⟨_, (), rfl, congrArg iI he9, by show (CWx G A S R) t.heap; rw [ht]; exact hpw9⟩, hS.F ht⟩) hS.2.2 dX0_kind_110
            · -- 50 -> 53
              refine lv_aload_n hx hb dX0_kind_53 rfl (lv_at hl 2 rfl) ?_
              refine r_get (ci := 0) (k := 5) (v := .ref (A 76)) (C := RX0) (T := TX0) (N := 16) Z hB hx hb hts hown rfl in_X0 hW.obj (by decide) q798 rfl dX0_kind_54 ?_
              refine r_getN (ci := 1) (k := 0) (v := .ref ((fa A 2) 1)) (C := RX1) (T := TX1) (N := 8) Z hB hx hb hts hown rfl in_X1 (((hW.fw (f := 2) (by omega) (F := F2) (up_s _ _ _))).1) (by decide) q139 rfl dX0_kind_57 ?_
              refine lv_iload_n hx hb dX0_kind_60 rfl (lv_at hl 3 rfl) ?_
              refine r_aald (t := 1) (ty := .array .int) (k := (i).toNat) Z hB hx hb rfl rfl (((hW.fw (f := 2) (by omega) (F := F2) (up_s _ _ _))).2.1) (by omega) (by omega) (by omega) rfl dX0_kind_61 ?_
              refine ii_const hx hb dX0_kind_62 ?_
              refine lv_iload hx hb dX0_kind_63 (lv_at hl 0 rfl) ?_
              refine r_iast (k := 0) Z hB hx hb (((hW.fw (f := 2) (by omega) (F := F2) (up_s _ _ _))).2.2.1 (i).toNat (by omega)) hS (Or.inl ⟨36 + 20 * 2 + (2 + (i).toNat), by omega, rfl⟩) (by omega) (by omega) (by omega) dX0_kind_65 (CW G A (up (up (up (up S 0 (up (S 0) 2 least)) 21 F1) 22 F2) 22 (up F2 (2 * (i).toNat + 0) zv)) R) (fun H1 hz oq ha => hW.storeF hI (f := 2) (c := 2 + (i).toNat) (by omega) (by omega) oq (FW.setI ((hW.fw (f := 2) (by omega) (F := F2) (up_s _ _ _))) (hI.fa (f := 2) (by omega)) (by omega) (by omega) oq ha)) (fun H locs hW hS => ?_)
              have hW := hW.eqS (S' := (up (up (up S 0 (up (S 0) 2 least)) 21 F1) 22 (up F2 (2 * (i).toNat + 0) zv))) (by
                  funext a
                  by_cases h0 : a = 0
                  · subst h0
                    funext j
                    by_cases k0 : j = 2
                    · subst k0; rfl
                    simp only [up, if_neg k0, if_true, if_false, Nat.reduceEqDiff, reduceIte]
                  by_cases h21 : a = 21
                  · subst h21; rfl
                  by_cases h22 : a = 22
                  · subst h22; rfl
                  simp only [up, if_neg h0, if_neg h21, if_neg h22])
              rw [hF2e] at hW
              have h22 : WF (up (S 20) (2 * i.toNat + 0) zv) := hF0.setK (by omega) (by omega)
              have h54 : (up (S 20) (2 * i.toNat + 0) zv) 54 = S 20 54 := up_n _ _ (by omega)
              refine lv_aload_n hx hb dX0_kind_66 rfl (lv_at hl 2 rfl) ?_
              refine lv_aload_n hx hb dX0_kind_67 rfl (lv_at hl 2 rfl) ?_
              refine lv_aload_n hx hb dX0_kind_68 rfl (lv_at hl 2 rfl) ?_
              refine r_get (ci := 0) (k := 5) (v := .ref (A 76)) (C := RX0) (T := TX0) (N := 16) Z hB hx hb hts hown rfl in_X0 hW.obj (by decide) q798 rfl dX0_kind_69 ?_
              refine lv_iload_n hx hb dX0_kind_72 rfl (lv_at hl 4 rfl) ?_
              have hd_6 : (up (S 20) (2 * i.toNat + 0) zv) 54 ≤ 2000 := by omega
              refine cmI (va_runV (As := [.ref (A 76), .int (iI n)]) (rest := [.ref (A 0)]) ⟨hx, hb, hml, hown, hts⟩ (mX0_spreadBehind_2 Z A hI (up (up (up S 0 (up (S 0) 2 least)) 21 F1) 22 (up (S 20) (2 * i.toNat + 0) zv)) R hF0 (up (S 20) (2 * i.toNat + 0) zv) rfl h22 hd_6 (n).toNat n (by omega) (by omega) H.size) (cwV 2 hts (lw_V q620 q622 qs23 q79 q623) rfl rfl rfl (by decide +kernel) ⟨Nat.le_of_ble_eq_true rfl, Nat.le_of_ble_eq_true rfl⟩) (pvM (BornH.S hB hN hS) (OBJ.recv Z hB hW.obj (q := (RX0, TX0, 16)) rfl) hW) rfl rfl hl.1 rfl (lv_room (Nat.le_of_ble_eq_true rfl)) dX0_kind_73 ⟨Nat.zero_le _, Nat.zero_le _⟩) hS (AA.le hS.1) (fun H1 locs hW1 hz1 hk1 hS => ?_)
              have hW := hW1
              clear hW1 hk1 hz1
              generalize H1 = H at hW hS ⊢
              have hwf_7 : WF (daysS (up (S 20) (2 * i.toNat + 0) zv) (n).toNat) := daysS_wf h22 (n).toNat (by omega)
              generalize daysS (up (S 20) (2 * i.toNat + 0) zv) (n).toNat = Fv_8 at hW hwf_7
              have hW := hW.eqS (S' := (up (up (up S 0 (up (S 0) 2 least)) 21 Fv_8) 22 (up (S 20) (2 * i.toNat + 0) zv))) (by
                  funext a
                  by_cases h0 : a = 0
                  · subst h0
                    funext j
                    by_cases k0 : j = 2
                    · subst k0; rfl
                    simp only [up, if_neg k0, if_true, if_false, Nat.reduceEqDiff, reduceIte]
                  by_cases h21 : a = 21
                  · subst h21; rfl
                  by_cases h22 : a = 22
                  · subst h22; rfl
                  simp only [up, if_neg h0, if_neg h21, if_neg h22])
              have bv_9 : 0 ≤ (spd (up (S 20) (2 * i.toNat + 0) zv) (n).toNat) ∧ (spd (up (S 20) (2 * i.toNat + 0) zv) (n).toNat) ≤ 99 := spd_in h22 (n).toNat (by omega)
              generalize evv : (spd (up (S 20) (2 * i.toNat + 0) zv) (n).toNat) = v_10 at bv_9 ⊢
              have hle_11 : inR least := by omega
              refine cmI (va_runV (As := [.int (iI v_10)]) (rest := []) ⟨hx, hb, hml, hown, hts⟩ (mX0_isLess Z A hI (up (up (up S 0 (up (S 0) 2 least)) 21 Fv_8) 22 (up (S 20) (2 * i.toNat + 0) zv)) R v_10 (by omega) hle_11 H.size) (cwV 1 hts (lw_V q624 q626 qs24 q79 q627) rfl rfl rfl (by decide +kernel) ⟨Nat.le_of_ble_eq_true rfl, Nat.le_of_ble_eq_true rfl⟩) (pvM (BornH.S hB hN hS) (OBJ.recv Z hB hW.obj (q := (RX0, TX0, 16)) rfl) hW) rfl rfl hl.1 rfl (lv_room (Nat.le_of_ble_eq_true rfl)) dX0_kind_76 ⟨Nat.zero_le _, Nat.zero_le _⟩) hS (AA.le hS.1) (fun H1 locs hW1 hz1 hk1 hS => ?_)
              have hW := hW1
              clear hW1 hk1 hz1
              generalize H1 = H at hW hS ⊢
              have hW := hW.eqS (S' := (up (up (up S 0 (up (up (S 0) 2 least) 2 (min least v_10))) 21 Fv_8) 22 (up (S 20) (2 * i.toNat + 0) zv))) (by
                  funext a
                  by_cases h0 : a = 0
                  · subst h0
                    funext j
                    by_cases k0 : j = 2
                    · subst k0; rfl
                    by_cases k1 : j = 2
                    · subst k1; rfl
                    simp only [up, if_neg k0, if_neg k1, if_true, if_false, Nat.reduceEqDiff, reduceIte]
                  by_cases h21 : a = 21
                  · subst h21; rfl
                  by_cases h22 : a = 22
                  · subst h22; rfl
                  simp only [up, if_neg h0, if_neg h21, if_neg h22])
              refine bb_if_eq (P := v_10 < least) (tgt := 87) hx hb dX0_kind_79 (by decide) (fun c_12 => ?_) (fun c_12 => ?_)
              · -- 79 -> 87
                refine lv_iload hx hb dX0_kind_87 (lv_at hl 1 rfl) ?_
                refine lv_istore (lv' := [(4, .int (iI best)), (5, .int (iI zv)), (0, .ref (A 0)), (1, .int (iI i)), (2, .int (iI n)), (3, .int (iI what))]) hx hb dX0_kind_89 hl (by decide) rfl (fun ls hl => ?_)
                refine ii_iinc (k := 1) (lv' := [(5, .int (iI (zv + 1))), (4, .int (iI best)), (0, .ref (A 0)), (1, .int (iI i)), (2, .int (iI n)), (3, .int (iI what))]) hx hb dX0_kind_91 hl rfl (by decide) rfl (fun ls hl => ?_)
                refine lv_goto (tgt := 47) hx hb dX0_kind_94 (by decide) ?_
                have hW := hW.eqS (S' := (up (up (up S 0 (up (S 0) 2 (min least v_10))) 21 Fv_8) 22 (up (S 20) (2 * i.toNat + 0) zv))) (by
                    funext a
                    by_cases h0 : a = 0
                    · subst h0
                      funext j
                      by_cases k0 : j = 2
                      · subst k0; rfl
                      by_cases k1 : j = 2
                      · subst k1; rfl
                      simp only [up, if_neg k0, if_neg k1, if_true, if_false, Nat.reduceEqDiff, reduceIte]
                    by_cases h21 : a = 21
                    · subst h21; rfl
                    by_cases h22 : a = 22
                    · subst h22; rfl
                    simp only [up, if_neg h0, if_neg h21, if_neg h22])
                exact ih47 (v + 1) (zv + 1) best (min least v_10) Fv_8 (up (S 20) (2 * i.toNat + 0) zv) (by omega) (by omega) (by first | exact jd_y hp (by omega) (by rw [← ezv]; exact evv) (by assumption) | exact jd_n hp (by rw [← ezv]; exact evv) (by assumption)) (by omega) (fun v9 => up_up _ _ _ _) (by omega) _ _ hW hS ls (lv_sub hl [0, 1, 2, 3, 4, 5] rfl)
              · -- 79 -> 82
                refine lv_iload hx hb dX0_kind_82 (lv_at hl 0 rfl) ?_
                refine lv_goto (tgt := 89) hx hb dX0_kind_84 (by decide) ?_
                refine lv_istore (lv' := [(4, .int (iI zv)), (5, .int (iI zv)), (0, .ref (A 0)), (1, .int (iI i)), (2, .int (iI n)), (3, .int (iI what))]) hx hb dX0_kind_89 hl (by decide) rfl (fun ls hl => ?_)
                refine ii_iinc (k := 1) (lv' := [(5, .int (iI (zv + 1))), (4, .int (iI zv)), (0, .ref (A 0)), (1, .int (iI i)), (2, .int (iI n)), (3, .int (iI what))]) hx hb dX0_kind_91 hl rfl (by decide) rfl (fun ls hl => ?_)
                refine lv_goto (tgt := 47) hx hb dX0_kind_94 (by decide) ?_
                have hW := hW.eqS (S' := (up (up (up S 0 (up (S 0) 2 (min least v_10))) 21 Fv_8) 22 (up (S 20) (2 * i.toNat + 0) zv))) (by
                    funext a
                    by_cases h0 : a = 0
                    · subst h0
                      funext j
                      by_cases k0 : j = 2
                      · subst k0; rfl
                      by_cases k1 : j = 2
                      · subst k1; rfl
                      simp only [up, if_neg k0, if_neg k1, if_true, if_false, Nat.reduceEqDiff, reduceIte]
                    by_cases h21 : a = 21
                    · subst h21; rfl
                    by_cases h22 : a = 22
                    · subst h22; rfl
                    simp only [up, if_neg h0, if_neg h21, if_neg h22])
                exact ih47 (v + 1) (zv + 1) zv (min least v_10) Fv_8 (up (S 20) (2 * i.toNat + 0) zv) (by omega) (by omega) (by first | exact jd_y hp (by omega) (by rw [← ezv]; exact evv) (by assumption) | exact jd_n hp (by rw [← ezv]; exact evv) (by assumption)) (by omega) (fun v9 => up_up _ _ _ _) (by omega) _ _ hW hS ls (lv_sub hl [0, 1, 2, 3, 4, 5] rfl)
        have hW := hW.eqS (S' := (up (up (up S 0 (up (S 0) 2 1000000)) 21 (S 21)) 22 (S 20))) (by
            funext a
            by_cases h0 : a = 0
            · subst h0
              funext j
              by_cases k0 : j = 2
              · subst k0; rfl
              by_cases k1 : j = 2
              · subst k1; rfl
              simp only [up, if_neg k0, if_neg k1, if_true, if_false, Nat.reduceEqDiff, reduceIte]
            by_cases h21 : a = 21
            · subst h21; rfl
            by_cases h22 : a = 22
            · subst h22; rfl
            simp only [up, if_neg h0, if_neg h21, if_neg h22])
        exact loop_47 _ 0 0 0 1000000 (S 21) (S 20) (by omega) (by omega) (rfl) (by omega) (fun v9 => rfl) (Nat.lt_succ_self _) _ _ hW hS ls (lv_sub hl [0, 1, 2, 3, 4, 5] rfl)
      · -- 19 -> 22
        refine ii_const hx hb dX0_kind_22 ?_
        have hpw9 : (CWx G A S R) s.heap := (hW.x (fun a h0 h3 h1 h2 h4 => by first | rfl | simp only [up, if_neg h0, if_neg h3, if_neg h1, if_neg h2, if_neg h4]) (fun j h2 h5 h6 => by first | rfl | simp [up, h2]))
        have he9 : (-1) = (kindA (S 20) i n what) := by unfold kindA; exact (if_pos (by omega)).symm
        exact W.iret hx hb hr (fun t ht hW9 => ⟨⟨_, (), rfl, congrArg iI he9, by show (CWx G A S R) t.heap; rw [ht]; exact hpw9⟩, hS.F ht⟩) hS.2.2 dX0_kind_23
