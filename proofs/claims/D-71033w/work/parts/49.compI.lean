/-! COMPONENT: worstAt, ask, drift (written by gen/comp6.py) -/
set_option maxRecDepth 100000
set_option maxHeartbeats 1000000 in
set_option maxRecDepth 100000 in
theorem mX0_worstAt {l : Launch} {G : GG} {s0 : State} {b0 : Nat} (Z : ZZ l G s0 b0) (A : Nat → Nat) (S : Sta) (R : Nat → Option Nat) (hF0 : WF (S 20)) (B : Nat → Int) (eB : S 3 = B) (r : Int) (hr16 : 0 ≤ r ∧ r < 16) (c1 : Nat) (zc : Int) (hzc : zc = (c1 : Int)) (hc1 : c1 < 105) (hcc : ∀ k : Nat, k < 4 → inR (B (105 * k + c1))) : Met l yX0_worstAt (ws_ yX0_worstAt cX0_worstAt 7 (some .int)) ({ frames := 1, cells := 0, slots := 0, locals := 21 } : Room) (pcR s0 (CW G A S R) [.ref (A 0), .int (iI r), .int (iI zc)]) (qI (woO B r c1 4)) 0 0 (fun _ => False) := by
  refine Met.ofW (cc := cX0_worstAt) (maxL := 7) (ret := (some .int)) (by decide) rfl ?_
  intro p e s m args below meth c s₁ B hml hv
  obtain ⟨rfl, hW, hB⟩ := hv
  have hx := B.exec
  have hb := B.bytes
  have hr := B.returns
  have hts := atoms_spec (ws := (ws_ yX0_worstAt cX0_worstAt 7 (some .int))) B.pre
  have hts : ∀ w ∈ lw_all, w.before _ s = true := fun w h => hts w (List.mem_cons_of_mem _ h)
  have hown : s.vm.findClass RX0 = some m.cls := findClass_of_methodNamed B.named
  have hlocks := B.notSynchronized
  have hl := lv_entry ([.ref (A 0), .int (iI r), .int (iI zc)]) (n := 7) (Nat.le_of_ble_eq_true rfl)
  rw [lg_entry_eq]
  generalize (lg_sl ([.ref (A 0), .int (iI r), .int (iI zc)]) ++ List.replicate (7 - (lg_sl ([.ref (A 0), .int (iI r), .int (iI zc)])).length) Slot.unset).toArray = ls at hl ⊢
  have hl : lv_has ls 7 [(0, .ref (A 0)), (1, .int (iI r)), (2, .int (iI zc))] := hl
  subst eB
  refine ii_const hx hb dX0_worstAt_0 ?_
  refine lv_istore_n (lv' := [(3, .int (iI 0)), (0, .ref (A 0)), (1, .int (iI r)), (2, .int (iI zc))]) hx hb dX0_worstAt_1 rfl hl (by decide) rfl (fun ls hl => ?_)
  refine ii_const hx hb dX0_worstAt_2 ?_
  refine lv_istore (lv' := [(4, .int (iI 0)), (3, .int (iI 0)), (0, .ref (A 0)), (1, .int (iI r)), (2, .int (iI zc))]) hx hb dX0_worstAt_3 hl (by decide) rfl (fun ls hl => ?_)
  have loop_5 : ∀ (fu : Nat) (k9 : Nat) (zk : Int), (zk = (k9 : Int)) → (k9 ≤ 4) → (5 - k9) < fu → ∀ (ls : Array Slot), lv_has ls 7 [(4, .int (iI zk)), (3, .int (iI (woO (S 3) r c1 k9))), (0, .ref (A 0)), (1, .int (iI r)), (2, .int (iI zc))] → W p l e (headSpec (ws_ yX0_worstAt cX0_worstAt 7 (some .int)) ({ frames := 1, cells := 0, slots := 0, locals := 21 } : Room)).room s m ([.ref (A 0), .int (iI r), .int (iI zc)] : List Value).toArray below meth c s.heap [] 0 0 (MQ below (qI (woO (S 3) r c1 4)) ([.ref (A 0), .int (iI r), .int (iI zc)] : List Value).toArray s 0 0 (fun _ => False)) (F0 m 5 ls []) := by
    intro fu
    induction fu with
    | zero => intro k9 zk ezk hk4 hmu; exact absurd hmu (Nat.not_lt_zero _)
    | succ fu ih5 =>
      intro k9 zk ezk hk4 hmu ls hl
      have hwo := woO_in (S 3) r c1 k9
      refine lv_iload hx hb dX0_worstAt_5 (lv_at hl 0 rfl) ?_
      refine ii_const hx hb dX0_worstAt_7 ?_
      refine ii_icmp_ge (tgt := 91) hx hb dX0_worstAt_8 (by decide) (by omega) (by omega) (fun c_1 => ?_) (fun c_1 => ?_)
      · -- 8 -> 91
        refine lv_iload_n hx hb dX0_worstAt_91 rfl (lv_at hl 1 rfl) ?_
        have he9 : (woO (S 3) r c1 k9) = (woO (S 3) r c1 4) := by rw [show k9 = 4 by omega]
        exact W.iret hx hb hr (fun t ht hW9 => ⟨_, rfl, congrArg iI he9, ht⟩) (fun q hq => by cases hq) dX0_worstAt_92
      · -- 8 -> 11
        refine ii_const hx hb dX0_worstAt_11 ?_
        refine lv_istore (lv' := [(5, .int (iI 0)), (4, .int (iI zk)), (3, .int (iI (woO (S 3) r c1 k9))), (0, .ref (A 0)), (1, .int (iI r)), (2, .int (iI zc))]) hx hb dX0_worstAt_12 hl (by decide) rfl (fun ls hl => ?_)
        refine ii_const hx hb dX0_worstAt_14 ?_
        refine lv_istore (lv' := [(6, .int (iI 0)), (5, .int (iI 0)), (4, .int (iI zk)), (3, .int (iI (woO (S 3) r c1 k9))), (0, .ref (A 0)), (1, .int (iI r)), (2, .int (iI zc))]) hx hb dX0_worstAt_15 hl (by decide) rfl (fun ls hl => ?_)
        have loop_17 : ∀ (fu : Nat) (j9 : Nat) (zj : Int), (zj = (j9 : Int)) → (j9 ≤ 4) → (j9 = 0 ∨ bitS r zk) → (5 - j9) < fu → ∀ (ls : Array Slot), lv_has ls 7 [(6, .int (iI zj)), (5, .int (iI (woI (S 3) r c1 k9 j9))), (4, .int (iI zk)), (3, .int (iI (woO (S 3) r c1 k9))), (0, .ref (A 0)), (1, .int (iI r)), (2, .int (iI zc))] → W p l e (headSpec (ws_ yX0_worstAt cX0_worstAt 7 (some .int)) ({ frames := 1, cells := 0, slots := 0, locals := 21 } : Room)).room s m ([.ref (A 0), .int (iI r), .int (iI zc)] : List Value).toArray below meth c s.heap [] 0 0 (MQ below (qI (woO (S 3) r c1 4)) ([.ref (A 0), .int (iI r), .int (iI zc)] : List Value).toArray s 0 0 (fun _ => False)) (F0 m 17 ls []) := by
          intro fu
          induction fu with
          | zero => intro j9 zj ezj hj4 hjk hmu; exact absurd hmu (Nat.not_lt_zero _)
          | succ fu ih17 =>
            intro j9 zj ezj hj4 hjk hmu ls hl
            have hwi := woI_in (S 3) r c1 k9 j9
            refine lv_iload hx hb dX0_worstAt_17 (lv_at hl 0 rfl) ?_
            refine ii_const hx hb dX0_worstAt_19 ?_
            refine ii_icmp_ge (tgt := 78) hx hb dX0_worstAt_20 (by decide) (by omega) (by omega) (fun c_2 => ?_) (fun c_2 => ?_)
            · -- 20 -> 78
              refine lv_iload_n hx hb dX0_worstAt_78 rfl (lv_at hl 3 rfl) ?_
              refine lv_iload hx hb dX0_worstAt_79 (lv_at hl 1 rfl) ?_
              refine ii_max hx hb (hml.trans hl.1.symm) hts hown q718 (Nat.le_of_ble_eq_true rfl) (Nat.le_of_ble_eq_true rfl) (Nat.zero_le _) (Nat.zero_le _) (by omega) (by omega) dX0_worstAt_81 ?_
              refine lv_istore_n (lv' := [(3, .int (iI (max (woO (S 3) r c1 k9) (woI (S 3) r c1 k9 j9)))), (6, .int (iI zj)), (5, .int (iI (woI (S 3) r c1 k9 j9))), (4, .int (iI zk)), (0, .ref (A 0)), (1, .int (iI r)), (2, .int (iI zc))]) hx hb dX0_worstAt_84 rfl hl (by decide) rfl (fun ls hl => ?_)
              refine ii_iinc (k := 3) (lv' := [(4, .int (iI (zk + 1))), (3, .int (iI (max (woO (S 3) r c1 k9) (woI (S 3) r c1 k9 j9)))), (6, .int (iI zj)), (5, .int (iI (woI (S 3) r c1 k9 j9))), (0, .ref (A 0)), (1, .int (iI r)), (2, .int (iI zc))]) hx hb dX0_worstAt_85 hl rfl (by decide) rfl (fun ls hl => ?_)
              refine lv_goto (tgt := 5) hx hb dX0_worstAt_88 (by decide) ?_
              have e_3 : (woO (S 3) r c1 (k9 + 1)) = (max (woO (S 3) r c1 k9) (woI (S 3) r c1 k9 j9)) := by simp only [woO]; rw [← ezk]; first | (rw [if_pos (hjk.resolve_left (by omega)), show j9 = 4 by omega]) | (rw [if_neg (by assumption), show j9 = 0 from hjk.resolve_right (by assumption)]; rfl)
              exact ih5 (k9 + 1) (zk + 1) (by omega) (by omega) (by omega) ls (by rw [e_3]; exact lv_sub hl [0, 1, 4, 5, 6] rfl)
            · -- 20 -> 23
              refine lv_iload_n hx hb dX0_worstAt_23 rfl (lv_at hl 5 rfl) ?_
              refine lv_iload hx hb dX0_worstAt_24 (lv_at hl 2 rfl) ?_
              refine cqI (va_runS (As := [.int (iI r), .int (iI zk)]) (rest := []) ⟨hx, hb, hml, hown, hts⟩ (mX0_has Z r (by omega) zk (by omega)) (va_cwS 2 hts (lw_S q667 q403 q79 q404) rfl rfl rfl (by decide +kernel) ⟨Nat.le_of_ble_eq_true rfl, Nat.le_of_ble_eq_true rfl⟩) (psR hB trivial) rfl rfl hl.1 rfl (lv_room (Nat.le_of_ble_eq_true rfl)) dX0_worstAt_26 ⟨Nat.zero_le _, Nat.zero_le _⟩) ?_
              refine bb_if_eq (P := bitS r zk) (tgt := 78) hx hb dX0_worstAt_29 (by decide) (fun c_4 => ?_) (fun c_4 => ?_)
              · -- 29 -> 78
                refine lv_iload_n hx hb dX0_worstAt_78 rfl (lv_at hl 3 rfl) ?_
                refine lv_iload hx hb dX0_worstAt_79 (lv_at hl 1 rfl) ?_
                refine ii_max hx hb (hml.trans hl.1.symm) hts hown q718 (Nat.le_of_ble_eq_true rfl) (Nat.le_of_ble_eq_true rfl) (Nat.zero_le _) (Nat.zero_le _) (by omega) (by omega) dX0_worstAt_81 ?_
                refine lv_istore_n (lv' := [(3, .int (iI (max (woO (S 3) r c1 k9) (woI (S 3) r c1 k9 j9)))), (6, .int (iI zj)), (5, .int (iI (woI (S 3) r c1 k9 j9))), (4, .int (iI zk)), (0, .ref (A 0)), (1, .int (iI r)), (2, .int (iI zc))]) hx hb dX0_worstAt_84 rfl hl (by decide) rfl (fun ls hl => ?_)
                refine ii_iinc (k := 3) (lv' := [(4, .int (iI (zk + 1))), (3, .int (iI (max (woO (S 3) r c1 k9) (woI (S 3) r c1 k9 j9)))), (6, .int (iI zj)), (5, .int (iI (woI (S 3) r c1 k9 j9))), (0, .ref (A 0)), (1, .int (iI r)), (2, .int (iI zc))]) hx hb dX0_worstAt_85 hl rfl (by decide) rfl (fun ls hl => ?_)
                refine lv_goto (tgt := 5) hx hb dX0_worstAt_88 (by decide) ?_
                have e_5 : (woO (S 3) r c1 (k9 + 1)) = (max (woO (S 3) r c1 k9) (woI (S 3) r c1 k9 j9)) := by simp only [woO]; rw [← ezk]; first | (rw [if_pos (hjk.resolve_left (by omega)), show j9 = 4 by omega]) | (rw [if_neg (by assumption), show j9 = 0 from hjk.resolve_right (by assumption)]; rfl)
                exact ih5 (k9 + 1) (zk + 1) (by omega) (by omega) (by omega) ls (by rw [e_5]; exact lv_sub hl [0, 1, 4, 5, 6] rfl)
              · -- 29 -> 32
                refine lv_iload hx hb dX0_worstAt_32 (lv_at hl 1 rfl) ?_
                refine lv_iload_n hx hb dX0_worstAt_34 rfl (lv_at hl 5 rfl) ?_
                refine lv_iload hx hb dX0_worstAt_35 (lv_at hl 0 rfl) ?_
                refine cqI (va_runS (As := [.int (iI r), .int (iI zj)]) (rest := [.int (iI (woI (S 3) r c1 k9 j9))]) ⟨hx, hb, hml, hown, hts⟩ (mX0_has Z r (by omega) zj (by omega)) (va_cwS 2 hts (lw_S q667 q403 q79 q404) rfl rfl rfl (by decide +kernel) ⟨Nat.le_of_ble_eq_true rfl, Nat.le_of_ble_eq_true rfl⟩) (psR hB trivial) rfl rfl hl.1 rfl (lv_room (Nat.le_of_ble_eq_true rfl)) dX0_worstAt_37 ⟨Nat.zero_le _, Nat.zero_le _⟩) ?_
                refine bb_if_eq (P := bitS r zj) (tgt := 68) hx hb dX0_worstAt_40 (by decide) (fun c_6 => ?_) (fun c_6 => ?_)
                · -- 40 -> 68
                  refine ii_const hx hb dX0_worstAt_68 ?_
                  refine ii_add hx hb dX0_worstAt_69 ?_
                  refine lv_istore (lv' := [(5, .int (iI ((woI (S 3) r c1 k9 j9) + 0))), (6, .int (iI zj)), (4, .int (iI zk)), (3, .int (iI (woO (S 3) r c1 k9))), (0, .ref (A 0)), (1, .int (iI r)), (2, .int (iI zc))]) hx hb dX0_worstAt_70 hl (by decide) rfl (fun ls hl => ?_)
                  refine ii_iinc (k := 1) (lv' := [(6, .int (iI (zj + 1))), (5, .int (iI ((woI (S 3) r c1 k9 j9) + 0))), (4, .int (iI zk)), (3, .int (iI (woO (S 3) r c1 k9))), (0, .ref (A 0)), (1, .int (iI r)), (2, .int (iI zc))]) hx hb dX0_worstAt_72 hl rfl (by decide) rfl (fun ls hl => ?_)
                  refine lv_goto (tgt := 17) hx hb dX0_worstAt_75 (by decide) ?_
                  have e_7 : (woI (S 3) r c1 k9 (j9 + 1)) = ((woI (S 3) r c1 k9 j9) + 0) := by simp only [woI]; rw [← ezj]; first | rw [if_pos ⟨by assumption, by assumption⟩] | (rw [if_neg (fun h => by have h1 := h.1; have h2 := h.2; contradiction)])
                  exact ih17 (j9 + 1) (zj + 1) (by omega) (by omega) (Or.inr (by assumption)) (by omega) ls (by rw [e_7]; exact lv_sub hl [0, 1, 2, 3, 4, 5, 6] rfl)
                · -- 40 -> 43
                  have hbk := hcc k9 (by omega)
                  have hbj := hcc j9 (by omega)
                  refine lv_aload_n hx hb dX0_worstAt_43 rfl (lv_at hl 4 rfl) ?_
                  refine r_get (ci := 0) (k := 9) (v := .ref (A 9)) (C := RX0) (T := TX0) (N := 16) Z hB hx hb hts hown rfl in_X0 hW.obj (by decide) q804 rfl dX0_worstAt_44 ?_
                  refine lv_iload hx hb dX0_worstAt_47 (lv_at hl 2 rfl) ?_
                  refine r_aald (t := 1) (ty := .array .int) (k := k9) Z hB hx hb rfl rfl hW.by (by omega) (by omega) (by omega) rfl dX0_worstAt_49 ?_
                  refine lv_iload_n hx hb dX0_worstAt_50 rfl (lv_at hl 6 rfl) ?_
                  refine r_iald (k := c1) (f := (fun c => (S 3) (105 * k9 + c))) Z hB hx hb (hW.byR k9 (by omega)) (by omega) (by omega) (by omega) dX0_worstAt_51 ?_
                  refine lv_aload_n hx hb dX0_worstAt_52 rfl (lv_at hl 4 rfl) ?_
                  refine r_get (ci := 0) (k := 9) (v := .ref (A 9)) (C := RX0) (T := TX0) (N := 16) Z hB hx hb hts hown rfl in_X0 hW.obj (by decide) q804 rfl dX0_worstAt_53 ?_
                  refine lv_iload hx hb dX0_worstAt_56 (lv_at hl 0 rfl) ?_
                  refine r_aald (t := 1) (ty := .array .int) (k := j9) Z hB hx hb rfl rfl hW.by (by omega) (by omega) (by omega) rfl dX0_worstAt_58 ?_
                  refine lv_iload_n hx hb dX0_worstAt_59 rfl (lv_at hl 6 rfl) ?_
                  refine r_iald (k := c1) (f := (fun c => (S 3) (105 * j9 + c))) Z hB hx hb (hW.byR j9 (by omega)) (by omega) (by omega) (by omega) dX0_worstAt_60 ?_
                  refine ii_icmp_ne (tgt := 68) hx hb dX0_worstAt_61 (by decide) (by omega) (by omega) (fun c_8 => ?_) (fun c_8 => ?_)
                  · -- 61 -> 68
                    refine ii_const hx hb dX0_worstAt_68 ?_
                    refine ii_add hx hb dX0_worstAt_69 ?_
                    refine lv_istore (lv' := [(5, .int (iI ((woI (S 3) r c1 k9 j9) + 0))), (6, .int (iI zj)), (4, .int (iI zk)), (3, .int (iI (woO (S 3) r c1 k9))), (0, .ref (A 0)), (1, .int (iI r)), (2, .int (iI zc))]) hx hb dX0_worstAt_70 hl (by decide) rfl (fun ls hl => ?_)
                    refine ii_iinc (k := 1) (lv' := [(6, .int (iI (zj + 1))), (5, .int (iI ((woI (S 3) r c1 k9 j9) + 0))), (4, .int (iI zk)), (3, .int (iI (woO (S 3) r c1 k9))), (0, .ref (A 0)), (1, .int (iI r)), (2, .int (iI zc))]) hx hb dX0_worstAt_72 hl rfl (by decide) rfl (fun ls hl => ?_)
                    refine lv_goto (tgt := 17) hx hb dX0_worstAt_75 (by decide) ?_
                    have e_9 : (woI (S 3) r c1 k9 (j9 + 1)) = ((woI (S 3) r c1 k9 j9) + 0) := by simp only [woI]; rw [← ezj]; first | rw [if_pos ⟨by assumption, by assumption⟩] | (rw [if_neg (fun h => by have h1 := h.1; have h2 := h.2; contradiction)])
                    exact ih17 (j9 + 1) (zj + 1) (by omega) (by omega) (Or.inr (by assumption)) (by omega) ls (by rw [e_9]; exact lv_sub hl [0, 1, 2, 3, 4, 5, 6] rfl)
                  · -- 61 -> 64
                    refine ii_const hx hb dX0_worstAt_64 ?_
                    refine lv_goto (tgt := 69) hx hb dX0_worstAt_65 (by decide) ?_
                    refine ii_add hx hb dX0_worstAt_69 ?_
                    refine lv_istore (lv' := [(5, .int (iI ((woI (S 3) r c1 k9 j9) + 1))), (6, .int (iI zj)), (4, .int (iI zk)), (3, .int (iI (woO (S 3) r c1 k9))), (0, .ref (A 0)), (1, .int (iI r)), (2, .int (iI zc))]) hx hb dX0_worstAt_70 hl (by decide) rfl (fun ls hl => ?_)
                    refine ii_iinc (k := 1) (lv' := [(6, .int (iI (zj + 1))), (5, .int (iI ((woI (S 3) r c1 k9 j9) + 1))), (4, .int (iI zk)), (3, .int (iI (woO (S 3) r c1 k9))), (0, .ref (A 0)), (1, .int (iI r)), (2, .int (iI zc))]) hx hb dX0_worstAt_72 hl rfl (by decide) rfl (fun ls hl => ?_)
                    refine lv_goto (tgt := 17) hx hb dX0_worstAt_75 (by decide) ?_
                    have e_10 : (woI (S 3) r c1 k9 (j9 + 1)) = ((woI (S 3) r c1 k9 j9) + 1) := by simp only [woI]; rw [← ezj]; first | rw [if_pos ⟨by assumption, by assumption⟩] | (rw [if_neg (fun h => by have h1 := h.1; have h2 := h.2; contradiction)])
                    exact ih17 (j9 + 1) (zj + 1) (by omega) (by omega) (Or.inr (by assumption)) (by omega) ls (by rw [e_10]; exact lv_sub hl [0, 1, 2, 3, 4, 5, 6] rfl)
        have e_11 : (woI (S 3) r c1 k9 0) = 0 := rfl
        exact loop_17 _ 0 0 (by omega) (by omega) (Or.inl rfl) (Nat.lt_succ_self _) ls (by rw [e_11]; exact lv_sub hl [0, 1, 2, 3, 4, 5, 6] rfl)
  have e_12 : (woO (S 3) r c1 0) = 0 := rfl
  exact loop_5 _ 0 0 (by omega) (by omega) (Nat.lt_succ_self _) ls (by rw [e_12]; exact lv_sub hl [0, 1, 2, 3, 4] rfl)

set_option maxHeartbeats 1000000 in
set_option maxRecDepth 100000 in
theorem mX0_ask {l : Launch} {G : GG} {s0 : State} {b0 : Nat} (Z : ZZ l G s0 b0) (A : Nat → Nat) (hI : Own s0 A 156) (S : Sta) (R : Nat → Option Nat) (hF0 : WF (S 20)) (hd : S 20 54 ≤ 2000) (hsn : SeenOK (S 2) (S 0 3)) (i : Int) (hi : inR i) (what : Int) (hwhat : inR what) (sz : Nat) : Met l yX0_ask (ws_ yX0_ask cX0_ask 7 (some .int)) ({ frames := 8, cells := 0, slots := 0, locals := 176 } : Room) (pcM s0 sz (CW G A S R) [.ref (A 0), .int (iI i), .int (iI what)]) (mI (askA (S 20) (S 2) (S 3) (S 0 3).toNat i what) (CWx G A S R) (AA A 156 sz)) 0 0 (AA A 156 sz) := by
  refine Met.ofW (cc := cX0_ask) (maxL := 7) (ret := (some .int)) (by decide) rfl ?_
  intro p e s m args below meth c s₁ B hml hv
  obtain ⟨rfl, hsz, hW, hB⟩ := hv
  subst hsz
  have hx := B.exec
  have hb := B.bytes
  have hr := B.returns
  have hts := atoms_spec (ws := (ws_ yX0_ask cX0_ask 7 (some .int))) B.pre
  have hts : ∀ w ∈ lw_all, w.before _ s = true := fun w h => hts w (List.mem_cons_of_mem _ h)
  have hown : s.vm.findClass RX0 = some m.cls := findClass_of_methodNamed B.named
  have hlocks := B.notSynchronized
  have hN := AA.old hI hB
  have hS : va_S (AA A 156 s.heap.size) s.heap s.heap [] := va_S.rf
  have hl := lv_entry ([.ref (A 0), .int (iI i), .int (iI what)]) (n := 7) (Nat.le_of_ble_eq_true rfl)
  rw [lg_entry_eq]
  generalize (lg_sl ([.ref (A 0), .int (iI i), .int (iI what)]) ++ List.replicate (7 - (lg_sl ([.ref (A 0), .int (iI i), .int (iI what)])).length) Slot.unset).toArray = ls at hl ⊢
  have hl : lv_has ls 7 [(0, .ref (A 0)), (1, .int (iI i)), (2, .int (iI what))] := hl
  have hn5 := hF0.n
  refine lv_aload_n hx hb dX0_ask_0 rfl (lv_at hl 0 rfl) ?_
  refine lv_iload_n hx hb dX0_ask_1 rfl (lv_at hl 1 rfl) ?_
  refine cqI (va_runV (As := [.int (iI i)]) (rest := []) ⟨hx, hb, hml, hown, hts⟩ (mX0_isIsle Z A S R hF0 i (by omega)) (cwV 1 hts (lw_V q449 q451 qs14 q79 q453) rfl rfl rfl (by decide +kernel) ⟨Nat.le_of_ble_eq_true rfl, Nat.le_of_ble_eq_true rfl⟩) (pvR (BornH.S hB hN hS) (OBJ.recv Z hB hW.obj (q := (RX0, TX0, 16)) rfl) hW) rfl rfl hl.1 rfl (lv_room (Nat.le_of_ble_eq_true rfl)) dX0_ask_2 ⟨Nat.zero_le _, Nat.zero_le _⟩) ?_
  refine bb_if_eq (P := okI (S 20) i) (tgt := 15) hx hb dX0_ask_5 (by decide) (fun c_1 => ?_) (fun c_1 => ?_)
  · -- 5 -> 15
    refine ii_const hx hb dX0_ask_15 ?_
    have hpw9 : (CWx G A S R) s.heap := ⟨S, ⟨fun _ _ _ _ _ _ => rfl, fun _ _ _ _ => rfl⟩, hW⟩
    have he9 : (-1) = (askA (S 20) (S 2) (S 3) (S 0 3).toNat i what) := by unfold askA; exact (if_pos (by omega)).symm
    exact W.iret hx hb hr (fun t ht hW9 => ⟨⟨_, (), rfl, congrArg iI he9, by show (CWx G A S R) t.heap; rw [ht]; exact hpw9⟩, hS.F ht⟩) hS.2.2 dX0_ask_16
  · -- 5 -> 8
    refine lv_iload_n hx hb dX0_ask_8 rfl (lv_at hl 2 rfl) ?_
    refine cqI (va_runS (As := [.int (iI what)]) (rest := []) ⟨hx, hb, hml, hown, hts⟩ (mX0_isPart Z what (by omega)) (va_cwS 1 hts (lw_S q617 q618 q79 q619) rfl rfl rfl (by decide +kernel) ⟨Nat.le_of_ble_eq_true rfl, Nat.le_of_ble_eq_true rfl⟩) (psR (BornH.S hB hN hS) trivial) rfl rfl hl.1 rfl (lv_room (Nat.le_of_ble_eq_true rfl)) dX0_ask_9 ⟨Nat.zero_le _, Nat.zero_le _⟩) ?_
    refine bb_if_ne (P := 0 ≤ what ∧ what ≤ 1) (tgt := 17) hx hb dX0_ask_12 (by decide) (fun c_2 => ?_) (fun c_2 => ?_)
    · -- 12 -> 17
      refine lv_aload_n hx hb dX0_ask_17 rfl (lv_at hl 0 rfl) ?_
      refine lv_iload_n hx hb dX0_ask_18 rfl (lv_at hl 1 rfl) ?_
      refine cmI (va_runV (As := [.int (iI i)]) (rest := []) ⟨hx, hb, hml, hown, hts⟩ (mX0_kindsOf Z A hI S R hF0 hd (S 2) rfl ((S 0) 3) rfl (S 3) rfl hsn (S 20) rfl (i).toNat i (by omega) (by omega) s.heap.size) (cwV 1 hts (lw_V q692 q694 qs28 q79 q695) rfl rfl rfl (by decide +kernel) ⟨Nat.le_of_ble_eq_true rfl, Nat.le_of_ble_eq_true rfl⟩) (pvM (BornH.S hB hN hS) (OBJ.recv Z hB hW.obj (q := (RX0, TX0, 16)) rfl) hW) rfl rfl hl.1 rfl (lv_room (Nat.le_of_ble_eq_true rfl)) dX0_ask_19 ⟨Nat.zero_le _, Nat.zero_le _⟩) hS (AA.le hS.1) (fun H1 locs hW1 hz1 hk1 hS => ?_)
      obtain ⟨Fa_3, Fb_4, hW⟩ := hW1
      clear hk1 hz1
      generalize H1 = H at hW hS ⊢
      have b_718 := kdS_in (S 20) (S 2) ((S 0) 3).toNat (i).toNat 4 (by omega)
      have hkb : ∀ d i9 k : Nat, d ≤ 20 → (i9 : Int) < S 20 76 → k < 4 → inR ((kbS (S 20) (S 3) (i).toNat 4) (105 * k + (5 * d + i9))) := fun d i9 k h1 h2 h3 => by rw [kbS_at hF0 (by omega) h2 h1 4 h3]; have := (daysS_wf (hF0.setK (i := i.toNat) (v := (k : Int)) (by omega) (by omega)) d (by rw [up_n _ _ (by omega)]; omega)).pl i9 (by omega); exact ⟨by omega, by omega⟩
      have hr16 := kdS_in (S 20) (S 2) (S 0 3).toNat i.toNat 4 (by omega)
      have ea : askA (S 20) (S 2) (S 3) (S 0 3).toNat i what = jdA (akO (kbS (S 20) (S 3) (i).toNat 4) (kdS (S 20) (S 2) ((S 0) 3).toNat (i).toNat 4) (S 20 76).toNat 21) what := by unfold askA; rw [if_neg (by omega)]
      generalize e9 : (kdS (S 20) (S 2) ((S 0) 3).toNat (i).toNat 4) = r at hr16 ea ⊢
      generalize (kbS (S 20) (S 3) (i).toNat 4) = B1 at hkb ea hW
      refine lv_istore_n (lv' := [(3, .int (iI r)), (0, .ref (A 0)), (1, .int (iI i)), (2, .int (iI what))]) hx hb dX0_ask_22 rfl hl (by decide) rfl (fun ls hl => ?_)
      refine lv_aload_n hx hb dX0_ask_23 rfl (lv_at hl 1 rfl) ?_
      refine lv_iload_n hx hb dX0_ask_24 rfl (lv_at hl 0 rfl) ?_
      refine cqI (va_runS (As := [.int (iI r)]) (rest := [.ref (A 0)]) ⟨hx, hb, hml, hown, hts⟩ (mJ8_bitCount Z r (by omega)) (va_cwS 1 hts (lw_S q708 q709 q95 q710) rfl rfl rfl (by decide +kernel) ⟨Nat.le_of_ble_eq_true rfl, Nat.le_of_ble_eq_true rfl⟩) (psR (BornH.S hB hN hS) trivial) rfl rfl hl.1 rfl (lv_room (Nat.le_of_ble_eq_true rfl)) dX0_ask_25 ⟨Nat.zero_le _, Nat.zero_le _⟩) ?_
      have b_719 : 0 ≤ bcS r ∧ bcS r ≤ 4 := by unfold bcS; omega
      refine r_put (ci := 0) (k := 6) (C := RX0) (T := TX0) (N := 16) Z hB hx hb hts hown rfl in_X0 tyX0 tyX0_ok nmX0 hW.obj hS (Or.inl ⟨0, by omega, rfl⟩) (by decide) q799 rfl rfl rfl rfl (Nat.le_of_ble_eq_true rfl) dX0_ask_28 (CW G A (up (up (up (up S 3 B1) 21 Fa_3) 22 Fb_4) 0 (up (S 0) 2 (bcS r))) R) (fun H1 hz oq ho => hW.setO hI (k := 2) (by omega) oq ho) (fun H locs hW hS => ?_)
      have hW := hW.eqS (S' := (up (up (up (up S 0 (up (S 0) 2 (bcS r))) 3 B1) 21 Fa_3) 22 Fb_4)) (by
          funext a
          by_cases h0 : a = 0
          · subst h0
            funext j
            by_cases k0 : j = 2
            · subst k0; rfl
            simp only [up, if_neg k0, if_true, if_false, Nat.reduceEqDiff, reduceIte]
          by_cases h3 : a = 3
          · subst h3; rfl
          by_cases h21 : a = 21
          · subst h21; rfl
          by_cases h22 : a = 22
          · subst h22; rfl
          simp only [up, if_neg h0, if_neg h3, if_neg h21, if_neg h22])
      refine ii_bipush hx hb dX0_ask_31 (by decide) ?_
      refine lv_istore (lv' := [(4, .int (iI (-4))), (3, .int (iI r)), (0, .ref (A 0)), (1, .int (iI i)), (2, .int (iI what))]) hx hb dX0_ask_33 hl (by decide) rfl (fun ls hl => ?_)
      refine ii_const hx hb dX0_ask_35 ?_
      refine lv_istore (lv' := [(5, .int (iI 0)), (4, .int (iI (-4))), (3, .int (iI r)), (0, .ref (A 0)), (1, .int (iI i)), (2, .int (iI what))]) hx hb dX0_ask_36 hl (by decide) rfl (fun ls hl => ?_)
      have loop_38 : ∀ (fu : Nat) (d : Nat) (zd : Int) (best : Int) (least : Int), (zd = (d : Int)) → (d ≤ 21) → (akO B1 r (S 20 76).toNat d = (best, least)) → ((-4 ≤ best ∧ best ≤ 1000) ∧ 0 ≤ least ∧ least ≤ 4) → (22 - d) < fu → ∀ (H : Heap) (locs : List Loc), (CW G A (up (up (up (up S 0 (up (S 0) 2 least)) 3 B1) 21 Fa_3) 22 Fb_4) R) H → va_S (AA A 156 s.heap.size) s.heap H locs → ∀ (ls : Array Slot), lv_has ls 7 [(5, .int (iI zd)), (4, .int (iI best)), (3, .int (iI r)), (0, .ref (A 0)), (1, .int (iI i)), (2, .int (iI what))] → W p l e (headSpec (ws_ yX0_ask cX0_ask 7 (some .int)) ({ frames := 8, cells := 0, slots := 0, locals := 176 } : Room)).room s m ([.ref (A 0), .int (iI i), .int (iI what)] : List Value).toArray below meth c H locs 0 0 (MQ below (mI (askA (S 20) (S 2) (S 3) (S 0 3).toNat i what) (CWx G A S R) (AA A 156 s.heap.size)) ([.ref (A 0), .int (iI i), .int (iI what)] : List Value).toArray s 0 0 (AA A 156 s.heap.size)) (F0 m 38 ls []) := by
        intro fu
        induction fu with
        | zero => intro d zd best least ezd hd21 hp hbl hmu; exact absurd hmu (Nat.not_lt_zero _)
        | succ fu ih38 =>
          intro d zd best least ezd hd21 hp hbl hmu H locs hW hS ls hl
          refine lv_iload hx hb dX0_ask_38 (lv_at hl 0 rfl) ?_
          refine ii_bipush hx hb dX0_ask_40 (by decide) ?_
          refine ii_icmp_gt (tgt := 106) hx hb dX0_ask_42 (by decide) (by omega) (by omega) (fun c_5 => ?_) (fun c_5 => ?_)
          · -- 42 -> 106
            refine lv_iload hx hb dX0_ask_106 (lv_at hl 1 rfl) ?_
            refine ii_bipush hx hb dX0_ask_108 (by decide) ?_
            refine ii_icmp_eq (tgt := 117) hx hb dX0_ask_110 (by decide) (by omega) (by omega) (fun c_6 => ?_) (fun c_6 => ?_)
            · -- 110 -> 117
              refine lv_iload hx hb dX0_ask_117 (lv_at hl 1 rfl) ?_
              refine lv_goto (tgt := 126) hx hb dX0_ask_119 (by decide) ?_
              have hpw9 : (CWx G A S R) H := (hW.x (fun a h0 h3 h1 h2 h4 => by first | rfl | simp only [up, if_neg h0, if_neg h3, if_neg h1, if_neg h2, if_neg h4]) (fun j h2 h5 h6 => by first | rfl | simp [up, h2]))
              have he9 : best = (askA (S 20) (S 2) (S 3) (S 0 3).toNat i what) := by rw [ea]; unfold jdA; rw [show (21 : Nat) = d by omega, hp]; dsimp only; split <;> omega
              exact W.iret hx hb hr (fun t ht hW9 => ⟨⟨_, (), rfl, congrArg iI he9, by show (CWx G A S R) t.heap; rw [ht]; exact hpw9⟩, hS.F ht⟩) hS.2.2 dX0_ask_126
            · -- 110 -> 113
              refine lv_iload_n hx hb dX0_ask_113 rfl (lv_at hl 5 rfl) ?_
              refine ii_if_ne (tgt := 122) hx hb dX0_ask_114 (by decide) (by omega) (fun c_7 => ?_) (fun c_7 => ?_)
              · -- 114 -> 122
                refine lv_aload_n hx hb dX0_ask_122 rfl (lv_at hl 3 rfl) ?_
                refine r_get (ci := 0) (k := 6) (v := .int (iI least)) (C := RX0) (T := TX0) (N := 16) Z hB hx hb hts hown rfl in_X0 hW.obj (by decide) q799 rfl dX0_ask_123 ?_
                have hpw9 : (CWx G A S R) H := (hW.x (fun a h0 h3 h1 h2 h4 => by first | rfl | simp only [up, if_neg h0, if_neg h3, if_neg h1, if_neg h2, if_neg h4]) (fun j h2 h5 h6 => by first | rfl | simp [up, h2]))
                have he9 : least = (askA (S 20) (S 2) (S 3) (S 0 3).toNat i what) := by rw [ea]; unfold jdA; rw [show (21 : Nat) = d by omega, hp]; dsimp only; split <;> omega
                exact W.iret hx hb hr (fun t ht hW9 => ⟨⟨_, (), rfl, congrArg iI he9, by show (CWx G A S R) t.heap; rw [ht]; exact hpw9⟩, hS.F ht⟩) hS.2.2 dX0_ask_126
              · -- 114 -> 117
                refine lv_iload hx hb dX0_ask_117 (lv_at hl 1 rfl) ?_
                refine lv_goto (tgt := 126) hx hb dX0_ask_119 (by decide) ?_
                have hpw9 : (CWx G A S R) H := (hW.x (fun a h0 h3 h1 h2 h4 => by first | rfl | simp only [up, if_neg h0, if_neg h3, if_neg h1, if_neg h2, if_neg h4]) (fun j h2 h5 h6 => by first | rfl | simp [up, h2]))
                have he9 : best = (askA (S 20) (S 2) (S 3) (S 0 3).toNat i what) := by rw [ea]; unfold jdA; rw [show (21 : Nat) = d by omega, hp]; dsimp only; split <;> omega
                exact W.iret hx hb hr (fun t ht hW9 => ⟨⟨_, (), rfl, congrArg iI he9, by show (CWx G A S R) t.heap; rw [ht]; exact hpw9⟩, hS.F ht⟩) hS.2.2 dX0_ask_126
          · -- 42 -> 45
            refine ii_const hx hb dX0_ask_45 ?_
            refine lv_istore (lv' := [(6, .int (iI 0)), (5, .int (iI zd)), (4, .int (iI best)), (3, .int (iI r)), (0, .ref (A 0)), (1, .int (iI i)), (2, .int (iI what))]) hx hb dX0_ask_46 hl (by decide) rfl (fun ls hl => ?_)
            have loop_48 : ∀ (fu : Nat) (i9 : Nat) (zi : Int) (best : Int) (least : Int), (zi = (i9 : Int)) → (i9 ≤ (S 20 76).toNat) → (akI B1 r d i9 (akO B1 r (S 20 76).toNat d) = (best, least)) → ((-4 ≤ best ∧ best ≤ 1000) ∧ 0 ≤ least ∧ least ≤ 4) → (6 - i9) < fu → ∀ (H : Heap) (locs : List Loc), (CW G A (up (up (up (up S 0 (up (S 0) 2 least)) 3 B1) 21 Fa_3) 22 Fb_4) R) H → va_S (AA A 156 s.heap.size) s.heap H locs → ∀ (ls : Array Slot), lv_has ls 7 [(6, .int (iI zi)), (5, .int (iI zd)), (4, .int (iI best)), (3, .int (iI r)), (0, .ref (A 0)), (1, .int (iI i)), (2, .int (iI what))] → W p l e (headSpec (ws_ yX0_ask cX0_ask 7 (some .int)) ({ frames := 8, cells := 0, slots := 0, locals := 176 } : Room)).room s m ([.ref (A 0), .int (iI i), .int (iI what)] : List Value).toArray below meth c H locs 0 0 (MQ below (mI (askA (S 20) (S 2) (S 3) (S 0 3).toNat i what) (CWx G A S R) (AA A 156 s.heap.size)) ([.ref (A 0), .int (iI i), .int (iI what)] : List Value).toArray s 0 0 (AA A 156 s.heap.size)) (F0 m 48 ls []) := by
              intro fu
              induction fu with
              | zero => intro i9 zi best least ezi hi9 hp2 hbl2 hmu; exact absurd hmu (Nat.not_lt_zero _)
              | succ fu ih48 =>
                intro i9 zi best least ezi hi9 hp2 hbl2 hmu H locs hW hS ls hl
                refine lv_iload hx hb dX0_ask_48 (lv_at hl 0 rfl) ?_
                refine lv_aload_n hx hb dX0_ask_50 rfl (lv_at hl 4 rfl) ?_
                refine r_get (ci := 0) (k := 3) (v := .ref (A 36)) (C := RX0) (T := TX0) (N := 16) Z hB hx hb hts hown rfl in_X0 hW.obj (by decide) q796 rfl dX0_ask_51 ?_
                have b_720 := hF0.n 
                refine r_getN (ci := 1) (k := 3) (v := .int (iI ((S 20) 76))) (C := RX1) (T := TX1) (N := 8) Z hB hx hb hts hown rfl in_X1 (((hW.fw (f := 0) (by omega) (F := (S 20)) rfl)).1) (by decide) q147 rfl dX0_ask_54 ?_
                refine ii_icmp_ge (tgt := 100) hx hb dX0_ask_57 (by decide) (by omega) (by omega) (fun c_8 => ?_) (fun c_8 => ?_)
                · -- 57 -> 100
                  refine ii_iinc (k := 1) (lv' := [(5, .int (iI (zd + 1))), (6, .int (iI zi)), (4, .int (iI best)), (3, .int (iI r)), (0, .ref (A 0)), (1, .int (iI i)), (2, .int (iI what))]) hx hb dX0_ask_100 hl rfl (by decide) rfl (fun ls hl => ?_)
                  refine lv_goto (tgt := 38) hx hb dX0_ask_103 (by decide) ?_
                  exact ih38 (d + 1) (zd + 1) best least (by omega) (by omega) (by simp only [akO]; rw [show akI B1 r d (S 20 76).toNat = akI B1 r d i9 by rw [show (S 20 76).toNat = i9 by omega]]; exact hp2) (by omega) (by omega) _ _ hW hS ls (lv_sub hl [0, 2, 3, 4, 5, 6] rfl)
                · -- 57 -> 60
                  refine lv_aload_n hx hb dX0_ask_60 rfl (lv_at hl 4 rfl) ?_
                  refine lv_aload_n hx hb dX0_ask_61 rfl (lv_at hl 4 rfl) ?_
                  refine lv_iload_n hx hb dX0_ask_62 rfl (lv_at hl 3 rfl) ?_
                  refine ii_const hx hb dX0_ask_63 ?_
                  refine lv_iload hx hb dX0_ask_64 (lv_at hl 1 rfl) ?_
                  refine ii_mul hx hb dX0_ask_66 ?_
                  refine lv_iload hx hb dX0_ask_67 (lv_at hl 0 rfl) ?_
                  refine ii_add hx hb dX0_ask_69 ?_
                  have hcc : ∀ k : Nat, k < 4 → inR (B1 (105 * k + ((5 * d) + i9))) := fun k hk => hkb d i9 k (by omega) (by omega) hk
                  refine cqI (va_runV (As := [.int (iI r), .int (iI ((5 * zd) + zi))]) (rest := [.ref (A 0)]) ⟨hx, hb, hml, hown, hts⟩ (mX0_worstAt Z A (up (up (up (up S 0 (up (S 0) 2 least)) 3 B1) 21 Fa_3) 22 Fb_4) R hF0 B1 rfl r (by omega) ((5 * d) + i9) ((5 * zd) + zi) (by omega) (by omega) hcc) (cwV 2 hts (lw_V q714 q716 qs30 q79 q717) rfl rfl rfl (by decide +kernel) ⟨Nat.le_of_ble_eq_true rfl, Nat.le_of_ble_eq_true rfl⟩) (pvR (BornH.S hB hN hS) (OBJ.recv Z hB hW.obj (q := (RX0, TX0, 16)) rfl) hW) rfl rfl hl.1 rfl (lv_room (Nat.le_of_ble_eq_true rfl)) dX0_ask_70 ⟨Nat.zero_le _, Nat.zero_le _⟩) ?_
                  have b_724 := woO_in B1 r ((5 * d) + i9) 4
                  have hwv := woO_in B1 r ((5 * d) + i9) 4
                  generalize evv : (woO B1 r ((5 * d) + i9) 4) = v_9 at hwv ⊢
                  have hle_10 : inR least := by omega
                  refine cmI (va_runV (As := [.int (iI v_9)]) (rest := []) ⟨hx, hb, hml, hown, hts⟩ (mX0_isLess Z A hI (up (up (up (up S 0 (up (S 0) 2 least)) 3 B1) 21 Fa_3) 22 Fb_4) R v_9 (by omega) hle_10 H.size) (cwV 1 hts (lw_V q624 q626 qs24 q79 q627) rfl rfl rfl (by decide +kernel) ⟨Nat.le_of_ble_eq_true rfl, Nat.le_of_ble_eq_true rfl⟩) (pvM (BornH.S hB hN hS) (OBJ.recv Z hB hW.obj (q := (RX0, TX0, 16)) rfl) hW) rfl rfl hl.1 rfl (lv_room (Nat.le_of_ble_eq_true rfl)) dX0_ask_73 ⟨Nat.zero_le _, Nat.zero_le _⟩) hS (AA.le hS.1) (fun H1 locs hW1 hz1 hk1 hS => ?_)
                  have hW := hW1
                  clear hW1 hk1 hz1
                  generalize H1 = H at hW hS ⊢
                  have hW := hW.eqS (S' := (up (up (up (up S 0 (up (up (S 0) 2 least) 2 (min least v_9))) 3 B1) 21 Fa_3) 22 Fb_4)) (by
                      funext a
                      by_cases h0 : a = 0
                      · subst h0
                        funext j
                        by_cases k0 : j = 2
                        · subst k0; rfl
                        by_cases k1 : j = 2
                        · subst k1; rfl
                        simp only [up, if_neg k0, if_neg k1, if_true, if_false, Nat.reduceEqDiff, reduceIte]
                      by_cases h3 : a = 3
                      · subst h3; rfl
                      by_cases h21 : a = 21
                      · subst h21; rfl
                      by_cases h22 : a = 22
                      · subst h22; rfl
                      simp only [up, if_neg h0, if_neg h3, if_neg h21, if_neg h22])
                  refine bb_if_eq (P := v_9 < least) (tgt := 90) hx hb dX0_ask_76 (by decide) (fun c_11 => ?_) (fun c_11 => ?_)
                  · -- 76 -> 90
                    refine lv_iload hx hb dX0_ask_90 (lv_at hl 2 rfl) ?_
                    refine lv_istore (lv' := [(4, .int (iI best)), (6, .int (iI zi)), (5, .int (iI zd)), (3, .int (iI r)), (0, .ref (A 0)), (1, .int (iI i)), (2, .int (iI what))]) hx hb dX0_ask_92 hl (by decide) rfl (fun ls hl => ?_)
                    refine ii_iinc (k := 1) (lv' := [(6, .int (iI (zi + 1))), (4, .int (iI best)), (5, .int (iI zd)), (3, .int (iI r)), (0, .ref (A 0)), (1, .int (iI i)), (2, .int (iI what))]) hx hb dX0_ask_94 hl rfl (by decide) rfl (fun ls hl => ?_)
                    refine lv_goto (tgt := 48) hx hb dX0_ask_97 (by decide) ?_
                    have hW := hW.eqS (S' := (up (up (up (up S 0 (up (S 0) 2 (min least v_9))) 3 B1) 21 Fa_3) 22 Fb_4)) (by
                        funext a
                        by_cases h0 : a = 0
                        · subst h0
                          funext j
                          by_cases k0 : j = 2
                          · subst k0; rfl
                          by_cases k1 : j = 2
                          · subst k1; rfl
                          simp only [up, if_neg k0, if_neg k1, if_true, if_false, Nat.reduceEqDiff, reduceIte]
                        by_cases h3 : a = 3
                        · subst h3; rfl
                        by_cases h21 : a = 21
                        · subst h21; rfl
                        by_cases h22 : a = 22
                        · subst h22; rfl
                        simp only [up, if_neg h0, if_neg h3, if_neg h21, if_neg h22])
                    exact ih48 (i9 + 1) (zi + 1) best (min least v_9) (by omega) (by omega) (by first | exact jd_y hp2 (by omega) evv (by assumption) | exact jd_n hp2 evv (by assumption)) (by omega) (by omega) _ _ hW hS ls (lv_sub hl [0, 2, 1, 3, 4, 5, 6] rfl)
                  · -- 76 -> 79
                    refine ii_bipush hx hb dX0_ask_79 (by decide) ?_
                    refine lv_iload hx hb dX0_ask_81 (lv_at hl 1 rfl) ?_
                    refine ii_mul hx hb dX0_ask_83 ?_
                    refine lv_iload hx hb dX0_ask_84 (lv_at hl 0 rfl) ?_
                    refine ii_add hx hb dX0_ask_86 ?_
                    refine lv_goto (tgt := 92) hx hb dX0_ask_87 (by decide) ?_
                    refine lv_istore (lv' := [(4, .int (iI ((10 * zd) + zi))), (6, .int (iI zi)), (5, .int (iI zd)), (3, .int (iI r)), (0, .ref (A 0)), (1, .int (iI i)), (2, .int (iI what))]) hx hb dX0_ask_92 hl (by decide) rfl (fun ls hl => ?_)
                    refine ii_iinc (k := 1) (lv' := [(6, .int (iI (zi + 1))), (4, .int (iI ((10 * zd) + zi))), (5, .int (iI zd)), (3, .int (iI r)), (0, .ref (A 0)), (1, .int (iI i)), (2, .int (iI what))]) hx hb dX0_ask_94 hl rfl (by decide) rfl (fun ls hl => ?_)
                    refine lv_goto (tgt := 48) hx hb dX0_ask_97 (by decide) ?_
                    have hW := hW.eqS (S' := (up (up (up (up S 0 (up (S 0) 2 (min least v_9))) 3 B1) 21 Fa_3) 22 Fb_4)) (by
                        funext a
                        by_cases h0 : a = 0
                        · subst h0
                          funext j
                          by_cases k0 : j = 2
                          · subst k0; rfl
                          by_cases k1 : j = 2
                          · subst k1; rfl
                          simp only [up, if_neg k0, if_neg k1, if_true, if_false, Nat.reduceEqDiff, reduceIte]
                        by_cases h3 : a = 3
                        · subst h3; rfl
                        by_cases h21 : a = 21
                        · subst h21; rfl
                        by_cases h22 : a = 22
                        · subst h22; rfl
                        simp only [up, if_neg h0, if_neg h3, if_neg h21, if_neg h22])
                    exact ih48 (i9 + 1) (zi + 1) ((10 * zd) + zi) (min least v_9) (by omega) (by omega) (by first | exact jd_y hp2 (by omega) evv (by assumption) | exact jd_n hp2 evv (by assumption)) (by omega) (by omega) _ _ hW hS ls (lv_sub hl [0, 2, 1, 3, 4, 5, 6] rfl)
            exact loop_48 _ 0 0 best least (by omega) (by omega) (hp) (by omega) (Nat.lt_succ_self _) _ _ hW hS ls (lv_sub hl [0, 1, 2, 3, 4, 5, 6] rfl)
      exact loop_38 _ 0 0 (-4) (bcS r) (by omega) (by omega) (rfl) (by omega) (Nat.lt_succ_self _) _ _ hW hS ls (lv_sub hl [0, 1, 2, 3, 4, 5] rfl)
    · -- 12 -> 15
      refine ii_const hx hb dX0_ask_15 ?_
      have hpw9 : (CWx G A S R) s.heap := ⟨S, ⟨fun _ _ _ _ _ _ => rfl, fun _ _ _ _ => rfl⟩, hW⟩
      have he9 : (-1) = (askA (S 20) (S 2) (S 3) (S 0 3).toNat i what) := by unfold askA; exact (if_pos (by omega)).symm
      exact W.iret hx hb hr (fun t ht hW9 => ⟨⟨_, (), rfl, congrArg iI he9, by show (CWx G A S R) t.heap; rw [ht]; exact hpw9⟩, hS.F ht⟩) hS.2.2 dX0_ask_16

set_option maxHeartbeats 1000000 in
set_option maxRecDepth 100000 in
theorem mX0_drift {l : Launch} {G : GG} {s0 : State} {b0 : Nat} (Z : ZZ l G s0 b0) (A : Nat → Nat) (hI : Own s0 A 156) (S : Sta) (R : Nat → Option Nat) (hF0 : WF (S 20)) (hd : S 20 54 ≤ 2000) (h56 : 0 ≤ S 20 56 ∧ S 20 56 ≤ 1000000) (seed : Int) (hseed : inR seed) (n : Int) (hn : inR n) (what : Int) (hwhat : inR what) (sz : Nat) : Met l yX0_drift (ws_ yX0_drift cX0_drift 9 (some .int)) ({ frames := 6, cells := 0, slots := 0, locals := 129 } : Room) (pcM s0 sz (CW G A S R) [.ref (A 0), .int (iI seed), .int (iI n), .int (iI what)]) (mI (driftA (S 20) (iI seed) n what) (CWx G A S R) (AA A 156 sz)) 0 0 (AA A 156 sz) := by
  refine Met.ofW (cc := cX0_drift) (maxL := 9) (ret := (some .int)) (by decide) rfl ?_
  intro p e s m args below meth c s₁ B hml hv
  obtain ⟨rfl, hsz, hW, hB⟩ := hv
  subst hsz
  have hx := B.exec
  have hb := B.bytes
  have hr := B.returns
  have hts := atoms_spec (ws := (ws_ yX0_drift cX0_drift 9 (some .int))) B.pre
  have hts : ∀ w ∈ lw_all, w.before _ s = true := fun w h => hts w (List.mem_cons_of_mem _ h)
  have hown : s.vm.findClass RX0 = some m.cls := findClass_of_methodNamed B.named
  have hlocks := B.notSynchronized
  have hN := AA.old hI hB
  have hS : va_S (AA A 156 s.heap.size) s.heap s.heap [] := va_S.rf
  have hl := lv_entry ([.ref (A 0), .int (iI seed), .int (iI n), .int (iI what)]) (n := 9) (Nat.le_of_ble_eq_true rfl)
  rw [lg_entry_eq]
  generalize (lg_sl ([.ref (A 0), .int (iI seed), .int (iI n), .int (iI what)]) ++ List.replicate (9 - (lg_sl ([.ref (A 0), .int (iI seed), .int (iI n), .int (iI what)])).length) Slot.unset).toArray = ls at hl ⊢
  have hl : lv_has ls 9 [(0, .ref (A 0)), (1, .int (iI seed)), (2, .int (iI n)), (3, .int (iI what))] := hl
  have hn5 := hF0.n
  refine lv_iload_n hx hb dX0_drift_0 rfl (lv_at hl 2 rfl) ?_
  refine ii_i2l hx hb (by omega) dX0_drift_1 ?_
  refine ii_lconst (z := 1) hx hb dX0_drift_2 rfl ?_
  refine ii_ldc2 (z := 60) hx hb hts hown q594 dX0_drift_3 (by decide) ?_
  refine cqI (va_runS (As := [.long (lI n), .long (lI 1), .long (lI 60)]) (rest := []) ⟨hx, hb, hml, hown, hts⟩ (mX0_isIn Z n (by omega) 1 (by omega) 60 (by omega)) (va_cwS 3 hts (lw_S q106 q107 q79 q108) rfl rfl rfl (by decide +kernel) ⟨Nat.le_of_ble_eq_true rfl, Nat.le_of_ble_eq_true rfl⟩) (psR (BornH.S hB hN hS) trivial) rfl rfl hl.1 rfl (lv_room (Nat.le_of_ble_eq_true rfl)) dX0_drift_6 ⟨Nat.zero_le _, Nat.zero_le _⟩) ?_
  refine bb_if_eq (P := 1 ≤ n ∧ n ≤ 60) (tgt := 19) hx hb dX0_drift_9 (by decide) (fun c_1 => ?_) (fun c_1 => ?_)
  · -- 9 -> 19
    refine ii_const hx hb dX0_drift_19 ?_
    have hpw9 : (CWx G A S R) s.heap := ⟨S, ⟨fun _ _ _ _ _ _ => rfl, fun _ _ _ _ => rfl⟩, hW⟩
    have he9 : (-1) = (driftA (S 20) (iI seed) n what) := by unfold driftA; exact (if_pos (by omega)).symm
    exact W.iret hx hb hr (fun t ht hW9 => ⟨⟨_, (), rfl, congrArg iI he9, by show (CWx G A S R) t.heap; rw [ht]; exact hpw9⟩, hS.F ht⟩) hS.2.2 dX0_drift_20
  · -- 9 -> 12
    refine lv_iload_n hx hb dX0_drift_12 rfl (lv_at hl 3 rfl) ?_
    refine cqI (va_runS (As := [.int (iI what)]) (rest := []) ⟨hx, hb, hml, hown, hts⟩ (mX0_isPart Z what (by omega)) (va_cwS 1 hts (lw_S q617 q618 q79 q619) rfl rfl rfl (by decide +kernel) ⟨Nat.le_of_ble_eq_true rfl, Nat.le_of_ble_eq_true rfl⟩) (psR (BornH.S hB hN hS) trivial) rfl rfl hl.1 rfl (lv_room (Nat.le_of_ble_eq_true rfl)) dX0_drift_13 ⟨Nat.zero_le _, Nat.zero_le _⟩) ?_
    refine bb_if_ne (P := 0 ≤ what ∧ what ≤ 1) (tgt := 21) hx hb dX0_drift_16 (by decide) (fun c_2 => ?_) (fun c_2 => ?_)
    · -- 16 -> 21
      refine lv_aload_n hx hb dX0_drift_21 rfl (lv_at hl 0 rfl) ?_
      refine r_get (ci := 0) (k := 3) (v := .ref (A 36)) (C := RX0) (T := TX0) (N := 16) Z hB hx hb hts hown rfl in_X0 hW.obj (by decide) q796 rfl dX0_drift_22 ?_
      have b_725 := hF0.n 
      refine r_getN (ci := 1) (k := 3) (v := .int (iI ((S 20) 76))) (C := RX1) (T := TX1) (N := 8) Z hB hx hb hts hown rfl in_X1 (((hW.fw (f := 0) (by omega) (F := (S 20)) rfl)).1) (by decide) q147 rfl dX0_drift_25 ?_
      refine ii_if_ne (tgt := 34) hx hb dX0_drift_28 (by decide) (by omega) (fun c_3 => ?_) (fun c_3 => ?_)
      · -- 28 -> 34
        refine lv_iload_n hx hb dX0_drift_34 rfl (lv_at hl 1 rfl) ?_
        refine lv_istore (lv' := [(4, .int (iI seed)), (0, .ref (A 0)), (1, .int (iI seed)), (2, .int (iI n)), (3, .int (iI what))]) hx hb dX0_drift_35 hl (by decide) rfl (fun ls hl => ?_)
        refine lv_aload_n hx hb dX0_drift_37 rfl (lv_at hl 1 rfl) ?_
        refine r_get (ci := 0) (k := 4) (v := .ref (A 56)) (C := RX0) (T := TX0) (N := 16) Z hB hx hb hts hown rfl in_X0 hW.obj (by decide) q797 rfl dX0_drift_38 ?_
        refine lv_aload_n hx hb dX0_drift_41 rfl (lv_at hl 1 rfl) ?_
        refine r_get (ci := 0) (k := 3) (v := .ref (A 36)) (C := RX0) (T := TX0) (N := 16) Z hB hx hb hts hown rfl in_X0 hW.obj (by decide) q796 rfl dX0_drift_42 ?_
        refine cmV (va_runV (As := [.ref (A 36)]) (rest := []) ⟨hx, hb, hml, hown, hts⟩ (mX1_takes Z (fa A 1) (hI.fa (by omega)) (S 21) (fa A 0) (S 20) (fa_apart hI (f := 1) (g := 0) (by omega) (by omega) (by omega)) s.heap.size) (cwV 1 hts (lw_V q424 q425 q426 q80 q427) rfl rfl rfl (by decide +kernel) ⟨Nat.le_of_ble_eq_true rfl, Nat.le_of_ble_eq_true rfl⟩) (pvM (BornH.S hB hN hS) (OBJ.recv Z hB ((hW.fw (f := 1) (by omega) (F := (S 21)) rfl)).1 (q := (RX1, TX1, 8)) rfl) (⟨(hW.fw (f := 1) (by omega) (F := (S 21)) rfl), (hW.fw (f := 0) (by omega) (F := (S 20)) rfl)⟩)) rfl rfl hl.1 rfl (lv_room (Nat.le_of_ble_eq_true rfl)) dX0_drift_45 ⟨Nat.zero_le _, Nat.zero_le _⟩) hS (AA.fa (by omega) hS.1) (fun H1 locs hW1 hz1 hk1 hS => ?_)
        have hW := hW.joinF hI (f := 1) (by omega) hk1 hW1
        clear hW1 hk1 hz1
        generalize H1 = H at hW hS ⊢
        refine ii_const hx hb dX0_drift_48 ?_
        refine lv_istore (lv' := [(5, .int (iI 0)), (4, .int (iI seed)), (0, .ref (A 0)), (1, .int (iI seed)), (2, .int (iI n)), (3, .int (iI what))]) hx hb dX0_drift_49 hl (by decide) rfl (fun ls hl => ?_)
        have loop_51 : ∀ (fu : Nat) (t : Nat) (zt : Int), (zt = (t : Int)) → (t ≤ n.toNat) → (61 - t) < fu → ∀ (H : Heap) (locs : List Loc), (CW G A (up S 21 (dfS (S 20) (iI seed) t)) R) H → va_S (AA A 156 s.heap.size) s.heap H locs → ∀ (ls : Array Slot), lv_has ls 9 [(5, .int (iI zt)), (4, .int (sdN (iI seed) t)), (0, .ref (A 0)), (1, .int (iI seed)), (2, .int (iI n)), (3, .int (iI what))] → W p l e (headSpec (ws_ yX0_drift cX0_drift 9 (some .int)) ({ frames := 6, cells := 0, slots := 0, locals := 129 } : Room)).room s m ([.ref (A 0), .int (iI seed), .int (iI n), .int (iI what)] : List Value).toArray below meth c H locs 0 0 (MQ below (mI (driftA (S 20) (iI seed) n what) (CWx G A S R) (AA A 156 s.heap.size)) ([.ref (A 0), .int (iI seed), .int (iI n), .int (iI what)] : List Value).toArray s 0 0 (AA A 156 s.heap.size)) (F0 m 51 ls []) := by
          intro fu
          induction fu with
          | zero => intro t zt ezt ht hmu; exact absurd hmu (Nat.not_lt_zero _)
          | succ fu ih51 =>
            intro t zt ezt ht hmu H locs hW hS ls hl
            have hdf := dfS_wf hF0 (by omega) (iI seed) t (by omega)
            have hdy := hdf.1.day
            refine lv_iload hx hb dX0_drift_51 (lv_at hl 0 rfl) ?_
            refine lv_iload_n hx hb dX0_drift_53 rfl (lv_at hl 4 rfl) ?_
            refine ii_icmp_ge (tgt := 150) hx hb dX0_drift_54 (by decide) (by omega) (by omega) (fun c_4 => ?_) (fun c_4 => ?_)
            · -- 54 -> 150
              have ex_t : n.toNat = t := by omega
              subst ex_t
              refine lv_iload_n hx hb dX0_drift_150 rfl (lv_at hl 5 rfl) ?_
              refine ii_if_ne (tgt := 164) hx hb dX0_drift_151 (by decide) (by omega) (fun c_5 => ?_) (fun c_5 => ?_)
              · -- 151 -> 164
                refine lv_aload_n hx hb dX0_drift_164 rfl (lv_at hl 2 rfl) ?_
                refine r_get (ci := 0) (k := 4) (v := .ref (A 56)) (C := RX0) (T := TX0) (N := 16) Z hB hx hb hts hown rfl in_X0 hW.obj (by decide) q797 rfl dX0_drift_165 ?_
                refine r_getN (ci := 1) (k := 7) (v := .int (iI ((dfS (S 20) (iI seed) n.toNat) 56))) (C := RX1) (T := TX1) (N := 8) Z hB hx hb hts hown rfl in_X1 (((hW.fw (f := 1) (by omega) (F := (dfS (S 20) (iI seed) n.toNat)) (up_s _ _ _))).1) (by decide) q157 rfl dX0_drift_168 ?_
                refine lv_aload_n hx hb dX0_drift_171 rfl (lv_at hl 2 rfl) ?_
                refine r_get (ci := 0) (k := 3) (v := .ref (A 36)) (C := RX0) (T := TX0) (N := 16) Z hB hx hb hts hown rfl in_X0 hW.obj (by decide) q796 rfl dX0_drift_172 ?_
                refine r_getN (ci := 1) (k := 7) (v := .int (iI ((S 20) 56))) (C := RX1) (T := TX1) (N := 8) Z hB hx hb hts hown rfl in_X1 (((hW.fw (f := 0) (by omega) (F := (S 20)) rfl)).1) (by decide) q157 rfl dX0_drift_175 ?_
                refine ii_sub hx hb dX0_drift_178 ?_
                have hpw9 : (CWx G A S R) H := (hW.x (fun a h0 h3 h1 h2 h4 => by first | rfl | simp only [up, if_neg h0, if_neg h3, if_neg h1, if_neg h2, if_neg h4]) (fun j h2 h5 h6 => by first | rfl | simp [up, h2]))
                have he9 : (((dfS (S 20) (iI seed) n.toNat) 56) - ((S 20) 56)) = (driftA (S 20) (iI seed) n what) := by unfold driftA; rw [if_neg (by omega), if_neg (by omega)]; first | (rw [if_pos (by omega)]; rfl) | rw [if_neg (by omega)]
                exact W.iret hx hb hr (fun t ht hW9 => ⟨⟨_, (), rfl, congrArg iI he9, by show (CWx G A S R) t.heap; rw [ht]; exact hpw9⟩, hS.F ht⟩) hS.2.2 dX0_drift_179
              · -- 151 -> 154
                refine lv_aload_n hx hb dX0_drift_154 rfl (lv_at hl 2 rfl) ?_
                refine r_get (ci := 0) (k := 4) (v := .ref (A 56)) (C := RX0) (T := TX0) (N := 16) Z hB hx hb hts hown rfl in_X0 hW.obj (by decide) q797 rfl dX0_drift_155 ?_
                refine cqI (va_runV (As := []) (rest := []) ⟨hx, hb, hml, hown, hts⟩ (mX1_spread Z (fa A 1) (dfS (S 20) (iI seed) n.toNat) hdf.1 ) (cwV 0 hts (lw_V q437 q438 q439 q80 q440) rfl rfl rfl (by decide +kernel) ⟨Nat.le_of_ble_eq_true rfl, Nat.le_of_ble_eq_true rfl⟩) (pvR (BornH.S hB hN hS) (OBJ.recv Z hB (((hW.fw (f := 1) (by omega) (F := (dfS (S 20) (iI seed) n.toNat)) (up_s _ _ _))).1) (q := (RX1, TX1, 8)) rfl) (hW.fw (f := 1) (by omega) (F := (dfS (S 20) (iI seed) n.toNat)) (up_s _ _ _))) rfl rfl hl.1 rfl (lv_room (Nat.le_of_ble_eq_true rfl)) dX0_drift_158 ⟨Nat.zero_le _, Nat.zero_le _⟩) ?_
                have b_741 := lowS_in hdf.1 ((dfS (S 20) (iI seed) n.toNat) 76).toNat (by have := hdf.1.n; omega)
                have b_742 := highS_in hdf.1 ((dfS (S 20) (iI seed) n.toNat) 76).toNat (by have := hdf.1.n; omega)
                refine lv_goto (tgt := 179) hx hb dX0_drift_161 (by decide) ?_
                have hpw9 : (CWx G A S R) H := (hW.x (fun a h0 h3 h1 h2 h4 => by first | rfl | simp only [up, if_neg h0, if_neg h3, if_neg h1, if_neg h2, if_neg h4]) (fun j h2 h5 h6 => by first | rfl | simp [up, h2]))
                have he9 : (max 0 (highS (dfS (S 20) (iI seed) n.toNat) ((dfS (S 20) (iI seed) n.toNat) 76).toNat - lowS (dfS (S 20) (iI seed) n.toNat) ((dfS (S 20) (iI seed) n.toNat) 76).toNat)) = (driftA (S 20) (iI seed) n what) := by unfold driftA; rw [if_neg (by omega), if_neg (by omega)]; first | (rw [if_pos (by omega)]; rfl) | rw [if_neg (by omega)]
                exact W.iret hx hb hr (fun t ht hW9 => ⟨⟨_, (), rfl, congrArg iI he9, by show (CWx G A S R) t.heap; rw [ht]; exact hpw9⟩, hS.F ht⟩) hS.2.2 dX0_drift_179
            · -- 54 -> 57
              refine lv_iload hx hb dX0_drift_57 (lv_at hl 1 rfl) ?_
              refine ii_ldc (z := 1103515245) hx hb hts hown q723 dX0_drift_59 (by decide) ?_
              refine lv_imul hx hb dX0_drift_61 ?_
              refine ii_sipush hx hb dX0_drift_62 (by decide) ?_
              refine lv_iadd hx hb dX0_drift_65 ?_
              rw [sdN_s]
              refine lv_istore (lv' := [(4, .int (sdN (iI seed) (t + 1))), (5, .int (iI zt)), (0, .ref (A 0)), (1, .int (iI seed)), (2, .int (iI n)), (3, .int (iI what))]) hx hb dX0_drift_66 hl (by decide) rfl (fun ls hl => ?_)
              refine lv_iload hx hb dX0_drift_68 (lv_at hl 0 rfl) ?_
              refine ii_bipush hx hb dX0_drift_70 (by decide) ?_
              refine lv_ishr hx hb dX0_drift_72 ?_
              refine ii_sipush hx hb dX0_drift_73 (by decide) ?_
              refine lv_iand hx hb dX0_drift_76 ?_
              have hrd := rdN_in (sdN (iI seed) (t + 1))
              rw [rdN_i]
              generalize ez9 : rdN (sdN (iI seed) (t + 1)) = z9 at hrd ⊢
              refine lv_istore (lv' := [(6, .int (iI z9)), (4, .int (sdN (iI seed) (t + 1))), (5, .int (iI zt)), (0, .ref (A 0)), (1, .int (iI seed)), (2, .int (iI n)), (3, .int (iI what))]) hx hb dX0_drift_77 hl (by decide) rfl (fun ls hl => ?_)
              refine lv_iload hx hb dX0_drift_79 (lv_at hl 0 rfl) ?_
              refine lv_aload_n hx hb dX0_drift_81 rfl (lv_at hl 3 rfl) ?_
              refine r_get (ci := 0) (k := 4) (v := .ref (A 56)) (C := RX0) (T := TX0) (N := 16) Z hB hx hb hts hown rfl in_X0 hW.obj (by decide) q797 rfl dX0_drift_82 ?_
              have b_743 := hdf.1.n 
              refine r_getN (ci := 1) (k := 3) (v := .int (iI ((dfS (S 20) (iI seed) t) 76))) (C := RX1) (T := TX1) (N := 8) Z hB hx hb hts hown rfl in_X1 (((hW.fw (f := 1) (by omega) (F := (dfS (S 20) (iI seed) t)) (up_s _ _ _))).1) (by decide) q147 rfl dX0_drift_85 ?_
              have hmm := md_in (z := z9) (m := ((dfS (S 20) (iI seed) t) 76)) (by omega)
              have hm_6 := md_in (z := z9) (m := ((dfS (S 20) (iI seed) t) 76)) (by omega)
              refine ii_rem hx hb (by omega) (by omega) dX0_drift_88 ?_
              refine lv_istore (lv' := [(7, .int (iI (z9 % ((dfS (S 20) (iI seed) t) 76)))), (6, .int (iI z9)), (4, .int (sdN (iI seed) (t + 1))), (5, .int (iI zt)), (0, .ref (A 0)), (1, .int (iI seed)), (2, .int (iI n)), (3, .int (iI what))]) hx hb dX0_drift_89 hl (by decide) rfl (fun ls hl => ?_)
              refine lv_iload hx hb dX0_drift_91 (lv_at hl 1 rfl) ?_
              refine ii_bipush hx hb dX0_drift_93 (by decide) ?_
              refine ii_div hx hb (by omega) (by omega) dX0_drift_95 ?_
              refine lv_aload_n hx hb dX0_drift_96 rfl (lv_at hl 4 rfl) ?_
              refine r_get (ci := 0) (k := 4) (v := .ref (A 56)) (C := RX0) (T := TX0) (N := 16) Z hB hx hb hts hown rfl in_X0 hW.obj (by decide) q797 rfl dX0_drift_97 ?_
              have b_747 := hdf.1.n 
              refine r_getN (ci := 1) (k := 3) (v := .int (iI ((dfS (S 20) (iI seed) t) 76))) (C := RX1) (T := TX1) (N := 8) Z hB hx hb hts hown rfl in_X1 (((hW.fw (f := 1) (by omega) (F := (dfS (S 20) (iI seed) t)) (up_s _ _ _))).1) (by decide) q147 rfl dX0_drift_100 ?_
              have hm_7 := md_in (z := (z9 / 8)) (m := ((dfS (S 20) (iI seed) t) 76)) (by omega)
              refine ii_rem hx hb (by omega) (by omega) dX0_drift_103 ?_
              refine lv_istore (lv' := [(8, .int (iI ((z9 / 8) % ((dfS (S 20) (iI seed) t) 76)))), (7, .int (iI (z9 % ((dfS (S 20) (iI seed) t) 76)))), (6, .int (iI z9)), (4, .int (sdN (iI seed) (t + 1))), (5, .int (iI zt)), (0, .ref (A 0)), (1, .int (iI seed)), (2, .int (iI n)), (3, .int (iI what))]) hx hb dX0_drift_104 hl (by decide) rfl (fun ls hl => ?_)
              refine lv_aload_n hx hb dX0_drift_106 rfl (lv_at hl 5 rfl) ?_
              refine r_get (ci := 0) (k := 4) (v := .ref (A 56)) (C := RX0) (T := TX0) (N := 16) Z hB hx hb hts hown rfl in_X0 hW.obj (by decide) q797 rfl dX0_drift_107 ?_
              refine r_getN (ci := 1) (k := 1) (v := .ref ((fa A 1) 7)) (C := RX1) (T := TX1) (N := 8) Z hB hx hb hts hown rfl in_X1 (((hW.fw (f := 1) (by omega) (F := (dfS (S 20) (iI seed) t)) (up_s _ _ _))).1) (by decide) q142 rfl dX0_drift_110 ?_
              refine lv_iload hx hb dX0_drift_113 (lv_at hl 1 rfl) ?_
              refine r_aald (t := 1) (ty := .array .int) (k := (z9 % ((dfS (S 20) (iI seed) t) 76)).toNat) Z hB hx hb rfl rfl (((hW.fw (f := 1) (by omega) (F := (dfS (S 20) (iI seed) t)) (up_s _ _ _))).2.2.2.1) (by omega) (by omega) (by omega) rfl dX0_drift_115 ?_
              refine lv_iload hx hb dX0_drift_116 (lv_at hl 0 rfl) ?_
              refine lv_iload hx hb dX0_drift_118 (lv_at hl 1 rfl) ?_
              refine lv_iload hx hb dX0_drift_120 (lv_at hl 0 rfl) ?_
              refine ii_icmp_ne (tgt := 129) hx hb dX0_drift_122 (by decide) (by omega) (by omega) (fun c_8 => ?_) (fun c_8 => ?_)
              · -- 122 -> 129
                refine lv_iload hx hb dX0_drift_129 (lv_at hl 2 rfl) ?_
                refine ii_bipush hx hb dX0_drift_131 (by decide) ?_
                refine ii_div hx hb (by omega) (by omega) dX0_drift_133 ?_
                refine ii_const hx hb dX0_drift_134 ?_
                refine ii_rem hx hb (by omega) (by omega) dX0_drift_135 ?_
                refine r_iast (k := ((z9 / 8) % ((dfS (S 20) (iI seed) t) 76)).toNat) Z hB hx hb (((hW.fw (f := 1) (by omega) (F := (dfS (S 20) (iI seed) t)) (up_s _ _ _))).2.2.2.2.1 (z9 % ((dfS (S 20) (iI seed) t) 76)).toNat (by omega)) hS (Or.inl ⟨36 + 20 * 1 + (8 + (z9 % ((dfS (S 20) (iI seed) t) 76)).toNat), by omega, rfl⟩) (by omega) (by omega) (by omega) dX0_drift_136 (CW G A (up (up S 21 (dfS (S 20) (iI seed) t)) 21 (up (dfS (S 20) (iI seed) t) (10 + 5 * (z9 % ((dfS (S 20) (iI seed) t) 76)).toNat + ((z9 / 8) % ((dfS (S 20) (iI seed) t) 76)).toNat) ((z9 / 64) % 4))) R) (fun H1 hz oq ha => hW.storeF hI (f := 1) (c := 8 + (z9 % ((dfS (S 20) (iI seed) t) 76)).toNat) (by omega) (by omega) oq (FW.setC ((hW.fw (f := 1) (by omega) (F := (dfS (S 20) (iI seed) t)) (up_s _ _ _))) (hI.fa (f := 1) (by omega)) (by omega) (by omega) oq ha)) (fun H locs hW hS => ?_)
                have hW := hW.eqS (S' := (up S 21 (up (dfS (S 20) (iI seed) t) (10 + 5 * (z9 % ((dfS (S 20) (iI seed) t) 76)).toNat + ((z9 / 8) % ((dfS (S 20) (iI seed) t) 76)).toNat) ((z9 / 64) % 4)))) (by
                    funext a
                    by_cases h21 : a = 21
                    · subst h21; rfl
                    simp only [up, if_neg h21])
                have hwe : WF (dfC (dfS (S 20) (iI seed) t) z9) := dfC_wf hdf.1 (by omega) hrd.1
                have hc5 : dfC (dfS (S 20) (iI seed) t) z9 54 = S 20 54 + (t : Int) := (dfC_o hdf.1 (by omega) (by omega)).trans hdf.2.1
                have hW := hW.eqS (S' := (up S 21 (dfC (dfS (S 20) (iI seed) t) z9))) (by unfold dfC; first | rw [if_pos (by omega)] | rw [if_neg (by omega)])
                generalize eFd : dfC (dfS (S 20) (iI seed) t) z9 = Fd at hwe hc5 hW
                refine lv_aload_n hx hb dX0_drift_137 rfl (lv_at hl 5 rfl) ?_
                refine r_get (ci := 0) (k := 4) (v := .ref (A 56)) (C := RX0) (T := TX0) (N := 16) Z hB hx hb hts hown rfl in_X0 hW.obj (by decide) q797 rfl dX0_drift_138 ?_
                refine cmV (va_runV (As := []) (rest := []) ⟨hx, hb, hml, hown, hts⟩ (mX1_dayGoes Z (fa A 1) (hI.fa (by omega)) Fd hwe  H.size) (cwV 0 hts (lw_V q564 q565 q566 q80 q567) rfl rfl rfl (by decide +kernel) ⟨Nat.le_of_ble_eq_true rfl, Nat.le_of_ble_eq_true rfl⟩) (pvM (BornH.S hB hN hS) (OBJ.recv Z hB ((hW.fw (f := 1) (by omega) (F := Fd) (up_s _ _ _))).1 (q := (RX1, TX1, 8)) rfl) (hW.fw (f := 1) (by omega) (F := Fd) (up_s _ _ _))) rfl rfl hl.1 rfl (lv_room (Nat.le_of_ble_eq_true rfl)) dX0_drift_141 ⟨Nat.zero_le _, Nat.zero_le _⟩) hS (AA.fa (by omega) hS.1) (fun H1 locs hW1 hz1 hk1 hS => ?_)
                have hW := hW.joinF hI (f := 1) (by omega) hk1 hW1
                clear hW1 hk1 hz1
                generalize H1 = H at hW hS ⊢
                have hW := hW.eqS (S' := (up S 21 (dayS Fd))) (by
                    funext a
                    by_cases h21 : a = 21
                    · subst h21; rfl
                    simp only [up, if_neg h21])
                have hwf_9 := dayS_wf hwe (by omega)
                refine ii_iinc (k := 4) (lv' := [(5, .int (iI (zt + 1))), (8, .int (iI ((z9 / 8) % ((dfS (S 20) (iI seed) t) 76)))), (7, .int (iI (z9 % ((dfS (S 20) (iI seed) t) 76)))), (6, .int (iI z9)), (4, .int (sdN (iI seed) (t + 1))), (0, .ref (A 0)), (1, .int (iI seed)), (2, .int (iI n)), (3, .int (iI what))]) hx hb dX0_drift_144 hl rfl (by decide) rfl (fun ls hl => ?_)
                refine lv_goto (tgt := 51) hx hb dX0_drift_147 (by decide) ?_
                exact ih51 (t + 1) (zt + 1) (by omega) (by omega) (by omega) _ _ (by simp only [dfS]; rw [ez9, eFd]; exact hW) hS ls (lv_sub hl [0, 4, 5, 6, 7, 8] rfl)
              · -- 122 -> 125
                refine ii_const hx hb dX0_drift_125 ?_
                refine lv_goto (tgt := 136) hx hb dX0_drift_126 (by decide) ?_
                refine r_iast (k := ((z9 / 8) % ((dfS (S 20) (iI seed) t) 76)).toNat) Z hB hx hb (((hW.fw (f := 1) (by omega) (F := (dfS (S 20) (iI seed) t)) (up_s _ _ _))).2.2.2.2.1 (z9 % ((dfS (S 20) (iI seed) t) 76)).toNat (by omega)) hS (Or.inl ⟨36 + 20 * 1 + (8 + (z9 % ((dfS (S 20) (iI seed) t) 76)).toNat), by omega, rfl⟩) (by omega) (by omega) (by omega) dX0_drift_136 (CW G A (up (up S 21 (dfS (S 20) (iI seed) t)) 21 (up (dfS (S 20) (iI seed) t) (10 + 5 * (z9 % ((dfS (S 20) (iI seed) t) 76)).toNat + ((z9 / 8) % ((dfS (S 20) (iI seed) t) 76)).toNat) 0)) R) (fun H1 hz oq ha => hW.storeF hI (f := 1) (c := 8 + (z9 % ((dfS (S 20) (iI seed) t) 76)).toNat) (by omega) (by omega) oq (FW.setC ((hW.fw (f := 1) (by omega) (F := (dfS (S 20) (iI seed) t)) (up_s _ _ _))) (hI.fa (f := 1) (by omega)) (by omega) (by omega) oq ha)) (fun H locs hW hS => ?_)
                have hW := hW.eqS (S' := (up S 21 (up (dfS (S 20) (iI seed) t) (10 + 5 * (z9 % ((dfS (S 20) (iI seed) t) 76)).toNat + ((z9 / 8) % ((dfS (S 20) (iI seed) t) 76)).toNat) 0))) (by
                    funext a
                    by_cases h21 : a = 21
                    · subst h21; rfl
                    simp only [up, if_neg h21])
                have hwe : WF (dfC (dfS (S 20) (iI seed) t) z9) := dfC_wf hdf.1 (by omega) hrd.1
                have hc5 : dfC (dfS (S 20) (iI seed) t) z9 54 = S 20 54 + (t : Int) := (dfC_o hdf.1 (by omega) (by omega)).trans hdf.2.1
                have hW := hW.eqS (S' := (up S 21 (dfC (dfS (S 20) (iI seed) t) z9))) (by unfold dfC; first | rw [if_pos (by omega)] | rw [if_neg (by omega)])
                generalize eFd : dfC (dfS (S 20) (iI seed) t) z9 = Fd at hwe hc5 hW
                refine lv_aload_n hx hb dX0_drift_137 rfl (lv_at hl 5 rfl) ?_
                refine r_get (ci := 0) (k := 4) (v := .ref (A 56)) (C := RX0) (T := TX0) (N := 16) Z hB hx hb hts hown rfl in_X0 hW.obj (by decide) q797 rfl dX0_drift_138 ?_
                refine cmV (va_runV (As := []) (rest := []) ⟨hx, hb, hml, hown, hts⟩ (mX1_dayGoes Z (fa A 1) (hI.fa (by omega)) Fd hwe  H.size) (cwV 0 hts (lw_V q564 q565 q566 q80 q567) rfl rfl rfl (by decide +kernel) ⟨Nat.le_of_ble_eq_true rfl, Nat.le_of_ble_eq_true rfl⟩) (pvM (BornH.S hB hN hS) (OBJ.recv Z hB ((hW.fw (f := 1) (by omega) (F := Fd) (up_s _ _ _))).1 (q := (RX1, TX1, 8)) rfl) (hW.fw (f := 1) (by omega) (F := Fd) (up_s _ _ _))) rfl rfl hl.1 rfl (lv_room (Nat.le_of_ble_eq_true rfl)) dX0_drift_141 ⟨Nat.zero_le _, Nat.zero_le _⟩) hS (AA.fa (by omega) hS.1) (fun H1 locs hW1 hz1 hk1 hS => ?_)
                have hW := hW.joinF hI (f := 1) (by omega) hk1 hW1
                clear hW1 hk1 hz1
                generalize H1 = H at hW hS ⊢
                have hW := hW.eqS (S' := (up S 21 (dayS Fd))) (by
                    funext a
                    by_cases h21 : a = 21
                    · subst h21; rfl
                    simp only [up, if_neg h21])
                have hwf_10 := dayS_wf hwe (by omega)
                refine ii_iinc (k := 4) (lv' := [(5, .int (iI (zt + 1))), (8, .int (iI ((z9 / 8) % ((dfS (S 20) (iI seed) t) 76)))), (7, .int (iI (z9 % ((dfS (S 20) (iI seed) t) 76)))), (6, .int (iI z9)), (4, .int (sdN (iI seed) (t + 1))), (0, .ref (A 0)), (1, .int (iI seed)), (2, .int (iI n)), (3, .int (iI what))]) hx hb dX0_drift_144 hl rfl (by decide) rfl (fun ls hl => ?_)
                refine lv_goto (tgt := 51) hx hb dX0_drift_147 (by decide) ?_
                exact ih51 (t + 1) (zt + 1) (by omega) (by omega) (by omega) _ _ (by simp only [dfS]; rw [ez9, eFd]; exact hW) hS ls (lv_sub hl [0, 4, 5, 6, 7, 8] rfl)
        exact loop_51 _ 0 0 (by omega) (by omega) (Nat.lt_succ_self _) _ _ hW hS ls (lv_sub hl [0, 1, 2, 3, 4, 5] rfl)
      · -- 28 -> 31
        refine ii_bipush hx hb dX0_drift_31 (by decide) ?_
        have hpw9 : (CWx G A S R) s.heap := ⟨S, ⟨fun _ _ _ _ _ _ => rfl, fun _ _ _ _ => rfl⟩, hW⟩
        have he9 : (-2) = (driftA (S 20) (iI seed) n what) := by unfold driftA; rw [if_neg (by omega), if_pos (by omega)]
        exact W.iret hx hb hr (fun t ht hW9 => ⟨⟨_, (), rfl, congrArg iI he9, by show (CWx G A S R) t.heap; rw [ht]; exact hpw9⟩, hS.F ht⟩) hS.2.2 dX0_drift_33
    · -- 16 -> 19
      refine ii_const hx hb dX0_drift_19 ?_
      have hpw9 : (CWx G A S R) s.heap := ⟨S, ⟨fun _ _ _ _ _ _ => rfl, fun _ _ _ _ => rfl⟩, hW⟩
      have he9 : (-1) = (driftA (S 20) (iI seed) n what) := by unfold driftA; exact (if_pos (by omega)).symm
      exact W.iret hx hb hr (fun t ht hW9 => ⟨⟨_, (), rfl, congrArg iI he9, by show (CWx G A S R) t.heap; rw [ht]; exact hpw9⟩, hS.F ht⟩) hS.2.2 dX0_drift_20
