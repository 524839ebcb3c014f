/-! Firth.takes (written by gen/firth.py) -/
set_option maxRecDepth 100000
set_option maxHeartbeats 4000000 in
set_option maxRecDepth 100000 in
theorem mX1_takes {l : Launch} {G : GG} {s0 : State} {b0 : Nat} (Z : ZZ l G s0 b0) (ad : Nat → Nat) (hI : Own s0 ad 20) (F : Nat → Int) (ad2 : Nat → Nat) (F2 : Nat → Int) (hx2 : ∀ i j : Nat, i < 20 → j < 20 → ad i ≠ ad2 j) (sz : Nat) : Met l yX1_takes (ws_ yX1_takes cX1_takes 3 none) ({ frames := 1, cells := 0, slots := 0, locals := 18 } : Room) (pcM s0 sz (fun H => FW G ad F H ∧ FW G ad2 F2 H) [.ref (ad 0), .ref (ad2 0)]) (mV (FW G ad F2) (AA ad 20 sz)) 0 0 (AA ad 20 sz) := by
  refine Met.ofW (cc := cX1_takes) (maxL := 3) (ret := none) (by decide) rfl ?_
  intro p e s m args below meth c s₁ B hml hv
  obtain ⟨rfl, hsz, hW, hB⟩ := hv
  subst hsz
  have hx := B.exec
  have hb := B.bytes
  have hr := B.returns
  have hts := atoms_spec (ws := (ws_ yX1_takes cX1_takes 3 none)) B.pre
  have hts : ∀ w ∈ lw_all, w.before _ s = true := fun w h => hts w (List.mem_cons_of_mem _ h)
  have hown : s.vm.findClass RX1 = some m.cls := findClass_of_methodNamed B.named
  have hlocks := B.notSynchronized
  have hN := AA.old hI hB
  have hS : va_S (AA ad 20 s.heap.size) s.heap s.heap [] := va_S.rf
  have hl := lv_entry ([.ref (ad 0), .ref (ad2 0)]) (n := 3) (Nat.le_of_ble_eq_true rfl)
  rw [lg_entry_eq]
  generalize (lg_sl ([.ref (ad 0), .ref (ad2 0)]) ++ List.replicate (3 - (lg_sl ([.ref (ad 0), .ref (ad2 0)])).length) Slot.unset).toArray = ls at hl ⊢
  have hl : lv_has ls 3 [(0, .ref (ad 0)), (1, .ref (ad2 0))] := hl
  refine ii_const hx hb dX1_takes_0 ?_
  refine lv_istore_n (lv' := [(2, .int (iI 0)), (0, .ref (ad 0)), (1, .ref (ad2 0))]) hx hb dX1_takes_1 rfl hl (by decide) rfl (fun ls hl => ?_)
  have loop_2 : ∀ (fu : Nat) (i : Nat) (zi : Int), (zi = (i : Int)) → (i ≤ 5) → (6 - i) < fu → ∀ (H : Heap) (locs : List Loc), (fun H => FW G ad (tk1 F F2 i) H ∧ FW G ad2 F2 H) H → va_S (AA ad 20 s.heap.size) s.heap H locs → ∀ (ls : Array Slot), lv_has ls 3 [(2, .int (iI zi)), (0, .ref (ad 0)), (1, .ref (ad2 0))] → W p l e (headSpec (ws_ yX1_takes cX1_takes 3 none) ({ frames := 1, cells := 0, slots := 0, locals := 18 } : Room)).room s m ([.ref (ad 0), .ref (ad2 0)] : List Value).toArray below meth c H locs 0 0 (MQ below (mV (FW G ad F2) (AA ad 20 s.heap.size)) ([.ref (ad 0), .ref (ad2 0)] : List Value).toArray s 0 0 (AA ad 20 s.heap.size)) (F0 m 2 ls []) := by
    intro fu
    induction fu with
    | zero => intro i zi ezi hi hmu; exact absurd hmu (Nat.not_lt_zero _)
    | succ fu ih2 =>
      intro i zi ezi hi hmu H locs hW hS ls hl
      refine lv_iload_n hx hb dX1_takes_2 rfl (lv_at hl 0 rfl) ?_
      refine ii_const hx hb dX1_takes_3 ?_
      refine ii_icmp_ge (tgt := 49) hx hb dX1_takes_4 (by decide) (by omega) (by omega) (fun c_1 => ?_) (fun c_1 => ?_)
      · -- 4 -> 49
        have ex_i : i = 5 := by omega
        subst ex_i
        refine ii_const hx hb dX1_takes_49 ?_
        refine lv_istore_n (lv' := [(2, .int (iI 0)), (0, .ref (ad 0)), (1, .ref (ad2 0))]) hx hb dX1_takes_50 rfl hl (by decide) rfl (fun ls hl => ?_)
        have loop_51 : ∀ (fu : Nat) (i : Nat) (zi : Int), (zi = (i : Int)) → (i ≤ 6) → (7 - i) < fu → ∀ (H : Heap) (locs : List Loc), (fun H => FW G ad (tk2 F F2 i) H ∧ FW G ad2 F2 H) H → va_S (AA ad 20 s.heap.size) s.heap H locs → ∀ (ls : Array Slot), lv_has ls 3 [(2, .int (iI zi)), (0, .ref (ad 0)), (1, .ref (ad2 0))] → W p l e (headSpec (ws_ yX1_takes cX1_takes 3 none) ({ frames := 1, cells := 0, slots := 0, locals := 18 } : Room)).room s m ([.ref (ad 0), .ref (ad2 0)] : List Value).toArray below meth c H locs 0 0 (MQ below (mV (FW G ad F2) (AA ad 20 s.heap.size)) ([.ref (ad 0), .ref (ad2 0)] : List Value).toArray s 0 0 (AA ad 20 s.heap.size)) (F0 m 51 ls []) := by
          intro fu
          induction fu with
          | zero => intro i zi ezi hi hmu; exact absurd hmu (Nat.not_lt_zero _)
          | succ fu ih51 =>
            intro i zi ezi hi hmu H locs hW hS ls hl
            refine lv_iload_n hx hb dX1_takes_51 rfl (lv_at hl 0 rfl) ?_
            refine ii_bipush hx hb dX1_takes_52 (by decide) ?_
            refine ii_icmp_ge (tgt := 81) hx hb dX1_takes_54 (by decide) (by omega) (by omega) (fun c_2 => ?_) (fun c_2 => ?_)
            · -- 54 -> 81
              have ex_i : i = 6 := by omega
              subst ex_i
              refine lv_aload_n hx hb dX1_takes_81 rfl (lv_at hl 1 rfl) ?_
              refine lv_aload_n hx hb dX1_takes_82 rfl (lv_at hl 2 rfl) ?_
              refine r_get (ci := 1) (k := 3) (C := RX1) (T := TX1) (N := 8) Z hB hx hb hts hown rfl in_X1 ((hW.2).1) (by decide) q145 rfl dX1_takes_83 ?_
              refine r_put (ci := 1) (k := 3) (C := RX1) (T := TX1) (N := 8) Z hB hx hb hts hown rfl in_X1 tyX1 tyX1_ok nmX1 ((hW.1).1) hS (AA.me (by omega)) (by decide) q145 rfl rfl rfl rfl (Nat.le_of_ble_eq_true rfl) dX1_takes_86 (fun H => FW G ad (up (tk2 F F2 6) 76 (F2 76)) H ∧ FW G ad2 F2 H) (fun H1 hz oq ho => ⟨FW.setO (hW.1) hI (k := 76) (by omega) oq ho, hW.2.kept (fun k hk => oq _ (fun e => hx2 (0) k (by omega) hk e.symm))⟩) (fun H locs hW hS => ?_)
              refine lv_aload_n hx hb dX1_takes_89 rfl (lv_at hl 1 rfl) ?_
              refine lv_aload_n hx hb dX1_takes_90 rfl (lv_at hl 2 rfl) ?_
              refine r_get (ci := 1) (k := 4) (C := RX1) (T := TX1) (N := 8) Z hB hx hb hts hown rfl in_X1 ((hW.2).1) (by decide) q148 rfl dX1_takes_91 ?_
              refine r_put (ci := 1) (k := 4) (C := RX1) (T := TX1) (N := 8) Z hB hx hb hts hown rfl in_X1 tyX1 tyX1_ok nmX1 ((hW.1).1) hS (AA.me (by omega)) (by decide) q148 rfl rfl rfl rfl (Nat.le_of_ble_eq_true rfl) dX1_takes_94 (fun H => FW G ad (up (up (tk2 F F2 6) 76 (F2 76)) 53 (F2 53)) H ∧ FW G ad2 F2 H) (fun H1 hz oq ho => ⟨FW.setO (hW.1) hI (k := 53) (by omega) oq ho, hW.2.kept (fun k hk => oq _ (fun e => hx2 (0) k (by omega) hk e.symm))⟩) (fun H locs hW hS => ?_)
              refine lv_aload_n hx hb dX1_takes_97 rfl (lv_at hl 1 rfl) ?_
              refine lv_aload_n hx hb dX1_takes_98 rfl (lv_at hl 2 rfl) ?_
              refine r_get (ci := 1) (k := 5) (C := RX1) (T := TX1) (N := 8) Z hB hx hb hts hown rfl in_X1 ((hW.2).1) (by decide) q151 rfl dX1_takes_99 ?_
              refine r_put (ci := 1) (k := 5) (C := RX1) (T := TX1) (N := 8) Z hB hx hb hts hown rfl in_X1 tyX1 tyX1_ok nmX1 ((hW.1).1) hS (AA.me (by omega)) (by decide) q151 rfl rfl rfl rfl (Nat.le_of_ble_eq_true rfl) dX1_takes_102 (fun H => FW G ad (up (up (up (tk2 F F2 6) 76 (F2 76)) 53 (F2 53)) 55 (F2 55)) H ∧ FW G ad2 F2 H) (fun H1 hz oq ho => ⟨FW.setO (hW.1) hI (k := 55) (by omega) oq ho, hW.2.kept (fun k hk => oq _ (fun e => hx2 (0) k (by omega) hk e.symm))⟩) (fun H locs hW hS => ?_)
              refine lv_aload_n hx hb dX1_takes_105 rfl (lv_at hl 1 rfl) ?_
              refine lv_aload_n hx hb dX1_takes_106 rfl (lv_at hl 2 rfl) ?_
              refine r_get (ci := 1) (k := 6) (C := RX1) (T := TX1) (N := 8) Z hB hx hb hts hown rfl in_X1 ((hW.2).1) (by decide) q154 rfl dX1_takes_107 ?_
              refine r_put (ci := 1) (k := 6) (C := RX1) (T := TX1) (N := 8) Z hB hx hb hts hown rfl in_X1 tyX1 tyX1_ok nmX1 ((hW.1).1) hS (AA.me (by omega)) (by decide) q154 rfl rfl rfl rfl (Nat.le_of_ble_eq_true rfl) dX1_takes_110 (fun H => FW G ad (up (up (up (up (tk2 F F2 6) 76 (F2 76)) 53 (F2 53)) 55 (F2 55)) 54 (F2 54)) H ∧ FW G ad2 F2 H) (fun H1 hz oq ho => ⟨FW.setO (hW.1) hI (k := 54) (by omega) oq ho, hW.2.kept (fun k hk => oq _ (fun e => hx2 (0) k (by omega) hk e.symm))⟩) (fun H locs hW hS => ?_)
              refine lv_aload_n hx hb dX1_takes_113 rfl (lv_at hl 1 rfl) ?_
              refine lv_aload_n hx hb dX1_takes_114 rfl (lv_at hl 2 rfl) ?_
              refine r_get (ci := 1) (k := 7) (C := RX1) (T := TX1) (N := 8) Z hB hx hb hts hown rfl in_X1 ((hW.2).1) (by decide) q156 rfl dX1_takes_115 ?_
              refine r_put (ci := 1) (k := 7) (C := RX1) (T := TX1) (N := 8) Z hB hx hb hts hown rfl in_X1 tyX1 tyX1_ok nmX1 ((hW.1).1) hS (AA.me (by omega)) (by decide) q156 rfl rfl rfl rfl (Nat.le_of_ble_eq_true rfl) dX1_takes_118 (fun H => FW G ad (up (up (up (up (up (tk2 F F2 6) 76 (F2 76)) 53 (F2 53)) 55 (F2 55)) 54 (F2 54)) 56 (F2 56)) H ∧ FW G ad2 F2 H) (fun H1 hz oq ho => ⟨FW.setO (hW.1) hI (k := 56) (by omega) oq ho, hW.2.kept (fun k hk => oq _ (fun e => hx2 (0) k (by omega) hk e.symm))⟩) (fun H locs hW hS => ?_)
              have hpw9 : (FW G ad F2) H := hW.1.to tk_end
              exact W.vret hx hb hr (fun t ht hW9 => ⟨⟨(), rfl, trivial, by show (FW G ad F2) t.heap; rw [ht]; exact hpw9⟩, hS.F ht⟩) hS.2.2 dX1_takes_121
            · -- 54 -> 57
              refine lv_aload_n hx hb dX1_takes_57 rfl (lv_at hl 2 rfl) ?_
              refine r_get (ci := 1) (k := 2) (C := RX1) (T := TX1) (N := 8) Z hB hx hb hts hown rfl in_X1 ((hW.2).1) (by decide) q143 rfl dX1_takes_58 ?_
              refine lv_iload_n hx hb dX1_takes_61 rfl (lv_at hl 0 rfl) ?_
              refine r_aald (t := 1) (ty := .array .int) (k := i) Z hB hx hb rfl rfl ((hW.2).2.2.2.2.2.1) (by omega) (by omega) (by omega) rfl dX1_takes_62 ?_
              refine ii_const hx hb dX1_takes_63 ?_
              refine lv_aload_n hx hb dX1_takes_64 rfl (lv_at hl 1 rfl) ?_
              refine r_get (ci := 1) (k := 2) (C := RX1) (T := TX1) (N := 8) Z hB hx hb hts hown rfl in_X1 ((hW.1).1) (by decide) q143 rfl dX1_takes_65 ?_
              refine lv_iload_n hx hb dX1_takes_68 rfl (lv_at hl 0 rfl) ?_
              refine r_aald (t := 1) (ty := .array .int) (k := i) Z hB hx hb rfl rfl ((hW.1).2.2.2.2.2.1) (by omega) (by omega) (by omega) rfl dX1_takes_69 ?_
              refine ii_const hx hb dX1_takes_70 ?_
              refine ii_const hx hb dX1_takes_71 ?_
              refine r_copy (t := 0) (ty := .int) (n := 3) Z hB hx hb (hml.trans hl.1.symm) hts hown q428 rfl rfl ((hW.2).2.2.2.2.2.2 i (by omega)) ((hW.1).2.2.2.2.2.2 i (by omega)) hS (AA.me (by omega)) rfl rfl (by omega) (by omega) (by omega) (by omega) (fun i hi => rfl) (Nat.le_of_ble_eq_true rfl) (Nat.le_of_ble_eq_true rfl) dX1_takes_72 (fun H => FW G ad (tk2 F F2 (i + 1)) H ∧ FW G ad2 F2 H) (fun H1 hz oq ha => ⟨FW.rowR (i := i) hW.1 hI (by omega) oq ha tk2_e1 tk2_e2, hW.2.kept (fun k hk => oq _ (fun e => hx2 (14 + i) k (by omega) hk e.symm))⟩) (fun H locs hW hS => ?_)
              refine ii_iinc (k := 0) (lv' := [(2, .int (iI (zi + 1))), (0, .ref (ad 0)), (1, .ref (ad2 0))]) hx hb dX1_takes_75 hl rfl (by decide) rfl (fun ls hl => ?_)
              refine lv_goto (tgt := 51) hx hb dX1_takes_78 (by decide) ?_
              exact ih51 (i + 1) (zi + 1) (by omega) (by omega) (by omega) _ _ hW hS ls (lv_sub hl [0, 1, 2] rfl)
        exact loop_51 _ 0 0 (by omega) (by omega) (Nat.lt_succ_self _) _ _ (⟨hW.1.to (fun k _ => tk2_0 F F2 k), hW.2⟩) hS ls (lv_sub hl [0, 1, 2] rfl)
      · -- 4 -> 7
        refine lv_aload_n hx hb dX1_takes_7 rfl (lv_at hl 2 rfl) ?_
        refine r_get (ci := 1) (k := 0) (C := RX1) (T := TX1) (N := 8) Z hB hx hb hts hown rfl in_X1 ((hW.2).1) (by decide) q137 rfl dX1_takes_8 ?_
        refine lv_iload_n hx hb dX1_takes_11 rfl (lv_at hl 0 rfl) ?_
        refine r_aald (t := 1) (ty := .array .int) (k := i) Z hB hx hb rfl rfl ((hW.2).2.1) (by omega) (by omega) (by omega) rfl dX1_takes_12 ?_
        refine ii_const hx hb dX1_takes_13 ?_
        refine lv_aload_n hx hb dX1_takes_14 rfl (lv_at hl 1 rfl) ?_
        refine r_get (ci := 1) (k := 0) (C := RX1) (T := TX1) (N := 8) Z hB hx hb hts hown rfl in_X1 ((hW.1).1) (by decide) q137 rfl dX1_takes_15 ?_
        refine lv_iload_n hx hb dX1_takes_18 rfl (lv_at hl 0 rfl) ?_
        refine r_aald (t := 1) (ty := .array .int) (k := i) Z hB hx hb rfl rfl ((hW.1).2.1) (by omega) (by omega) (by omega) rfl dX1_takes_19 ?_
        refine ii_const hx hb dX1_takes_20 ?_
        refine ii_const hx hb dX1_takes_21 ?_
        refine r_copy (t := 0) (ty := .int) (n := 2) Z hB hx hb (hml.trans hl.1.symm) hts hown q428 rfl rfl ((hW.2).2.2.1 i (by omega)) ((hW.1).2.2.1 i (by omega)) hS (AA.me (by omega)) rfl rfl (by omega) (by omega) (by omega) (by omega) (fun i hi => rfl) (Nat.le_of_ble_eq_true rfl) (Nat.le_of_ble_eq_true rfl) dX1_takes_22 (fun H => FW G ad (tkm F F2 i) H ∧ FW G ad2 F2 H) (fun H1 hz oq ha => ⟨FW.rowI (i := i) hW.1 hI (by omega) oq ha tkm_e1 (tkm_e2 (by omega)), hW.2.kept (fun k hk => oq _ (fun e => hx2 (2 + i) k (by omega) hk e.symm))⟩) (fun H locs hW hS => ?_)
        refine lv_aload_n hx hb dX1_takes_25 rfl (lv_at hl 2 rfl) ?_
        refine r_get (ci := 1) (k := 1) (C := RX1) (T := TX1) (N := 8) Z hB hx hb hts hown rfl in_X1 ((hW.2).1) (by decide) q140 rfl dX1_takes_26 ?_
        refine lv_iload_n hx hb dX1_takes_29 rfl (lv_at hl 0 rfl) ?_
        refine r_aald (t := 1) (ty := .array .int) (k := i) Z hB hx hb rfl rfl ((hW.2).2.2.2.1) (by omega) (by omega) (by omega) rfl dX1_takes_30 ?_
        refine ii_const hx hb dX1_takes_31 ?_
        refine lv_aload_n hx hb dX1_takes_32 rfl (lv_at hl 1 rfl) ?_
        refine r_get (ci := 1) (k := 1) (C := RX1) (T := TX1) (N := 8) Z hB hx hb hts hown rfl in_X1 ((hW.1).1) (by decide) q140 rfl dX1_takes_33 ?_
        refine lv_iload_n hx hb dX1_takes_36 rfl (lv_at hl 0 rfl) ?_
        refine r_aald (t := 1) (ty := .array .int) (k := i) Z hB hx hb rfl rfl ((hW.1).2.2.2.1) (by omega) (by omega) (by omega) rfl dX1_takes_37 ?_
        refine ii_const hx hb dX1_takes_38 ?_
        refine ii_const hx hb dX1_takes_39 ?_
        refine r_copy (t := 0) (ty := .int) (n := 5) Z hB hx hb (hml.trans hl.1.symm) hts hown q428 rfl rfl ((hW.2).2.2.2.2.1 i (by omega)) ((hW.1).2.2.2.2.1 i (by omega)) hS (AA.me (by omega)) rfl rfl (by omega) (by omega) (by omega) (by omega) (fun i hi => rfl) (Nat.le_of_ble_eq_true rfl) (Nat.le_of_ble_eq_true rfl) dX1_takes_40 (fun H => FW G ad (tk1 F F2 (i + 1)) H ∧ FW G ad2 F2 H) (fun H1 hz oq ha => ⟨FW.rowC (i := i) hW.1 hI (by omega) oq ha (tk1_e1 (by omega)) (tk1_e2 (by omega)), hW.2.kept (fun k hk => oq _ (fun e => hx2 (8 + i) k (by omega) hk e.symm))⟩) (fun H locs hW hS => ?_)
        refine ii_iinc (k := 0) (lv' := [(2, .int (iI (zi + 1))), (0, .ref (ad 0)), (1, .ref (ad2 0))]) hx hb dX1_takes_43 hl rfl (by decide) rfl (fun ls hl => ?_)
        refine lv_goto (tgt := 2) hx hb dX1_takes_46 (by decide) ?_
        exact ih2 (i + 1) (zi + 1) (by omega) (by omega) (by omega) _ _ hW hS ls (lv_sub hl [0, 1, 2] rfl)
  exact loop_2 _ 0 0 (by omega) (by omega) (Nat.lt_succ_self _) _ _ (⟨hW.1.to (fun k _ => (tk1_0 F F2 k).symm), hW.2⟩) hS ls (lv_sub hl [0, 1, 2] rfl)
