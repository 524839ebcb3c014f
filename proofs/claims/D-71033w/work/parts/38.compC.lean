/-! COMPONENT: the plain writers (written by gen/comp.py) -/
set_option maxRecDepth 100000
set_option maxHeartbeats 1000000 in
set_option maxRecDepth 100000 in
theorem mX0_feed {l : Launch} {G : GG} {s0 : State} {b0 : Nat} (Z : ZZ l G s0 b0) (A : Nat → Nat) (hI : Own s0 A 156) (S : Sta) (R : Nat → Option Nat) (hF0 : WF (S 20)) (ht0 : 0 ≤ S 0 0 ∧ S 0 0 ≤ 160) (c1 : Int) (hc1 : inR c1) (sz : Nat) : Met l yX0_feed (ws_ yX0_feed cX0_feed 2 (some .int)) ({ frames := 1, cells := 0, slots := 0, locals := 25 } : Room) (pcM s0 sz (CW G A S R) [.ref (A 0), .int (iI c1)]) (mI (feedA S c1) (CW G A (feedT S c1) R) (AA A 156 sz)) 0 0 (AA A 156 sz) := by
  refine Met.ofW (cc := cX0_feed) (maxL := 2) (ret := (some .int)) (by decide) rfl ?_
  intro p e s m args below meth c s₁ B hml hv
  obtain ⟨rfl, hsz, hW, hB⟩ := hv
  subst hsz
  have hx := B.exec
  have hb := B.bytes
  have hr := B.returns
  have hts := atoms_spec (ws := (ws_ yX0_feed cX0_feed 2 (some .int))) B.pre
  have hts : ∀ w ∈ lw_all, w.before _ s = true := fun w h => hts w (List.mem_cons_of_mem _ h)
  have hown : s.vm.findClass RX0 = some m.cls := findClass_of_methodNamed B.named
  have hlocks := B.notSynchronized
  have hN := AA.old hI hB
  have hS : va_S (AA A 156 s.heap.size) s.heap s.heap [] := va_S.rf
  have hl := lv_entry ([.ref (A 0), .int (iI c1)]) (n := 2) (Nat.le_of_ble_eq_true rfl)
  rw [lg_entry_eq]
  generalize (lg_sl ([.ref (A 0), .int (iI c1)]) ++ List.replicate (2 - (lg_sl ([.ref (A 0), .int (iI c1)])).length) Slot.unset).toArray = ls at hl ⊢
  have hl : lv_has ls 2 [(0, .ref (A 0)), (1, .int (iI c1))] := hl
  refine lv_iload_n hx hb dX0_feed_0 rfl (lv_at hl 1 rfl) ?_
  refine ii_i2l hx hb (by omega) dX0_feed_1 ?_
  refine ii_lconst (z := 0) hx hb dX0_feed_2 rfl ?_
  refine ii_ldc2 (z := 127) hx hb hts hown q105 dX0_feed_3 (by decide) ?_
  refine cqI (va_runS (As := [.long (lI c1), .long (lI 0), .long (lI 127)]) (rest := []) ⟨hx, hb, hml, hown, hts⟩ (mX0_isIn Z c1 (by omega) 0 (by omega) 127 (by omega)) (va_cwS 3 hts (lw_S q106 q107 q79 q108) rfl rfl rfl (by decide +kernel) ⟨Nat.le_of_ble_eq_true rfl, Nat.le_of_ble_eq_true rfl⟩) (psR (BornH.S hB hN hS) trivial) rfl rfl hl.1 rfl (lv_room (Nat.le_of_ble_eq_true rfl)) dX0_feed_6 ⟨Nat.zero_le _, Nat.zero_le _⟩) ?_
  refine bb_if_ne (P := 0 ≤ c1 ∧ c1 ≤ 127) (tgt := 14) hx hb dX0_feed_9 (by decide) (fun c_1 => ?_) (fun c_1 => ?_)
  · -- 9 -> 14
    refine lv_aload_n hx hb dX0_feed_14 rfl (lv_at hl 0 rfl) ?_
    refine r_get (ci := 0) (k := 1) (v := .int (iI ((S 0) 0))) (C := RX0) (T := TX0) (N := 16) Z hB hx hb hts hown rfl in_X0 hW.obj (by decide) q793 rfl dX0_feed_15 ?_
    refine ii_sipush hx hb dX0_feed_18 (by decide) ?_
    refine ii_icmp_ne (tgt := 27) hx hb dX0_feed_21 (by decide) (by omega) (by omega) (fun c_2 => ?_) (fun c_2 => ?_)
    · -- 21 -> 27
      refine lv_aload_n hx hb dX0_feed_27 rfl (lv_at hl 0 rfl) ?_
      refine r_get (ci := 0) (k := 0) (v := .ref (A 1)) (C := RX0) (T := TX0) (N := 16) Z hB hx hb hts hown rfl in_X0 hW.obj (by decide) q792 rfl dX0_feed_28 ?_
      refine lv_aload_n hx hb dX0_feed_31 rfl (lv_at hl 0 rfl) ?_
      refine r_get (ci := 0) (k := 1) (v := .int (iI ((S 0) 0))) (C := RX0) (T := TX0) (N := 16) Z hB hx hb hts hown rfl in_X0 hW.obj (by decide) q793 rfl dX0_feed_32 ?_
      refine lv_iload_n hx hb dX0_feed_35 rfl (lv_at hl 1 rfl) ?_
      refine ii_i2b hx hb (by omega) dX0_feed_36 ?_
      refine r_bast (k := ((S 0) 0).toNat) Z hB hx hb hW.tape hS (Or.inl ⟨1, by omega, rfl⟩) (by omega) (by omega) (by omega) (nar_b (by omega)) dX0_feed_37 (CW G A (up S 1 (up (S 1) ((S 0) 0).toNat c1)) R) (fun H1 hz oq ha => hW.setT hI oq ha) (fun H locs hW hS => ?_)
      refine lv_aload_n hx hb dX0_feed_38 rfl (lv_at hl 0 rfl) ?_
      refine lv_dup hx hb dX0_feed_39 rfl ?_
      refine r_get (ci := 0) (k := 1) (v := .int (iI ((S 0) 0))) (C := RX0) (T := TX0) (N := 16) Z hB hx hb hts hown rfl in_X0 hW.obj (by decide) q793 rfl dX0_feed_40 ?_
      refine ii_const hx hb dX0_feed_43 ?_
      refine ii_add hx hb dX0_feed_44 ?_
      refine r_put (ci := 0) (k := 1) (C := RX0) (T := TX0) (N := 16) Z hB hx hb hts hown rfl in_X0 tyX0 tyX0_ok nmX0 hW.obj hS (Or.inl ⟨0, by omega, rfl⟩) (by decide) q793 rfl rfl rfl rfl (Nat.le_of_ble_eq_true rfl) dX0_feed_45 (CW G A (up (up S 1 (up (S 1) ((S 0) 0).toNat c1)) 0 (up (S 0) 0 (((S 0) 0) + 1))) R) (fun H1 hz oq ho => hW.setO hI (k := 0) (by omega) oq ho) (fun H locs hW hS => ?_)
      have hW := hW.eqS (S' := (up (up S 0 (up (S 0) 0 (((S 0) 0) + 1))) 1 (up (S 1) ((S 0) 0).toNat c1))) (by
          funext a
          by_cases h0 : a = 0
          · subst h0
            funext j
            by_cases k0 : j = 0
            · subst k0; rfl
            simp only [up, if_neg k0, if_true, if_false, Nat.reduceEqDiff, reduceIte]
          by_cases h1 : a = 1
          · subst h1; rfl
          simp only [up, if_neg h0, if_neg h1])
      refine lv_aload_n hx hb dX0_feed_48 rfl (lv_at hl 0 rfl) ?_
      refine r_get (ci := 0) (k := 1) (v := .int (iI (((S 0) 0) + 1))) (C := RX0) (T := TX0) (N := 16) Z hB hx hb hts hown rfl in_X0 hW.obj (by decide) q793 rfl dX0_feed_49 ?_
      have hpw9 : (CW G A (feedT S c1) R) H := (by rw [show (feedT S c1) = (up (up S 0 (up (S 0) 0 (((S 0) 0) + 1))) 1 (up (S 1) ((S 0) 0).toNat c1)) by unfold feedT; (repeat' split) <;> first | rfl | omega | (simp only [up_self20])]; exact hW)
      have he9 : (((S 0) 0) + 1) = (feedA S c1) := by unfold feedA; (repeat' split) <;> first | rfl | omega
      exact W.iret hx hb hr (fun t ht hW9 => ⟨⟨_, (), rfl, congrArg iI he9, by show (CW G A (feedT S c1) R) t.heap; rw [ht]; exact hpw9⟩, hS.F ht⟩) hS.2.2 dX0_feed_52
    · -- 21 -> 24
      refine ii_bipush hx hb dX0_feed_24 (by decide) ?_
      have hpw9 : (CW G A (feedT S c1) R) s.heap := (by rw [show (feedT S c1) = S by unfold feedT; (repeat' split) <;> first | rfl | omega | (simp only [up_self20])]; exact hW)
      have he9 : (-3) = (feedA S c1) := by unfold feedA; (repeat' split) <;> first | rfl | omega
      exact W.iret hx hb hr (fun t ht hW9 => ⟨⟨_, (), rfl, congrArg iI he9, by show (CW G A (feedT S c1) R) t.heap; rw [ht]; exact hpw9⟩, hS.F ht⟩) hS.2.2 dX0_feed_26
  · -- 9 -> 12
    refine ii_const hx hb dX0_feed_12 ?_
    have hpw9 : (CW G A (feedT S c1) R) s.heap := (by rw [show (feedT S c1) = S by unfold feedT; (repeat' split) <;> first | rfl | omega | (simp only [up_self20])]; exact hW)
    have he9 : (-1) = (feedA S c1) := by unfold feedA; (repeat' split) <;> first | rfl | omega
    exact W.iret hx hb hr (fun t ht hW9 => ⟨⟨_, (), rfl, congrArg iI he9, by show (CW G A (feedT S c1) R) t.heap; rw [ht]; exact hpw9⟩, hS.F ht⟩) hS.2.2 dX0_feed_13

set_option maxHeartbeats 1000000 in
set_option maxRecDepth 100000 in
theorem mX0_end {l : Launch} {G : GG} {s0 : State} {b0 : Nat} (Z : ZZ l G s0 b0) (A : Nat → Nat) (hI : Own s0 A 156) (S : Sta) (R : Nat → Option Nat) (hF0 : WF (S 20)) (ht0 : 0 ≤ S 0 0 ∧ S 0 0 ≤ 160) (n : Int) (hn : inR n) (sz : Nat) : Met l yX0_end (ws_ yX0_end cX0_end 3 (some .int)) ({ frames := 1, cells := 0, slots := 0, locals := 25 } : Room) (pcM s0 sz (CW G A S R) [.ref (A 0), .int (iI n)]) (mI (endA S n) (CW G A (endT S n) R) (AA A 156 sz)) 0 0 (AA A 156 sz) := by
  refine Met.ofW (cc := cX0_end) (maxL := 3) (ret := (some .int)) (by decide) rfl ?_
  intro p e s m args below meth c s₁ B hml hv
  obtain ⟨rfl, hsz, hW, hB⟩ := hv
  subst hsz
  have hx := B.exec
  have hb := B.bytes
  have hr := B.returns
  have hts := atoms_spec (ws := (ws_ yX0_end cX0_end 3 (some .int))) B.pre
  have hts : ∀ w ∈ lw_all, w.before _ s = true := fun w h => hts w (List.mem_cons_of_mem _ h)
  have hown : s.vm.findClass RX0 = some m.cls := findClass_of_methodNamed B.named
  have hlocks := B.notSynchronized
  have hN := AA.old hI hB
  have hS : va_S (AA A 156 s.heap.size) s.heap s.heap [] := va_S.rf
  have hl := lv_entry ([.ref (A 0), .int (iI n)]) (n := 3) (Nat.le_of_ble_eq_true rfl)
  rw [lg_entry_eq]
  generalize (lg_sl ([.ref (A 0), .int (iI n)]) ++ List.replicate (3 - (lg_sl ([.ref (A 0), .int (iI n)])).length) Slot.unset).toArray = ls at hl ⊢
  have hl : lv_has ls 3 [(0, .ref (A 0)), (1, .int (iI n))] := hl
  refine lv_iload_n hx hb dX0_end_0 rfl (lv_at hl 1 rfl) ?_
  refine ii_i2l hx hb (by omega) dX0_end_1 ?_
  refine ii_lconst (z := 0) hx hb dX0_end_2 rfl ?_
  refine lv_aload_n hx hb dX0_end_3 rfl (lv_at hl 0 rfl) ?_
  refine r_get (ci := 0) (k := 1) (v := .int (iI ((S 0) 0))) (C := RX0) (T := TX0) (N := 16) Z hB hx hb hts hown rfl in_X0 hW.obj (by decide) q793 rfl dX0_end_4 ?_
  refine ii_i2l hx hb (by omega) dX0_end_7 ?_
  refine cqI (va_runS (As := [.long (lI n), .long (lI 0), .long (lI ((S 0) 0))]) (rest := []) ⟨hx, hb, hml, hown, hts⟩ (mX0_isIn Z n (by omega) 0 (by omega) ((S 0) 0) (by omega)) (va_cwS 3 hts (lw_S q106 q107 q79 q108) rfl rfl rfl (by decide +kernel) ⟨Nat.le_of_ble_eq_true rfl, Nat.le_of_ble_eq_true rfl⟩) (psR (BornH.S hB hN hS) trivial) rfl rfl hl.1 rfl (lv_room (Nat.le_of_ble_eq_true rfl)) dX0_end_8 ⟨Nat.zero_le _, Nat.zero_le _⟩) ?_
  refine bb_if_ne (P := 0 ≤ n ∧ n ≤ ((S 0) 0)) (tgt := 16) hx hb dX0_end_11 (by decide) (fun c_1 => ?_) (fun c_1 => ?_)
  · -- 11 -> 16
    refine lv_aload_n hx hb dX0_end_16 rfl (lv_at hl 0 rfl) ?_
    refine r_get (ci := 0) (k := 1) (v := .int (iI ((S 0) 0))) (C := RX0) (T := TX0) (N := 16) Z hB hx hb hts hown rfl in_X0 hW.obj (by decide) q793 rfl dX0_end_17 ?_
    refine lv_istore_n (lv' := [(2, .int (iI ((S 0) 0))), (0, .ref (A 0)), (1, .int (iI n))]) hx hb dX0_end_20 rfl hl (by decide) rfl (fun ls hl => ?_)
    refine lv_aload_n hx hb dX0_end_21 rfl (lv_at hl 1 rfl) ?_
    refine lv_iload_n hx hb dX0_end_22 rfl (lv_at hl 2 rfl) ?_
    refine r_put (ci := 0) (k := 1) (C := RX0) (T := TX0) (N := 16) Z hB hx hb hts hown rfl in_X0 tyX0 tyX0_ok nmX0 hW.obj hS (Or.inl ⟨0, by omega, rfl⟩) (by decide) q793 rfl rfl rfl rfl (Nat.le_of_ble_eq_true rfl) dX0_end_23 (CW G A (up S 0 (up (S 0) 0 n)) R) (fun H1 hz oq ho => hW.setO hI (k := 0) (by omega) oq ho) (fun H locs hW hS => ?_)
    refine lv_iload_n hx hb dX0_end_26 rfl (lv_at hl 0 rfl) ?_
    have hpw9 : (CW G A (endT S n) R) H := (by rw [show (endT S n) = (up S 0 (up (S 0) 0 n)) by unfold endT; (repeat' split) <;> first | rfl | omega | (simp only [up_self20])]; exact hW)
    have he9 : ((S 0) 0) = (endA S n) := by unfold endA; (repeat' split) <;> first | rfl | omega
    exact W.iret hx hb hr (fun t ht hW9 => ⟨⟨_, (), rfl, congrArg iI he9, by show (CW G A (endT S n) R) t.heap; rw [ht]; exact hpw9⟩, hS.F ht⟩) hS.2.2 dX0_end_27
  · -- 11 -> 14
    refine ii_const hx hb dX0_end_14 ?_
    have hpw9 : (CW G A (endT S n) R) s.heap := (by rw [show (endT S n) = S by unfold endT; (repeat' split) <;> first | rfl | omega | (simp only [up_self20])]; exact hW)
    have he9 : (-1) = (endA S n) := by unfold endA; (repeat' split) <;> first | rfl | omega
    exact W.iret hx hb hr (fun t ht hW9 => ⟨⟨_, (), rfl, congrArg iI he9, by show (CW G A (endT S n) R) t.heap; rw [ht]; exact hpw9⟩, hS.F ht⟩) hS.2.2 dX0_end_15

set_option maxHeartbeats 1000000 in
set_option maxRecDepth 100000 in
theorem mX0_loose {l : Launch} {G : GG} {s0 : State} {b0 : Nat} (Z : ZZ l G s0 b0) (A : Nat → Nat) (hI : Own s0 A 156) (S : Sta) (R : Nat → Option Nat) (hF0 : WF (S 20)) (n : Int) (hn : inR n) (sz : Nat) : Met l yX0_loose (ws_ yX0_loose cX0_loose 3 (some .int)) ({ frames := 1, cells := 0, slots := 0, locals := 25 } : Room) (pcM s0 sz (CW G A S R) [.ref (A 0), .int (iI n)]) (mI (looseA (S 20) n) (CW G A (up S 20 (looseF (S 20) n)) R) (AA A 156 sz)) 0 0 (AA A 156 sz) := by
  refine Met.ofW (cc := cX0_loose) (maxL := 3) (ret := (some .int)) (by decide) rfl ?_
  intro p e s m args below meth c s₁ B hml hv
  obtain ⟨rfl, hsz, hW, hB⟩ := hv
  subst hsz
  have hx := B.exec
  have hb := B.bytes
  have hr := B.returns
  have hts := atoms_spec (ws := (ws_ yX0_loose cX0_loose 3 (some .int))) B.pre
  have hts : ∀ w ∈ lw_all, w.before _ s = true := fun w h => hts w (List.mem_cons_of_mem _ h)
  have hown : s.vm.findClass RX0 = some m.cls := findClass_of_methodNamed B.named
  have hlocks := B.notSynchronized
  have hN := AA.old hI hB
  have hS : va_S (AA A 156 s.heap.size) s.heap s.heap [] := va_S.rf
  have hl := lv_entry ([.ref (A 0), .int (iI n)]) (n := 3) (Nat.le_of_ble_eq_true rfl)
  rw [lg_entry_eq]
  generalize (lg_sl ([.ref (A 0), .int (iI n)]) ++ List.replicate (3 - (lg_sl ([.ref (A 0), .int (iI n)])).length) Slot.unset).toArray = ls at hl ⊢
  have hl : lv_has ls 3 [(0, .ref (A 0)), (1, .int (iI n))] := hl
  have hr6 := hF0.rm
  refine lv_iload_n hx hb dX0_loose_0 rfl (lv_at hl 1 rfl) ?_
  refine ii_i2l hx hb (by omega) dX0_loose_1 ?_
  refine ii_lconst (z := 0) hx hb dX0_loose_2 rfl ?_
  refine lv_aload_n hx hb dX0_loose_3 rfl (lv_at hl 0 rfl) ?_
  refine r_get (ci := 0) (k := 3) (v := .ref (A 36)) (C := RX0) (T := TX0) (N := 16) Z hB hx hb hts hown rfl in_X0 hW.obj (by decide) q796 rfl dX0_loose_4 ?_
  have b_370 := hF0.rm 
  refine r_getN (ci := 1) (k := 4) (v := .int (iI ((S 20) 53))) (C := RX1) (T := TX1) (N := 8) Z hB hx hb hts hown rfl in_X1 (((hW.fw (f := 0) (by omega) (F := (S 20)) rfl)).1) (by decide) q149 rfl dX0_loose_7 ?_
  refine ii_i2l hx hb (by omega) dX0_loose_10 ?_
  refine cqI (va_runS (As := [.long (lI n), .long (lI 0), .long (lI ((S 20) 53))]) (rest := []) ⟨hx, hb, hml, hown, hts⟩ (mX0_isIn Z n (by omega) 0 (by omega) ((S 20) 53) (by omega)) (va_cwS 3 hts (lw_S q106 q107 q79 q108) rfl rfl rfl (by decide +kernel) ⟨Nat.le_of_ble_eq_true rfl, Nat.le_of_ble_eq_true rfl⟩) (psR (BornH.S hB hN hS) trivial) rfl rfl hl.1 rfl (lv_room (Nat.le_of_ble_eq_true rfl)) dX0_loose_11 ⟨Nat.zero_le _, Nat.zero_le _⟩) ?_
  refine bb_if_ne (P := 0 ≤ n ∧ n ≤ ((S 20) 53)) (tgt := 19) hx hb dX0_loose_14 (by decide) (fun c_1 => ?_) (fun c_1 => ?_)
  · -- 14 -> 19
    refine lv_aload_n hx hb dX0_loose_19 rfl (lv_at hl 0 rfl) ?_
    refine r_get (ci := 0) (k := 3) (v := .ref (A 36)) (C := RX0) (T := TX0) (N := 16) Z hB hx hb hts hown rfl in_X0 hW.obj (by decide) q796 rfl dX0_loose_20 ?_
    have b_374 := hF0.rm 
    refine r_getN (ci := 1) (k := 4) (v := .int (iI ((S 20) 53))) (C := RX1) (T := TX1) (N := 8) Z hB hx hb hts hown rfl in_X1 (((hW.fw (f := 0) (by omega) (F := (S 20)) rfl)).1) (by decide) q149 rfl dX0_loose_23 ?_
    refine lv_istore_n (lv' := [(2, .int (iI ((S 20) 53))), (0, .ref (A 0)), (1, .int (iI n))]) hx hb dX0_loose_26 rfl hl (by decide) rfl (fun ls hl => ?_)
    refine lv_aload_n hx hb dX0_loose_27 rfl (lv_at hl 1 rfl) ?_
    refine r_get (ci := 0) (k := 3) (v := .ref (A 36)) (C := RX0) (T := TX0) (N := 16) Z hB hx hb hts hown rfl in_X0 hW.obj (by decide) q796 rfl dX0_loose_28 ?_
    refine lv_iload_n hx hb dX0_loose_31 rfl (lv_at hl 2 rfl) ?_
    refine r_putN (ci := 1) (k := 4) (C := RX1) (T := TX1) (N := 8) Z hB hx hb hts hown rfl in_X1 tyX1 tyX1_ok nmX1 (((hW.fw (f := 0) (by omega) (F := (S 20)) rfl)).1) hS (Or.inl ⟨36 + 20 * 0 + (0), by omega, rfl⟩) (by decide) q149 rfl rfl rfl rfl (Nat.le_of_ble_eq_true rfl) dX0_loose_32 (CW G A (up S 20 (up (S 20) 53 n)) R) (fun H1 hz oq ho => hW.storeF hI (f := 0) (c := 0) (by omega) (by omega) oq (FW.setO ((hW.fw (f := 0) (by omega) (F := (S 20)) rfl)) (hI.fa (f := 0) (by omega)) (k := 53) (by omega) oq ho)) (fun H locs hW hS => ?_)
    refine lv_iload_n hx hb dX0_loose_35 rfl (lv_at hl 0 rfl) ?_
    have hpw9 : (CW G A (up S 20 (looseF (S 20) n)) R) H := (by rw [show (up S 20 (looseF (S 20) n)) = (up S 20 (up (S 20) 53 n)) by unfold looseF; (repeat' split) <;> first | rfl | omega | (simp only [up_self20])]; exact hW)
    have he9 : ((S 20) 53) = (looseA (S 20) n) := by unfold looseA; (repeat' split) <;> first | rfl | omega
    exact W.iret hx hb hr (fun t ht hW9 => ⟨⟨_, (), rfl, congrArg iI he9, by show (CW G A (up S 20 (looseF (S 20) n)) R) t.heap; rw [ht]; exact hpw9⟩, hS.F ht⟩) hS.2.2 dX0_loose_36
  · -- 14 -> 17
    refine ii_const hx hb dX0_loose_17 ?_
    have hpw9 : (CW G A (up S 20 (looseF (S 20) n)) R) s.heap := (by rw [show (up S 20 (looseF (S 20) n)) = S by unfold looseF; (repeat' split) <;> first | rfl | omega | (simp only [up_self20])]; exact hW)
    have he9 : (-1) = (looseA (S 20) n) := by unfold looseA; (repeat' split) <;> first | rfl | omega
    exact W.iret hx hb hr (fun t ht hW9 => ⟨⟨_, (), rfl, congrArg iI he9, by show (CW G A (up S 20 (looseF (S 20) n)) R) t.heap; rw [ht]; exact hpw9⟩, hS.F ht⟩) hS.2.2 dX0_loose_18

set_option maxHeartbeats 1000000 in
set_option maxRecDepth 100000 in
theorem mX0_feast {l : Launch} {G : GG} {s0 : State} {b0 : Nat} (Z : ZZ l G s0 b0) (A : Nat → Nat) (hI : Own s0 A 156) (S : Sta) (R : Nat → Option Nat) (hF0 : WF (S 20)) (v : Int) (hv : inR v) (sz : Nat) : Met l yX0_feast (ws_ yX0_feast cX0_feast 3 (some .int)) ({ frames := 1, cells := 0, slots := 0, locals := 25 } : Room) (pcM s0 sz (CW G A S R) [.ref (A 0), .int (iI v)]) (mI (feastA (S 20) v) (CW G A (up S 20 (feastF (S 20) v)) R) (AA A 156 sz)) 0 0 (AA A 156 sz) := by
  refine Met.ofW (cc := cX0_feast) (maxL := 3) (ret := (some .int)) (by decide) rfl ?_
  intro p e s m args below meth c s₁ B hml hv
  obtain ⟨rfl, hsz, hW, hB⟩ := hv
  subst hsz
  have hx := B.exec
  have hb := B.bytes
  have hr := B.returns
  have hts := atoms_spec (ws := (ws_ yX0_feast cX0_feast 3 (some .int))) B.pre
  have hts : ∀ w ∈ lw_all, w.before _ s = true := fun w h => hts w (List.mem_cons_of_mem _ h)
  have hown : s.vm.findClass RX0 = some m.cls := findClass_of_methodNamed B.named
  have hlocks := B.notSynchronized
  have hN := AA.old hI hB
  have hS : va_S (AA A 156 s.heap.size) s.heap s.heap [] := va_S.rf
  have hl := lv_entry ([.ref (A 0), .int (iI v)]) (n := 3) (Nat.le_of_ble_eq_true rfl)
  rw [lg_entry_eq]
  generalize (lg_sl ([.ref (A 0), .int (iI v)]) ++ List.replicate (3 - (lg_sl ([.ref (A 0), .int (iI v)])).length) Slot.unset).toArray = ls at hl ⊢
  have hl : lv_has ls 3 [(0, .ref (A 0)), (1, .int (iI v))] := hl
  have hfe := hF0.fe
  refine lv_iload_n hx hb dX0_feast_0 rfl (lv_at hl 1 rfl) ?_
  refine ii_i2l hx hb (by omega) dX0_feast_1 ?_
  refine ii_lconst (z := 0) hx hb dX0_feast_2 rfl ?_
  refine ii_ldc2 (z := 6) hx hb hts hown q559 dX0_feast_3 (by decide) ?_
  refine cqI (va_runS (As := [.long (lI v), .long (lI 0), .long (lI 6)]) (rest := []) ⟨hx, hb, hml, hown, hts⟩ (mX0_isIn Z v (by omega) 0 (by omega) 6 (by omega)) (va_cwS 3 hts (lw_S q106 q107 q79 q108) rfl rfl rfl (by decide +kernel) ⟨Nat.le_of_ble_eq_true rfl, Nat.le_of_ble_eq_true rfl⟩) (psR (BornH.S hB hN hS) trivial) rfl rfl hl.1 rfl (lv_room (Nat.le_of_ble_eq_true rfl)) dX0_feast_6 ⟨Nat.zero_le _, Nat.zero_le _⟩) ?_
  refine bb_if_ne (P := 0 ≤ v ∧ v ≤ 6) (tgt := 14) hx hb dX0_feast_9 (by decide) (fun c_1 => ?_) (fun c_1 => ?_)
  · -- 9 -> 14
    refine lv_aload_n hx hb dX0_feast_14 rfl (lv_at hl 0 rfl) ?_
    refine r_get (ci := 0) (k := 3) (v := .ref (A 36)) (C := RX0) (T := TX0) (N := 16) Z hB hx hb hts hown rfl in_X0 hW.obj (by decide) q796 rfl dX0_feast_15 ?_
    have b_383 := hF0.fe 
    refine r_getN (ci := 1) (k := 5) (v := .int (iI ((S 20) 55))) (C := RX1) (T := TX1) (N := 8) Z hB hx hb hts hown rfl in_X1 (((hW.fw (f := 0) (by omega) (F := (S 20)) rfl)).1) (by decide) q153 rfl dX0_feast_18 ?_
    refine lv_istore_n (lv' := [(2, .int (iI ((S 20) 55))), (0, .ref (A 0)), (1, .int (iI v))]) hx hb dX0_feast_21 rfl hl (by decide) rfl (fun ls hl => ?_)
    refine lv_aload_n hx hb dX0_feast_22 rfl (lv_at hl 1 rfl) ?_
    refine r_get (ci := 0) (k := 3) (v := .ref (A 36)) (C := RX0) (T := TX0) (N := 16) Z hB hx hb hts hown rfl in_X0 hW.obj (by decide) q796 rfl dX0_feast_23 ?_
    refine lv_iload_n hx hb dX0_feast_26 rfl (lv_at hl 2 rfl) ?_
    refine r_putN (ci := 1) (k := 5) (C := RX1) (T := TX1) (N := 8) Z hB hx hb hts hown rfl in_X1 tyX1 tyX1_ok nmX1 (((hW.fw (f := 0) (by omega) (F := (S 20)) rfl)).1) hS (Or.inl ⟨36 + 20 * 0 + (0), by omega, rfl⟩) (by decide) q153 rfl rfl rfl rfl (Nat.le_of_ble_eq_true rfl) dX0_feast_27 (CW G A (up S 20 (up (S 20) 55 v)) R) (fun H1 hz oq ho => hW.storeF hI (f := 0) (c := 0) (by omega) (by omega) oq (FW.setO ((hW.fw (f := 0) (by omega) (F := (S 20)) rfl)) (hI.fa (f := 0) (by omega)) (k := 55) (by omega) oq ho)) (fun H locs hW hS => ?_)
    refine lv_iload_n hx hb dX0_feast_30 rfl (lv_at hl 0 rfl) ?_
    have hpw9 : (CW G A (up S 20 (feastF (S 20) v)) R) H := (by rw [show (up S 20 (feastF (S 20) v)) = (up S 20 (up (S 20) 55 v)) by unfold feastF; (repeat' split) <;> first | rfl | omega | (simp only [up_self20])]; exact hW)
    have he9 : ((S 20) 55) = (feastA (S 20) v) := by unfold feastA; (repeat' split) <;> first | rfl | omega
    exact W.iret hx hb hr (fun t ht hW9 => ⟨⟨_, (), rfl, congrArg iI he9, by show (CW G A (up S 20 (feastF (S 20) v)) R) t.heap; rw [ht]; exact hpw9⟩, hS.F ht⟩) hS.2.2 dX0_feast_31
  · -- 9 -> 12
    refine ii_const hx hb dX0_feast_12 ?_
    have hpw9 : (CW G A (up S 20 (feastF (S 20) v)) R) s.heap := (by rw [show (up S 20 (feastF (S 20) v)) = S by unfold feastF; (repeat' split) <;> first | rfl | omega | (simp only [up_self20])]; exact hW)
    have he9 : (-1) = (feastA (S 20) v) := by unfold feastA; (repeat' split) <;> first | rfl | omega
    exact W.iret hx hb hr (fun t ht hW9 => ⟨⟨_, (), rfl, congrArg iI he9, by show (CW G A (up S 20 (feastF (S 20) v)) R) t.heap; rw [ht]; exact hpw9⟩, hS.F ht⟩) hS.2.2 dX0_feast_13

set_option maxHeartbeats 1000000 in
set_option maxRecDepth 100000 in
theorem mX0_haul {l : Launch} {G : GG} {s0 : State} {b0 : Nat} (Z : ZZ l G s0 b0) (A : Nat → Nat) (hI : Own s0 A 156) (S : Sta) (R : Nat → Option Nat) (hF0 : WF (S 20)) (k : Int) (hk : inR k) (v : Int) (hv : inR v) (sz : Nat) : Met l yX0_haul (ws_ yX0_haul cX0_haul 4 (some .int)) ({ frames := 2, cells := 0, slots := 0, locals := 46 } : Room) (pcM s0 sz (CW G A S R) [.ref (A 0), .int (iI k), .int (iI v)]) (mI (haulA (S 20) k v) (CW G A (up S 20 (haulF (S 20) k v)) R) (AA A 156 sz)) 0 0 (AA A 156 sz) := by
  refine Met.ofW (cc := cX0_haul) (maxL := 4) (ret := (some .int)) (by decide) rfl ?_
  intro p e s m args below meth c s₁ B hml hv
  obtain ⟨rfl, hsz, hW, hB⟩ := hv
  subst hsz
  have hx := B.exec
  have hb := B.bytes
  have hr := B.returns
  have hts := atoms_spec (ws := (ws_ yX0_haul cX0_haul 4 (some .int))) B.pre
  have hts : ∀ w ∈ lw_all, w.before _ s = true := fun w h => hts w (List.mem_cons_of_mem _ h)
  have hown : s.vm.findClass RX0 = some m.cls := findClass_of_methodNamed B.named
  have hlocks := B.notSynchronized
  have hN := AA.old hI hB
  have hS : va_S (AA A 156 s.heap.size) s.heap s.heap [] := va_S.rf
  have hl := lv_entry ([.ref (A 0), .int (iI k), .int (iI v)]) (n := 4) (Nat.le_of_ble_eq_true rfl)
  rw [lg_entry_eq]
  generalize (lg_sl ([.ref (A 0), .int (iI k), .int (iI v)]) ++ List.replicate (4 - (lg_sl ([.ref (A 0), .int (iI k), .int (iI v)])).length) Slot.unset).toArray = ls at hl ⊢
  have hl : lv_has ls 4 [(0, .ref (A 0)), (1, .int (iI k)), (2, .int (iI v))] := hl
  have hr6 := hF0.rm
  refine lv_aload_n hx hb dX0_haul_0 rfl (lv_at hl 0 rfl) ?_
  refine lv_iload_n hx hb dX0_haul_1 rfl (lv_at hl 1 rfl) ?_
  refine cqI (va_runV (As := [.int (iI k)]) (rest := []) ⟨hx, hb, hml, hown, hts⟩ (mX0_isRope Z A S R hF0 k (by omega)) (cwV 1 hts (lw_V q513 q515 qs16 q79 q516) rfl rfl rfl (by decide +kernel) ⟨Nat.le_of_ble_eq_true rfl, Nat.le_of_ble_eq_true rfl⟩) (pvR (BornH.S hB hN hS) (OBJ.recv Z hB hW.obj (q := (RX0, TX0, 16)) rfl) hW) rfl rfl hl.1 rfl (lv_room (Nat.le_of_ble_eq_true rfl)) dX0_haul_2 ⟨Nat.zero_le _, Nat.zero_le _⟩) ?_
  refine bb_if_eq (P := okR (S 20) k) (tgt := 20) hx hb dX0_haul_5 (by decide) (fun c_1 => ?_) (fun c_1 => ?_)
  · -- 5 -> 20
    refine ii_const hx hb dX0_haul_20 ?_
    have hpw9 : (CW G A (up S 20 (haulF (S 20) k v)) R) s.heap := (by rw [show (up S 20 (haulF (S 20) k v)) = S by unfold haulF; (repeat' split) <;> first | rfl | omega | (simp only [up_self20])]; exact hW)
    have he9 : (-1) = (haulA (S 20) k v) := by unfold haulA; (repeat' split) <;> first | rfl | omega
    exact W.iret hx hb hr (fun t ht hW9 => ⟨⟨_, (), rfl, congrArg iI he9, by show (CW G A (up S 20 (haulF (S 20) k v)) R) t.heap; rw [ht]; exact hpw9⟩, hS.F ht⟩) hS.2.2 dX0_haul_21
  · -- 5 -> 8
    refine lv_iload_n hx hb dX0_haul_8 rfl (lv_at hl 2 rfl) ?_
    refine ii_i2l hx hb (by omega) dX0_haul_9 ?_
    refine ii_lconst (z := 1) hx hb dX0_haul_10 rfl ?_
    refine ii_ldc2 (z := 30) hx hb hts hown q545 dX0_haul_11 (by decide) ?_
    refine cqI (va_runS (As := [.long (lI v), .long (lI 1), .long (lI 30)]) (rest := []) ⟨hx, hb, hml, hown, hts⟩ (mX0_isIn Z v (by omega) 1 (by omega) 30 (by omega)) (va_cwS 3 hts (lw_S q106 q107 q79 q108) rfl rfl rfl (by decide +kernel) ⟨Nat.le_of_ble_eq_true rfl, Nat.le_of_ble_eq_true rfl⟩) (psR (BornH.S hB hN hS) trivial) rfl rfl hl.1 rfl (lv_room (Nat.le_of_ble_eq_true rfl)) dX0_haul_14 ⟨Nat.zero_le _, Nat.zero_le _⟩) ?_
    refine bb_if_ne (P := 1 ≤ v ∧ v ≤ 30) (tgt := 22) hx hb dX0_haul_17 (by decide) (fun c_2 => ?_) (fun c_2 => ?_)
    · -- 17 -> 22
      refine lv_aload_n hx hb dX0_haul_22 rfl (lv_at hl 0 rfl) ?_
      refine r_get (ci := 0) (k := 3) (v := .ref (A 36)) (C := RX0) (T := TX0) (N := 16) Z hB hx hb hts hown rfl in_X0 hW.obj (by decide) q796 rfl dX0_haul_23 ?_
      refine r_getN (ci := 1) (k := 2) (v := .ref ((fa A 0) 13)) (C := RX1) (T := TX1) (N := 8) Z hB hx hb hts hown rfl in_X1 (((hW.fw (f := 0) (by omega) (F := (S 20)) rfl)).1) (by decide) q144 rfl dX0_haul_26 ?_
      refine lv_iload_n hx hb dX0_haul_29 rfl (lv_at hl 1 rfl) ?_
      refine r_aald (t := 1) (ty := .array .int) (k := (k).toNat) Z hB hx hb rfl rfl (((hW.fw (f := 0) (by omega) (F := (S 20)) rfl)).2.2.2.2.2.1) (by omega) (by omega) (by omega) rfl dX0_haul_30 ?_
      refine ii_const hx hb dX0_haul_31 ?_
      have b_393 := hF0.r2 (k).toNat (by omega)
      refine r_iald (k := 2) Z hB hx hb (((hW.fw (f := 0) (by omega) (F := (S 20)) rfl)).2.2.2.2.2.2 (k).toNat (by omega)) (by omega) (by omega) (by omega) dX0_haul_32 ?_
      refine lv_istore_n (lv' := [(3, .int (iI ((S 20) (35 + 3 * (k).toNat + 2)))), (0, .ref (A 0)), (1, .int (iI k)), (2, .int (iI v))]) hx hb dX0_haul_33 rfl hl (by decide) rfl (fun ls hl => ?_)
      refine lv_aload_n hx hb dX0_haul_34 rfl (lv_at hl 1 rfl) ?_
      refine r_get (ci := 0) (k := 3) (v := .ref (A 36)) (C := RX0) (T := TX0) (N := 16) Z hB hx hb hts hown rfl in_X0 hW.obj (by decide) q796 rfl dX0_haul_35 ?_
      refine r_getN (ci := 1) (k := 2) (v := .ref ((fa A 0) 13)) (C := RX1) (T := TX1) (N := 8) Z hB hx hb hts hown rfl in_X1 (((hW.fw (f := 0) (by omega) (F := (S 20)) rfl)).1) (by decide) q144 rfl dX0_haul_38 ?_
      refine lv_iload_n hx hb dX0_haul_41 rfl (lv_at hl 2 rfl) ?_
      refine r_aald (t := 1) (ty := .array .int) (k := (k).toNat) Z hB hx hb rfl rfl (((hW.fw (f := 0) (by omega) (F := (S 20)) rfl)).2.2.2.2.2.1) (by omega) (by omega) (by omega) rfl dX0_haul_42 ?_
      refine ii_const hx hb dX0_haul_43 ?_
      refine lv_iload_n hx hb dX0_haul_44 rfl (lv_at hl 3 rfl) ?_
      refine r_iast (k := 2) Z hB hx hb (((hW.fw (f := 0) (by omega) (F := (S 20)) rfl)).2.2.2.2.2.2 (k).toNat (by omega)) hS (Or.inl ⟨36 + 20 * 0 + (14 + (k).toNat), by omega, rfl⟩) (by omega) (by omega) (by omega) dX0_haul_45 (CW G A (up S 20 (up (S 20) (35 + 3 * (k).toNat + 2) v)) R) (fun H1 hz oq ha => hW.storeF hI (f := 0) (c := 14 + (k).toNat) (by omega) (by omega) oq (FW.setR ((hW.fw (f := 0) (by omega) (F := (S 20)) rfl)) (hI.fa (f := 0) (by omega)) (by omega) (by omega) oq ha)) (fun H locs hW hS => ?_)
      refine lv_iload_n hx hb dX0_haul_46 rfl (lv_at hl 0 rfl) ?_
      have hpw9 : (CW G A (up S 20 (haulF (S 20) k v)) R) H := (by rw [show (up S 20 (haulF (S 20) k v)) = (up S 20 (up (S 20) (35 + 3 * (k).toNat + 2) v)) by unfold haulF; (repeat' split) <;> first | rfl | omega | (simp only [up_self20])]; exact hW)
      have he9 : ((S 20) (35 + 3 * (k).toNat + 2)) = (haulA (S 20) k v) := by unfold haulA; (repeat' split) <;> first | rfl | omega
      exact W.iret hx hb hr (fun t ht hW9 => ⟨⟨_, (), rfl, congrArg iI he9, by show (CW G A (up S 20 (haulF (S 20) k v)) R) t.heap; rw [ht]; exact hpw9⟩, hS.F ht⟩) hS.2.2 dX0_haul_47
    · -- 17 -> 20
      refine ii_const hx hb dX0_haul_20 ?_
      have hpw9 : (CW G A (up S 20 (haulF (S 20) k v)) R) s.heap := (by rw [show (up S 20 (haulF (S 20) k v)) = S by unfold haulF; (repeat' split) <;> first | rfl | omega | (simp only [up_self20])]; exact hW)
      have he9 : (-1) = (haulA (S 20) k v) := by unfold haulA; (repeat' split) <;> first | rfl | omega
      exact W.iret hx hb hr (fun t ht hW9 => ⟨⟨_, (), rfl, congrArg iI he9, by show (CW G A (up S 20 (haulF (S 20) k v)) R) t.heap; rw [ht]; exact hpw9⟩, hS.F ht⟩) hS.2.2 dX0_haul_21

set_option maxHeartbeats 1000000 in
set_option maxRecDepth 100000 in
theorem mX0_wed {l : Launch} {G : GG} {s0 : State} {b0 : Nat} (Z : ZZ l G s0 b0) (A : Nat → Nat) (hI : Own s0 A 156) (S : Sta) (R : Nat → Option Nat) (hF0 : WF (S 20)) (i : Int) (hi : inR i) (j : Int) (hj : inR j) (n : Int) (hn : inR n) (sz : Nat) : Met l yX0_wed (ws_ yX0_wed cX0_wed 4 (some .int)) ({ frames := 3, cells := 0, slots := 0, locals := 68 } : Room) (pcM s0 sz (CW G A S R) [.ref (A 0), .int (iI i), .int (iI j), .int (iI n)]) (mI (wedA (S 20) i j n) (CW G A (up S 20 (wedF (S 20) i j n)) R) (AA A 156 sz)) 0 0 (AA A 156 sz) := by
  refine Met.ofW (cc := cX0_wed) (maxL := 4) (ret := (some .int)) (by decide) rfl ?_
  intro p e s m args below meth c s₁ B hml hv
  obtain ⟨rfl, hsz, hW, hB⟩ := hv
  subst hsz
  have hx := B.exec
  have hb := B.bytes
  have hr := B.returns
  have hts := atoms_spec (ws := (ws_ yX0_wed cX0_wed 4 (some .int))) B.pre
  have hts : ∀ w ∈ lw_all, w.before _ s = true := fun w h => hts w (List.mem_cons_of_mem _ h)
  have hown : s.vm.findClass RX0 = some m.cls := findClass_of_methodNamed B.named
  have hlocks := B.notSynchronized
  have hN := AA.old hI hB
  have hS : va_S (AA A 156 s.heap.size) s.heap s.heap [] := va_S.rf
  have hl := lv_entry ([.ref (A 0), .int (iI i), .int (iI j), .int (iI n)]) (n := 4) (Nat.le_of_ble_eq_true rfl)
  rw [lg_entry_eq]
  generalize (lg_sl ([.ref (A 0), .int (iI i), .int (iI j), .int (iI n)]) ++ List.replicate (4 - (lg_sl ([.ref (A 0), .int (iI i), .int (iI j), .int (iI n)])).length) Slot.unset).toArray = ls at hl ⊢
  have hl : lv_has ls 4 [(0, .ref (A 0)), (1, .int (iI i)), (2, .int (iI j)), (3, .int (iI n))] := hl
  have hn5 := hF0.n
  have hr6 := hF0.rm
  refine lv_aload_n hx hb dX0_wed_0 rfl (lv_at hl 0 rfl) ?_
  refine lv_iload_n hx hb dX0_wed_1 rfl (lv_at hl 1 rfl) ?_
  refine lv_iload_n hx hb dX0_wed_2 rfl (lv_at hl 2 rfl) ?_
  refine cqI (va_runV (As := [.int (iI i), .int (iI j)]) (rest := []) ⟨hx, hb, hml, hown, hts⟩ (mX0_areTwo Z A S R hF0 i (by omega) j (by omega)) (cwV 2 hts (lw_V q505 q507 qs15 q79 q508) rfl rfl rfl (by decide +kernel) ⟨Nat.le_of_ble_eq_true rfl, Nat.le_of_ble_eq_true rfl⟩) (pvR (BornH.S hB hN hS) (OBJ.recv Z hB hW.obj (q := (RX0, TX0, 16)) rfl) hW) rfl rfl hl.1 rfl (lv_room (Nat.le_of_ble_eq_true rfl)) dX0_wed_3 ⟨Nat.zero_le _, Nat.zero_le _⟩) ?_
  refine bb_if_eq (P := ok2 (S 20) i j) (tgt := 21) hx hb dX0_wed_6 (by decide) (fun c_1 => ?_) (fun c_1 => ?_)
  · -- 6 -> 21
    refine ii_const hx hb dX0_wed_21 ?_
    have hpw9 : (CW G A (up S 20 (wedF (S 20) i j n)) R) s.heap := (by rw [show (up S 20 (wedF (S 20) i j n)) = S by unfold wedF; (repeat' split) <;> first | rfl | omega | (simp only [up_self20])]; exact hW)
    have he9 : (-1) = (wedA (S 20) i j n) := by unfold wedA; (repeat' split) <;> first | rfl | omega
    exact W.iret hx hb hr (fun t ht hW9 => ⟨⟨_, (), rfl, congrArg iI he9, by show (CW G A (up S 20 (wedF (S 20) i j n)) R) t.heap; rw [ht]; exact hpw9⟩, hS.F ht⟩) hS.2.2 dX0_wed_22
  · -- 6 -> 9
    refine lv_iload_n hx hb dX0_wed_9 rfl (lv_at hl 3 rfl) ?_
    refine ii_i2l hx hb (by omega) dX0_wed_10 ?_
    refine ii_lconst (z := 1) hx hb dX0_wed_11 rfl ?_
    refine ii_ldc2 (z := 30) hx hb hts hown q545 dX0_wed_12 (by decide) ?_
    refine cqI (va_runS (As := [.long (lI n), .long (lI 1), .long (lI 30)]) (rest := []) ⟨hx, hb, hml, hown, hts⟩ (mX0_isIn Z n (by omega) 1 (by omega) 30 (by omega)) (va_cwS 3 hts (lw_S q106 q107 q79 q108) rfl rfl rfl (by decide +kernel) ⟨Nat.le_of_ble_eq_true rfl, Nat.le_of_ble_eq_true rfl⟩) (psR (BornH.S hB hN hS) trivial) rfl rfl hl.1 rfl (lv_room (Nat.le_of_ble_eq_true rfl)) dX0_wed_15 ⟨Nat.zero_le _, Nat.zero_le _⟩) ?_
    refine bb_if_ne (P := 1 ≤ n ∧ n ≤ 30) (tgt := 23) hx hb dX0_wed_18 (by decide) (fun c_2 => ?_) (fun c_2 => ?_)
    · -- 18 -> 23
      refine lv_aload_n hx hb dX0_wed_23 rfl (lv_at hl 0 rfl) ?_
      refine r_get (ci := 0) (k := 3) (v := .ref (A 36)) (C := RX0) (T := TX0) (N := 16) Z hB hx hb hts hown rfl in_X0 hW.obj (by decide) q796 rfl dX0_wed_24 ?_
      have b_399 := hF0.rm 
      refine r_getN (ci := 1) (k := 4) (v := .int (iI ((S 20) 53))) (C := RX1) (T := TX1) (N := 8) Z hB hx hb hts hown rfl in_X1 (((hW.fw (f := 0) (by omega) (F := (S 20)) rfl)).1) (by decide) q149 rfl dX0_wed_27 ?_
      refine ii_bipush hx hb dX0_wed_30 (by decide) ?_
      refine ii_icmp_ne (tgt := 38) hx hb dX0_wed_32 (by decide) (by omega) (by omega) (fun c_3 => ?_) (fun c_3 => ?_)
      · -- 32 -> 38
        refine lv_aload_n hx hb dX0_wed_38 rfl (lv_at hl 0 rfl) ?_
        refine r_get (ci := 0) (k := 3) (v := .ref (A 36)) (C := RX0) (T := TX0) (N := 16) Z hB hx hb hts hown rfl in_X0 hW.obj (by decide) q796 rfl dX0_wed_39 ?_
        refine lv_iload_n hx hb dX0_wed_42 rfl (lv_at hl 1 rfl) ?_
        refine lv_iload_n hx hb dX0_wed_43 rfl (lv_at hl 2 rfl) ?_
        refine lv_iload_n hx hb dX0_wed_44 rfl (lv_at hl 3 rfl) ?_
        refine cmV (va_runV (As := [.int (iI i), .int (iI j), .int (iI n)]) (rest := []) ⟨hx, hb, hml, hown, hts⟩ (mX1_weds Z (fa A 0) (hI.fa (by omega)) (S 20) hF0 i j n (by omega) s.heap.size) (cwV 3 hts (lw_V q550 q417 q418 q80 q419) rfl rfl rfl (by decide +kernel) ⟨Nat.le_of_ble_eq_true rfl, Nat.le_of_ble_eq_true rfl⟩) (pvM (BornH.S hB hN hS) (OBJ.recv Z hB ((hW.fw (f := 0) (by omega) (F := (S 20)) rfl)).1 (q := (RX1, TX1, 8)) rfl) (hW.fw (f := 0) (by omega) (F := (S 20)) rfl)) rfl rfl hl.1 rfl (lv_room (Nat.le_of_ble_eq_true rfl)) dX0_wed_45 ⟨Nat.zero_le _, Nat.zero_le _⟩) hS (AA.fa (by omega) hS.1) (fun H1 locs hW1 hz1 hk1 hS => ?_)
        have hW := hW.joinF hI (f := 0) (by omega) hk1 hW1
        clear hW1 hk1 hz1
        generalize H1 = H at hW hS ⊢
        refine lv_aload_n hx hb dX0_wed_48 rfl (lv_at hl 0 rfl) ?_
        refine r_get (ci := 0) (k := 3) (v := .ref (A 36)) (C := RX0) (T := TX0) (N := 16) Z hB hx hb hts hown rfl in_X0 hW.obj (by decide) q796 rfl dX0_wed_49 ?_
        refine r_getN (ci := 1) (k := 4) (v := .int (iI ((wedS (S 20) i j n) 53))) (C := RX1) (T := TX1) (N := 8) Z hB hx hb hts hown rfl in_X1 (((hW.fw (f := 0) (by omega) (F := (wedS (S 20) i j n)) (up_s _ _ _))).1) (by decide) q149 rfl dX0_wed_52 ?_
        have hpw9 : (CW G A (up S 20 (wedF (S 20) i j n)) R) H := (by rw [show (up S 20 (wedF (S 20) i j n)) = (up S 20 (wedS (S 20) i j n)) by unfold wedF; (repeat' split) <;> first | rfl | omega | (simp only [up_self20])]; exact hW)
        have he9 : ((wedS (S 20) i j n) 53) = (wedA (S 20) i j n) := by unfold wedA; (repeat' split) <;> first | rfl | omega
        exact W.iret hx hb hr (fun t ht hW9 => ⟨⟨_, (), rfl, congrArg iI he9, by show (CW G A (up S 20 (wedF (S 20) i j n)) R) t.heap; rw [ht]; exact hpw9⟩, hS.F ht⟩) hS.2.2 dX0_wed_55
      · -- 32 -> 35
        refine ii_bipush hx hb dX0_wed_35 (by decide) ?_
        have hpw9 : (CW G A (up S 20 (wedF (S 20) i j n)) R) s.heap := (by rw [show (up S 20 (wedF (S 20) i j n)) = S by unfold wedF; (repeat' split) <;> first | rfl | omega | (simp only [up_self20])]; exact hW)
        have he9 : (-3) = (wedA (S 20) i j n) := by unfold wedA; (repeat' split) <;> first | rfl | omega
        exact W.iret hx hb hr (fun t ht hW9 => ⟨⟨_, (), rfl, congrArg iI he9, by show (CW G A (up S 20 (wedF (S 20) i j n)) R) t.heap; rw [ht]; exact hpw9⟩, hS.F ht⟩) hS.2.2 dX0_wed_37
    · -- 18 -> 21
      refine ii_const hx hb dX0_wed_21 ?_
      have hpw9 : (CW G A (up S 20 (wedF (S 20) i j n)) R) s.heap := (by rw [show (up S 20 (wedF (S 20) i j n)) = S by unfold wedF; (repeat' split) <;> first | rfl | omega | (simp only [up_self20])]; exact hW)
      have he9 : (-1) = (wedA (S 20) i j n) := by unfold wedA; (repeat' split) <;> first | rfl | omega
      exact W.iret hx hb hr (fun t ht hW9 => ⟨⟨_, (), rfl, congrArg iI he9, by show (CW G A (up S 20 (wedF (S 20) i j n)) R) t.heap; rw [ht]; exact hpw9⟩, hS.F ht⟩) hS.2.2 dX0_wed_22

set_option maxHeartbeats 1000000 in
set_option maxRecDepth 100000 in
theorem mX0_forget {l : Launch} {G : GG} {s0 : State} {b0 : Nat} (Z : ZZ l G s0 b0) (A : Nat → Nat) (hI : Own s0 A 156) (S : Sta) (R : Nat → Option Nat) (hF0 : WF (S 20)) (ht0 : 0 ≤ S 0 3 ∧ S 0 3 ≤ 6) (n : Int) (hn : inR n) (sz : Nat) : Met l yX0_forget (ws_ yX0_forget cX0_forget 3 (some .int)) ({ frames := 1, cells := 0, slots := 0, locals := 25 } : Room) (pcM s0 sz (CW G A S R) [.ref (A 0), .int (iI n)]) (mI (forgetA S n) (CW G A (forgetT S n) R) (AA A 156 sz)) 0 0 (AA A 156 sz) := by
  refine Met.ofW (cc := cX0_forget) (maxL := 3) (ret := (some .int)) (by decide) rfl ?_
  intro p e s m args below meth c s₁ B hml hv
  obtain ⟨rfl, hsz, hW, hB⟩ := hv
  subst hsz
  have hx := B.exec
  have hb := B.bytes
  have hr := B.returns
  have hts := atoms_spec (ws := (ws_ yX0_forget cX0_forget 3 (some .int))) B.pre
  have hts : ∀ w ∈ lw_all, w.before _ s = true := fun w h => hts w (List.mem_cons_of_mem _ h)
  have hown : s.vm.findClass RX0 = some m.cls := findClass_of_methodNamed B.named
  have hlocks := B.notSynchronized
  have hN := AA.old hI hB
  have hS : va_S (AA A 156 s.heap.size) s.heap s.heap [] := va_S.rf
  have hl := lv_entry ([.ref (A 0), .int (iI n)]) (n := 3) (Nat.le_of_ble_eq_true rfl)
  rw [lg_entry_eq]
  generalize (lg_sl ([.ref (A 0), .int (iI n)]) ++ List.replicate (3 - (lg_sl ([.ref (A 0), .int (iI n)])).length) Slot.unset).toArray = ls at hl ⊢
  have hl : lv_has ls 3 [(0, .ref (A 0)), (1, .int (iI n))] := hl
  refine lv_iload_n hx hb dX0_forget_0 rfl (lv_at hl 1 rfl) ?_
  refine ii_i2l hx hb (by omega) dX0_forget_1 ?_
  refine ii_lconst (z := 0) hx hb dX0_forget_2 rfl ?_
  refine lv_aload_n hx hb dX0_forget_3 rfl (lv_at hl 0 rfl) ?_
  refine r_get (ci := 0) (k := 8) (v := .int (iI ((S 0) 3))) (C := RX0) (T := TX0) (N := 16) Z hB hx hb hts hown rfl in_X0 hW.obj (by decide) q803 rfl dX0_forget_4 ?_
  refine ii_i2l hx hb (by omega) dX0_forget_7 ?_
  refine cqI (va_runS (As := [.long (lI n), .long (lI 0), .long (lI ((S 0) 3))]) (rest := []) ⟨hx, hb, hml, hown, hts⟩ (mX0_isIn Z n (by omega) 0 (by omega) ((S 0) 3) (by omega)) (va_cwS 3 hts (lw_S q106 q107 q79 q108) rfl rfl rfl (by decide +kernel) ⟨Nat.le_of_ble_eq_true rfl, Nat.le_of_ble_eq_true rfl⟩) (psR (BornH.S hB hN hS) trivial) rfl rfl hl.1 rfl (lv_room (Nat.le_of_ble_eq_true rfl)) dX0_forget_8 ⟨Nat.zero_le _, Nat.zero_le _⟩) ?_
  refine bb_if_ne (P := 0 ≤ n ∧ n ≤ ((S 0) 3)) (tgt := 16) hx hb dX0_forget_11 (by decide) (fun c_1 => ?_) (fun c_1 => ?_)
  · -- 11 -> 16
    refine lv_aload_n hx hb dX0_forget_16 rfl (lv_at hl 0 rfl) ?_
    refine r_get (ci := 0) (k := 8) (v := .int (iI ((S 0) 3))) (C := RX0) (T := TX0) (N := 16) Z hB hx hb hts hown rfl in_X0 hW.obj (by decide) q803 rfl dX0_forget_17 ?_
    refine lv_istore_n (lv' := [(2, .int (iI ((S 0) 3))), (0, .ref (A 0)), (1, .int (iI n))]) hx hb dX0_forget_20 rfl hl (by decide) rfl (fun ls hl => ?_)
    refine lv_aload_n hx hb dX0_forget_21 rfl (lv_at hl 1 rfl) ?_
    refine lv_iload_n hx hb dX0_forget_22 rfl (lv_at hl 2 rfl) ?_
    refine r_put (ci := 0) (k := 8) (C := RX0) (T := TX0) (N := 16) Z hB hx hb hts hown rfl in_X0 tyX0 tyX0_ok nmX0 hW.obj hS (Or.inl ⟨0, by omega, rfl⟩) (by decide) q803 rfl rfl rfl rfl (Nat.le_of_ble_eq_true rfl) dX0_forget_23 (CW G A (up S 0 (up (S 0) 3 n)) R) (fun H1 hz oq ho => hW.setO hI (k := 3) (by omega) oq ho) (fun H locs hW hS => ?_)
    refine lv_iload_n hx hb dX0_forget_26 rfl (lv_at hl 0 rfl) ?_
    have hpw9 : (CW G A (forgetT S n) R) H := (by rw [show (forgetT S n) = (up S 0 (up (S 0) 3 n)) by unfold forgetT; (repeat' split) <;> first | rfl | omega | (simp only [up_self20])]; exact hW)
    have he9 : ((S 0) 3) = (forgetA S n) := by unfold forgetA; (repeat' split) <;> first | rfl | omega
    exact W.iret hx hb hr (fun t ht hW9 => ⟨⟨_, (), rfl, congrArg iI he9, by show (CW G A (forgetT S n) R) t.heap; rw [ht]; exact hpw9⟩, hS.F ht⟩) hS.2.2 dX0_forget_27
  · -- 11 -> 14
    refine ii_const hx hb dX0_forget_14 ?_
    have hpw9 : (CW G A (forgetT S n) R) s.heap := (by rw [show (forgetT S n) = S by unfold forgetT; (repeat' split) <;> first | rfl | omega | (simp only [up_self20])]; exact hW)
    have he9 : (-1) = (forgetA S n) := by unfold forgetA; (repeat' split) <;> first | rfl | omega
    exact W.iret hx hb hr (fun t ht hW9 => ⟨⟨_, (), rfl, congrArg iI he9, by show (CW G A (forgetT S n) R) t.heap; rw [ht]; exact hpw9⟩, hS.F ht⟩) hS.2.2 dX0_forget_15

set_option maxHeartbeats 1000000 in
set_option maxRecDepth 100000 in
theorem mX0_see {l : Launch} {G : GG} {s0 : State} {b0 : Nat} (Z : ZZ l G s0 b0) (A : Nat → Nat) (hI : Own s0 A 156) (S : Sta) (R : Nat → Option Nat) (hF0 : WF (S 20)) (ht0 : 0 ≤ S 0 3 ∧ S 0 3 ≤ 6) (n : Int) (hn : inR n) (i : Int) (hi : inR i) (v : Int) (hv : inR v) (sz : Nat) : Met l yX0_see (ws_ yX0_see cX0_see 4 (some .int)) ({ frames := 2, cells := 0, slots := 0, locals := 46 } : Room) (pcM s0 sz (CW G A S R) [.ref (A 0), .int (iI n), .int (iI i), .int (iI v)]) (mI (seeA S n i v) (CW G A (seeT S n i v) R) (AA A 156 sz)) 0 0 (AA A 156 sz) := by
  refine Met.ofW (cc := cX0_see) (maxL := 4) (ret := (some .int)) (by decide) rfl ?_
  intro p e s m args below meth c s₁ B hml hv
  obtain ⟨rfl, hsz, hW, hB⟩ := hv
  subst hsz
  have hx := B.exec
  have hb := B.bytes
  have hr := B.returns
  have hts := atoms_spec (ws := (ws_ yX0_see cX0_see 4 (some .int))) B.pre
  have hts : ∀ w ∈ lw_all, w.before _ s = true := fun w h => hts w (List.mem_cons_of_mem _ h)
  have hown : s.vm.findClass RX0 = some m.cls := findClass_of_methodNamed B.named
  have hlocks := B.notSynchronized
  have hN := AA.old hI hB
  have hS : va_S (AA A 156 s.heap.size) s.heap s.heap [] := va_S.rf
  have hl := lv_entry ([.ref (A 0), .int (iI n), .int (iI i), .int (iI v)]) (n := 4) (Nat.le_of_ble_eq_true rfl)
  rw [lg_entry_eq]
  generalize (lg_sl ([.ref (A 0), .int (iI n), .int (iI i), .int (iI v)]) ++ List.replicate (4 - (lg_sl ([.ref (A 0), .int (iI n), .int (iI i), .int (iI v)])).length) Slot.unset).toArray = ls at hl ⊢
  have hl : lv_has ls 4 [(0, .ref (A 0)), (1, .int (iI n)), (2, .int (iI i)), (3, .int (iI v))] := hl
  have hn5 := hF0.n
  refine lv_iload_n hx hb dX0_see_0 rfl (lv_at hl 1 rfl) ?_
  refine ii_i2l hx hb (by omega) dX0_see_1 ?_
  refine ii_lconst (z := 0) hx hb dX0_see_2 rfl ?_
  refine ii_ldc2 (z := 20) hx hb hts hown q683 dX0_see_3 (by decide) ?_
  refine cqI (va_runS (As := [.long (lI n), .long (lI 0), .long (lI 20)]) (rest := []) ⟨hx, hb, hml, hown, hts⟩ (mX0_isIn Z n (by omega) 0 (by omega) 20 (by omega)) (va_cwS 3 hts (lw_S q106 q107 q79 q108) rfl rfl rfl (by decide +kernel) ⟨Nat.le_of_ble_eq_true rfl, Nat.le_of_ble_eq_true rfl⟩) (psR (BornH.S hB hN hS) trivial) rfl rfl hl.1 rfl (lv_room (Nat.le_of_ble_eq_true rfl)) dX0_see_6 ⟨Nat.zero_le _, Nat.zero_le _⟩) ?_
  refine bb_if_eq (P := 0 ≤ n ∧ n ≤ 20) (tgt := 27) hx hb dX0_see_9 (by decide) (fun c_1 => ?_) (fun c_1 => ?_)
  · -- 9 -> 27
    refine ii_const hx hb dX0_see_27 ?_
    have hpw9 : (CW G A (seeT S n i v) R) s.heap := (by rw [show (seeT S n i v) = S by unfold seeT; (repeat' split) <;> first | rfl | omega | (simp only [up_self20])]; exact hW)
    have he9 : (-1) = (seeA S n i v) := by unfold seeA; (repeat' split) <;> first | rfl | omega
    exact W.iret hx hb hr (fun t ht hW9 => ⟨⟨_, (), rfl, congrArg iI he9, by show (CW G A (seeT S n i v) R) t.heap; rw [ht]; exact hpw9⟩, hS.F ht⟩) hS.2.2 dX0_see_28
  · -- 9 -> 12
    refine lv_aload_n hx hb dX0_see_12 rfl (lv_at hl 0 rfl) ?_
    refine lv_iload_n hx hb dX0_see_13 rfl (lv_at hl 2 rfl) ?_
    refine cqI (va_runV (As := [.int (iI i)]) (rest := []) ⟨hx, hb, hml, hown, hts⟩ (mX0_isIsle Z A S R hF0 i (by omega)) (cwV 1 hts (lw_V q449 q451 qs14 q79 q453) rfl rfl rfl (by decide +kernel) ⟨Nat.le_of_ble_eq_true rfl, Nat.le_of_ble_eq_true rfl⟩) (pvR (BornH.S hB hN hS) (OBJ.recv Z hB hW.obj (q := (RX0, TX0, 16)) rfl) hW) rfl rfl hl.1 rfl (lv_room (Nat.le_of_ble_eq_true rfl)) dX0_see_14 ⟨Nat.zero_le _, Nat.zero_le _⟩) ?_
    refine bb_if_eq (P := okI (S 20) i) (tgt := 27) hx hb dX0_see_17 (by decide) (fun c_2 => ?_) (fun c_2 => ?_)
    · -- 17 -> 27
      refine ii_const hx hb dX0_see_27 ?_
      have hpw9 : (CW G A (seeT S n i v) R) s.heap := (by rw [show (seeT S n i v) = S by unfold seeT; (repeat' split) <;> first | rfl | omega | (simp only [up_self20])]; exact hW)
      have he9 : (-1) = (seeA S n i v) := by unfold seeA; (repeat' split) <;> first | rfl | omega
      exact W.iret hx hb hr (fun t ht hW9 => ⟨⟨_, (), rfl, congrArg iI he9, by show (CW G A (seeT S n i v) R) t.heap; rw [ht]; exact hpw9⟩, hS.F ht⟩) hS.2.2 dX0_see_28
    · -- 17 -> 20
      refine lv_iload_n hx hb dX0_see_20 rfl (lv_at hl 3 rfl) ?_
      refine cqI (va_runS (As := [.int (iI v)]) (rest := []) ⟨hx, hb, hml, hown, hts⟩ (mX0_isFathom Z v (by omega)) (va_cwS 1 hts (lw_S q529 q530 q79 q531) rfl rfl rfl (by decide +kernel) ⟨Nat.le_of_ble_eq_true rfl, Nat.le_of_ble_eq_true rfl⟩) (psR (BornH.S hB hN hS) trivial) rfl rfl hl.1 rfl (lv_room (Nat.le_of_ble_eq_true rfl)) dX0_see_21 ⟨Nat.zero_le _, Nat.zero_le _⟩) ?_
      refine bb_if_ne (P := 0 ≤ v ∧ v ≤ 99) (tgt := 29) hx hb dX0_see_24 (by decide) (fun c_3 => ?_) (fun c_3 => ?_)
      · -- 24 -> 29
        refine lv_aload_n hx hb dX0_see_29 rfl (lv_at hl 0 rfl) ?_
        refine r_get (ci := 0) (k := 8) (v := .int (iI ((S 0) 3))) (C := RX0) (T := TX0) (N := 16) Z hB hx hb hts hown rfl in_X0 hW.obj (by decide) q803 rfl dX0_see_30 ?_
        refine ii_bipush hx hb dX0_see_33 (by decide) ?_
        refine ii_icmp_ne (tgt := 41) hx hb dX0_see_35 (by decide) (by omega) (by omega) (fun c_4 => ?_) (fun c_4 => ?_)
        · -- 35 -> 41
          refine lv_aload_n hx hb dX0_see_41 rfl (lv_at hl 0 rfl) ?_
          refine r_get (ci := 0) (k := 7) (v := .ref (A 2)) (C := RX0) (T := TX0) (N := 16) Z hB hx hb hts hown rfl in_X0 hW.obj (by decide) q801 rfl dX0_see_42 ?_
          refine lv_aload_n hx hb dX0_see_45 rfl (lv_at hl 0 rfl) ?_
          refine r_get (ci := 0) (k := 8) (v := .int (iI ((S 0) 3))) (C := RX0) (T := TX0) (N := 16) Z hB hx hb hts hown rfl in_X0 hW.obj (by decide) q803 rfl dX0_see_46 ?_
          refine r_aald (t := 1) (ty := .array .int) (k := ((S 0) 3).toNat) Z hB hx hb rfl rfl hW.seen (by omega) (by omega) (by omega) rfl dX0_see_49 ?_
          refine ii_const hx hb dX0_see_50 ?_
          refine lv_iload_n hx hb dX0_see_51 rfl (lv_at hl 1 rfl) ?_
          refine r_iast (k := 0) Z hB hx hb (hW.seenR ((S 0) 3).toNat (by omega)) hS (Or.inl ⟨3 + ((S 0) 3).toNat, by omega, rfl⟩) (by omega) (by omega) (by omega) dX0_see_52 (CW G A (up S 2 (up (S 2) (3 * ((S 0) 3).toNat + 0) n)) R) (fun H1 hz oq ha => hW.setSeen hI (i := ((S 0) 3).toNat) (by omega) oq ha (fun c hc => up_row (n := 3) c hc) (fun k hk => up_rowo (n := 3) (by omega) k hk)) (fun H locs hW hS => ?_)
          refine lv_aload_n hx hb dX0_see_53 rfl (lv_at hl 0 rfl) ?_
          refine r_get (ci := 0) (k := 7) (v := .ref (A 2)) (C := RX0) (T := TX0) (N := 16) Z hB hx hb hts hown rfl in_X0 hW.obj (by decide) q801 rfl dX0_see_54 ?_
          refine lv_aload_n hx hb dX0_see_57 rfl (lv_at hl 0 rfl) ?_
          refine r_get (ci := 0) (k := 8) (v := .int (iI ((S 0) 3))) (C := RX0) (T := TX0) (N := 16) Z hB hx hb hts hown rfl in_X0 hW.obj (by decide) q803 rfl dX0_see_58 ?_
          refine r_aald (t := 1) (ty := .array .int) (k := ((S 0) 3).toNat) Z hB hx hb rfl rfl hW.seen (by omega) (by omega) (by omega) rfl dX0_see_61 ?_
          refine ii_const hx hb dX0_see_62 ?_
          refine lv_iload_n hx hb dX0_see_63 rfl (lv_at hl 2 rfl) ?_
          refine r_iast (k := 1) Z hB hx hb (hW.seenR ((S 0) 3).toNat (by omega)) hS (Or.inl ⟨3 + ((S 0) 3).toNat, by omega, rfl⟩) (by omega) (by omega) (by omega) dX0_see_64 (CW G A (up (up S 2 (up (S 2) (3 * ((S 0) 3).toNat + 0) n)) 2 (up (up (S 2) (3 * ((S 0) 3).toNat + 0) n) (3 * ((S 0) 3).toNat + 1) i)) R) (fun H1 hz oq ha => hW.setSeen hI (i := ((S 0) 3).toNat) (by omega) oq ha (fun c hc => up_row (n := 3) c hc) (fun k hk => up_rowo (n := 3) (by omega) k hk)) (fun H locs hW hS => ?_)
          have hW := hW.eqS (S' := (up S 2 (up (up (S 2) (3 * ((S 0) 3).toNat + 0) n) (3 * ((S 0) 3).toNat + 1) i))) (by
              funext a
              by_cases h2 : a = 2
              · subst h2; rfl
              simp only [up, if_neg h2])
          refine lv_aload_n hx hb dX0_see_65 rfl (lv_at hl 0 rfl) ?_
          refine r_get (ci := 0) (k := 7) (v := .ref (A 2)) (C := RX0) (T := TX0) (N := 16) Z hB hx hb hts hown rfl in_X0 hW.obj (by decide) q801 rfl dX0_see_66 ?_
          refine lv_aload_n hx hb dX0_see_69 rfl (lv_at hl 0 rfl) ?_
          refine r_get (ci := 0) (k := 8) (v := .int (iI ((S 0) 3))) (C := RX0) (T := TX0) (N := 16) Z hB hx hb hts hown rfl in_X0 hW.obj (by decide) q803 rfl dX0_see_70 ?_
          refine r_aald (t := 1) (ty := .array .int) (k := ((S 0) 3).toNat) Z hB hx hb rfl rfl hW.seen (by omega) (by omega) (by omega) rfl dX0_see_73 ?_
          refine ii_const hx hb dX0_see_74 ?_
          refine lv_iload_n hx hb dX0_see_75 rfl (lv_at hl 3 rfl) ?_
          refine r_iast (k := 2) Z hB hx hb (hW.seenR ((S 0) 3).toNat (by omega)) hS (Or.inl ⟨3 + ((S 0) 3).toNat, by omega, rfl⟩) (by omega) (by omega) (by omega) dX0_see_76 (CW G A (up (up S 2 (up (up (S 2) (3 * ((S 0) 3).toNat + 0) n) (3 * ((S 0) 3).toNat + 1) i)) 2 (up (up (up (S 2) (3 * ((S 0) 3).toNat + 0) n) (3 * ((S 0) 3).toNat + 1) i) (3 * ((S 0) 3).toNat + 2) v)) R) (fun H1 hz oq ha => hW.setSeen hI (i := ((S 0) 3).toNat) (by omega) oq ha (fun c hc => up_row (n := 3) c hc) (fun k hk => up_rowo (n := 3) (by omega) k hk)) (fun H locs hW hS => ?_)
          have hW := hW.eqS (S' := (up S 2 (up (up (up (S 2) (3 * ((S 0) 3).toNat + 0) n) (3 * ((S 0) 3).toNat + 1) i) (3 * ((S 0) 3).toNat + 2) v))) (by
              funext a
              by_cases h2 : a = 2
              · subst h2; rfl
              simp only [up, if_neg h2])
          refine lv_aload_n hx hb dX0_see_77 rfl (lv_at hl 0 rfl) ?_
          refine lv_dup hx hb dX0_see_78 rfl ?_
          refine r_get (ci := 0) (k := 8) (v := .int (iI ((S 0) 3))) (C := RX0) (T := TX0) (N := 16) Z hB hx hb hts hown rfl in_X0 hW.obj (by decide) q803 rfl dX0_see_79 ?_
          refine ii_const hx hb dX0_see_82 ?_
          refine ii_add hx hb dX0_see_83 ?_
          refine r_put (ci := 0) (k := 8) (C := RX0) (T := TX0) (N := 16) Z hB hx hb hts hown rfl in_X0 tyX0 tyX0_ok nmX0 hW.obj hS (Or.inl ⟨0, by omega, rfl⟩) (by decide) q803 rfl rfl rfl rfl (Nat.le_of_ble_eq_true rfl) dX0_see_84 (CW G A (up (up S 2 (up (up (up (S 2) (3 * ((S 0) 3).toNat + 0) n) (3 * ((S 0) 3).toNat + 1) i) (3 * ((S 0) 3).toNat + 2) v)) 0 (up (S 0) 3 (((S 0) 3) + 1))) R) (fun H1 hz oq ho => hW.setO hI (k := 3) (by omega) oq ho) (fun H locs hW hS => ?_)
          have hW := hW.eqS (S' := (up (up S 0 (up (S 0) 3 (((S 0) 3) + 1))) 2 (up (up (up (S 2) (3 * ((S 0) 3).toNat + 0) n) (3 * ((S 0) 3).toNat + 1) i) (3 * ((S 0) 3).toNat + 2) v))) (by
              funext a
              by_cases h0 : a = 0
              · subst h0
                funext j
                by_cases k0 : j = 3
                · subst k0; rfl
                simp only [up, if_neg k0, if_true, if_false, Nat.reduceEqDiff, reduceIte]
              by_cases h2 : a = 2
              · subst h2; rfl
              simp only [up, if_neg h0, if_neg h2])
          refine lv_aload_n hx hb dX0_see_87 rfl (lv_at hl 0 rfl) ?_
          refine r_get (ci := 0) (k := 8) (v := .int (iI (((S 0) 3) + 1))) (C := RX0) (T := TX0) (N := 16) Z hB hx hb hts hown rfl in_X0 hW.obj (by decide) q803 rfl dX0_see_88 ?_
          have hpw9 : (CW G A (seeT S n i v) R) H := (by rw [show (seeT S n i v) = (up (up S 0 (up (S 0) 3 (((S 0) 3) + 1))) 2 (up (up (up (S 2) (3 * ((S 0) 3).toNat + 0) n) (3 * ((S 0) 3).toNat + 1) i) (3 * ((S 0) 3).toNat + 2) v)) by unfold seeT; (repeat' split) <;> first | rfl | omega | (simp only [up_self20])]; exact hW)
          have he9 : (((S 0) 3) + 1) = (seeA S n i v) := by unfold seeA; (repeat' split) <;> first | rfl | omega
          exact W.iret hx hb hr (fun t ht hW9 => ⟨⟨_, (), rfl, congrArg iI he9, by show (CW G A (seeT S n i v) R) t.heap; rw [ht]; exact hpw9⟩, hS.F ht⟩) hS.2.2 dX0_see_91
        · -- 35 -> 38
          refine ii_bipush hx hb dX0_see_38 (by decide) ?_
          have hpw9 : (CW G A (seeT S n i v) R) s.heap := (by rw [show (seeT S n i v) = S by unfold seeT; (repeat' split) <;> first | rfl | omega | (simp only [up_self20])]; exact hW)
          have he9 : (-3) = (seeA S n i v) := by unfold seeA; (repeat' split) <;> first | rfl | omega
          exact W.iret hx hb hr (fun t ht hW9 => ⟨⟨_, (), rfl, congrArg iI he9, by show (CW G A (seeT S n i v) R) t.heap; rw [ht]; exact hpw9⟩, hS.F ht⟩) hS.2.2 dX0_see_40
      · -- 24 -> 27
        refine ii_const hx hb dX0_see_27 ?_
        have hpw9 : (CW G A (seeT S n i v) R) s.heap := (by rw [show (seeT S n i v) = S by unfold seeT; (repeat' split) <;> first | rfl | omega | (simp only [up_self20])]; exact hW)
        have he9 : (-1) = (seeA S n i v) := by unfold seeA; (repeat' split) <;> first | rfl | omega
        exact W.iret hx hb hr (fun t ht hW9 => ⟨⟨_, (), rfl, congrArg iI he9, by show (CW G A (seeT S n i v) R) t.heap; rw [ht]; exact hpw9⟩, hS.F ht⟩) hS.2.2 dX0_see_28

set_option maxHeartbeats 1000000 in
set_option maxRecDepth 100000 in
theorem mX0_sulked {l : Launch} {G : GG} {s0 : State} {b0 : Nat} (Z : ZZ l G s0 b0) (A : Nat → Nat) (hI : Own s0 A 156) (S : Sta) (R : Nat → Option Nat) (hF0 : WF (S 20)) (i : Int) (hi : inR i) (j : Int) (hj : inR j) (v : Int) (hv : inR v) (sz : Nat) : Met l yX0_sulked (ws_ yX0_sulked cX0_sulked 5 (some .int)) ({ frames := 3, cells := 0, slots := 0, locals := 68 } : Room) (pcM s0 sz (CW G A S R) [.ref (A 0), .int (iI i), .int (iI j), .int (iI v)]) (mI (sulkA (S 20) i j v) (CW G A (up S 20 (sulkF (S 20) i j v)) R) (AA A 156 sz)) 0 0 (AA A 156 sz) := by
  refine Met.ofW (cc := cX0_sulked) (maxL := 5) (ret := (some .int)) (by decide) rfl ?_
  intro p e s m args below meth c s₁ B hml hv
  obtain ⟨rfl, hsz, hW, hB⟩ := hv
  subst hsz
  have hx := B.exec
  have hb := B.bytes
  have hr := B.returns
  have hts := atoms_spec (ws := (ws_ yX0_sulked cX0_sulked 5 (some .int))) B.pre
  have hts : ∀ w ∈ lw_all, w.before _ s = true := fun w h => hts w (List.mem_cons_of_mem _ h)
  have hown : s.vm.findClass RX0 = some m.cls := findClass_of_methodNamed B.named
  have hlocks := B.notSynchronized
  have hN := AA.old hI hB
  have hS : va_S (AA A 156 s.heap.size) s.heap s.heap [] := va_S.rf
  have hl := lv_entry ([.ref (A 0), .int (iI i), .int (iI j), .int (iI v)]) (n := 5) (Nat.le_of_ble_eq_true rfl)
  rw [lg_entry_eq]
  generalize (lg_sl ([.ref (A 0), .int (iI i), .int (iI j), .int (iI v)]) ++ List.replicate (5 - (lg_sl ([.ref (A 0), .int (iI i), .int (iI j), .int (iI v)])).length) Slot.unset).toArray = ls at hl ⊢
  have hl : lv_has ls 5 [(0, .ref (A 0)), (1, .int (iI i)), (2, .int (iI j)), (3, .int (iI v))] := hl
  have hn5 := hF0.n
  refine lv_aload_n hx hb dX0_sulked_0 rfl (lv_at hl 0 rfl) ?_
  refine lv_iload_n hx hb dX0_sulked_1 rfl (lv_at hl 1 rfl) ?_
  refine lv_iload_n hx hb dX0_sulked_2 rfl (lv_at hl 2 rfl) ?_
  refine cqI (va_runV (As := [.int (iI i), .int (iI j)]) (rest := []) ⟨hx, hb, hml, hown, hts⟩ (mX0_areTwo Z A S R hF0 i (by omega) j (by omega)) (cwV 2 hts (lw_V q505 q507 qs15 q79 q508) rfl rfl rfl (by decide +kernel) ⟨Nat.le_of_ble_eq_true rfl, Nat.le_of_ble_eq_true rfl⟩) (pvR (BornH.S hB hN hS) (OBJ.recv Z hB hW.obj (q := (RX0, TX0, 16)) rfl) hW) rfl rfl hl.1 rfl (lv_room (Nat.le_of_ble_eq_true rfl)) dX0_sulked_3 ⟨Nat.zero_le _, Nat.zero_le _⟩) ?_
  refine bb_if_eq (P := ok2 (S 20) i j) (tgt := 21) hx hb dX0_sulked_6 (by decide) (fun c_1 => ?_) (fun c_1 => ?_)
  · -- 6 -> 21
    refine ii_const hx hb dX0_sulked_21 ?_
    have hpw9 : (CW G A (up S 20 (sulkF (S 20) i j v)) R) s.heap := (by rw [show (up S 20 (sulkF (S 20) i j v)) = S by unfold sulkF; (repeat' split) <;> first | rfl | omega | (simp only [up_self20])]; exact hW)
    have he9 : (-1) = (sulkA (S 20) i j v) := by unfold sulkA; (repeat' split) <;> first | rfl | omega
    exact W.iret hx hb hr (fun t ht hW9 => ⟨⟨_, (), rfl, congrArg iI he9, by show (CW G A (up S 20 (sulkF (S 20) i j v)) R) t.heap; rw [ht]; exact hpw9⟩, hS.F ht⟩) hS.2.2 dX0_sulked_22
  · -- 6 -> 9
    refine lv_iload_n hx hb dX0_sulked_9 rfl (lv_at hl 3 rfl) ?_
    refine ii_i2l hx hb (by omega) dX0_sulked_10 ?_
    refine ii_lconst (z := 0) hx hb dX0_sulked_11 rfl ?_
    refine ii_ldc2 (z := 3) hx hb hts hown q528 dX0_sulked_12 (by decide) ?_
    refine cqI (va_runS (As := [.long (lI v), .long (lI 0), .long (lI 3)]) (rest := []) ⟨hx, hb, hml, hown, hts⟩ (mX0_isIn Z v (by omega) 0 (by omega) 3 (by omega)) (va_cwS 3 hts (lw_S q106 q107 q79 q108) rfl rfl rfl (by decide +kernel) ⟨Nat.le_of_ble_eq_true rfl, Nat.le_of_ble_eq_true rfl⟩) (psR (BornH.S hB hN hS) trivial) rfl rfl hl.1 rfl (lv_room (Nat.le_of_ble_eq_true rfl)) dX0_sulked_15 ⟨Nat.zero_le _, Nat.zero_le _⟩) ?_
    refine bb_if_ne (P := 0 ≤ v ∧ v ≤ 3) (tgt := 23) hx hb dX0_sulked_18 (by decide) (fun c_2 => ?_) (fun c_2 => ?_)
    · -- 18 -> 23
      refine lv_aload_n hx hb dX0_sulked_23 rfl (lv_at hl 0 rfl) ?_
      refine r_get (ci := 0) (k := 3) (v := .ref (A 36)) (C := RX0) (T := TX0) (N := 16) Z hB hx hb hts hown rfl in_X0 hW.obj (by decide) q796 rfl dX0_sulked_24 ?_
      refine r_getN (ci := 1) (k := 1) (v := .ref ((fa A 0) 7)) (C := RX1) (T := TX1) (N := 8) Z hB hx hb hts hown rfl in_X1 (((hW.fw (f := 0) (by omega) (F := (S 20)) rfl)).1) (by decide) q142 rfl dX0_sulked_27 ?_
      refine lv_iload_n hx hb dX0_sulked_30 rfl (lv_at hl 1 rfl) ?_
      refine r_aald (t := 1) (ty := .array .int) (k := (i).toNat) Z hB hx hb rfl rfl (((hW.fw (f := 0) (by omega) (F := (S 20)) rfl)).2.2.2.1) (by omega) (by omega) (by omega) rfl dX0_sulked_31 ?_
      refine lv_iload_n hx hb dX0_sulked_32 rfl (lv_at hl 2 rfl) ?_
      have b_406 := hF0.cr (i).toNat (j).toNat (by omega) (by omega)
      refine r_iald (k := (j).toNat) Z hB hx hb (((hW.fw (f := 0) (by omega) (F := (S 20)) rfl)).2.2.2.2.1 (i).toNat (by omega)) (by omega) (by omega) (by omega) dX0_sulked_33 ?_
      refine lv_istore (lv' := [(4, .int (iI ((S 20) (10 + 5 * (i).toNat + (j).toNat)))), (0, .ref (A 0)), (1, .int (iI i)), (2, .int (iI j)), (3, .int (iI v))]) hx hb dX0_sulked_34 hl (by decide) rfl (fun ls hl => ?_)
      refine lv_aload_n hx hb dX0_sulked_36 rfl (lv_at hl 1 rfl) ?_
      refine r_get (ci := 0) (k := 3) (v := .ref (A 36)) (C := RX0) (T := TX0) (N := 16) Z hB hx hb hts hown rfl in_X0 hW.obj (by decide) q796 rfl dX0_sulked_37 ?_
      refine r_getN (ci := 1) (k := 1) (v := .ref ((fa A 0) 7)) (C := RX1) (T := TX1) (N := 8) Z hB hx hb hts hown rfl in_X1 (((hW.fw (f := 0) (by omega) (F := (S 20)) rfl)).1) (by decide) q142 rfl dX0_sulked_40 ?_
      refine lv_iload_n hx hb dX0_sulked_43 rfl (lv_at hl 2 rfl) ?_
      refine r_aald (t := 1) (ty := .array .int) (k := (i).toNat) Z hB hx hb rfl rfl (((hW.fw (f := 0) (by omega) (F := (S 20)) rfl)).2.2.2.1) (by omega) (by omega) (by omega) rfl dX0_sulked_44 ?_
      refine lv_iload_n hx hb dX0_sulked_45 rfl (lv_at hl 3 rfl) ?_
      refine lv_iload_n hx hb dX0_sulked_46 rfl (lv_at hl 4 rfl) ?_
      refine r_iast (k := (j).toNat) Z hB hx hb (((hW.fw (f := 0) (by omega) (F := (S 20)) rfl)).2.2.2.2.1 (i).toNat (by omega)) hS (Or.inl ⟨36 + 20 * 0 + (8 + (i).toNat), by omega, rfl⟩) (by omega) (by omega) (by omega) dX0_sulked_47 (CW G A (up S 20 (up (S 20) (10 + 5 * (i).toNat + (j).toNat) v)) R) (fun H1 hz oq ha => hW.storeF hI (f := 0) (c := 8 + (i).toNat) (by omega) (by omega) oq (FW.setC ((hW.fw (f := 0) (by omega) (F := (S 20)) rfl)) (hI.fa (f := 0) (by omega)) (by omega) (by omega) oq ha)) (fun H locs hW hS => ?_)
      refine lv_iload hx hb dX0_sulked_48 (lv_at hl 0 rfl) ?_
      have hpw9 : (CW G A (up S 20 (sulkF (S 20) i j v)) R) H := (by rw [show (up S 20 (sulkF (S 20) i j v)) = (up S 20 (up (S 20) (10 + 5 * (i).toNat + (j).toNat) v)) by unfold sulkF; (repeat' split) <;> first | rfl | omega | (simp only [up_self20])]; exact hW)
      have he9 : ((S 20) (10 + 5 * (i).toNat + (j).toNat)) = (sulkA (S 20) i j v) := by unfold sulkA; (repeat' split) <;> first | rfl | omega
      exact W.iret hx hb hr (fun t ht hW9 => ⟨⟨_, (), rfl, congrArg iI he9, by show (CW G A (up S 20 (sulkF (S 20) i j v)) R) t.heap; rw [ht]; exact hpw9⟩, hS.F ht⟩) hS.2.2 dX0_sulked_50
    · -- 18 -> 21
      refine ii_const hx hb dX0_sulked_21 ?_
      have hpw9 : (CW G A (up S 20 (sulkF (S 20) i j v)) R) s.heap := (by rw [show (up S 20 (sulkF (S 20) i j v)) = S by unfold sulkF; (repeat' split) <;> first | rfl | omega | (simp only [up_self20])]; exact hW)
      have he9 : (-1) = (sulkA (S 20) i j v) := by unfold sulkA; (repeat' split) <;> first | rfl | omega
      exact W.iret hx hb hr (fun t ht hW9 => ⟨⟨_, (), rfl, congrArg iI he9, by show (CW G A (up S 20 (sulkF (S 20) i j v)) R) t.heap; rw [ht]; exact hpw9⟩, hS.F ht⟩) hS.2.2 dX0_sulked_22

set_option maxHeartbeats 1000000 in
set_option maxRecDepth 100000 in
theorem mX0_sulk {l : Launch} {G : GG} {s0 : State} {b0 : Nat} (Z : ZZ l G s0 b0) (A : Nat → Nat) (hI : Own s0 A 156) (S : Sta) (R : Nat → Option Nat) (hF0 : WF (S 20)) (i : Int) (hi : inR i) (j : Int) (hj : inR j) (v : Int) (hv : inR v) (sz : Nat) : Met l yX0_sulk (ws_ yX0_sulk cX0_sulk 4 (some .int)) ({ frames := 4, cells := 0, slots := 0, locals := 92 } : Room) (pcM s0 sz (CW G A S R) [.ref (A 0), .int (iI i), .int (iI j), .int (iI v)]) (mI (sulkA (S 20) i j v) (CW G A (up S 20 (sulkF (S 20) i j v)) R) (AA A 156 sz)) 0 0 (AA A 156 sz) := by
  refine Met.ofW (cc := cX0_sulk) (maxL := 4) (ret := (some .int)) (by decide) rfl ?_
  intro p e s m args below meth c s₁ B hml hv
  obtain ⟨rfl, hsz, hW, hB⟩ := hv
  subst hsz
  have hx := B.exec
  have hb := B.bytes
  have hr := B.returns
  have hts := atoms_spec (ws := (ws_ yX0_sulk cX0_sulk 4 (some .int))) B.pre
  have hts : ∀ w ∈ lw_all, w.before _ s = true := fun w h => hts w (List.mem_cons_of_mem _ h)
  have hown : s.vm.findClass RX0 = some m.cls := findClass_of_methodNamed B.named
  have hlocks := B.notSynchronized
  have hN := AA.old hI hB
  have hS : va_S (AA A 156 s.heap.size) s.heap s.heap [] := va_S.rf
  have hl := lv_entry ([.ref (A 0), .int (iI i), .int (iI j), .int (iI v)]) (n := 4) (Nat.le_of_ble_eq_true rfl)
  rw [lg_entry_eq]
  generalize (lg_sl ([.ref (A 0), .int (iI i), .int (iI j), .int (iI v)]) ++ List.replicate (4 - (lg_sl ([.ref (A 0), .int (iI i), .int (iI j), .int (iI v)])).length) Slot.unset).toArray = ls at hl ⊢
  have hl : lv_has ls 4 [(0, .ref (A 0)), (1, .int (iI i)), (2, .int (iI j)), (3, .int (iI v))] := hl
  refine lv_aload_n hx hb dX0_sulk_0 rfl (lv_at hl 0 rfl) ?_
  refine lv_iload_n hx hb dX0_sulk_1 rfl (lv_at hl 1 rfl) ?_
  refine lv_iload_n hx hb dX0_sulk_2 rfl (lv_at hl 2 rfl) ?_
  refine lv_iload_n hx hb dX0_sulk_3 rfl (lv_at hl 3 rfl) ?_
  refine cmI (va_runV (As := [.int (iI i), .int (iI j), .int (iI v)]) (rest := []) ⟨hx, hb, hml, hown, hts⟩ (mX0_sulked Z A hI S R hF0 i (by omega) j (by omega) v (by omega) s.heap.size) (cwV 3 hts (lw_V q537 q539 qs17 q79 q540) rfl rfl rfl (by decide +kernel) ⟨Nat.le_of_ble_eq_true rfl, Nat.le_of_ble_eq_true rfl⟩) (pvM (BornH.S hB hN hS) (OBJ.recv Z hB hW.obj (q := (RX0, TX0, 16)) rfl) hW) rfl rfl hl.1 rfl (lv_room (Nat.le_of_ble_eq_true rfl)) dX0_sulk_4 ⟨Nat.zero_le _, Nat.zero_le _⟩) hS (AA.le hS.1) (fun H1 locs hW1 hz1 hk1 hS => ?_)
  have hW := hW1
  clear hW1 hk1 hz1
  generalize H1 = H at hW hS ⊢
  have hpw9 : (CW G A (up S 20 (sulkF (S 20) i j v)) R) H := hW
  have he9 : (sulkA (S 20) i j v) = (sulkA (S 20) i j v) := rfl
  exact W.iret hx hb hr (fun t ht hW9 => ⟨⟨_, (), rfl, congrArg iI he9, by show (CW G A (up S 20 (sulkF (S 20) i j v)) R) t.heap; rw [ht]; exact hpw9⟩, hS.F ht⟩) hS.2.2 dX0_sulk_7

set_option maxHeartbeats 1000000 in
set_option maxRecDepth 100000 in
theorem mX0_alter {l : Launch} {G : GG} {s0 : State} {b0 : Nat} (Z : ZZ l G s0 b0) (A : Nat → Nat) (hI : Own s0 A 156) (S : Sta) (R : Nat → Option Nat) (hF0 : WF (S 20)) (i : Int) (hi : inR i) (what : Int) (hwhat : inR what) (v : Int) (hv : inR v) (sz : Nat) : Met l yX0_alter (ws_ yX0_alter cX0_alter 7 (some .int)) ({ frames := 2, cells := 0, slots := 0, locals := 46 } : Room) (pcM s0 sz (CW G A S R) [.ref (A 0), .int (iI i), .int (iI what), .int (iI v)]) (mI (alterA (S 20) i what v) (CW G A (up S 20 (alterF (S 20) i what v)) R) (AA A 156 sz)) 0 0 (AA A 156 sz) := by
  refine Met.ofW (cc := cX0_alter) (maxL := 7) (ret := (some .int)) (by decide) rfl ?_
  intro p e s m args below meth c s₁ B hml hv
  obtain ⟨rfl, hsz, hW, hB⟩ := hv
  subst hsz
  have hx := B.exec
  have hb := B.bytes
  have hr := B.returns
  have hts := atoms_spec (ws := (ws_ yX0_alter cX0_alter 7 (some .int))) B.pre
  have hts : ∀ w ∈ lw_all, w.before _ s = true := fun w h => hts w (List.mem_cons_of_mem _ h)
  have hown : s.vm.findClass RX0 = some m.cls := findClass_of_methodNamed B.named
  have hlocks := B.notSynchronized
  have hN := AA.old hI hB
  have hS : va_S (AA A 156 s.heap.size) s.heap s.heap [] := va_S.rf
  have hl := lv_entry ([.ref (A 0), .int (iI i), .int (iI what), .int (iI v)]) (n := 7) (Nat.le_of_ble_eq_true rfl)
  rw [lg_entry_eq]
  generalize (lg_sl ([.ref (A 0), .int (iI i), .int (iI what), .int (iI v)]) ++ List.replicate (7 - (lg_sl ([.ref (A 0), .int (iI i), .int (iI what), .int (iI v)])).length) Slot.unset).toArray = ls at hl ⊢
  have hl : lv_has ls 7 [(0, .ref (A 0)), (1, .int (iI i)), (2, .int (iI what)), (3, .int (iI v))] := hl
  have hn5 := hF0.n
  refine lv_aload_n hx hb dX0_alter_0 rfl (lv_at hl 0 rfl) ?_
  refine lv_iload_n hx hb dX0_alter_1 rfl (lv_at hl 1 rfl) ?_
  refine cqI (va_runV (As := [.int (iI i)]) (rest := []) ⟨hx, hb, hml, hown, hts⟩ (mX0_isIsle Z A S R hF0 i (by omega)) (cwV 1 hts (lw_V q449 q451 qs14 q79 q453) rfl rfl rfl (by decide +kernel) ⟨Nat.le_of_ble_eq_true rfl, Nat.le_of_ble_eq_true rfl⟩) (pvR (BornH.S hB hN hS) (OBJ.recv Z hB hW.obj (q := (RX0, TX0, 16)) rfl) hW) rfl rfl hl.1 rfl (lv_room (Nat.le_of_ble_eq_true rfl)) dX0_alter_2 ⟨Nat.zero_le _, Nat.zero_le _⟩) ?_
  refine bb_if_ne (P := okI (S 20) i) (tgt := 10) hx hb dX0_alter_5 (by decide) (fun c_1 => ?_) (fun c_1 => ?_)
  · -- 5 -> 10
    refine lv_aload_n hx hb dX0_alter_10 rfl (lv_at hl 0 rfl) ?_
    refine r_get (ci := 0) (k := 3) (v := .ref (A 36)) (C := RX0) (T := TX0) (N := 16) Z hB hx hb hts hown rfl in_X0 hW.obj (by decide) q796 rfl dX0_alter_11 ?_
    refine lv_iload_n hx hb dX0_alter_14 rfl (lv_at hl 3 rfl) ?_
    refine cqI (va_runV (As := [.int (iI v)]) (rest := []) ⟨hx, hb, hml, hown, hts⟩ (mX1_whoIsAt Z (fa A 0) (S 20) hF0 v (by omega)) (cwV 1 hts (lw_V q527 q383 q384 q80 q385) rfl rfl rfl (by decide +kernel) ⟨Nat.le_of_ble_eq_true rfl, Nat.le_of_ble_eq_true rfl⟩) (pvR (BornH.S hB hN hS) (OBJ.recv Z hB (((hW.fw (f := 0) (by omega) (F := (S 20)) rfl)).1) (q := (RX1, TX1, 8)) rfl) (hW.fw (f := 0) (by omega) (F := (S 20)) rfl)) rfl rfl hl.1 rfl (lv_room (Nat.le_of_ble_eq_true rfl)) dX0_alter_15 ⟨Nat.zero_le _, Nat.zero_le _⟩) ?_
    have b_415 := whoS_in (S 20) v ((S 20) 76).toNat 0
    have b_416 := hF0.n
    refine ii_bipush hx hb dX0_alter_18 (by decide) ?_
    refine ii_icmp_eq (tgt := 35) hx hb dX0_alter_20 (by decide) (by omega) (by omega) (fun c_2 => ?_) (fun c_2 => ?_)
    · -- 20 -> 35
      refine ii_const hx hb dX0_alter_35 ?_
      refine lv_goto (tgt := 40) hx hb dX0_alter_36 (by decide) ?_
      refine lv_istore (lv' := [(4, .int (iI 1)), (0, .ref (A 0)), (1, .int (iI i)), (2, .int (iI what)), (3, .int (iI v))]) hx hb dX0_alter_40 hl (by decide) rfl (fun ls hl => ?_)
      refine lv_iload_n hx hb dX0_alter_42 rfl (lv_at hl 3 rfl) ?_
      refine ii_if_ne (tgt := 58) hx hb dX0_alter_43 (by decide) (by omega) (fun c_3 => ?_) (fun c_3 => ?_)
      · -- 43 -> 58
        refine lv_iload_n hx hb dX0_alter_58 rfl (lv_at hl 3 rfl) ?_
        refine ii_const hx hb dX0_alter_59 ?_
        refine ii_icmp_ne (tgt := 79) hx hb dX0_alter_60 (by decide) (by omega) (by omega) (fun c_4 => ?_) (fun c_4 => ?_)
        · -- 60 -> 79
          refine ii_const hx hb dX0_alter_79 ?_
          refine lv_istore (lv' := [(5, .int (iI 0)), (4, .int (iI 1)), (0, .ref (A 0)), (1, .int (iI i)), (2, .int (iI what)), (3, .int (iI v))]) hx hb dX0_alter_80 hl (by decide) rfl (fun ls hl => ?_)
          refine lv_iload hx hb dX0_alter_82 (lv_at hl 0 rfl) ?_
          refine ii_if_ne (tgt := 89) hx hb dX0_alter_84 (by decide) (by omega) (fun c_5 => ?_) (fun c_5 => ?_)
          · -- 84 -> 89
            refine lv_aload_n hx hb dX0_alter_89 rfl (lv_at hl 2 rfl) ?_
            refine r_get (ci := 0) (k := 3) (v := .ref (A 36)) (C := RX0) (T := TX0) (N := 16) Z hB hx hb hts hown rfl in_X0 hW.obj (by decide) q796 rfl dX0_alter_90 ?_
            refine r_getN (ci := 1) (k := 0) (v := .ref ((fa A 0) 1)) (C := RX1) (T := TX1) (N := 8) Z hB hx hb hts hown rfl in_X1 (((hW.fw (f := 0) (by omega) (F := (S 20)) rfl)).1) (by decide) q139 rfl dX0_alter_93 ?_
            refine lv_iload_n hx hb dX0_alter_96 rfl (lv_at hl 3 rfl) ?_
            refine r_aald (t := 1) (ty := .array .int) (k := (i).toNat) Z hB hx hb rfl rfl (((hW.fw (f := 0) (by omega) (F := (S 20)) rfl)).2.1) (by omega) (by omega) (by omega) rfl dX0_alter_97 ?_
            refine lv_iload_n hx hb dX0_alter_98 rfl (lv_at hl 4 rfl) ?_
            have b_421 := hF0.pl (i).toNat (by omega)
            refine r_iald (k := (what).toNat) Z hB hx hb (((hW.fw (f := 0) (by omega) (F := (S 20)) rfl)).2.2.1 (i).toNat (by omega)) (by omega) (by omega) (by omega) dX0_alter_99 ?_
            refine lv_istore (lv' := [(6, .int (iI ((S 20) (2 * (i).toNat + (what).toNat)))), (5, .int (iI 0)), (4, .int (iI 1)), (0, .ref (A 0)), (1, .int (iI i)), (2, .int (iI what)), (3, .int (iI v))]) hx hb dX0_alter_100 hl (by decide) rfl (fun ls hl => ?_)
            refine lv_aload_n hx hb dX0_alter_102 rfl (lv_at hl 3 rfl) ?_
            refine r_get (ci := 0) (k := 3) (v := .ref (A 36)) (C := RX0) (T := TX0) (N := 16) Z hB hx hb hts hown rfl in_X0 hW.obj (by decide) q796 rfl dX0_alter_103 ?_
            refine r_getN (ci := 1) (k := 0) (v := .ref ((fa A 0) 1)) (C := RX1) (T := TX1) (N := 8) Z hB hx hb hts hown rfl in_X1 (((hW.fw (f := 0) (by omega) (F := (S 20)) rfl)).1) (by decide) q139 rfl dX0_alter_106 ?_
            refine lv_iload_n hx hb dX0_alter_109 rfl (lv_at hl 4 rfl) ?_
            refine r_aald (t := 1) (ty := .array .int) (k := (i).toNat) Z hB hx hb rfl rfl (((hW.fw (f := 0) (by omega) (F := (S 20)) rfl)).2.1) (by omega) (by omega) (by omega) rfl dX0_alter_110 ?_
            refine lv_iload_n hx hb dX0_alter_111 rfl (lv_at hl 5 rfl) ?_
            refine lv_iload_n hx hb dX0_alter_112 rfl (lv_at hl 6 rfl) ?_
            refine r_iast (k := (what).toNat) Z hB hx hb (((hW.fw (f := 0) (by omega) (F := (S 20)) rfl)).2.2.1 (i).toNat (by omega)) hS (Or.inl ⟨36 + 20 * 0 + (2 + (i).toNat), by omega, rfl⟩) (by omega) (by omega) (by omega) dX0_alter_113 (CW G A (up S 20 (up (S 20) (2 * (i).toNat + (what).toNat) v)) R) (fun H1 hz oq ha => hW.storeF hI (f := 0) (c := 2 + (i).toNat) (by omega) (by omega) oq (FW.setI ((hW.fw (f := 0) (by omega) (F := (S 20)) rfl)) (hI.fa (f := 0) (by omega)) (by omega) (by omega) oq ha)) (fun H locs hW hS => ?_)
            refine lv_iload hx hb dX0_alter_114 (lv_at hl 0 rfl) ?_
            have hpw9 : (CW G A (up S 20 (alterF (S 20) i what v)) R) H := (by rw [show (up S 20 (alterF (S 20) i what v)) = (up S 20 (up (S 20) (2 * (i).toNat + (what).toNat) v)) by unfold alterF; (repeat' split) <;> first | rfl | omega | (simp only [up_self20])]; exact hW)
            have he9 : ((S 20) (2 * (i).toNat + (what).toNat)) = (alterA (S 20) i what v) := by unfold alterA; (repeat' split) <;> first | rfl | omega
            exact W.iret hx hb hr (fun t ht hW9 => ⟨⟨_, (), rfl, congrArg iI he9, by show (CW G A (up S 20 (alterF (S 20) i what v)) R) t.heap; rw [ht]; exact hpw9⟩, hS.F ht⟩) hS.2.2 dX0_alter_116
          · -- 84 -> 87
            refine ii_const hx hb dX0_alter_87 ?_
            have hpw9 : (CW G A (up S 20 (alterF (S 20) i what v)) R) s.heap := (by rw [show (up S 20 (alterF (S 20) i what v)) = S by unfold alterF; (repeat' split) <;> first | rfl | omega | (simp only [up_self20])]; exact hW)
            have he9 : (-1) = (alterA (S 20) i what v) := by unfold alterA; (repeat' split) <;> first | rfl | omega
            exact W.iret hx hb hr (fun t ht hW9 => ⟨⟨_, (), rfl, congrArg iI he9, by show (CW G A (up S 20 (alterF (S 20) i what v)) R) t.heap; rw [ht]; exact hpw9⟩, hS.F ht⟩) hS.2.2 dX0_alter_88
        · -- 60 -> 63
          refine lv_iload_n hx hb dX0_alter_63 rfl (lv_at hl 4 rfl) ?_
          refine cqI (va_runS (As := [.int (iI v)]) (rest := []) ⟨hx, hb, hml, hown, hts⟩ (mX0_isFathom Z v (by omega)) (va_cwS 1 hts (lw_S q529 q530 q79 q531) rfl rfl rfl (by decide +kernel) ⟨Nat.le_of_ble_eq_true rfl, Nat.le_of_ble_eq_true rfl⟩) (psR (BornH.S hB hN hS) trivial) rfl rfl hl.1 rfl (lv_room (Nat.le_of_ble_eq_true rfl)) dX0_alter_64 ⟨Nat.zero_le _, Nat.zero_le _⟩) ?_
          refine bb_if_eq (P := 0 ≤ v ∧ v ≤ 99) (tgt := 79) hx hb dX0_alter_67 (by decide) (fun c_6 => ?_) (fun c_6 => ?_)
          · -- 67 -> 79
            refine ii_const hx hb dX0_alter_79 ?_
            refine lv_istore (lv' := [(5, .int (iI 0)), (4, .int (iI 1)), (0, .ref (A 0)), (1, .int (iI i)), (2, .int (iI what)), (3, .int (iI v))]) hx hb dX0_alter_80 hl (by decide) rfl (fun ls hl => ?_)
            refine lv_iload hx hb dX0_alter_82 (lv_at hl 0 rfl) ?_
            refine ii_if_ne (tgt := 89) hx hb dX0_alter_84 (by decide) (by omega) (fun c_7 => ?_) (fun c_7 => ?_)
            · -- 84 -> 89
              refine lv_aload_n hx hb dX0_alter_89 rfl (lv_at hl 2 rfl) ?_
              refine r_get (ci := 0) (k := 3) (v := .ref (A 36)) (C := RX0) (T := TX0) (N := 16) Z hB hx hb hts hown rfl in_X0 hW.obj (by decide) q796 rfl dX0_alter_90 ?_
              refine r_getN (ci := 1) (k := 0) (v := .ref ((fa A 0) 1)) (C := RX1) (T := TX1) (N := 8) Z hB hx hb hts hown rfl in_X1 (((hW.fw (f := 0) (by omega) (F := (S 20)) rfl)).1) (by decide) q139 rfl dX0_alter_93 ?_
              refine lv_iload_n hx hb dX0_alter_96 rfl (lv_at hl 3 rfl) ?_
              refine r_aald (t := 1) (ty := .array .int) (k := (i).toNat) Z hB hx hb rfl rfl (((hW.fw (f := 0) (by omega) (F := (S 20)) rfl)).2.1) (by omega) (by omega) (by omega) rfl dX0_alter_97 ?_
              refine lv_iload_n hx hb dX0_alter_98 rfl (lv_at hl 4 rfl) ?_
              have b_430 := hF0.pl (i).toNat (by omega)
              refine r_iald (k := (what).toNat) Z hB hx hb (((hW.fw (f := 0) (by omega) (F := (S 20)) rfl)).2.2.1 (i).toNat (by omega)) (by omega) (by omega) (by omega) dX0_alter_99 ?_
              refine lv_istore (lv' := [(6, .int (iI ((S 20) (2 * (i).toNat + (what).toNat)))), (5, .int (iI 0)), (4, .int (iI 1)), (0, .ref (A 0)), (1, .int (iI i)), (2, .int (iI what)), (3, .int (iI v))]) hx hb dX0_alter_100 hl (by decide) rfl (fun ls hl => ?_)
              refine lv_aload_n hx hb dX0_alter_102 rfl (lv_at hl 3 rfl) ?_
              refine r_get (ci := 0) (k := 3) (v := .ref (A 36)) (C := RX0) (T := TX0) (N := 16) Z hB hx hb hts hown rfl in_X0 hW.obj (by decide) q796 rfl dX0_alter_103 ?_
              refine r_getN (ci := 1) (k := 0) (v := .ref ((fa A 0) 1)) (C := RX1) (T := TX1) (N := 8) Z hB hx hb hts hown rfl in_X1 (((hW.fw (f := 0) (by omega) (F := (S 20)) rfl)).1) (by decide) q139 rfl dX0_alter_106 ?_
              refine lv_iload_n hx hb dX0_alter_109 rfl (lv_at hl 4 rfl) ?_
              refine r_aald (t := 1) (ty := .array .int) (k := (i).toNat) Z hB hx hb rfl rfl (((hW.fw (f := 0) (by omega) (F := (S 20)) rfl)).2.1) (by omega) (by omega) (by omega) rfl dX0_alter_110 ?_
              refine lv_iload_n hx hb dX0_alter_111 rfl (lv_at hl 5 rfl) ?_
              refine lv_iload_n hx hb dX0_alter_112 rfl (lv_at hl 6 rfl) ?_
              refine r_iast (k := (what).toNat) Z hB hx hb (((hW.fw (f := 0) (by omega) (F := (S 20)) rfl)).2.2.1 (i).toNat (by omega)) hS (Or.inl ⟨36 + 20 * 0 + (2 + (i).toNat), by omega, rfl⟩) (by omega) (by omega) (by omega) dX0_alter_113 (CW G A (up S 20 (up (S 20) (2 * (i).toNat + (what).toNat) v)) R) (fun H1 hz oq ha => hW.storeF hI (f := 0) (c := 2 + (i).toNat) (by omega) (by omega) oq (FW.setI ((hW.fw (f := 0) (by omega) (F := (S 20)) rfl)) (hI.fa (f := 0) (by omega)) (by omega) (by omega) oq ha)) (fun H locs hW hS => ?_)
              refine lv_iload hx hb dX0_alter_114 (lv_at hl 0 rfl) ?_
              have hpw9 : (CW G A (up S 20 (alterF (S 20) i what v)) R) H := (by rw [show (up S 20 (alterF (S 20) i what v)) = (up S 20 (up (S 20) (2 * (i).toNat + (what).toNat) v)) by unfold alterF; (repeat' split) <;> first | rfl | omega | (simp only [up_self20])]; exact hW)
              have he9 : ((S 20) (2 * (i).toNat + (what).toNat)) = (alterA (S 20) i what v) := by unfold alterA; (repeat' split) <;> first | rfl | omega
              exact W.iret hx hb hr (fun t ht hW9 => ⟨⟨_, (), rfl, congrArg iI he9, by show (CW G A (up S 20 (alterF (S 20) i what v)) R) t.heap; rw [ht]; exact hpw9⟩, hS.F ht⟩) hS.2.2 dX0_alter_116
            · -- 84 -> 87
              refine ii_const hx hb dX0_alter_87 ?_
              have hpw9 : (CW G A (up S 20 (alterF (S 20) i what v)) R) s.heap := (by rw [show (up S 20 (alterF (S 20) i what v)) = S by unfold alterF; (repeat' split) <;> first | rfl | omega | (simp only [up_self20])]; exact hW)
              have he9 : (-1) = (alterA (S 20) i what v) := by unfold alterA; (repeat' split) <;> first | rfl | omega
              exact W.iret hx hb hr (fun t ht hW9 => ⟨⟨_, (), rfl, congrArg iI he9, by show (CW G A (up S 20 (alterF (S 20) i what v)) R) t.heap; rw [ht]; exact hpw9⟩, hS.F ht⟩) hS.2.2 dX0_alter_88
          · -- 67 -> 70
            refine lv_iload hx hb dX0_alter_70 (lv_at hl 0 rfl) ?_
            refine ii_if_eq (tgt := 79) hx hb dX0_alter_72 (by decide) (by omega) (fun c_8 => ?_) (fun c_8 => ?_)
            · -- 72 -> 79
              refine ii_const hx hb dX0_alter_79 ?_
              refine lv_istore (lv' := [(5, .int (iI 0)), (4, .int (iI 1)), (0, .ref (A 0)), (1, .int (iI i)), (2, .int (iI what)), (3, .int (iI v))]) hx hb dX0_alter_80 hl (by decide) rfl (fun ls hl => ?_)
              refine lv_iload hx hb dX0_alter_82 (lv_at hl 0 rfl) ?_
              refine ii_if_ne (tgt := 89) hx hb dX0_alter_84 (by decide) (by omega) (fun c_9 => ?_) (fun c_9 => ?_)
              · -- 84 -> 89
                refine lv_aload_n hx hb dX0_alter_89 rfl (lv_at hl 2 rfl) ?_
                refine r_get (ci := 0) (k := 3) (v := .ref (A 36)) (C := RX0) (T := TX0) (N := 16) Z hB hx hb hts hown rfl in_X0 hW.obj (by decide) q796 rfl dX0_alter_90 ?_
                refine r_getN (ci := 1) (k := 0) (v := .ref ((fa A 0) 1)) (C := RX1) (T := TX1) (N := 8) Z hB hx hb hts hown rfl in_X1 (((hW.fw (f := 0) (by omega) (F := (S 20)) rfl)).1) (by decide) q139 rfl dX0_alter_93 ?_
                refine lv_iload_n hx hb dX0_alter_96 rfl (lv_at hl 3 rfl) ?_
                refine r_aald (t := 1) (ty := .array .int) (k := (i).toNat) Z hB hx hb rfl rfl (((hW.fw (f := 0) (by omega) (F := (S 20)) rfl)).2.1) (by omega) (by omega) (by omega) rfl dX0_alter_97 ?_
                refine lv_iload_n hx hb dX0_alter_98 rfl (lv_at hl 4 rfl) ?_
                have b_439 := hF0.pl (i).toNat (by omega)
                refine r_iald (k := (what).toNat) Z hB hx hb (((hW.fw (f := 0) (by omega) (F := (S 20)) rfl)).2.2.1 (i).toNat (by omega)) (by omega) (by omega) (by omega) dX0_alter_99 ?_
                refine lv_istore (lv' := [(6, .int (iI ((S 20) (2 * (i).toNat + (what).toNat)))), (5, .int (iI 0)), (4, .int (iI 1)), (0, .ref (A 0)), (1, .int (iI i)), (2, .int (iI what)), (3, .int (iI v))]) hx hb dX0_alter_100 hl (by decide) rfl (fun ls hl => ?_)
                refine lv_aload_n hx hb dX0_alter_102 rfl (lv_at hl 3 rfl) ?_
                refine r_get (ci := 0) (k := 3) (v := .ref (A 36)) (C := RX0) (T := TX0) (N := 16) Z hB hx hb hts hown rfl in_X0 hW.obj (by decide) q796 rfl dX0_alter_103 ?_
                refine r_getN (ci := 1) (k := 0) (v := .ref ((fa A 0) 1)) (C := RX1) (T := TX1) (N := 8) Z hB hx hb hts hown rfl in_X1 (((hW.fw (f := 0) (by omega) (F := (S 20)) rfl)).1) (by decide) q139 rfl dX0_alter_106 ?_
                refine lv_iload_n hx hb dX0_alter_109 rfl (lv_at hl 4 rfl) ?_
                refine r_aald (t := 1) (ty := .array .int) (k := (i).toNat) Z hB hx hb rfl rfl (((hW.fw (f := 0) (by omega) (F := (S 20)) rfl)).2.1) (by omega) (by omega) (by omega) rfl dX0_alter_110 ?_
                refine lv_iload_n hx hb dX0_alter_111 rfl (lv_at hl 5 rfl) ?_
                refine lv_iload_n hx hb dX0_alter_112 rfl (lv_at hl 6 rfl) ?_
                refine r_iast (k := (what).toNat) Z hB hx hb (((hW.fw (f := 0) (by omega) (F := (S 20)) rfl)).2.2.1 (i).toNat (by omega)) hS (Or.inl ⟨36 + 20 * 0 + (2 + (i).toNat), by omega, rfl⟩) (by omega) (by omega) (by omega) dX0_alter_113 (CW G A (up S 20 (up (S 20) (2 * (i).toNat + (what).toNat) v)) R) (fun H1 hz oq ha => hW.storeF hI (f := 0) (c := 2 + (i).toNat) (by omega) (by omega) oq (FW.setI ((hW.fw (f := 0) (by omega) (F := (S 20)) rfl)) (hI.fa (f := 0) (by omega)) (by omega) (by omega) oq ha)) (fun H locs hW hS => ?_)
                refine lv_iload hx hb dX0_alter_114 (lv_at hl 0 rfl) ?_
                have hpw9 : (CW G A (up S 20 (alterF (S 20) i what v)) R) H := (by rw [show (up S 20 (alterF (S 20) i what v)) = (up S 20 (up (S 20) (2 * (i).toNat + (what).toNat) v)) by unfold alterF; (repeat' split) <;> first | rfl | omega | (simp only [up_self20])]; exact hW)
                have he9 : ((S 20) (2 * (i).toNat + (what).toNat)) = (alterA (S 20) i what v) := by unfold alterA; (repeat' split) <;> first | rfl | omega
                exact W.iret hx hb hr (fun t ht hW9 => ⟨⟨_, (), rfl, congrArg iI he9, by show (CW G A (up S 20 (alterF (S 20) i what v)) R) t.heap; rw [ht]; exact hpw9⟩, hS.F ht⟩) hS.2.2 dX0_alter_116
              · -- 84 -> 87
                refine ii_const hx hb dX0_alter_87 ?_
                have hpw9 : (CW G A (up S 20 (alterF (S 20) i what v)) R) s.heap := (by rw [show (up S 20 (alterF (S 20) i what v)) = S by unfold alterF; (repeat' split) <;> first | rfl | omega | (simp only [up_self20])]; exact hW)
                have he9 : (-1) = (alterA (S 20) i what v) := by unfold alterA; (repeat' split) <;> first | rfl | omega
                exact W.iret hx hb hr (fun t ht hW9 => ⟨⟨_, (), rfl, congrArg iI he9, by show (CW G A (up S 20 (alterF (S 20) i what v)) R) t.heap; rw [ht]; exact hpw9⟩, hS.F ht⟩) hS.2.2 dX0_alter_88
            · -- 72 -> 75
              refine ii_const hx hb dX0_alter_75 ?_
              refine lv_goto (tgt := 80) hx hb dX0_alter_76 (by decide) ?_
              refine lv_istore (lv' := [(5, .int (iI 1)), (4, .int (iI 1)), (0, .ref (A 0)), (1, .int (iI i)), (2, .int (iI what)), (3, .int (iI v))]) hx hb dX0_alter_80 hl (by decide) rfl (fun ls hl => ?_)
              refine lv_iload hx hb dX0_alter_82 (lv_at hl 0 rfl) ?_
              refine ii_if_ne (tgt := 89) hx hb dX0_alter_84 (by decide) (by omega) (fun c_10 => ?_) (fun c_10 => ?_)
              · -- 84 -> 89
                refine lv_aload_n hx hb dX0_alter_89 rfl (lv_at hl 2 rfl) ?_
                refine r_get (ci := 0) (k := 3) (v := .ref (A 36)) (C := RX0) (T := TX0) (N := 16) Z hB hx hb hts hown rfl in_X0 hW.obj (by decide) q796 rfl dX0_alter_90 ?_
                refine r_getN (ci := 1) (k := 0) (v := .ref ((fa A 0) 1)) (C := RX1) (T := TX1) (N := 8) Z hB hx hb hts hown rfl in_X1 (((hW.fw (f := 0) (by omega) (F := (S 20)) rfl)).1) (by decide) q139 rfl dX0_alter_93 ?_
                refine lv_iload_n hx hb dX0_alter_96 rfl (lv_at hl 3 rfl) ?_
                refine r_aald (t := 1) (ty := .array .int) (k := (i).toNat) Z hB hx hb rfl rfl (((hW.fw (f := 0) (by omega) (F := (S 20)) rfl)).2.1) (by omega) (by omega) (by omega) rfl dX0_alter_97 ?_
                refine lv_iload_n hx hb dX0_alter_98 rfl (lv_at hl 4 rfl) ?_
                have b_448 := hF0.pl (i).toNat (by omega)
                refine r_iald (k := (what).toNat) Z hB hx hb (((hW.fw (f := 0) (by omega) (F := (S 20)) rfl)).2.2.1 (i).toNat (by omega)) (by omega) (by omega) (by omega) dX0_alter_99 ?_
                refine lv_istore (lv' := [(6, .int (iI ((S 20) (2 * (i).toNat + (what).toNat)))), (5, .int (iI 1)), (4, .int (iI 1)), (0, .ref (A 0)), (1, .int (iI i)), (2, .int (iI what)), (3, .int (iI v))]) hx hb dX0_alter_100 hl (by decide) rfl (fun ls hl => ?_)
                refine lv_aload_n hx hb dX0_alter_102 rfl (lv_at hl 3 rfl) ?_
                refine r_get (ci := 0) (k := 3) (v := .ref (A 36)) (C := RX0) (T := TX0) (N := 16) Z hB hx hb hts hown rfl in_X0 hW.obj (by decide) q796 rfl dX0_alter_103 ?_
                refine r_getN (ci := 1) (k := 0) (v := .ref ((fa A 0) 1)) (C := RX1) (T := TX1) (N := 8) Z hB hx hb hts hown rfl in_X1 (((hW.fw (f := 0) (by omega) (F := (S 20)) rfl)).1) (by decide) q139 rfl dX0_alter_106 ?_
                refine lv_iload_n hx hb dX0_alter_109 rfl (lv_at hl 4 rfl) ?_
                refine r_aald (t := 1) (ty := .array .int) (k := (i).toNat) Z hB hx hb rfl rfl (((hW.fw (f := 0) (by omega) (F := (S 20)) rfl)).2.1) (by omega) (by omega) (by omega) rfl dX0_alter_110 ?_
                refine lv_iload_n hx hb dX0_alter_111 rfl (lv_at hl 5 rfl) ?_
                refine lv_iload_n hx hb dX0_alter_112 rfl (lv_at hl 6 rfl) ?_
                refine r_iast (k := (what).toNat) Z hB hx hb (((hW.fw (f := 0) (by omega) (F := (S 20)) rfl)).2.2.1 (i).toNat (by omega)) hS (Or.inl ⟨36 + 20 * 0 + (2 + (i).toNat), by omega, rfl⟩) (by omega) (by omega) (by omega) dX0_alter_113 (CW G A (up S 20 (up (S 20) (2 * (i).toNat + (what).toNat) v)) R) (fun H1 hz oq ha => hW.storeF hI (f := 0) (c := 2 + (i).toNat) (by omega) (by omega) oq (FW.setI ((hW.fw (f := 0) (by omega) (F := (S 20)) rfl)) (hI.fa (f := 0) (by omega)) (by omega) (by omega) oq ha)) (fun H locs hW hS => ?_)
                refine lv_iload hx hb dX0_alter_114 (lv_at hl 0 rfl) ?_
                have hpw9 : (CW G A (up S 20 (alterF (S 20) i what v)) R) H := (by rw [show (up S 20 (alterF (S 20) i what v)) = (up S 20 (up (S 20) (2 * (i).toNat + (what).toNat) v)) by unfold alterF; (repeat' split) <;> first | rfl | omega | (simp only [up_self20])]; exact hW)
                have he9 : ((S 20) (2 * (i).toNat + (what).toNat)) = (alterA (S 20) i what v) := by unfold alterA; (repeat' split) <;> first | rfl | omega
                exact W.iret hx hb hr (fun t ht hW9 => ⟨⟨_, (), rfl, congrArg iI he9, by show (CW G A (up S 20 (alterF (S 20) i what v)) R) t.heap; rw [ht]; exact hpw9⟩, hS.F ht⟩) hS.2.2 dX0_alter_116
              · -- 84 -> 87
                refine ii_const hx hb dX0_alter_87 ?_
                have hpw9 : (CW G A (up S 20 (alterF (S 20) i what v)) R) s.heap := (by rw [show (up S 20 (alterF (S 20) i what v)) = S by unfold alterF; (repeat' split) <;> first | rfl | omega | (simp only [up_self20])]; exact hW)
                have he9 : (-1) = (alterA (S 20) i what v) := by unfold alterA; (repeat' split) <;> first | rfl | omega
                exact W.iret hx hb hr (fun t ht hW9 => ⟨⟨_, (), rfl, congrArg iI he9, by show (CW G A (up S 20 (alterF (S 20) i what v)) R) t.heap; rw [ht]; exact hpw9⟩, hS.F ht⟩) hS.2.2 dX0_alter_88
      · -- 43 -> 46
        refine lv_iload_n hx hb dX0_alter_46 rfl (lv_at hl 4 rfl) ?_
        refine ii_i2l hx hb (by omega) dX0_alter_47 ?_
        refine ii_lconst (z := 0) hx hb dX0_alter_48 rfl ?_
        refine ii_ldc2 (z := 3) hx hb hts hown q528 dX0_alter_49 (by decide) ?_
        refine cqI (va_runS (As := [.long (lI v), .long (lI 0), .long (lI 3)]) (rest := []) ⟨hx, hb, hml, hown, hts⟩ (mX0_isIn Z v (by omega) 0 (by omega) 3 (by omega)) (va_cwS 3 hts (lw_S q106 q107 q79 q108) rfl rfl rfl (by decide +kernel) ⟨Nat.le_of_ble_eq_true rfl, Nat.le_of_ble_eq_true rfl⟩) (psR (BornH.S hB hN hS) trivial) rfl rfl hl.1 rfl (lv_room (Nat.le_of_ble_eq_true rfl)) dX0_alter_52 ⟨Nat.zero_le _, Nat.zero_le _⟩) ?_
        refine lv_goto (tgt := 80) hx hb dX0_alter_55 (by decide) ?_
        refine lv_istore (lv' := [(5, .int (iI (b2 (0 ≤ v ∧ v ≤ 3)))), (4, .int (iI 1)), (0, .ref (A 0)), (1, .int (iI i)), (2, .int (iI what)), (3, .int (iI v))]) hx hb dX0_alter_80 hl (by decide) rfl (fun ls hl => ?_)
        refine lv_iload hx hb dX0_alter_82 (lv_at hl 0 rfl) ?_
        refine bb_if_ne (P := 0 ≤ v ∧ v ≤ 3) (tgt := 89) hx hb dX0_alter_84 (by decide) (fun c_11 => ?_) (fun c_11 => ?_)
        · -- 84 -> 89
          refine lv_aload_n hx hb dX0_alter_89 rfl (lv_at hl 2 rfl) ?_
          refine r_get (ci := 0) (k := 3) (v := .ref (A 36)) (C := RX0) (T := TX0) (N := 16) Z hB hx hb hts hown rfl in_X0 hW.obj (by decide) q796 rfl dX0_alter_90 ?_
          refine r_getN (ci := 1) (k := 0) (v := .ref ((fa A 0) 1)) (C := RX1) (T := TX1) (N := 8) Z hB hx hb hts hown rfl in_X1 (((hW.fw (f := 0) (by omega) (F := (S 20)) rfl)).1) (by decide) q139 rfl dX0_alter_93 ?_
          refine lv_iload_n hx hb dX0_alter_96 rfl (lv_at hl 3 rfl) ?_
          refine r_aald (t := 1) (ty := .array .int) (k := (i).toNat) Z hB hx hb rfl rfl (((hW.fw (f := 0) (by omega) (F := (S 20)) rfl)).2.1) (by omega) (by omega) (by omega) rfl dX0_alter_97 ?_
          refine lv_iload_n hx hb dX0_alter_98 rfl (lv_at hl 4 rfl) ?_
          have b_457 := hF0.pl (i).toNat (by omega)
          refine r_iald (k := (what).toNat) Z hB hx hb (((hW.fw (f := 0) (by omega) (F := (S 20)) rfl)).2.2.1 (i).toNat (by omega)) (by omega) (by omega) (by omega) dX0_alter_99 ?_
          refine lv_istore (lv' := [(6, .int (iI ((S 20) (2 * (i).toNat + (what).toNat)))), (5, .int (iI (b2 (0 ≤ v ∧ v ≤ 3)))), (4, .int (iI 1)), (0, .ref (A 0)), (1, .int (iI i)), (2, .int (iI what)), (3, .int (iI v))]) hx hb dX0_alter_100 hl (by decide) rfl (fun ls hl => ?_)
          refine lv_aload_n hx hb dX0_alter_102 rfl (lv_at hl 3 rfl) ?_
          refine r_get (ci := 0) (k := 3) (v := .ref (A 36)) (C := RX0) (T := TX0) (N := 16) Z hB hx hb hts hown rfl in_X0 hW.obj (by decide) q796 rfl dX0_alter_103 ?_
          refine r_getN (ci := 1) (k := 0) (v := .ref ((fa A 0) 1)) (C := RX1) (T := TX1) (N := 8) Z hB hx hb hts hown rfl in_X1 (((hW.fw (f := 0) (by omega) (F := (S 20)) rfl)).1) (by decide) q139 rfl dX0_alter_106 ?_
          refine lv_iload_n hx hb dX0_alter_109 rfl (lv_at hl 4 rfl) ?_
          refine r_aald (t := 1) (ty := .array .int) (k := (i).toNat) Z hB hx hb rfl rfl (((hW.fw (f := 0) (by omega) (F := (S 20)) rfl)).2.1) (by omega) (by omega) (by omega) rfl dX0_alter_110 ?_
          refine lv_iload_n hx hb dX0_alter_111 rfl (lv_at hl 5 rfl) ?_
          refine lv_iload_n hx hb dX0_alter_112 rfl (lv_at hl 6 rfl) ?_
          refine r_iast (k := (what).toNat) Z hB hx hb (((hW.fw (f := 0) (by omega) (F := (S 20)) rfl)).2.2.1 (i).toNat (by omega)) hS (Or.inl ⟨36 + 20 * 0 + (2 + (i).toNat), by omega, rfl⟩) (by omega) (by omega) (by omega) dX0_alter_113 (CW G A (up S 20 (up (S 20) (2 * (i).toNat + (what).toNat) v)) R) (fun H1 hz oq ha => hW.storeF hI (f := 0) (c := 2 + (i).toNat) (by omega) (by omega) oq (FW.setI ((hW.fw (f := 0) (by omega) (F := (S 20)) rfl)) (hI.fa (f := 0) (by omega)) (by omega) (by omega) oq ha)) (fun H locs hW hS => ?_)
          refine lv_iload hx hb dX0_alter_114 (lv_at hl 0 rfl) ?_
          have hpw9 : (CW G A (up S 20 (alterF (S 20) i what v)) R) H := (by rw [show (up S 20 (alterF (S 20) i what v)) = (up S 20 (up (S 20) (2 * (i).toNat + (what).toNat) v)) by unfold alterF; (repeat' split) <;> first | rfl | omega | (simp only [up_self20])]; exact hW)
          have he9 : ((S 20) (2 * (i).toNat + (what).toNat)) = (alterA (S 20) i what v) := by unfold alterA; (repeat' split) <;> first | rfl | omega
          exact W.iret hx hb hr (fun t ht hW9 => ⟨⟨_, (), rfl, congrArg iI he9, by show (CW G A (up S 20 (alterF (S 20) i what v)) R) t.heap; rw [ht]; exact hpw9⟩, hS.F ht⟩) hS.2.2 dX0_alter_116
        · -- 84 -> 87
          refine ii_const hx hb dX0_alter_87 ?_
          have hpw9 : (CW G A (up S 20 (alterF (S 20) i what v)) R) s.heap := (by rw [show (up S 20 (alterF (S 20) i what v)) = S by unfold alterF; (repeat' split) <;> first | rfl | omega | (simp only [up_self20])]; exact hW)
          have he9 : (-1) = (alterA (S 20) i what v) := by unfold alterA; (repeat' split) <;> first | rfl | omega
          exact W.iret hx hb hr (fun t ht hW9 => ⟨⟨_, (), rfl, congrArg iI he9, by show (CW G A (up S 20 (alterF (S 20) i what v)) R) t.heap; rw [ht]; exact hpw9⟩, hS.F ht⟩) hS.2.2 dX0_alter_88
    · -- 20 -> 23
      refine lv_aload_n hx hb dX0_alter_23 rfl (lv_at hl 0 rfl) ?_
      refine r_get (ci := 0) (k := 3) (v := .ref (A 36)) (C := RX0) (T := TX0) (N := 16) Z hB hx hb hts hown rfl in_X0 hW.obj (by decide) q796 rfl dX0_alter_24 ?_
      refine lv_iload_n hx hb dX0_alter_27 rfl (lv_at hl 3 rfl) ?_
      refine cqI (va_runV (As := [.int (iI v)]) (rest := []) ⟨hx, hb, hml, hown, hts⟩ (mX1_whoIsAt Z (fa A 0) (S 20) hF0 v (by omega)) (cwV 1 hts (lw_V q527 q383 q384 q80 q385) rfl rfl rfl (by decide +kernel) ⟨Nat.le_of_ble_eq_true rfl, Nat.le_of_ble_eq_true rfl⟩) (pvR (BornH.S hB hN hS) (OBJ.recv Z hB (((hW.fw (f := 0) (by omega) (F := (S 20)) rfl)).1) (q := (RX1, TX1, 8)) rfl) (hW.fw (f := 0) (by omega) (F := (S 20)) rfl)) rfl rfl hl.1 rfl (lv_room (Nat.le_of_ble_eq_true rfl)) dX0_alter_28 ⟨Nat.zero_le _, Nat.zero_le _⟩) ?_
      have b_466 := whoS_in (S 20) v ((S 20) 76).toNat 0
      have b_467 := hF0.n
      refine lv_iload_n hx hb dX0_alter_31 rfl (lv_at hl 1 rfl) ?_
      refine ii_icmp_ne (tgt := 39) hx hb dX0_alter_32 (by decide) (by omega) (by omega) (fun c_12 => ?_) (fun c_12 => ?_)
      · -- 32 -> 39
        refine ii_const hx hb dX0_alter_39 ?_
        refine lv_istore (lv' := [(4, .int (iI 0)), (0, .ref (A 0)), (1, .int (iI i)), (2, .int (iI what)), (3, .int (iI v))]) hx hb dX0_alter_40 hl (by decide) rfl (fun ls hl => ?_)
        refine lv_iload_n hx hb dX0_alter_42 rfl (lv_at hl 3 rfl) ?_
        refine ii_if_ne (tgt := 58) hx hb dX0_alter_43 (by decide) (by omega) (fun c_13 => ?_) (fun c_13 => ?_)
        · -- 43 -> 58
          refine lv_iload_n hx hb dX0_alter_58 rfl (lv_at hl 3 rfl) ?_
          refine ii_const hx hb dX0_alter_59 ?_
          refine ii_icmp_ne (tgt := 79) hx hb dX0_alter_60 (by decide) (by omega) (by omega) (fun c_14 => ?_) (fun c_14 => ?_)
          · -- 60 -> 79
            refine ii_const hx hb dX0_alter_79 ?_
            refine lv_istore (lv' := [(5, .int (iI 0)), (4, .int (iI 0)), (0, .ref (A 0)), (1, .int (iI i)), (2, .int (iI what)), (3, .int (iI v))]) hx hb dX0_alter_80 hl (by decide) rfl (fun ls hl => ?_)
            refine lv_iload hx hb dX0_alter_82 (lv_at hl 0 rfl) ?_
            refine ii_if_ne (tgt := 89) hx hb dX0_alter_84 (by decide) (by omega) (fun c_15 => ?_) (fun c_15 => ?_)
            · -- 84 -> 89
              refine lv_aload_n hx hb dX0_alter_89 rfl (lv_at hl 2 rfl) ?_
              refine r_get (ci := 0) (k := 3) (v := .ref (A 36)) (C := RX0) (T := TX0) (N := 16) Z hB hx hb hts hown rfl in_X0 hW.obj (by decide) q796 rfl dX0_alter_90 ?_
              refine r_getN (ci := 1) (k := 0) (v := .ref ((fa A 0) 1)) (C := RX1) (T := TX1) (N := 8) Z hB hx hb hts hown rfl in_X1 (((hW.fw (f := 0) (by omega) (F := (S 20)) rfl)).1) (by decide) q139 rfl dX0_alter_93 ?_
              refine lv_iload_n hx hb dX0_alter_96 rfl (lv_at hl 3 rfl) ?_
              refine r_aald (t := 1) (ty := .array .int) (k := (i).toNat) Z hB hx hb rfl rfl (((hW.fw (f := 0) (by omega) (F := (S 20)) rfl)).2.1) (by omega) (by omega) (by omega) rfl dX0_alter_97 ?_
              refine lv_iload_n hx hb dX0_alter_98 rfl (lv_at hl 4 rfl) ?_
              have b_472 := hF0.pl (i).toNat (by omega)
              refine r_iald (k := (what).toNat) Z hB hx hb (((hW.fw (f := 0) (by omega) (F := (S 20)) rfl)).2.2.1 (i).toNat (by omega)) (by omega) (by omega) (by omega) dX0_alter_99 ?_
              refine lv_istore (lv' := [(6, .int (iI ((S 20) (2 * (i).toNat + (what).toNat)))), (5, .int (iI 0)), (4, .int (iI 0)), (0, .ref (A 0)), (1, .int (iI i)), (2, .int (iI what)), (3, .int (iI v))]) hx hb dX0_alter_100 hl (by decide) rfl (fun ls hl => ?_)
              refine lv_aload_n hx hb dX0_alter_102 rfl (lv_at hl 3 rfl) ?_
              refine r_get (ci := 0) (k := 3) (v := .ref (A 36)) (C := RX0) (T := TX0) (N := 16) Z hB hx hb hts hown rfl in_X0 hW.obj (by decide) q796 rfl dX0_alter_103 ?_
              refine r_getN (ci := 1) (k := 0) (v := .ref ((fa A 0) 1)) (C := RX1) (T := TX1) (N := 8) Z hB hx hb hts hown rfl in_X1 (((hW.fw (f := 0) (by omega) (F := (S 20)) rfl)).1) (by decide) q139 rfl dX0_alter_106 ?_
              refine lv_iload_n hx hb dX0_alter_109 rfl (lv_at hl 4 rfl) ?_
              refine r_aald (t := 1) (ty := .array .int) (k := (i).toNat) Z hB hx hb rfl rfl (((hW.fw (f := 0) (by omega) (F := (S 20)) rfl)).2.1) (by omega) (by omega) (by omega) rfl dX0_alter_110 ?_
              refine lv_iload_n hx hb dX0_alter_111 rfl (lv_at hl 5 rfl) ?_
              refine lv_iload_n hx hb dX0_alter_112 rfl (lv_at hl 6 rfl) ?_
              refine r_iast (k := (what).toNat) Z hB hx hb (((hW.fw (f := 0) (by omega) (F := (S 20)) rfl)).2.2.1 (i).toNat (by omega)) hS (Or.inl ⟨36 + 20 * 0 + (2 + (i).toNat), by omega, rfl⟩) (by omega) (by omega) (by omega) dX0_alter_113 (CW G A (up S 20 (up (S 20) (2 * (i).toNat + (what).toNat) v)) R) (fun H1 hz oq ha => hW.storeF hI (f := 0) (c := 2 + (i).toNat) (by omega) (by omega) oq (FW.setI ((hW.fw (f := 0) (by omega) (F := (S 20)) rfl)) (hI.fa (f := 0) (by omega)) (by omega) (by omega) oq ha)) (fun H locs hW hS => ?_)
              refine lv_iload hx hb dX0_alter_114 (lv_at hl 0 rfl) ?_
              have hpw9 : (CW G A (up S 20 (alterF (S 20) i what v)) R) H := (by rw [show (up S 20 (alterF (S 20) i what v)) = (up S 20 (up (S 20) (2 * (i).toNat + (what).toNat) v)) by unfold alterF; (repeat' split) <;> first | rfl | omega | (simp only [up_self20])]; exact hW)
              have he9 : ((S 20) (2 * (i).toNat + (what).toNat)) = (alterA (S 20) i what v) := by unfold alterA; (repeat' split) <;> first | rfl | omega
              exact W.iret hx hb hr (fun t ht hW9 => ⟨⟨_, (), rfl, congrArg iI he9, by show (CW G A (up S 20 (alterF (S 20) i what v)) R) t.heap; rw [ht]; exact hpw9⟩, hS.F ht⟩) hS.2.2 dX0_alter_116
            · -- 84 -> 87
              refine ii_const hx hb dX0_alter_87 ?_
              have hpw9 : (CW G A (up S 20 (alterF (S 20) i what v)) R) s.heap := (by rw [show (up S 20 (alterF (S 20) i what v)) = S by unfold alterF; (repeat' split) <;> first | rfl | omega | (simp only [up_self20])]; exact hW)
              have he9 : (-1) = (alterA (S 20) i what v) := by unfold alterA; (repeat' split) <;> first | rfl | omega
              exact W.iret hx hb hr (fun t ht hW9 => ⟨⟨_, (), rfl, congrArg iI he9, by show (CW G A (up S 20 (alterF (S 20) i what v)) R) t.heap; rw [ht]; exact hpw9⟩, hS.F ht⟩) hS.2.2 dX0_alter_88
          · -- 60 -> 63
            refine lv_iload_n hx hb dX0_alter_63 rfl (lv_at hl 4 rfl) ?_
            refine cqI (va_runS (As := [.int (iI v)]) (rest := []) ⟨hx, hb, hml, hown, hts⟩ (mX0_isFathom Z v (by omega)) (va_cwS 1 hts (lw_S q529 q530 q79 q531) rfl rfl rfl (by decide +kernel) ⟨Nat.le_of_ble_eq_true rfl, Nat.le_of_ble_eq_true rfl⟩) (psR (BornH.S hB hN hS) trivial) rfl rfl hl.1 rfl (lv_room (Nat.le_of_ble_eq_true rfl)) dX0_alter_64 ⟨Nat.zero_le _, Nat.zero_le _⟩) ?_
            refine bb_if_eq (P := 0 ≤ v ∧ v ≤ 99) (tgt := 79) hx hb dX0_alter_67 (by decide) (fun c_16 => ?_) (fun c_16 => ?_)
            · -- 67 -> 79
              refine ii_const hx hb dX0_alter_79 ?_
              refine lv_istore (lv' := [(5, .int (iI 0)), (4, .int (iI 0)), (0, .ref (A 0)), (1, .int (iI i)), (2, .int (iI what)), (3, .int (iI v))]) hx hb dX0_alter_80 hl (by decide) rfl (fun ls hl => ?_)
              refine lv_iload hx hb dX0_alter_82 (lv_at hl 0 rfl) ?_
              refine ii_if_ne (tgt := 89) hx hb dX0_alter_84 (by decide) (by omega) (fun c_17 => ?_) (fun c_17 => ?_)
              · -- 84 -> 89
                refine lv_aload_n hx hb dX0_alter_89 rfl (lv_at hl 2 rfl) ?_
                refine r_get (ci := 0) (k := 3) (v := .ref (A 36)) (C := RX0) (T := TX0) (N := 16) Z hB hx hb hts hown rfl in_X0 hW.obj (by decide) q796 rfl dX0_alter_90 ?_
                refine r_getN (ci := 1) (k := 0) (v := .ref ((fa A 0) 1)) (C := RX1) (T := TX1) (N := 8) Z hB hx hb hts hown rfl in_X1 (((hW.fw (f := 0) (by omega) (F := (S 20)) rfl)).1) (by decide) q139 rfl dX0_alter_93 ?_
                refine lv_iload_n hx hb dX0_alter_96 rfl (lv_at hl 3 rfl) ?_
                refine r_aald (t := 1) (ty := .array .int) (k := (i).toNat) Z hB hx hb rfl rfl (((hW.fw (f := 0) (by omega) (F := (S 20)) rfl)).2.1) (by omega) (by omega) (by omega) rfl dX0_alter_97 ?_
                refine lv_iload_n hx hb dX0_alter_98 rfl (lv_at hl 4 rfl) ?_
                have b_481 := hF0.pl (i).toNat (by omega)
                refine r_iald (k := (what).toNat) Z hB hx hb (((hW.fw (f := 0) (by omega) (F := (S 20)) rfl)).2.2.1 (i).toNat (by omega)) (by omega) (by omega) (by omega) dX0_alter_99 ?_
                refine lv_istore (lv' := [(6, .int (iI ((S 20) (2 * (i).toNat + (what).toNat)))), (5, .int (iI 0)), (4, .int (iI 0)), (0, .ref (A 0)), (1, .int (iI i)), (2, .int (iI what)), (3, .int (iI v))]) hx hb dX0_alter_100 hl (by decide) rfl (fun ls hl => ?_)
                refine lv_aload_n hx hb dX0_alter_102 rfl (lv_at hl 3 rfl) ?_
                refine r_get (ci := 0) (k := 3) (v := .ref (A 36)) (C := RX0) (T := TX0) (N := 16) Z hB hx hb hts hown rfl in_X0 hW.obj (by decide) q796 rfl dX0_alter_103 ?_
                refine r_getN (ci := 1) (k := 0) (v := .ref ((fa A 0) 1)) (C := RX1) (T := TX1) (N := 8) Z hB hx hb hts hown rfl in_X1 (((hW.fw (f := 0) (by omega) (F := (S 20)) rfl)).1) (by decide) q139 rfl dX0_alter_106 ?_
                refine lv_iload_n hx hb dX0_alter_109 rfl (lv_at hl 4 rfl) ?_
                refine r_aald (t := 1) (ty := .array .int) (k := (i).toNat) Z hB hx hb rfl rfl (((hW.fw (f := 0) (by omega) (F := (S 20)) rfl)).2.1) (by omega) (by omega) (by omega) rfl dX0_alter_110 ?_
                refine lv_iload_n hx hb dX0_alter_111 rfl (lv_at hl 5 rfl) ?_
                refine lv_iload_n hx hb dX0_alter_112 rfl (lv_at hl 6 rfl) ?_
                refine r_iast (k := (what).toNat) Z hB hx hb (((hW.fw (f := 0) (by omega) (F := (S 20)) rfl)).2.2.1 (i).toNat (by omega)) hS (Or.inl ⟨36 + 20 * 0 + (2 + (i).toNat), by omega, rfl⟩) (by omega) (by omega) (by omega) dX0_alter_113 (CW G A (up S 20 (up (S 20) (2 * (i).toNat + (what).toNat) v)) R) (fun H1 hz oq ha => hW.storeF hI (f := 0) (c := 2 + (i).toNat) (by omega) (by omega) oq (FW.setI ((hW.fw (f := 0) (by omega) (F := (S 20)) rfl)) (hI.fa (f := 0) (by omega)) (by omega) (by omega) oq ha)) (fun H locs hW hS => ?_)
                refine lv_iload hx hb dX0_alter_114 (lv_at hl 0 rfl) ?_
                have hpw9 : (CW G A (up S 20 (alterF (S 20) i what v)) R) H := (by rw [show (up S 20 (alterF (S 20) i what v)) = (up S 20 (up (S 20) (2 * (i).toNat + (what).toNat) v)) by unfold alterF; (repeat' split) <;> first | rfl | omega | (simp only [up_self20])]; exact hW)
                have he9 : ((S 20) (2 * (i).toNat + (what).toNat)) = (alterA (S 20) i what v) := by unfold alterA; (repeat' split) <;> first | rfl | omega
                exact W.iret hx hb hr (fun t ht hW9 => ⟨⟨_, (), rfl, congrArg iI he9, by show (CW G A (up S 20 (alterF (S 20) i what v)) R) t.heap; rw [ht]; exact hpw9⟩, hS.F ht⟩) hS.2.2 dX0_alter_116
              · -- 84 -> 87
                refine ii_const hx hb dX0_alter_87 ?_
                have hpw9 : (CW G A (up S 20 (alterF (S 20) i what v)) R) s.heap := (by rw [show (up S 20 (alterF (S 20) i what v)) = S by unfold alterF; (repeat' split) <;> first | rfl | omega | (simp only [up_self20])]; exact hW)
                have he9 : (-1) = (alterA (S 20) i what v) := by unfold alterA; (repeat' split) <;> first | rfl | omega
                exact W.iret hx hb hr (fun t ht hW9 => ⟨⟨_, (), rfl, congrArg iI he9, by show (CW G A (up S 20 (alterF (S 20) i what v)) R) t.heap; rw [ht]; exact hpw9⟩, hS.F ht⟩) hS.2.2 dX0_alter_88
            · -- 67 -> 70
              refine lv_iload hx hb dX0_alter_70 (lv_at hl 0 rfl) ?_
              refine ii_if_eq (tgt := 79) hx hb dX0_alter_72 (by decide) (by omega) (fun c_18 => ?_) (fun c_18 => ?_)
              · -- 72 -> 79
                refine ii_const hx hb dX0_alter_79 ?_
                refine lv_istore (lv' := [(5, .int (iI 0)), (4, .int (iI 0)), (0, .ref (A 0)), (1, .int (iI i)), (2, .int (iI what)), (3, .int (iI v))]) hx hb dX0_alter_80 hl (by decide) rfl (fun ls hl => ?_)
                refine lv_iload hx hb dX0_alter_82 (lv_at hl 0 rfl) ?_
                refine ii_if_ne (tgt := 89) hx hb dX0_alter_84 (by decide) (by omega) (fun c_19 => ?_) (fun c_19 => ?_)
                · -- 84 -> 89
                  refine lv_aload_n hx hb dX0_alter_89 rfl (lv_at hl 2 rfl) ?_
                  refine r_get (ci := 0) (k := 3) (v := .ref (A 36)) (C := RX0) (T := TX0) (N := 16) Z hB hx hb hts hown rfl in_X0 hW.obj (by decide) q796 rfl dX0_alter_90 ?_
                  refine r_getN (ci := 1) (k := 0) (v := .ref ((fa A 0) 1)) (C := RX1) (T := TX1) (N := 8) Z hB hx hb hts hown rfl in_X1 (((hW.fw (f := 0) (by omega) (F := (S 20)) rfl)).1) (by decide) q139 rfl dX0_alter_93 ?_
                  refine lv_iload_n hx hb dX0_alter_96 rfl (lv_at hl 3 rfl) ?_
                  refine r_aald (t := 1) (ty := .array .int) (k := (i).toNat) Z hB hx hb rfl rfl (((hW.fw (f := 0) (by omega) (F := (S 20)) rfl)).2.1) (by omega) (by omega) (by omega) rfl dX0_alter_97 ?_
                  refine lv_iload_n hx hb dX0_alter_98 rfl (lv_at hl 4 rfl) ?_
                  have b_490 := hF0.pl (i).toNat (by omega)
                  refine r_iald (k := (what).toNat) Z hB hx hb (((hW.fw (f := 0) (by omega) (F := (S 20)) rfl)).2.2.1 (i).toNat (by omega)) (by omega) (by omega) (by omega) dX0_alter_99 ?_
                  refine lv_istore (lv' := [(6, .int (iI ((S 20) (2 * (i).toNat + (what).toNat)))), (5, .int (iI 0)), (4, .int (iI 0)), (0, .ref (A 0)), (1, .int (iI i)), (2, .int (iI what)), (3, .int (iI v))]) hx hb dX0_alter_100 hl (by decide) rfl (fun ls hl => ?_)
                  refine lv_aload_n hx hb dX0_alter_102 rfl (lv_at hl 3 rfl) ?_
                  refine r_get (ci := 0) (k := 3) (v := .ref (A 36)) (C := RX0) (T := TX0) (N := 16) Z hB hx hb hts hown rfl in_X0 hW.obj (by decide) q796 rfl dX0_alter_103 ?_
                  refine r_getN (ci := 1) (k := 0) (v := .ref ((fa A 0) 1)) (C := RX1) (T := TX1) (N := 8) Z hB hx hb hts hown rfl in_X1 (((hW.fw (f := 0) (by omega) (F := (S 20)) rfl)).1) (by decide) q139 rfl dX0_alter_106 ?_
                  refine lv_iload_n hx hb dX0_alter_109 rfl (lv_at hl 4 rfl) ?_
                  refine r_aald (t := 1) (ty := .array .int) (k := (i).toNat) Z hB hx hb rfl rfl (((hW.fw (f := 0) (by omega) (F := (S 20)) rfl)).2.1) (by omega) (by omega) (by omega) rfl dX0_alter_110 ?_
                  refine lv_iload_n hx hb dX0_alter_111 rfl (lv_at hl 5 rfl) ?_
                  refine lv_iload_n hx hb dX0_alter_112 rfl (lv_at hl 6 rfl) ?_
                  refine r_iast (k := (what).toNat) Z hB hx hb (((hW.fw (f := 0) (by omega) (F := (S 20)) rfl)).2.2.1 (i).toNat (by omega)) hS (Or.inl ⟨36 + 20 * 0 + (2 + (i).toNat), by omega, rfl⟩) (by omega) (by omega) (by omega) dX0_alter_113 (CW G A (up S 20 (up (S 20) (2 * (i).toNat + (what).toNat) v)) R) (fun H1 hz oq ha => hW.storeF hI (f := 0) (c := 2 + (i).toNat) (by omega) (by omega) oq (FW.setI ((hW.fw (f := 0) (by omega) (F := (S 20)) rfl)) (hI.fa (f := 0) (by omega)) (by omega) (by omega) oq ha)) (fun H locs hW hS => ?_)
                  refine lv_iload hx hb dX0_alter_114 (lv_at hl 0 rfl) ?_
                  have hpw9 : (CW G A (up S 20 (alterF (S 20) i what v)) R) H := (by rw [show (up S 20 (alterF (S 20) i what v)) = (up S 20 (up (S 20) (2 * (i).toNat + (what).toNat) v)) by unfold alterF; (repeat' split) <;> first | rfl | omega | (simp only [up_self20])]; exact hW)
                  have he9 : ((S 20) (2 * (i).toNat + (what).toNat)) = (alterA (S 20) i what v) := by unfold alterA; (repeat' split) <;> first | rfl | omega
                  exact W.iret hx hb hr (fun t ht hW9 => ⟨⟨_, (), rfl, congrArg iI he9, by show (CW G A (up S 20 (alterF (S 20) i what v)) R) t.heap; rw [ht]; exact hpw9⟩, hS.F ht⟩) hS.2.2 dX0_alter_116
                · -- 84 -> 87
                  refine ii_const hx hb dX0_alter_87 ?_
                  have hpw9 : (CW G A (up S 20 (alterF (S 20) i what v)) R) s.heap := (by rw [show (up S 20 (alterF (S 20) i what v)) = S by unfold alterF; (repeat' split) <;> first | rfl | omega | (simp only [up_self20])]; exact hW)
                  have he9 : (-1) = (alterA (S 20) i what v) := by unfold alterA; (repeat' split) <;> first | rfl | omega
                  exact W.iret hx hb hr (fun t ht hW9 => ⟨⟨_, (), rfl, congrArg iI he9, by show (CW G A (up S 20 (alterF (S 20) i what v)) R) t.heap; rw [ht]; exact hpw9⟩, hS.F ht⟩) hS.2.2 dX0_alter_88
              · -- 72 -> 75
                refine ii_const hx hb dX0_alter_75 ?_
                refine lv_goto (tgt := 80) hx hb dX0_alter_76 (by decide) ?_
                refine lv_istore (lv' := [(5, .int (iI 1)), (4, .int (iI 0)), (0, .ref (A 0)), (1, .int (iI i)), (2, .int (iI what)), (3, .int (iI v))]) hx hb dX0_alter_80 hl (by decide) rfl (fun ls hl => ?_)
                refine lv_iload hx hb dX0_alter_82 (lv_at hl 0 rfl) ?_
                refine ii_if_ne (tgt := 89) hx hb dX0_alter_84 (by decide) (by omega) (fun c_20 => ?_) (fun c_20 => ?_)
                · -- 84 -> 89
                  refine lv_aload_n hx hb dX0_alter_89 rfl (lv_at hl 2 rfl) ?_
                  refine r_get (ci := 0) (k := 3) (v := .ref (A 36)) (C := RX0) (T := TX0) (N := 16) Z hB hx hb hts hown rfl in_X0 hW.obj (by decide) q796 rfl dX0_alter_90 ?_
                  refine r_getN (ci := 1) (k := 0) (v := .ref ((fa A 0) 1)) (C := RX1) (T := TX1) (N := 8) Z hB hx hb hts hown rfl in_X1 (((hW.fw (f := 0) (by omega) (F := (S 20)) rfl)).1) (by decide) q139 rfl dX0_alter_93 ?_
                  refine lv_iload_n hx hb dX0_alter_96 rfl (lv_at hl 3 rfl) ?_
                  refine r_aald (t := 1) (ty := .array .int) (k := (i).toNat) Z hB hx hb rfl rfl (((hW.fw (f := 0) (by omega) (F := (S 20)) rfl)).2.1) (by omega) (by omega) (by omega) rfl dX0_alter_97 ?_
                  refine lv_iload_n hx hb dX0_alter_98 rfl (lv_at hl 4 rfl) ?_
                  have b_499 := hF0.pl (i).toNat (by omega)
                  refine r_iald (k := (what).toNat) Z hB hx hb (((hW.fw (f := 0) (by omega) (F := (S 20)) rfl)).2.2.1 (i).toNat (by omega)) (by omega) (by omega) (by omega) dX0_alter_99 ?_
                  refine lv_istore (lv' := [(6, .int (iI ((S 20) (2 * (i).toNat + (what).toNat)))), (5, .int (iI 1)), (4, .int (iI 0)), (0, .ref (A 0)), (1, .int (iI i)), (2, .int (iI what)), (3, .int (iI v))]) hx hb dX0_alter_100 hl (by decide) rfl (fun ls hl => ?_)
                  refine lv_aload_n hx hb dX0_alter_102 rfl (lv_at hl 3 rfl) ?_
                  refine r_get (ci := 0) (k := 3) (v := .ref (A 36)) (C := RX0) (T := TX0) (N := 16) Z hB hx hb hts hown rfl in_X0 hW.obj (by decide) q796 rfl dX0_alter_103 ?_
                  refine r_getN (ci := 1) (k := 0) (v := .ref ((fa A 0) 1)) (C := RX1) (T := TX1) (N := 8) Z hB hx hb hts hown rfl in_X1 (((hW.fw (f := 0) (by omega) (F := (S 20)) rfl)).1) (by decide) q139 rfl dX0_alter_106 ?_
                  refine lv_iload_n hx hb dX0_alter_109 rfl (lv_at hl 4 rfl) ?_
                  refine r_aald (t := 1) (ty := .array .int) (k := (i).toNat) Z hB hx hb rfl rfl (((hW.fw (f := 0) (by omega) (F := (S 20)) rfl)).2.1) (by omega) (by omega) (by omega) rfl dX0_alter_110 ?_
                  refine lv_iload_n hx hb dX0_alter_111 rfl (lv_at hl 5 rfl) ?_
                  refine lv_iload_n hx hb dX0_alter_112 rfl (lv_at hl 6 rfl) ?_
                  refine r_iast (k := (what).toNat) Z hB hx hb (((hW.fw (f := 0) (by omega) (F := (S 20)) rfl)).2.2.1 (i).toNat (by omega)) hS (Or.inl ⟨36 + 20 * 0 + (2 + (i).toNat), by omega, rfl⟩) (by omega) (by omega) (by omega) dX0_alter_113 (CW G A (up S 20 (up (S 20) (2 * (i).toNat + (what).toNat) v)) R) (fun H1 hz oq ha => hW.storeF hI (f := 0) (c := 2 + (i).toNat) (by omega) (by omega) oq (FW.setI ((hW.fw (f := 0) (by omega) (F := (S 20)) rfl)) (hI.fa (f := 0) (by omega)) (by omega) (by omega) oq ha)) (fun H locs hW hS => ?_)
                  refine lv_iload hx hb dX0_alter_114 (lv_at hl 0 rfl) ?_
                  have hpw9 : (CW G A (up S 20 (alterF (S 20) i what v)) R) H := (by rw [show (up S 20 (alterF (S 20) i what v)) = (up S 20 (up (S 20) (2 * (i).toNat + (what).toNat) v)) by unfold alterF; (repeat' split) <;> first | rfl | omega | (simp only [up_self20])]; exact hW)
                  have he9 : ((S 20) (2 * (i).toNat + (what).toNat)) = (alterA (S 20) i what v) := by unfold alterA; (repeat' split) <;> first | rfl | omega
                  exact W.iret hx hb hr (fun t ht hW9 => ⟨⟨_, (), rfl, congrArg iI he9, by show (CW G A (up S 20 (alterF (S 20) i what v)) R) t.heap; rw [ht]; exact hpw9⟩, hS.F ht⟩) hS.2.2 dX0_alter_116
                · -- 84 -> 87
                  refine ii_const hx hb dX0_alter_87 ?_
                  have hpw9 : (CW G A (up S 20 (alterF (S 20) i what v)) R) s.heap := (by rw [show (up S 20 (alterF (S 20) i what v)) = S by unfold alterF; (repeat' split) <;> first | rfl | omega | (simp only [up_self20])]; exact hW)
                  have he9 : (-1) = (alterA (S 20) i what v) := by unfold alterA; (repeat' split) <;> first | rfl | omega
                  exact W.iret hx hb hr (fun t ht hW9 => ⟨⟨_, (), rfl, congrArg iI he9, by show (CW G A (up S 20 (alterF (S 20) i what v)) R) t.heap; rw [ht]; exact hpw9⟩, hS.F ht⟩) hS.2.2 dX0_alter_88
        · -- 43 -> 46
          refine lv_iload_n hx hb dX0_alter_46 rfl (lv_at hl 4 rfl) ?_
          refine ii_i2l hx hb (by omega) dX0_alter_47 ?_
          refine ii_lconst (z := 0) hx hb dX0_alter_48 rfl ?_
          refine ii_ldc2 (z := 3) hx hb hts hown q528 dX0_alter_49 (by decide) ?_
          refine cqI (va_runS (As := [.long (lI v), .long (lI 0), .long (lI 3)]) (rest := []) ⟨hx, hb, hml, hown, hts⟩ (mX0_isIn Z v (by omega) 0 (by omega) 3 (by omega)) (va_cwS 3 hts (lw_S q106 q107 q79 q108) rfl rfl rfl (by decide +kernel) ⟨Nat.le_of_ble_eq_true rfl, Nat.le_of_ble_eq_true rfl⟩) (psR (BornH.S hB hN hS) trivial) rfl rfl hl.1 rfl (lv_room (Nat.le_of_ble_eq_true rfl)) dX0_alter_52 ⟨Nat.zero_le _, Nat.zero_le _⟩) ?_
          refine lv_goto (tgt := 80) hx hb dX0_alter_55 (by decide) ?_
          refine lv_istore (lv' := [(5, .int (iI (b2 (0 ≤ v ∧ v ≤ 3)))), (4, .int (iI 0)), (0, .ref (A 0)), (1, .int (iI i)), (2, .int (iI what)), (3, .int (iI v))]) hx hb dX0_alter_80 hl (by decide) rfl (fun ls hl => ?_)
          refine lv_iload hx hb dX0_alter_82 (lv_at hl 0 rfl) ?_
          refine bb_if_ne (P := 0 ≤ v ∧ v ≤ 3) (tgt := 89) hx hb dX0_alter_84 (by decide) (fun c_21 => ?_) (fun c_21 => ?_)
          · -- 84 -> 89
            refine lv_aload_n hx hb dX0_alter_89 rfl (lv_at hl 2 rfl) ?_
            refine r_get (ci := 0) (k := 3) (v := .ref (A 36)) (C := RX0) (T := TX0) (N := 16) Z hB hx hb hts hown rfl in_X0 hW.obj (by decide) q796 rfl dX0_alter_90 ?_
            refine r_getN (ci := 1) (k := 0) (v := .ref ((fa A 0) 1)) (C := RX1) (T := TX1) (N := 8) Z hB hx hb hts hown rfl in_X1 (((hW.fw (f := 0) (by omega) (F := (S 20)) rfl)).1) (by decide) q139 rfl dX0_alter_93 ?_
            refine lv_iload_n hx hb dX0_alter_96 rfl (lv_at hl 3 rfl) ?_
            refine r_aald (t := 1) (ty := .array .int) (k := (i).toNat) Z hB hx hb rfl rfl (((hW.fw (f := 0) (by omega) (F := (S 20)) rfl)).2.1) (by omega) (by omega) (by omega) rfl dX0_alter_97 ?_
            refine lv_iload_n hx hb dX0_alter_98 rfl (lv_at hl 4 rfl) ?_
            have b_508 := hF0.pl (i).toNat (by omega)
            refine r_iald (k := (what).toNat) Z hB hx hb (((hW.fw (f := 0) (by omega) (F := (S 20)) rfl)).2.2.1 (i).toNat (by omega)) (by omega) (by omega) (by omega) dX0_alter_99 ?_
            refine lv_istore (lv' := [(6, .int (iI ((S 20) (2 * (i).toNat + (what).toNat)))), (5, .int (iI (b2 (0 ≤ v ∧ v ≤ 3)))), (4, .int (iI 0)), (0, .ref (A 0)), (1, .int (iI i)), (2, .int (iI what)), (3, .int (iI v))]) hx hb dX0_alter_100 hl (by decide) rfl (fun ls hl => ?_)
            refine lv_aload_n hx hb dX0_alter_102 rfl (lv_at hl 3 rfl) ?_
            refine r_get (ci := 0) (k := 3) (v := .ref (A 36)) (C := RX0) (T := TX0) (N := 16) Z hB hx hb hts hown rfl in_X0 hW.obj (by decide) q796 rfl dX0_alter_103 ?_
            refine r_getN (ci := 1) (k := 0) (v := .ref ((fa A 0) 1)) (C := RX1) (T := TX1) (N := 8) Z hB hx hb hts hown rfl in_X1 (((hW.fw (f := 0) (by omega) (F := (S 20)) rfl)).1) (by decide) q139 rfl dX0_alter_106 ?_
            refine lv_iload_n hx hb dX0_alter_109 rfl (lv_at hl 4 rfl) ?_
            refine r_aald (t := 1) (ty := .array .int) (k := (i).toNat) Z hB hx hb rfl rfl (((hW.fw (f := 0) (by omega) (F := (S 20)) rfl)).2.1) (by omega) (by omega) (by omega) rfl dX0_alter_110 ?_
            refine lv_iload_n hx hb dX0_alter_111 rfl (lv_at hl 5 rfl) ?_
            refine lv_iload_n hx hb dX0_alter_112 rfl (lv_at hl 6 rfl) ?_
            refine r_iast (k := (what).toNat) Z hB hx hb (((hW.fw (f := 0) (by omega) (F := (S 20)) rfl)).2.2.1 (i).toNat (by omega)) hS (Or.inl ⟨36 + 20 * 0 + (2 + (i).toNat), by omega, rfl⟩) (by omega) (by omega) (by omega) dX0_alter_113 (CW G A (up S 20 (up (S 20) (2 * (i).toNat + (what).toNat) v)) R) (fun H1 hz oq ha => hW.storeF hI (f := 0) (c := 2 + (i).toNat) (by omega) (by omega) oq (FW.setI ((hW.fw (f := 0) (by omega) (F := (S 20)) rfl)) (hI.fa (f := 0) (by omega)) (by omega) (by omega) oq ha)) (fun H locs hW hS => ?_)
            refine lv_iload hx hb dX0_alter_114 (lv_at hl 0 rfl) ?_
            have hpw9 : (CW G A (up S 20 (alterF (S 20) i what v)) R) H := (by rw [show (up S 20 (alterF (S 20) i what v)) = (up S 20 (up (S 20) (2 * (i).toNat + (what).toNat) v)) by unfold alterF; (repeat' split) <;> first | rfl | omega | (simp only [up_self20])]; exact hW)
            have he9 : ((S 20) (2 * (i).toNat + (what).toNat)) = (alterA (S 20) i what v) := by unfold alterA; (repeat' split) <;> first | rfl | omega
            exact W.iret hx hb hr (fun t ht hW9 => ⟨⟨_, (), rfl, congrArg iI he9, by show (CW G A (up S 20 (alterF (S 20) i what v)) R) t.heap; rw [ht]; exact hpw9⟩, hS.F ht⟩) hS.2.2 dX0_alter_116
          · -- 84 -> 87
            refine ii_const hx hb dX0_alter_87 ?_
            have hpw9 : (CW G A (up S 20 (alterF (S 20) i what v)) R) s.heap := (by rw [show (up S 20 (alterF (S 20) i what v)) = S by unfold alterF; (repeat' split) <;> first | rfl | omega | (simp only [up_self20])]; exact hW)
            have he9 : (-1) = (alterA (S 20) i what v) := by unfold alterA; (repeat' split) <;> first | rfl | omega
            exact W.iret hx hb hr (fun t ht hW9 => ⟨⟨_, (), rfl, congrArg iI he9, by show (CW G A (up S 20 (alterF (S 20) i what v)) R) t.heap; rw [ht]; exact hpw9⟩, hS.F ht⟩) hS.2.2 dX0_alter_88
      · -- 32 -> 35
        refine ii_const hx hb dX0_alter_35 ?_
        refine lv_goto (tgt := 40) hx hb dX0_alter_36 (by decide) ?_
        refine lv_istore (lv' := [(4, .int (iI 1)), (0, .ref (A 0)), (1, .int (iI i)), (2, .int (iI what)), (3, .int (iI v))]) hx hb dX0_alter_40 hl (by decide) rfl (fun ls hl => ?_)
        refine lv_iload_n hx hb dX0_alter_42 rfl (lv_at hl 3 rfl) ?_
        refine ii_if_ne (tgt := 58) hx hb dX0_alter_43 (by decide) (by omega) (fun c_22 => ?_) (fun c_22 => ?_)
        · -- 43 -> 58
          refine lv_iload_n hx hb dX0_alter_58 rfl (lv_at hl 3 rfl) ?_
          refine ii_const hx hb dX0_alter_59 ?_
          refine ii_icmp_ne (tgt := 79) hx hb dX0_alter_60 (by decide) (by omega) (by omega) (fun c_23 => ?_) (fun c_23 => ?_)
          · -- 60 -> 79
            refine ii_const hx hb dX0_alter_79 ?_
            refine lv_istore (lv' := [(5, .int (iI 0)), (4, .int (iI 1)), (0, .ref (A 0)), (1, .int (iI i)), (2, .int (iI what)), (3, .int (iI v))]) hx hb dX0_alter_80 hl (by decide) rfl (fun ls hl => ?_)
            refine lv_iload hx hb dX0_alter_82 (lv_at hl 0 rfl) ?_
            refine ii_if_ne (tgt := 89) hx hb dX0_alter_84 (by decide) (by omega) (fun c_24 => ?_) (fun c_24 => ?_)
            · -- 84 -> 89
              refine lv_aload_n hx hb dX0_alter_89 rfl (lv_at hl 2 rfl) ?_
              refine r_get (ci := 0) (k := 3) (v := .ref (A 36)) (C := RX0) (T := TX0) (N := 16) Z hB hx hb hts hown rfl in_X0 hW.obj (by decide) q796 rfl dX0_alter_90 ?_
              refine r_getN (ci := 1) (k := 0) (v := .ref ((fa A 0) 1)) (C := RX1) (T := TX1) (N := 8) Z hB hx hb hts hown rfl in_X1 (((hW.fw (f := 0) (by omega) (F := (S 20)) rfl)).1) (by decide) q139 rfl dX0_alter_93 ?_
              refine lv_iload_n hx hb dX0_alter_96 rfl (lv_at hl 3 rfl) ?_
              refine r_aald (t := 1) (ty := .array .int) (k := (i).toNat) Z hB hx hb rfl rfl (((hW.fw (f := 0) (by omega) (F := (S 20)) rfl)).2.1) (by omega) (by omega) (by omega) rfl dX0_alter_97 ?_
              refine lv_iload_n hx hb dX0_alter_98 rfl (lv_at hl 4 rfl) ?_
              have b_517 := hF0.pl (i).toNat (by omega)
              refine r_iald (k := (what).toNat) Z hB hx hb (((hW.fw (f := 0) (by omega) (F := (S 20)) rfl)).2.2.1 (i).toNat (by omega)) (by omega) (by omega) (by omega) dX0_alter_99 ?_
              refine lv_istore (lv' := [(6, .int (iI ((S 20) (2 * (i).toNat + (what).toNat)))), (5, .int (iI 0)), (4, .int (iI 1)), (0, .ref (A 0)), (1, .int (iI i)), (2, .int (iI what)), (3, .int (iI v))]) hx hb dX0_alter_100 hl (by decide) rfl (fun ls hl => ?_)
              refine lv_aload_n hx hb dX0_alter_102 rfl (lv_at hl 3 rfl) ?_
              refine r_get (ci := 0) (k := 3) (v := .ref (A 36)) (C := RX0) (T := TX0) (N := 16) Z hB hx hb hts hown rfl in_X0 hW.obj (by decide) q796 rfl dX0_alter_103 ?_
              refine r_getN (ci := 1) (k := 0) (v := .ref ((fa A 0) 1)) (C := RX1) (T := TX1) (N := 8) Z hB hx hb hts hown rfl in_X1 (((hW.fw (f := 0) (by omega) (F := (S 20)) rfl)).1) (by decide) q139 rfl dX0_alter_106 ?_
              refine lv_iload_n hx hb dX0_alter_109 rfl (lv_at hl 4 rfl) ?_
              refine r_aald (t := 1) (ty := .array .int) (k := (i).toNat) Z hB hx hb rfl rfl (((hW.fw (f := 0) (by omega) (F := (S 20)) rfl)).2.1) (by omega) (by omega) (by omega) rfl dX0_alter_110 ?_
              refine lv_iload_n hx hb dX0_alter_111 rfl (lv_at hl 5 rfl) ?_
              refine lv_iload_n hx hb dX0_alter_112 rfl (lv_at hl 6 rfl) ?_
              refine r_iast (k := (what).toNat) Z hB hx hb (((hW.fw (f := 0) (by omega) (F := (S 20)) rfl)).2.2.1 (i).toNat (by omega)) hS (Or.inl ⟨36 + 20 * 0 + (2 + (i).toNat), by omega, rfl⟩) (by omega) (by omega) (by omega) dX0_alter_113 (CW G A (up S 20 (up (S 20) (2 * (i).toNat + (what).toNat) v)) R) (fun H1 hz oq ha => hW.storeF hI (f := 0) (c := 2 + (i).toNat) (by omega) (by omega) oq (FW.setI ((hW.fw (f := 0) (by omega) (F := (S 20)) rfl)) (hI.fa (f := 0) (by omega)) (by omega) (by omega) oq ha)) (fun H locs hW hS => ?_)
              refine lv_iload hx hb dX0_alter_114 (lv_at hl 0 rfl) ?_
              have hpw9 : (CW G A (up S 20 (alterF (S 20) i what v)) R) H := (by rw [show (up S 20 (alterF (S 20) i what v)) = (up S 20 (up (S 20) (2 * (i).toNat + (what).toNat) v)) by unfold alterF; (repeat' split) <;> first | rfl | omega | (simp only [up_self20])]; exact hW)
              have he9 : ((S 20) (2 * (i).toNat + (what).toNat)) = (alterA (S 20) i what v) := by unfold alterA; (repeat' split) <;> first | rfl | omega
              exact W.iret hx hb hr (fun t ht hW9 => ⟨⟨_, (), rfl, congrArg iI he9, by show (CW G A (up S 20 (alterF (S 20) i what v)) R) t.heap; rw [ht]; exact hpw9⟩, hS.F ht⟩) hS.2.2 dX0_alter_116
            · -- 84 -> 87
              refine ii_const hx hb dX0_alter_87 ?_
              have hpw9 : (CW G A (up S 20 (alterF (S 20) i what v)) R) s.heap := (by rw [show (up S 20 (alterF (S 20) i what v)) = S by unfold alterF; (repeat' split) <;> first | rfl | omega | (simp only [up_self20])]; exact hW)
              have he9 : (-1) = (alterA (S 20) i what v) := by unfold alterA; (repeat' split) <;> first | rfl | omega
              exact W.iret hx hb hr (fun t ht hW9 => ⟨⟨_, (), rfl, congrArg iI he9, by show (CW G A (up S 20 (alterF (S 20) i what v)) R) t.heap; rw [ht]; exact hpw9⟩, hS.F ht⟩) hS.2.2 dX0_alter_88
          · -- 60 -> 63
            refine lv_iload_n hx hb dX0_alter_63 rfl (lv_at hl 4 rfl) ?_
            refine cqI (va_runS (As := [.int (iI v)]) (rest := []) ⟨hx, hb, hml, hown, hts⟩ (mX0_isFathom Z v (by omega)) (va_cwS 1 hts (lw_S q529 q530 q79 q531) rfl rfl rfl (by decide +kernel) ⟨Nat.le_of_ble_eq_true rfl, Nat.le_of_ble_eq_true rfl⟩) (psR (BornH.S hB hN hS) trivial) rfl rfl hl.1 rfl (lv_room (Nat.le_of_ble_eq_true rfl)) dX0_alter_64 ⟨Nat.zero_le _, Nat.zero_le _⟩) ?_
            refine bb_if_eq (P := 0 ≤ v ∧ v ≤ 99) (tgt := 79) hx hb dX0_alter_67 (by decide) (fun c_25 => ?_) (fun c_25 => ?_)
            · -- 67 -> 79
              refine ii_const hx hb dX0_alter_79 ?_
              refine lv_istore (lv' := [(5, .int (iI 0)), (4, .int (iI 1)), (0, .ref (A 0)), (1, .int (iI i)), (2, .int (iI what)), (3, .int (iI v))]) hx hb dX0_alter_80 hl (by decide) rfl (fun ls hl => ?_)
              refine lv_iload hx hb dX0_alter_82 (lv_at hl 0 rfl) ?_
              refine ii_if_ne (tgt := 89) hx hb dX0_alter_84 (by decide) (by omega) (fun c_26 => ?_) (fun c_26 => ?_)
              · -- 84 -> 89
                refine lv_aload_n hx hb dX0_alter_89 rfl (lv_at hl 2 rfl) ?_
                refine r_get (ci := 0) (k := 3) (v := .ref (A 36)) (C := RX0) (T := TX0) (N := 16) Z hB hx hb hts hown rfl in_X0 hW.obj (by decide) q796 rfl dX0_alter_90 ?_
                refine r_getN (ci := 1) (k := 0) (v := .ref ((fa A 0) 1)) (C := RX1) (T := TX1) (N := 8) Z hB hx hb hts hown rfl in_X1 (((hW.fw (f := 0) (by omega) (F := (S 20)) rfl)).1) (by decide) q139 rfl dX0_alter_93 ?_
                refine lv_iload_n hx hb dX0_alter_96 rfl (lv_at hl 3 rfl) ?_
                refine r_aald (t := 1) (ty := .array .int) (k := (i).toNat) Z hB hx hb rfl rfl (((hW.fw (f := 0) (by omega) (F := (S 20)) rfl)).2.1) (by omega) (by omega) (by omega) rfl dX0_alter_97 ?_
                refine lv_iload_n hx hb dX0_alter_98 rfl (lv_at hl 4 rfl) ?_
                have b_526 := hF0.pl (i).toNat (by omega)
                refine r_iald (k := (what).toNat) Z hB hx hb (((hW.fw (f := 0) (by omega) (F := (S 20)) rfl)).2.2.1 (i).toNat (by omega)) (by omega) (by omega) (by omega) dX0_alter_99 ?_
                refine lv_istore (lv' := [(6, .int (iI ((S 20) (2 * (i).toNat + (what).toNat)))), (5, .int (iI 0)), (4, .int (iI 1)), (0, .ref (A 0)), (1, .int (iI i)), (2, .int (iI what)), (3, .int (iI v))]) hx hb dX0_alter_100 hl (by decide) rfl (fun ls hl => ?_)
                refine lv_aload_n hx hb dX0_alter_102 rfl (lv_at hl 3 rfl) ?_
                refine r_get (ci := 0) (k := 3) (v := .ref (A 36)) (C := RX0) (T := TX0) (N := 16) Z hB hx hb hts hown rfl in_X0 hW.obj (by decide) q796 rfl dX0_alter_103 ?_
                refine r_getN (ci := 1) (k := 0) (v := .ref ((fa A 0) 1)) (C := RX1) (T := TX1) (N := 8) Z hB hx hb hts hown rfl in_X1 (((hW.fw (f := 0) (by omega) (F := (S 20)) rfl)).1) (by decide) q139 rfl dX0_alter_106 ?_
                refine lv_iload_n hx hb dX0_alter_109 rfl (lv_at hl 4 rfl) ?_
                refine r_aald (t := 1) (ty := .array .int) (k := (i).toNat) Z hB hx hb rfl rfl (((hW.fw (f := 0) (by omega) (F := (S 20)) rfl)).2.1) (by omega) (by omega) (by omega) rfl dX0_alter_110 ?_
                refine lv_iload_n hx hb dX0_alter_111 rfl (lv_at hl 5 rfl) ?_
                refine lv_iload_n hx hb dX0_alter_112 rfl (lv_at hl 6 rfl) ?_
                refine r_iast (k := (what).toNat) Z hB hx hb (((hW.fw (f := 0) (by omega) (F := (S 20)) rfl)).2.2.1 (i).toNat (by omega)) hS (Or.inl ⟨36 + 20 * 0 + (2 + (i).toNat), by omega, rfl⟩) (by omega) (by omega) (by omega) dX0_alter_113 (CW G A (up S 20 (up (S 20) (2 * (i).toNat + (what).toNat) v)) R) (fun H1 hz oq ha => hW.storeF hI (f := 0) (c := 2 + (i).toNat) (by omega) (by omega) oq (FW.setI ((hW.fw (f := 0) (by omega) (F := (S 20)) rfl)) (hI.fa (f := 0) (by omega)) (by omega) (by omega) oq ha)) (fun H locs hW hS => ?_)
                refine lv_iload hx hb dX0_alter_114 (lv_at hl 0 rfl) ?_
                have hpw9 : (CW G A (up S 20 (alterF (S 20) i what v)) R) H := (by rw [show (up S 20 (alterF (S 20) i what v)) = (up S 20 (up (S 20) (2 * (i).toNat + (what).toNat) v)) by unfold alterF; (repeat' split) <;> first | rfl | omega | (simp only [up_self20])]; exact hW)
                have he9 : ((S 20) (2 * (i).toNat + (what).toNat)) = (alterA (S 20) i what v) := by unfold alterA; (repeat' split) <;> first | rfl | omega
                exact W.iret hx hb hr (fun t ht hW9 => ⟨⟨_, (), rfl, congrArg iI he9, by show (CW G A (up S 20 (alterF (S 20) i what v)) R) t.heap; rw [ht]; exact hpw9⟩, hS.F ht⟩) hS.2.2 dX0_alter_116
              · -- 84 -> 87
                refine ii_const hx hb dX0_alter_87 ?_
                have hpw9 : (CW G A (up S 20 (alterF (S 20) i what v)) R) s.heap := (by rw [show (up S 20 (alterF (S 20) i what v)) = S by unfold alterF; (repeat' split) <;> first | rfl | omega | (simp only [up_self20])]; exact hW)
                have he9 : (-1) = (alterA (S 20) i what v) := by unfold alterA; (repeat' split) <;> first | rfl | omega
                exact W.iret hx hb hr (fun t ht hW9 => ⟨⟨_, (), rfl, congrArg iI he9, by show (CW G A (up S 20 (alterF (S 20) i what v)) R) t.heap; rw [ht]; exact hpw9⟩, hS.F ht⟩) hS.2.2 dX0_alter_88
            · -- 67 -> 70
              refine lv_iload hx hb dX0_alter_70 (lv_at hl 0 rfl) ?_
              refine ii_if_eq (tgt := 79) hx hb dX0_alter_72 (by decide) (by omega) (fun c_27 => ?_) (fun c_27 => ?_)
              · -- 72 -> 79
                refine ii_const hx hb dX0_alter_79 ?_
                refine lv_istore (lv' := [(5, .int (iI 0)), (4, .int (iI 1)), (0, .ref (A 0)), (1, .int (iI i)), (2, .int (iI what)), (3, .int (iI v))]) hx hb dX0_alter_80 hl (by decide) rfl (fun ls hl => ?_)
                refine lv_iload hx hb dX0_alter_82 (lv_at hl 0 rfl) ?_
                refine ii_if_ne (tgt := 89) hx hb dX0_alter_84 (by decide) (by omega) (fun c_28 => ?_) (fun c_28 => ?_)
                · -- 84 -> 89
                  refine lv_aload_n hx hb dX0_alter_89 rfl (lv_at hl 2 rfl) ?_
                  refine r_get (ci := 0) (k := 3) (v := .ref (A 36)) (C := RX0) (T := TX0) (N := 16) Z hB hx hb hts hown rfl in_X0 hW.obj (by decide) q796 rfl dX0_alter_90 ?_
                  refine r_getN (ci := 1) (k := 0) (v := .ref ((fa A 0) 1)) (C := RX1) (T := TX1) (N := 8) Z hB hx hb hts hown rfl in_X1 (((hW.fw (f := 0) (by omega) (F := (S 20)) rfl)).1) (by decide) q139 rfl dX0_alter_93 ?_
                  refine lv_iload_n hx hb dX0_alter_96 rfl (lv_at hl 3 rfl) ?_
                  refine r_aald (t := 1) (ty := .array .int) (k := (i).toNat) Z hB hx hb rfl rfl (((hW.fw (f := 0) (by omega) (F := (S 20)) rfl)).2.1) (by omega) (by omega) (by omega) rfl dX0_alter_97 ?_
                  refine lv_iload_n hx hb dX0_alter_98 rfl (lv_at hl 4 rfl) ?_
                  have b_535 := hF0.pl (i).toNat (by omega)
                  refine r_iald (k := (what).toNat) Z hB hx hb (((hW.fw (f := 0) (by omega) (F := (S 20)) rfl)).2.2.1 (i).toNat (by omega)) (by omega) (by omega) (by omega) dX0_alter_99 ?_
                  refine lv_istore (lv' := [(6, .int (iI ((S 20) (2 * (i).toNat + (what).toNat)))), (5, .int (iI 0)), (4, .int (iI 1)), (0, .ref (A 0)), (1, .int (iI i)), (2, .int (iI what)), (3, .int (iI v))]) hx hb dX0_alter_100 hl (by decide) rfl (fun ls hl => ?_)
                  refine lv_aload_n hx hb dX0_alter_102 rfl (lv_at hl 3 rfl) ?_
                  refine r_get (ci := 0) (k := 3) (v := .ref (A 36)) (C := RX0) (T := TX0) (N := 16) Z hB hx hb hts hown rfl in_X0 hW.obj (by decide) q796 rfl dX0_alter_103 ?_
                  refine r_getN (ci := 1) (k := 0) (v := .ref ((fa A 0) 1)) (C := RX1) (T := TX1) (N := 8) Z hB hx hb hts hown rfl in_X1 (((hW.fw (f := 0) (by omega) (F := (S 20)) rfl)).1) (by decide) q139 rfl dX0_alter_106 ?_
                  refine lv_iload_n hx hb dX0_alter_109 rfl (lv_at hl 4 rfl) ?_
                  refine r_aald (t := 1) (ty := .array .int) (k := (i).toNat) Z hB hx hb rfl rfl (((hW.fw (f := 0) (by omega) (F := (S 20)) rfl)).2.1) (by omega) (by omega) (by omega) rfl dX0_alter_110 ?_
                  refine lv_iload_n hx hb dX0_alter_111 rfl (lv_at hl 5 rfl) ?_
                  refine lv_iload_n hx hb dX0_alter_112 rfl (lv_at hl 6 rfl) ?_
                  refine r_iast (k := (what).toNat) Z hB hx hb (((hW.fw (f := 0) (by omega) (F := (S 20)) rfl)).2.2.1 (i).toNat (by omega)) hS (Or.inl ⟨36 + 20 * 0 + (2 + (i).toNat), by omega, rfl⟩) (by omega) (by omega) (by omega) dX0_alter_113 (CW G A (up S 20 (up (S 20) (2 * (i).toNat + (what).toNat) v)) R) (fun H1 hz oq ha => hW.storeF hI (f := 0) (c := 2 + (i).toNat) (by omega) (by omega) oq (FW.setI ((hW.fw (f := 0) (by omega) (F := (S 20)) rfl)) (hI.fa (f := 0) (by omega)) (by omega) (by omega) oq ha)) (fun H locs hW hS => ?_)
                  refine lv_iload hx hb dX0_alter_114 (lv_at hl 0 rfl) ?_
                  have hpw9 : (CW G A (up S 20 (alterF (S 20) i what v)) R) H := (by rw [show (up S 20 (alterF (S 20) i what v)) = (up S 20 (up (S 20) (2 * (i).toNat + (what).toNat) v)) by unfold alterF; (repeat' split) <;> first | rfl | omega | (simp only [up_self20])]; exact hW)
                  have he9 : ((S 20) (2 * (i).toNat + (what).toNat)) = (alterA (S 20) i what v) := by unfold alterA; (repeat' split) <;> first | rfl | omega
                  exact W.iret hx hb hr (fun t ht hW9 => ⟨⟨_, (), rfl, congrArg iI he9, by show (CW G A (up S 20 (alterF (S 20) i what v)) R) t.heap; rw [ht]; exact hpw9⟩, hS.F ht⟩) hS.2.2 dX0_alter_116
                · -- 84 -> 87
                  refine ii_const hx hb dX0_alter_87 ?_
                  have hpw9 : (CW G A (up S 20 (alterF (S 20) i what v)) R) s.heap := (by rw [show (up S 20 (alterF (S 20) i what v)) = S by unfold alterF; (repeat' split) <;> first | rfl | omega | (simp only [up_self20])]; exact hW)
                  have he9 : (-1) = (alterA (S 20) i what v) := by unfold alterA; (repeat' split) <;> first | rfl | omega
                  exact W.iret hx hb hr (fun t ht hW9 => ⟨⟨_, (), rfl, congrArg iI he9, by show (CW G A (up S 20 (alterF (S 20) i what v)) R) t.heap; rw [ht]; exact hpw9⟩, hS.F ht⟩) hS.2.2 dX0_alter_88
              · -- 72 -> 75
                refine ii_const hx hb dX0_alter_75 ?_
                refine lv_goto (tgt := 80) hx hb dX0_alter_76 (by decide) ?_
                refine lv_istore (lv' := [(5, .int (iI 1)), (4, .int (iI 1)), (0, .ref (A 0)), (1, .int (iI i)), (2, .int (iI what)), (3, .int (iI v))]) hx hb dX0_alter_80 hl (by decide) rfl (fun ls hl => ?_)
                refine lv_iload hx hb dX0_alter_82 (lv_at hl 0 rfl) ?_
                refine ii_if_ne (tgt := 89) hx hb dX0_alter_84 (by decide) (by omega) (fun c_29 => ?_) (fun c_29 => ?_)
                · -- 84 -> 89
                  refine lv_aload_n hx hb dX0_alter_89 rfl (lv_at hl 2 rfl) ?_
                  refine r_get (ci := 0) (k := 3) (v := .ref (A 36)) (C := RX0) (T := TX0) (N := 16) Z hB hx hb hts hown rfl in_X0 hW.obj (by decide) q796 rfl dX0_alter_90 ?_
                  refine r_getN (ci := 1) (k := 0) (v := .ref ((fa A 0) 1)) (C := RX1) (T := TX1) (N := 8) Z hB hx hb hts hown rfl in_X1 (((hW.fw (f := 0) (by omega) (F := (S 20)) rfl)).1) (by decide) q139 rfl dX0_alter_93 ?_
                  refine lv_iload_n hx hb dX0_alter_96 rfl (lv_at hl 3 rfl) ?_
                  refine r_aald (t := 1) (ty := .array .int) (k := (i).toNat) Z hB hx hb rfl rfl (((hW.fw (f := 0) (by omega) (F := (S 20)) rfl)).2.1) (by omega) (by omega) (by omega) rfl dX0_alter_97 ?_
                  refine lv_iload_n hx hb dX0_alter_98 rfl (lv_at hl 4 rfl) ?_
                  have b_544 := hF0.pl (i).toNat (by omega)
                  refine r_iald (k := (what).toNat) Z hB hx hb (((hW.fw (f := 0) (by omega) (F := (S 20)) rfl)).2.2.1 (i).toNat (by omega)) (by omega) (by omega) (by omega) dX0_alter_99 ?_
                  refine lv_istore (lv' := [(6, .int (iI ((S 20) (2 * (i).toNat + (what).toNat)))), (5, .int (iI 1)), (4, .int (iI 1)), (0, .ref (A 0)), (1, .int (iI i)), (2, .int (iI what)), (3, .int (iI v))]) hx hb dX0_alter_100 hl (by decide) rfl (fun ls hl => ?_)
                  refine lv_aload_n hx hb dX0_alter_102 rfl (lv_at hl 3 rfl) ?_
                  refine r_get (ci := 0) (k := 3) (v := .ref (A 36)) (C := RX0) (T := TX0) (N := 16) Z hB hx hb hts hown rfl in_X0 hW.obj (by decide) q796 rfl dX0_alter_103 ?_
                  refine r_getN (ci := 1) (k := 0) (v := .ref ((fa A 0) 1)) (C := RX1) (T := TX1) (N := 8) Z hB hx hb hts hown rfl in_X1 (((hW.fw (f := 0) (by omega) (F := (S 20)) rfl)).1) (by decide) q139 rfl dX0_alter_106 ?_
                  refine lv_iload_n hx hb dX0_alter_109 rfl (lv_at hl 4 rfl) ?_
                  refine r_aald (t := 1) (ty := .array .int) (k := (i).toNat) Z hB hx hb rfl rfl (((hW.fw (f := 0) (by omega) (F := (S 20)) rfl)).2.1) (by omega) (by omega) (by omega) rfl dX0_alter_110 ?_
                  refine lv_iload_n hx hb dX0_alter_111 rfl (lv_at hl 5 rfl) ?_
                  refine lv_iload_n hx hb dX0_alter_112 rfl (lv_at hl 6 rfl) ?_
                  refine r_iast (k := (what).toNat) Z hB hx hb (((hW.fw (f := 0) (by omega) (F := (S 20)) rfl)).2.2.1 (i).toNat (by omega)) hS (Or.inl ⟨36 + 20 * 0 + (2 + (i).toNat), by omega, rfl⟩) (by omega) (by omega) (by omega) dX0_alter_113 (CW G A (up S 20 (up (S 20) (2 * (i).toNat + (what).toNat) v)) R) (fun H1 hz oq ha => hW.storeF hI (f := 0) (c := 2 + (i).toNat) (by omega) (by omega) oq (FW.setI ((hW.fw (f := 0) (by omega) (F := (S 20)) rfl)) (hI.fa (f := 0) (by omega)) (by omega) (by omega) oq ha)) (fun H locs hW hS => ?_)
                  refine lv_iload hx hb dX0_alter_114 (lv_at hl 0 rfl) ?_
                  have hpw9 : (CW G A (up S 20 (alterF (S 20) i what v)) R) H := (by rw [show (up S 20 (alterF (S 20) i what v)) = (up S 20 (up (S 20) (2 * (i).toNat + (what).toNat) v)) by unfold alterF; (repeat' split) <;> first | rfl | omega | (simp only [up_self20])]; exact hW)
                  have he9 : ((S 20) (2 * (i).toNat + (what).toNat)) = (alterA (S 20) i what v) := by unfold alterA; (repeat' split) <;> first | rfl | omega
                  exact W.iret hx hb hr (fun t ht hW9 => ⟨⟨_, (), rfl, congrArg iI he9, by show (CW G A (up S 20 (alterF (S 20) i what v)) R) t.heap; rw [ht]; exact hpw9⟩, hS.F ht⟩) hS.2.2 dX0_alter_116
                · -- 84 -> 87
                  refine ii_const hx hb dX0_alter_87 ?_
                  have hpw9 : (CW G A (up S 20 (alterF (S 20) i what v)) R) s.heap := (by rw [show (up S 20 (alterF (S 20) i what v)) = S by unfold alterF; (repeat' split) <;> first | rfl | omega | (simp only [up_self20])]; exact hW)
                  have he9 : (-1) = (alterA (S 20) i what v) := by unfold alterA; (repeat' split) <;> first | rfl | omega
                  exact W.iret hx hb hr (fun t ht hW9 => ⟨⟨_, (), rfl, congrArg iI he9, by show (CW G A (up S 20 (alterF (S 20) i what v)) R) t.heap; rw [ht]; exact hpw9⟩, hS.F ht⟩) hS.2.2 dX0_alter_88
        · -- 43 -> 46
          refine lv_iload_n hx hb dX0_alter_46 rfl (lv_at hl 4 rfl) ?_
          refine ii_i2l hx hb (by omega) dX0_alter_47 ?_
          refine ii_lconst (z := 0) hx hb dX0_alter_48 rfl ?_
          refine ii_ldc2 (z := 3) hx hb hts hown q528 dX0_alter_49 (by decide) ?_
          refine cqI (va_runS (As := [.long (lI v), .long (lI 0), .long (lI 3)]) (rest := []) ⟨hx, hb, hml, hown, hts⟩ (mX0_isIn Z v (by omega) 0 (by omega) 3 (by omega)) (va_cwS 3 hts (lw_S q106 q107 q79 q108) rfl rfl rfl (by decide +kernel) ⟨Nat.le_of_ble_eq_true rfl, Nat.le_of_ble_eq_true rfl⟩) (psR (BornH.S hB hN hS) trivial) rfl rfl hl.1 rfl (lv_room (Nat.le_of_ble_eq_true rfl)) dX0_alter_52 ⟨Nat.zero_le _, Nat.zero_le _⟩) ?_
          refine lv_goto (tgt := 80) hx hb dX0_alter_55 (by decide) ?_
          refine lv_istore (lv' := [(5, .int (iI (b2 (0 ≤ v ∧ v ≤ 3)))), (4, .int (iI 1)), (0, .ref (A 0)), (1, .int (iI i)), (2, .int (iI what)), (3, .int (iI v))]) hx hb dX0_alter_80 hl (by decide) rfl (fun ls hl => ?_)
          refine lv_iload hx hb dX0_alter_82 (lv_at hl 0 rfl) ?_
          refine bb_if_ne (P := 0 ≤ v ∧ v ≤ 3) (tgt := 89) hx hb dX0_alter_84 (by decide) (fun c_30 => ?_) (fun c_30 => ?_)
          · -- 84 -> 89
            refine lv_aload_n hx hb dX0_alter_89 rfl (lv_at hl 2 rfl) ?_
            refine r_get (ci := 0) (k := 3) (v := .ref (A 36)) (C := RX0) (T := TX0) (N := 16) Z hB hx hb hts hown rfl in_X0 hW.obj (by decide) q796 rfl dX0_alter_90 ?_
            refine r_getN (ci := 1) (k := 0) (v := .ref ((fa A 0) 1)) (C := RX1) (T := TX1) (N := 8) Z hB hx hb hts hown rfl in_X1 (((hW.fw (f := 0) (by omega) (F := (S 20)) rfl)).1) (by decide) q139 rfl dX0_alter_93 ?_
            refine lv_iload_n hx hb dX0_alter_96 rfl (lv_at hl 3 rfl) ?_
            refine r_aald (t := 1) (ty := .array .int) (k := (i).toNat) Z hB hx hb rfl rfl (((hW.fw (f := 0) (by omega) (F := (S 20)) rfl)).2.1) (by omega) (by omega) (by omega) rfl dX0_alter_97 ?_
            refine lv_iload_n hx hb dX0_alter_98 rfl (lv_at hl 4 rfl) ?_
            have b_553 := hF0.pl (i).toNat (by omega)
            refine r_iald (k := (what).toNat) Z hB hx hb (((hW.fw (f := 0) (by omega) (F := (S 20)) rfl)).2.2.1 (i).toNat (by omega)) (by omega) (by omega) (by omega) dX0_alter_99 ?_
            refine lv_istore (lv' := [(6, .int (iI ((S 20) (2 * (i).toNat + (what).toNat)))), (5, .int (iI (b2 (0 ≤ v ∧ v ≤ 3)))), (4, .int (iI 1)), (0, .ref (A 0)), (1, .int (iI i)), (2, .int (iI what)), (3, .int (iI v))]) hx hb dX0_alter_100 hl (by decide) rfl (fun ls hl => ?_)
            refine lv_aload_n hx hb dX0_alter_102 rfl (lv_at hl 3 rfl) ?_
            refine r_get (ci := 0) (k := 3) (v := .ref (A 36)) (C := RX0) (T := TX0) (N := 16) Z hB hx hb hts hown rfl in_X0 hW.obj (by decide) q796 rfl dX0_alter_103 ?_
            refine r_getN (ci := 1) (k := 0) (v := .ref ((fa A 0) 1)) (C := RX1) (T := TX1) (N := 8) Z hB hx hb hts hown rfl in_X1 (((hW.fw (f := 0) (by omega) (F := (S 20)) rfl)).1) (by decide) q139 rfl dX0_alter_106 ?_
            refine lv_iload_n hx hb dX0_alter_109 rfl (lv_at hl 4 rfl) ?_
            refine r_aald (t := 1) (ty := .array .int) (k := (i).toNat) Z hB hx hb rfl rfl (((hW.fw (f := 0) (by omega) (F := (S 20)) rfl)).2.1) (by omega) (by omega) (by omega) rfl dX0_alter_110 ?_
            refine lv_iload_n hx hb dX0_alter_111 rfl (lv_at hl 5 rfl) ?_
            refine lv_iload_n hx hb dX0_alter_112 rfl (lv_at hl 6 rfl) ?_
            refine r_iast (k := (what).toNat) Z hB hx hb (((hW.fw (f := 0) (by omega) (F := (S 20)) rfl)).2.2.1 (i).toNat (by omega)) hS (Or.inl ⟨36 + 20 * 0 + (2 + (i).toNat), by omega, rfl⟩) (by omega) (by omega) (by omega) dX0_alter_113 (CW G A (up S 20 (up (S 20) (2 * (i).toNat + (what).toNat) v)) R) (fun H1 hz oq ha => hW.storeF hI (f := 0) (c := 2 + (i).toNat) (by omega) (by omega) oq (FW.setI ((hW.fw (f := 0) (by omega) (F := (S 20)) rfl)) (hI.fa (f := 0) (by omega)) (by omega) (by omega) oq ha)) (fun H locs hW hS => ?_)
            refine lv_iload hx hb dX0_alter_114 (lv_at hl 0 rfl) ?_
            have hpw9 : (CW G A (up S 20 (alterF (S 20) i what v)) R) H := (by rw [show (up S 20 (alterF (S 20) i what v)) = (up S 20 (up (S 20) (2 * (i).toNat + (what).toNat) v)) by unfold alterF; (repeat' split) <;> first | rfl | omega | (simp only [up_self20])]; exact hW)
            have he9 : ((S 20) (2 * (i).toNat + (what).toNat)) = (alterA (S 20) i what v) := by unfold alterA; (repeat' split) <;> first | rfl | omega
            exact W.iret hx hb hr (fun t ht hW9 => ⟨⟨_, (), rfl, congrArg iI he9, by show (CW G A (up S 20 (alterF (S 20) i what v)) R) t.heap; rw [ht]; exact hpw9⟩, hS.F ht⟩) hS.2.2 dX0_alter_116
          · -- 84 -> 87
            refine ii_const hx hb dX0_alter_87 ?_
            have hpw9 : (CW G A (up S 20 (alterF (S 20) i what v)) R) s.heap := (by rw [show (up S 20 (alterF (S 20) i what v)) = S by unfold alterF; (repeat' split) <;> first | rfl | omega | (simp only [up_self20])]; exact hW)
            have he9 : (-1) = (alterA (S 20) i what v) := by unfold alterA; (repeat' split) <;> first | rfl | omega
            exact W.iret hx hb hr (fun t ht hW9 => ⟨⟨_, (), rfl, congrArg iI he9, by show (CW G A (up S 20 (alterF (S 20) i what v)) R) t.heap; rw [ht]; exact hpw9⟩, hS.F ht⟩) hS.2.2 dX0_alter_88
  · -- 5 -> 8
    refine ii_const hx hb dX0_alter_8 ?_
    have hpw9 : (CW G A (up S 20 (alterF (S 20) i what v)) R) s.heap := (by rw [show (up S 20 (alterF (S 20) i what v)) = S by unfold alterF; (repeat' split) <;> first | rfl | omega | (simp only [up_self20])]; exact hW)
    have he9 : (-1) = (alterA (S 20) i what v) := by unfold alterA; (repeat' split) <;> first | rfl | omega
    exact W.iret hx hb hr (fun t ht hW9 => ⟨⟨_, (), rfl, congrArg iI he9, by show (CW G A (up S 20 (alterF (S 20) i what v)) R) t.heap; rw [ht]; exact hpw9⟩, hS.F ht⟩) hS.2.2 dX0_alter_9
