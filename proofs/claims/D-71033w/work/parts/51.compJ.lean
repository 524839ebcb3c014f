/-! COMPONENT: what is kept (written by gen/comp7.py) -/
set_option maxRecDepth 100000
set_option maxHeartbeats 1000000 in
set_option maxRecDepth 100000 in
theorem mX0_copies_t0 {l : Launch} {G : GG} {s0 : State} {b0 : Nat} (Z : ZZ l G s0 b0) (A : Nat → Nat) (hI : Own s0 A 156) (S : Sta) (R : Nat → Option Nat) (a b : Nat → Int) (ea : S 2 = a) (eb : S 4 = b) (sz : Nat) : Met l yX0_copies (ws_ yX0_copies cX0_copies 3 none) ({ frames := 1, cells := 0, slots := 0, locals := 18 } : Room) (pcM s0 sz (CW G A S R) [.ref (A 2), .ref (A (17 + 7 * 0))]) (mV (CW G A (up S 4 (cpS a b (3 * 6))) R) (AA A 156 sz)) 0 0 (AA A 156 sz) := by
  refine Met.ofW (cc := cX0_copies) (maxL := 3) (ret := none) (by decide) rfl ?_
  intro p e s m args below meth c s₁ B hml hv
  obtain ⟨rfl, hsz, hW, hB⟩ := hv
  subst hsz
  have hx := B.exec
  have hb := B.bytes
  have hr := B.returns
  have hts := atoms_spec (ws := (ws_ yX0_copies cX0_copies 3 none)) B.pre
  have hts : ∀ w ∈ lw_all, w.before _ s = true := fun w h => hts w (List.mem_cons_of_mem _ h)
  have hown : s.vm.findClass RX0 = some m.cls := findClass_of_methodNamed B.named
  have hlocks := B.notSynchronized
  have hN := AA.old hI hB
  have hS : va_S (AA A 156 s.heap.size) s.heap s.heap [] := va_S.rf
  have hl := lv_entry ([.ref (A 2), .ref (A (17 + 7 * 0))]) (n := 3) (Nat.le_of_ble_eq_true rfl)
  rw [lg_entry_eq]
  generalize (lg_sl ([.ref (A 2), .ref (A (17 + 7 * 0))]) ++ List.replicate (3 - (lg_sl ([.ref (A 2), .ref (A (17 + 7 * 0))])).length) Slot.unset).toArray = ls at hl ⊢
  have hl : lv_has ls 3 [(0, .ref (A 2)), (1, .ref (A (17 + 7 * 0)))] := hl
  subst ea
  subst eb
  refine ii_const hx hb dX0_copies_0 ?_
  refine lv_istore_n (lv' := [(2, .int (iI 0)), (0, .ref (A 2)), (1, .ref (A (17 + 7 * 0)))]) hx hb dX0_copies_1 rfl hl (by decide) rfl (fun ls hl => ?_)
  have loop_2 : ∀ (fu : Nat) (i : Nat) (zi : Int), (zi = (i : Int)) → (i ≤ 6) → (7 - i) < fu → ∀ (H : Heap) (locs : List Loc), (CW G A (up S 4 (cpS (S 2) (S 4) (3 * i))) R) H → va_S (AA A 156 s.heap.size) s.heap H locs → ∀ (ls : Array Slot), lv_has ls 3 [(2, .int (iI zi)), (0, .ref (A 2)), (1, .ref (A (17 + 7 * 0)))] → W p l e (headSpec (ws_ yX0_copies cX0_copies 3 none) ({ frames := 1, cells := 0, slots := 0, locals := 18 } : Room)).room s m ([.ref (A 2), .ref (A (17 + 7 * 0))] : List Value).toArray below meth c H locs 0 0 (MQ below (mV (CW G A (up S 4 (cpS (S 2) (S 4) (3 * 6))) R) (AA A 156 s.heap.size)) ([.ref (A 2), .ref (A (17 + 7 * 0))] : List Value).toArray s 0 0 (AA A 156 s.heap.size)) (F0 m 2 ls []) := by
    intro fu
    induction fu with
    | zero => intro i zi ezi hi hmu; exact absurd hmu (Nat.not_lt_zero _)
    | succ fu ih2 =>
      intro i zi ezi hi hmu H locs hW hS ls hl
      refine lv_iload_n hx hb dX0_copies_2 rfl (lv_at hl 0 rfl) ?_
      refine lv_aload_n hx hb dX0_copies_3 rfl (lv_at hl 1 rfl) ?_
      refine r_alenq (t := 1) (ty := .array .int) Z hB hx hb rfl hW.seen dX0_copies_4 ?_
      refine ii_icmp_ge (tgt := 29) hx hb dX0_copies_5 (by decide) (by omega) (by omega) (fun c_1 => ?_) (fun c_1 => ?_)
      · -- 5 -> 29
        have ex_i : 6 = i := by omega
        subst ex_i
        have hpw9 : (CW G A (up S 4 (cpS (S 2) (S 4) (3 * 6))) R) H := hW
        exact W.vret hx hb hr (fun t ht hW9 => ⟨⟨(), rfl, trivial, by show (CW G A (up S 4 (cpS (S 2) (S 4) (3 * 6))) R) t.heap; rw [ht]; exact hpw9⟩, hS.F ht⟩) hS.2.2 dX0_copies_29
      · -- 5 -> 8
        refine lv_aload_n hx hb dX0_copies_8 rfl (lv_at hl 1 rfl) ?_
        refine lv_iload_n hx hb dX0_copies_9 rfl (lv_at hl 0 rfl) ?_
        refine r_aald (t := 1) (ty := .array .int) (k := i) Z hB hx hb rfl rfl hW.seen (by omega) (by omega) (by omega) rfl dX0_copies_10 ?_
        refine ii_const hx hb dX0_copies_11 ?_
        refine lv_aload_n hx hb dX0_copies_12 rfl (lv_at hl 2 rfl) ?_
        refine lv_iload_n hx hb dX0_copies_13 rfl (lv_at hl 0 rfl) ?_
        refine r_aald (t := 1) (ty := .array .int) (k := i) Z hB hx hb rfl rfl (hW.imgS 0 (by omega)) (by omega) (by omega) (by omega) rfl dX0_copies_14 ?_
        refine ii_const hx hb dX0_copies_15 ?_
        refine lv_aload_n hx hb dX0_copies_16 rfl (lv_at hl 1 rfl) ?_
        refine lv_iload_n hx hb dX0_copies_17 rfl (lv_at hl 0 rfl) ?_
        refine r_aald (t := 1) (ty := .array .int) (k := i) Z hB hx hb rfl rfl hW.seen (by omega) (by omega) (by omega) rfl dX0_copies_18 ?_
        refine r_alen (t := 0) (ty := .int) Z hB hx hb rfl (hW.seenR i (by omega)) dX0_copies_19 ?_
        refine r_copy (t := 0) (ty := .int) (n := 3) Z hB hx hb (hml.trans hl.1.symm) hts hown q118 rfl rfl (hW.seenR i (by omega)) (hW.imgR 0 i (by omega) (by omega)) hS (Or.inl ⟨18 + 7 * 0 + i, by omega, rfl⟩) rfl rfl (by omega) (by omega) (by omega) (by omega) (fun i hi => rfl) (Nat.le_of_ble_eq_true rfl) (Nat.le_of_ble_eq_true rfl) dX0_copies_20 (CW G A (up (up S 4 (cpS (S 2) (S 4) (3 * i))) 4 (cpS (S 2) (S 4) (3 * (i + 1)))) R) (fun H1 hz oq ha => hW.setImgS hI (k := 0) (i := i) (by omega) (by omega) oq ha cpS_e1 cpS_e2) (fun H locs hW hS => ?_)
        have hW := hW.eqS (S' := (up S 4 (cpS (S 2) (S 4) (3 * (i + 1))))) (by
            funext a
            by_cases h4 : a = 4
            · subst h4; rfl
            simp only [up, if_neg h4])
        refine ii_iinc (k := 0) (lv' := [(2, .int (iI (zi + 1))), (0, .ref (A 2)), (1, .ref (A (17 + 7 * 0)))]) hx hb dX0_copies_23 hl rfl (by decide) rfl (fun ls hl => ?_)
        refine lv_goto (tgt := 2) hx hb dX0_copies_26 (by decide) ?_
        exact ih2 (i + 1) (zi + 1) (by omega) (by omega) (by omega) _ _ hW hS ls (lv_sub hl [0, 1, 2] rfl)
  exact loop_2 _ 0 0 (by omega) (by omega) (Nat.lt_succ_self _) _ _ (by rw [cpS_0, show up S 4 (S 4) = S from up_id S 4]; exact hW) hS ls (lv_sub hl [0, 1, 2] rfl)

set_option maxHeartbeats 1000000 in
set_option maxRecDepth 100000 in
theorem mX0_copies_t1 {l : Launch} {G : GG} {s0 : State} {b0 : Nat} (Z : ZZ l G s0 b0) (A : Nat → Nat) (hI : Own s0 A 156) (S : Sta) (R : Nat → Option Nat) (a b : Nat → Int) (ea : S 2 = a) (eb : S 5 = b) (sz : Nat) : Met l yX0_copies (ws_ yX0_copies cX0_copies 3 none) ({ frames := 1, cells := 0, slots := 0, locals := 18 } : Room) (pcM s0 sz (CW G A S R) [.ref (A 2), .ref (A (17 + 7 * 1))]) (mV (CW G A (up S 5 (cpS a b (3 * 6))) R) (AA A 156 sz)) 0 0 (AA A 156 sz) := by
  refine Met.ofW (cc := cX0_copies) (maxL := 3) (ret := none) (by decide) rfl ?_
  intro p e s m args below meth c s₁ B hml hv
  obtain ⟨rfl, hsz, hW, hB⟩ := hv
  subst hsz
  have hx := B.exec
  have hb := B.bytes
  have hr := B.returns
  have hts := atoms_spec (ws := (ws_ yX0_copies cX0_copies 3 none)) B.pre
  have hts : ∀ w ∈ lw_all, w.before _ s = true := fun w h => hts w (List.mem_cons_of_mem _ h)
  have hown : s.vm.findClass RX0 = some m.cls := findClass_of_methodNamed B.named
  have hlocks := B.notSynchronized
  have hN := AA.old hI hB
  have hS : va_S (AA A 156 s.heap.size) s.heap s.heap [] := va_S.rf
  have hl := lv_entry ([.ref (A 2), .ref (A (17 + 7 * 1))]) (n := 3) (Nat.le_of_ble_eq_true rfl)
  rw [lg_entry_eq]
  generalize (lg_sl ([.ref (A 2), .ref (A (17 + 7 * 1))]) ++ List.replicate (3 - (lg_sl ([.ref (A 2), .ref (A (17 + 7 * 1))])).length) Slot.unset).toArray = ls at hl ⊢
  have hl : lv_has ls 3 [(0, .ref (A 2)), (1, .ref (A (17 + 7 * 1)))] := hl
  subst ea
  subst eb
  refine ii_const hx hb dX0_copies_0 ?_
  refine lv_istore_n (lv' := [(2, .int (iI 0)), (0, .ref (A 2)), (1, .ref (A (17 + 7 * 1)))]) hx hb dX0_copies_1 rfl hl (by decide) rfl (fun ls hl => ?_)
  have loop_2 : ∀ (fu : Nat) (i : Nat) (zi : Int), (zi = (i : Int)) → (i ≤ 6) → (7 - i) < fu → ∀ (H : Heap) (locs : List Loc), (CW G A (up S 5 (cpS (S 2) (S 5) (3 * i))) R) H → va_S (AA A 156 s.heap.size) s.heap H locs → ∀ (ls : Array Slot), lv_has ls 3 [(2, .int (iI zi)), (0, .ref (A 2)), (1, .ref (A (17 + 7 * 1)))] → W p l e (headSpec (ws_ yX0_copies cX0_copies 3 none) ({ frames := 1, cells := 0, slots := 0, locals := 18 } : Room)).room s m ([.ref (A 2), .ref (A (17 + 7 * 1))] : List Value).toArray below meth c H locs 0 0 (MQ below (mV (CW G A (up S 5 (cpS (S 2) (S 5) (3 * 6))) R) (AA A 156 s.heap.size)) ([.ref (A 2), .ref (A (17 + 7 * 1))] : List Value).toArray s 0 0 (AA A 156 s.heap.size)) (F0 m 2 ls []) := by
    intro fu
    induction fu with
    | zero => intro i zi ezi hi hmu; exact absurd hmu (Nat.not_lt_zero _)
    | succ fu ih2 =>
      intro i zi ezi hi hmu H locs hW hS ls hl
      refine lv_iload_n hx hb dX0_copies_2 rfl (lv_at hl 0 rfl) ?_
      refine lv_aload_n hx hb dX0_copies_3 rfl (lv_at hl 1 rfl) ?_
      refine r_alenq (t := 1) (ty := .array .int) Z hB hx hb rfl hW.seen dX0_copies_4 ?_
      refine ii_icmp_ge (tgt := 29) hx hb dX0_copies_5 (by decide) (by omega) (by omega) (fun c_1 => ?_) (fun c_1 => ?_)
      · -- 5 -> 29
        have ex_i : 6 = i := by omega
        subst ex_i
        have hpw9 : (CW G A (up S 5 (cpS (S 2) (S 5) (3 * 6))) R) H := hW
        exact W.vret hx hb hr (fun t ht hW9 => ⟨⟨(), rfl, trivial, by show (CW G A (up S 5 (cpS (S 2) (S 5) (3 * 6))) R) t.heap; rw [ht]; exact hpw9⟩, hS.F ht⟩) hS.2.2 dX0_copies_29
      · -- 5 -> 8
        refine lv_aload_n hx hb dX0_copies_8 rfl (lv_at hl 1 rfl) ?_
        refine lv_iload_n hx hb dX0_copies_9 rfl (lv_at hl 0 rfl) ?_
        refine r_aald (t := 1) (ty := .array .int) (k := i) Z hB hx hb rfl rfl hW.seen (by omega) (by omega) (by omega) rfl dX0_copies_10 ?_
        refine ii_const hx hb dX0_copies_11 ?_
        refine lv_aload_n hx hb dX0_copies_12 rfl (lv_at hl 2 rfl) ?_
        refine lv_iload_n hx hb dX0_copies_13 rfl (lv_at hl 0 rfl) ?_
        refine r_aald (t := 1) (ty := .array .int) (k := i) Z hB hx hb rfl rfl (hW.imgS 1 (by omega)) (by omega) (by omega) (by omega) rfl dX0_copies_14 ?_
        refine ii_const hx hb dX0_copies_15 ?_
        refine lv_aload_n hx hb dX0_copies_16 rfl (lv_at hl 1 rfl) ?_
        refine lv_iload_n hx hb dX0_copies_17 rfl (lv_at hl 0 rfl) ?_
        refine r_aald (t := 1) (ty := .array .int) (k := i) Z hB hx hb rfl rfl hW.seen (by omega) (by omega) (by omega) rfl dX0_copies_18 ?_
        refine r_alen (t := 0) (ty := .int) Z hB hx hb rfl (hW.seenR i (by omega)) dX0_copies_19 ?_
        refine r_copy (t := 0) (ty := .int) (n := 3) Z hB hx hb (hml.trans hl.1.symm) hts hown q118 rfl rfl (hW.seenR i (by omega)) (hW.imgR 1 i (by omega) (by omega)) hS (Or.inl ⟨18 + 7 * 1 + i, by omega, rfl⟩) rfl rfl (by omega) (by omega) (by omega) (by omega) (fun i hi => rfl) (Nat.le_of_ble_eq_true rfl) (Nat.le_of_ble_eq_true rfl) dX0_copies_20 (CW G A (up (up S 5 (cpS (S 2) (S 5) (3 * i))) 5 (cpS (S 2) (S 5) (3 * (i + 1)))) R) (fun H1 hz oq ha => hW.setImgS hI (k := 1) (i := i) (by omega) (by omega) oq ha cpS_e1 cpS_e2) (fun H locs hW hS => ?_)
        have hW := hW.eqS (S' := (up S 5 (cpS (S 2) (S 5) (3 * (i + 1))))) (by
            funext a
            by_cases h5 : a = 5
            · subst h5; rfl
            simp only [up, if_neg h5])
        refine ii_iinc (k := 0) (lv' := [(2, .int (iI (zi + 1))), (0, .ref (A 2)), (1, .ref (A (17 + 7 * 1)))]) hx hb dX0_copies_23 hl rfl (by decide) rfl (fun ls hl => ?_)
        refine lv_goto (tgt := 2) hx hb dX0_copies_26 (by decide) ?_
        exact ih2 (i + 1) (zi + 1) (by omega) (by omega) (by omega) _ _ hW hS ls (lv_sub hl [0, 1, 2] rfl)
  exact loop_2 _ 0 0 (by omega) (by omega) (Nat.lt_succ_self _) _ _ (by rw [cpS_0, show up S 5 (S 5) = S from up_id S 5]; exact hW) hS ls (lv_sub hl [0, 1, 2] rfl)

set_option maxHeartbeats 1000000 in
set_option maxRecDepth 100000 in
theorem mX0_copies_g0 {l : Launch} {G : GG} {s0 : State} {b0 : Nat} (Z : ZZ l G s0 b0) (A : Nat → Nat) (hI : Own s0 A 156) (S : Sta) (R : Nat → Option Nat) (a b : Nat → Int) (ea : S 4 = a) (eb : S 2 = b) (sz : Nat) : Met l yX0_copies (ws_ yX0_copies cX0_copies 3 none) ({ frames := 1, cells := 0, slots := 0, locals := 18 } : Room) (pcM s0 sz (CW G A S R) [.ref (A (17 + 7 * 0)), .ref (A 2)]) (mV (CW G A (up S 2 (cpS a b (3 * 6))) R) (AA A 156 sz)) 0 0 (AA A 156 sz) := by
  refine Met.ofW (cc := cX0_copies) (maxL := 3) (ret := none) (by decide) rfl ?_
  intro p e s m args below meth c s₁ B hml hv
  obtain ⟨rfl, hsz, hW, hB⟩ := hv
  subst hsz
  have hx := B.exec
  have hb := B.bytes
  have hr := B.returns
  have hts := atoms_spec (ws := (ws_ yX0_copies cX0_copies 3 none)) B.pre
  have hts : ∀ w ∈ lw_all, w.before _ s = true := fun w h => hts w (List.mem_cons_of_mem _ h)
  have hown : s.vm.findClass RX0 = some m.cls := findClass_of_methodNamed B.named
  have hlocks := B.notSynchronized
  have hN := AA.old hI hB
  have hS : va_S (AA A 156 s.heap.size) s.heap s.heap [] := va_S.rf
  have hl := lv_entry ([.ref (A (17 + 7 * 0)), .ref (A 2)]) (n := 3) (Nat.le_of_ble_eq_true rfl)
  rw [lg_entry_eq]
  generalize (lg_sl ([.ref (A (17 + 7 * 0)), .ref (A 2)]) ++ List.replicate (3 - (lg_sl ([.ref (A (17 + 7 * 0)), .ref (A 2)])).length) Slot.unset).toArray = ls at hl ⊢
  have hl : lv_has ls 3 [(0, .ref (A (17 + 7 * 0))), (1, .ref (A 2))] := hl
  subst ea
  subst eb
  refine ii_const hx hb dX0_copies_0 ?_
  refine lv_istore_n (lv' := [(2, .int (iI 0)), (0, .ref (A (17 + 7 * 0))), (1, .ref (A 2))]) hx hb dX0_copies_1 rfl hl (by decide) rfl (fun ls hl => ?_)
  have loop_2 : ∀ (fu : Nat) (i : Nat) (zi : Int), (zi = (i : Int)) → (i ≤ 6) → (7 - i) < fu → ∀ (H : Heap) (locs : List Loc), (CW G A (up S 2 (cpS (S 4) (S 2) (3 * i))) R) H → va_S (AA A 156 s.heap.size) s.heap H locs → ∀ (ls : Array Slot), lv_has ls 3 [(2, .int (iI zi)), (0, .ref (A (17 + 7 * 0))), (1, .ref (A 2))] → W p l e (headSpec (ws_ yX0_copies cX0_copies 3 none) ({ frames := 1, cells := 0, slots := 0, locals := 18 } : Room)).room s m ([.ref (A (17 + 7 * 0)), .ref (A 2)] : List Value).toArray below meth c H locs 0 0 (MQ below (mV (CW G A (up S 2 (cpS (S 4) (S 2) (3 * 6))) R) (AA A 156 s.heap.size)) ([.ref (A (17 + 7 * 0)), .ref (A 2)] : List Value).toArray s 0 0 (AA A 156 s.heap.size)) (F0 m 2 ls []) := by
    intro fu
    induction fu with
    | zero => intro i zi ezi hi hmu; exact absurd hmu (Nat.not_lt_zero _)
    | succ fu ih2 =>
      intro i zi ezi hi hmu H locs hW hS ls hl
      refine lv_iload_n hx hb dX0_copies_2 rfl (lv_at hl 0 rfl) ?_
      refine lv_aload_n hx hb dX0_copies_3 rfl (lv_at hl 1 rfl) ?_
      refine r_alenq (t := 1) (ty := .array .int) Z hB hx hb rfl (hW.imgS 0 (by omega)) dX0_copies_4 ?_
      refine ii_icmp_ge (tgt := 29) hx hb dX0_copies_5 (by decide) (by omega) (by omega) (fun c_1 => ?_) (fun c_1 => ?_)
      · -- 5 -> 29
        have ex_i : 6 = i := by omega
        subst ex_i
        have hpw9 : (CW G A (up S 2 (cpS (S 4) (S 2) (3 * 6))) R) H := hW
        exact W.vret hx hb hr (fun t ht hW9 => ⟨⟨(), rfl, trivial, by show (CW G A (up S 2 (cpS (S 4) (S 2) (3 * 6))) R) t.heap; rw [ht]; exact hpw9⟩, hS.F ht⟩) hS.2.2 dX0_copies_29
      · -- 5 -> 8
        refine lv_aload_n hx hb dX0_copies_8 rfl (lv_at hl 1 rfl) ?_
        refine lv_iload_n hx hb dX0_copies_9 rfl (lv_at hl 0 rfl) ?_
        refine r_aald (t := 1) (ty := .array .int) (k := i) Z hB hx hb rfl rfl (hW.imgS 0 (by omega)) (by omega) (by omega) (by omega) rfl dX0_copies_10 ?_
        refine ii_const hx hb dX0_copies_11 ?_
        refine lv_aload_n hx hb dX0_copies_12 rfl (lv_at hl 2 rfl) ?_
        refine lv_iload_n hx hb dX0_copies_13 rfl (lv_at hl 0 rfl) ?_
        refine r_aald (t := 1) (ty := .array .int) (k := i) Z hB hx hb rfl rfl hW.seen (by omega) (by omega) (by omega) rfl dX0_copies_14 ?_
        refine ii_const hx hb dX0_copies_15 ?_
        refine lv_aload_n hx hb dX0_copies_16 rfl (lv_at hl 1 rfl) ?_
        refine lv_iload_n hx hb dX0_copies_17 rfl (lv_at hl 0 rfl) ?_
        refine r_aald (t := 1) (ty := .array .int) (k := i) Z hB hx hb rfl rfl (hW.imgS 0 (by omega)) (by omega) (by omega) (by omega) rfl dX0_copies_18 ?_
        refine r_alen (t := 0) (ty := .int) Z hB hx hb rfl (hW.imgR 0 i (by omega) (by omega)) dX0_copies_19 ?_
        refine r_copy (t := 0) (ty := .int) (n := 3) Z hB hx hb (hml.trans hl.1.symm) hts hown q118 rfl rfl (hW.imgR 0 i (by omega) (by omega)) (hW.seenR i (by omega)) hS (Or.inl ⟨3 + i, by omega, rfl⟩) rfl rfl (by omega) (by omega) (by omega) (by omega) (fun i hi => rfl) (Nat.le_of_ble_eq_true rfl) (Nat.le_of_ble_eq_true rfl) dX0_copies_20 (CW G A (up (up S 2 (cpS (S 4) (S 2) (3 * i))) 2 (cpS (S 4) (S 2) (3 * (i + 1)))) R) (fun H1 hz oq ha => hW.setSeen hI (i := i) (by omega) oq ha cpS_e1 cpS_e2) (fun H locs hW hS => ?_)
        have hW := hW.eqS (S' := (up S 2 (cpS (S 4) (S 2) (3 * (i + 1))))) (by
            funext a
            by_cases h2 : a = 2
            · subst h2; rfl
            simp only [up, if_neg h2])
        refine ii_iinc (k := 0) (lv' := [(2, .int (iI (zi + 1))), (0, .ref (A (17 + 7 * 0))), (1, .ref (A 2))]) hx hb dX0_copies_23 hl rfl (by decide) rfl (fun ls hl => ?_)
        refine lv_goto (tgt := 2) hx hb dX0_copies_26 (by decide) ?_
        exact ih2 (i + 1) (zi + 1) (by omega) (by omega) (by omega) _ _ hW hS ls (lv_sub hl [0, 1, 2] rfl)
  exact loop_2 _ 0 0 (by omega) (by omega) (Nat.lt_succ_self _) _ _ (by rw [cpS_0, show up S 2 (S 2) = S from up_id S 2]; exact hW) hS ls (lv_sub hl [0, 1, 2] rfl)

set_option maxHeartbeats 1000000 in
set_option maxRecDepth 100000 in
theorem mX0_copies_g1 {l : Launch} {G : GG} {s0 : State} {b0 : Nat} (Z : ZZ l G s0 b0) (A : Nat → Nat) (hI : Own s0 A 156) (S : Sta) (R : Nat → Option Nat) (a b : Nat → Int) (ea : S 5 = a) (eb : S 2 = b) (sz : Nat) : Met l yX0_copies (ws_ yX0_copies cX0_copies 3 none) ({ frames := 1, cells := 0, slots := 0, locals := 18 } : Room) (pcM s0 sz (CW G A S R) [.ref (A (17 + 7 * 1)), .ref (A 2)]) (mV (CW G A (up S 2 (cpS a b (3 * 6))) R) (AA A 156 sz)) 0 0 (AA A 156 sz) := by
  refine Met.ofW (cc := cX0_copies) (maxL := 3) (ret := none) (by decide) rfl ?_
  intro p e s m args below meth c s₁ B hml hv
  obtain ⟨rfl, hsz, hW, hB⟩ := hv
  subst hsz
  have hx := B.exec
  have hb := B.bytes
  have hr := B.returns
  have hts := atoms_spec (ws := (ws_ yX0_copies cX0_copies 3 none)) B.pre
  have hts : ∀ w ∈ lw_all, w.before _ s = true := fun w h => hts w (List.mem_cons_of_mem _ h)
  have hown : s.vm.findClass RX0 = some m.cls := findClass_of_methodNamed B.named
  have hlocks := B.notSynchronized
  have hN := AA.old hI hB
  have hS : va_S (AA A 156 s.heap.size) s.heap s.heap [] := va_S.rf
  have hl := lv_entry ([.ref (A (17 + 7 * 1)), .ref (A 2)]) (n := 3) (Nat.le_of_ble_eq_true rfl)
  rw [lg_entry_eq]
  generalize (lg_sl ([.ref (A (17 + 7 * 1)), .ref (A 2)]) ++ List.replicate (3 - (lg_sl ([.ref (A (17 + 7 * 1)), .ref (A 2)])).length) Slot.unset).toArray = ls at hl ⊢
  have hl : lv_has ls 3 [(0, .ref (A (17 + 7 * 1))), (1, .ref (A 2))] := hl
  subst ea
  subst eb
  refine ii_const hx hb dX0_copies_0 ?_
  refine lv_istore_n (lv' := [(2, .int (iI 0)), (0, .ref (A (17 + 7 * 1))), (1, .ref (A 2))]) hx hb dX0_copies_1 rfl hl (by decide) rfl (fun ls hl => ?_)
  have loop_2 : ∀ (fu : Nat) (i : Nat) (zi : Int), (zi = (i : Int)) → (i ≤ 6) → (7 - i) < fu → ∀ (H : Heap) (locs : List Loc), (CW G A (up S 2 (cpS (S 5) (S 2) (3 * i))) R) H → va_S (AA A 156 s.heap.size) s.heap H locs → ∀ (ls : Array Slot), lv_has ls 3 [(2, .int (iI zi)), (0, .ref (A (17 + 7 * 1))), (1, .ref (A 2))] → W p l e (headSpec (ws_ yX0_copies cX0_copies 3 none) ({ frames := 1, cells := 0, slots := 0, locals := 18 } : Room)).room s m ([.ref (A (17 + 7 * 1)), .ref (A 2)] : List Value).toArray below meth c H locs 0 0 (MQ below (mV (CW G A (up S 2 (cpS (S 5) (S 2) (3 * 6))) R) (AA A 156 s.heap.size)) ([.ref (A (17 + 7 * 1)), .ref (A 2)] : List Value).toArray s 0 0 (AA A 156 s.heap.size)) (F0 m 2 ls []) := by
    intro fu
    induction fu with
    | zero => intro i zi ezi hi hmu; exact absurd hmu (Nat.not_lt_zero _)
    | succ fu ih2 =>
      intro i zi ezi hi hmu H locs hW hS ls hl
      refine lv_iload_n hx hb dX0_copies_2 rfl (lv_at hl 0 rfl) ?_
      refine lv_aload_n hx hb dX0_copies_3 rfl (lv_at hl 1 rfl) ?_
      refine r_alenq (t := 1) (ty := .array .int) Z hB hx hb rfl (hW.imgS 1 (by omega)) dX0_copies_4 ?_
      refine ii_icmp_ge (tgt := 29) hx hb dX0_copies_5 (by decide) (by omega) (by omega) (fun c_1 => ?_) (fun c_1 => ?_)
      · -- 5 -> 29
        have ex_i : 6 = i := by omega
        subst ex_i
        have hpw9 : (CW G A (up S 2 (cpS (S 5) (S 2) (3 * 6))) R) H := hW
        exact W.vret hx hb hr (fun t ht hW9 => ⟨⟨(), rfl, trivial, by show (CW G A (up S 2 (cpS (S 5) (S 2) (3 * 6))) R) t.heap; rw [ht]; exact hpw9⟩, hS.F ht⟩) hS.2.2 dX0_copies_29
      · -- 5 -> 8
        refine lv_aload_n hx hb dX0_copies_8 rfl (lv_at hl 1 rfl) ?_
        refine lv_iload_n hx hb dX0_copies_9 rfl (lv_at hl 0 rfl) ?_
        refine r_aald (t := 1) (ty := .array .int) (k := i) Z hB hx hb rfl rfl (hW.imgS 1 (by omega)) (by omega) (by omega) (by omega) rfl dX0_copies_10 ?_
        refine ii_const hx hb dX0_copies_11 ?_
        refine lv_aload_n hx hb dX0_copies_12 rfl (lv_at hl 2 rfl) ?_
        refine lv_iload_n hx hb dX0_copies_13 rfl (lv_at hl 0 rfl) ?_
        refine r_aald (t := 1) (ty := .array .int) (k := i) Z hB hx hb rfl rfl hW.seen (by omega) (by omega) (by omega) rfl dX0_copies_14 ?_
        refine ii_const hx hb dX0_copies_15 ?_
        refine lv_aload_n hx hb dX0_copies_16 rfl (lv_at hl 1 rfl) ?_
        refine lv_iload_n hx hb dX0_copies_17 rfl (lv_at hl 0 rfl) ?_
        refine r_aald (t := 1) (ty := .array .int) (k := i) Z hB hx hb rfl rfl (hW.imgS 1 (by omega)) (by omega) (by omega) (by omega) rfl dX0_copies_18 ?_
        refine r_alen (t := 0) (ty := .int) Z hB hx hb rfl (hW.imgR 1 i (by omega) (by omega)) dX0_copies_19 ?_
        refine r_copy (t := 0) (ty := .int) (n := 3) Z hB hx hb (hml.trans hl.1.symm) hts hown q118 rfl rfl (hW.imgR 1 i (by omega) (by omega)) (hW.seenR i (by omega)) hS (Or.inl ⟨3 + i, by omega, rfl⟩) rfl rfl (by omega) (by omega) (by omega) (by omega) (fun i hi => rfl) (Nat.le_of_ble_eq_true rfl) (Nat.le_of_ble_eq_true rfl) dX0_copies_20 (CW G A (up (up S 2 (cpS (S 5) (S 2) (3 * i))) 2 (cpS (S 5) (S 2) (3 * (i + 1)))) R) (fun H1 hz oq ha => hW.setSeen hI (i := i) (by omega) oq ha cpS_e1 cpS_e2) (fun H locs hW hS => ?_)
        have hW := hW.eqS (S' := (up S 2 (cpS (S 5) (S 2) (3 * (i + 1))))) (by
            funext a
            by_cases h2 : a = 2
            · subst h2; rfl
            simp only [up, if_neg h2])
        refine ii_iinc (k := 0) (lv' := [(2, .int (iI (zi + 1))), (0, .ref (A (17 + 7 * 1))), (1, .ref (A 2))]) hx hb dX0_copies_23 hl rfl (by decide) rfl (fun ls hl => ?_)
        refine lv_goto (tgt := 2) hx hb dX0_copies_26 (by decide) ?_
        exact ih2 (i + 1) (zi + 1) (by omega) (by omega) (by omega) _ _ hW hS ls (lv_sub hl [0, 1, 2] rfl)
  exact loop_2 _ 0 0 (by omega) (by omega) (Nat.lt_succ_self _) _ _ (by rw [cpS_0, show up S 2 (S 2) = S from up_id S 2]; exact hW) hS ls (lv_sub hl [0, 1, 2] rfl)

set_option maxHeartbeats 1000000 in
set_option maxRecDepth 100000 in
theorem mX2_takes_0 {l : Launch} {G : GG} {s0 : State} {b0 : Nat} (Z : ZZ l G s0 b0) (A : Nat → Nat) (hI : Own s0 A 156) (S : Sta) (R : Nat → Option Nat) (hF0 : WF (S 20)) (sz : Nat) : Met l yX2_takes (ws_ yX2_takes cX2_takes 1 none) ({ frames := 2, cells := 0, slots := 0, locals := 40 } : Room) (pcM s0 sz (CW G A S R) [.ref (A (15 + 0))]) (mV (CW G A (up (up (up S 0 (up (S 0) 7 (S 0 3))) 4 (cpS (S 2) (S 4) (3 * 6))) 24 (S 20)) R) (AA A 156 sz)) 0 0 (AA A 156 sz) := by
  refine Met.ofW (cc := cX2_takes) (maxL := 1) (ret := none) (by decide) rfl ?_
  intro p e s m args below meth c s₁ B hml hv
  obtain ⟨rfl, hsz, hW, hB⟩ := hv
  subst hsz
  have hx := B.exec
  have hb := B.bytes
  have hr := B.returns
  have hts := atoms_spec (ws := (ws_ yX2_takes cX2_takes 1 none)) B.pre
  have hts : ∀ w ∈ lw_all, w.before _ s = true := fun w h => hts w (List.mem_cons_of_mem _ h)
  have hown : s.vm.findClass RX2 = some m.cls := findClass_of_methodNamed B.named
  have hlocks := B.notSynchronized
  have hN := AA.old hI hB
  have hS : va_S (AA A 156 s.heap.size) s.heap s.heap [] := va_S.rf
  have hl := lv_entry ([.ref (A (15 + 0))]) (n := 1) (Nat.le_of_ble_eq_true rfl)
  rw [lg_entry_eq]
  generalize (lg_sl ([.ref (A (15 + 0))]) ++ List.replicate (1 - (lg_sl ([.ref (A (15 + 0))])).length) Slot.unset).toArray = ls at hl ⊢
  have hl : lv_has ls 1 [(0, .ref (A (15 + 0)))] := hl
  refine lv_aload_n hx hb dX2_takes_0 rfl (lv_at hl 0 rfl) ?_
  refine r_get (ci := 2) (k := 0) (v := .ref (A 116)) (C := RX2) (T := TX2) (N := 5) Z hB hx hb hts hown rfl in_X2 (hW.imgO 0 (by omega)) (by decide) q762 rfl dX2_takes_1 ?_
  refine lv_aload_n hx hb dX2_takes_4 rfl (lv_at hl 0 rfl) ?_
  refine r_get (ci := 2) (k := 4) (v := .ref (A 0)) (C := RX2) (T := TX2) (N := 5) Z hB hx hb hts hown rfl in_X2 (hW.imgO 0 (by omega)) (by decide) q766 rfl dX2_takes_5 ?_
  refine r_getN (ci := 0) (k := 3) (v := .ref (A 36)) (C := RX0) (T := TX0) (N := 16) Z hB hx hb hts hown rfl in_X0 hW.obj (by decide) q795 rfl dX2_takes_8 ?_
  refine cmV (va_runV (As := [.ref (A 36)]) (rest := []) ⟨hx, hb, hml, hown, hts⟩ (mX1_takes Z (fa A 4) (hI.fa (by omega)) (S 24) (fa A 0) (S 20) (fa_apart hI (f := 4) (g := 0) (by omega) (by omega) (by omega)) s.heap.size) (cwV 1 hts (lw_V q732 q425 q426 q80 q427) rfl rfl rfl (by decide +kernel) ⟨Nat.le_of_ble_eq_true rfl, Nat.le_of_ble_eq_true rfl⟩) (pvM (BornH.S hB hN hS) (OBJ.recv Z hB ((hW.fw (f := 4) (by omega) (F := (S 24)) rfl)).1 (q := (RX1, TX1, 8)) rfl) (⟨(hW.fw (f := 4) (by omega) (F := (S 24)) rfl), (hW.fw (f := 0) (by omega) (F := (S 20)) rfl)⟩)) rfl rfl hl.1 rfl (lv_room (Nat.le_of_ble_eq_true rfl)) dX2_takes_11 ⟨Nat.zero_le _, Nat.zero_le _⟩) hS (AA.fa (by omega) hS.1) (fun H1 locs hW1 hz1 hk1 hS => ?_)
  have hW := hW.joinF hI (f := 4) (by omega) hk1 hW1
  clear hW1 hk1 hz1
  generalize H1 = H at hW hS ⊢
  refine lv_aload_n hx hb dX2_takes_14 rfl (lv_at hl 0 rfl) ?_
  refine r_get (ci := 2) (k := 4) (v := .ref (A 0)) (C := RX2) (T := TX2) (N := 5) Z hB hx hb hts hown rfl in_X2 (hW.imgO 0 (by omega)) (by decide) q766 rfl dX2_takes_15 ?_
  refine r_getN (ci := 0) (k := 7) (v := .ref (A 2)) (C := RX0) (T := TX0) (N := 16) Z hB hx hb hts hown rfl in_X0 hW.obj (by decide) q800 rfl dX2_takes_18 ?_
  refine lv_aload_n hx hb dX2_takes_21 rfl (lv_at hl 0 rfl) ?_
  refine r_get (ci := 2) (k := 1) (v := .ref (A (17 + 7 * 0))) (C := RX2) (T := TX2) (N := 5) Z hB hx hb hts hown rfl in_X2 (hW.imgO 0 (by omega)) (by decide) q763 rfl dX2_takes_22 ?_
  refine cmV (va_runSN (As := [.ref (A 2), .ref (A (17 + 7 * 0))]) (rest := []) ⟨hx, hb, hml, hown, hts⟩ (mX0_copies_t0 Z A hI (up S 24 (S 20)) R (S 2) (S 4) rfl rfl H.size) ⟨va_cnB 2 hts (lw_meth q735) rfl rfl rfl (nwM Z hB q733) (hts _ q79) (by decide +kernel) ⟨Nat.le_of_ble_eq_true rfl, Nat.le_of_ble_eq_true rfl⟩, hts _ q734, trivial⟩ (psM (BornH.S hB hN hS) hW) rfl rfl hl.1 rfl (lv_room (Nat.le_of_ble_eq_true rfl)) dX2_takes_25 ⟨Nat.zero_le _, Nat.zero_le _⟩) hS (AA.le hS.1) (fun H1 locs hW1 hz1 hk1 hS => ?_)
  have hW := hW1
  clear hW1 hk1 hz1
  generalize H1 = H at hW hS ⊢
  have hW := hW.eqS (S' := (up (up S 4 (cpS (S 2) (S 4) (3 * 6))) 24 (S 20))) (by
      funext a
      by_cases h4 : a = 4
      · subst h4; rfl
      by_cases h24 : a = 24
      · subst h24; rfl
      simp only [up, if_neg h4, if_neg h24])
  refine lv_aload_n hx hb dX2_takes_28 rfl (lv_at hl 0 rfl) ?_
  refine lv_aload_n hx hb dX2_takes_29 rfl (lv_at hl 0 rfl) ?_
  refine r_get (ci := 2) (k := 4) (v := .ref (A 0)) (C := RX2) (T := TX2) (N := 5) Z hB hx hb hts hown rfl in_X2 (hW.imgO 0 (by omega)) (by decide) q766 rfl dX2_takes_30 ?_
  refine r_getN (ci := 0) (k := 8) (v := .int (iI ((S 0) 3))) (C := RX0) (T := TX0) (N := 16) Z hB hx hb hts hown rfl in_X0 hW.obj (by decide) q802 rfl dX2_takes_33 ?_
  refine r_put (ci := 2) (k := 2) (C := RX2) (T := TX2) (N := 5) Z hB hx hb hts hown rfl in_X2 tyX2 tyX2_ok nmX2 (hW.imgO 0 (by omega)) hS (Or.inl ⟨15 + 0, by omega, rfl⟩) (by decide) q764 rfl rfl rfl rfl (Nat.le_of_ble_eq_true rfl) dX2_takes_36 (CW G A (up (up (up S 4 (cpS (S 2) (S 4) (3 * 6))) 24 (S 20)) 0 (up (S 0) 7 ((S 0) 3))) R) (fun H1 hz oq ho => hW.setImg hI (i := 0) (by omega) (by omega) oq (imgF_m ho)) (fun H locs hW hS => ?_)
  have hW := hW.eqS (S' := (up (up (up S 0 (up (S 0) 7 ((S 0) 3))) 4 (cpS (S 2) (S 4) (3 * 6))) 24 (S 20))) (by
      funext a
      by_cases h0 : a = 0
      · subst h0
        funext j
        by_cases k0 : j = 7
        · subst k0; rfl
        simp only [up, if_neg k0, if_true, if_false, Nat.reduceEqDiff, reduceIte]
      by_cases h4 : a = 4
      · subst h4; rfl
      by_cases h24 : a = 24
      · subst h24; rfl
      simp only [up, if_neg h0, if_neg h4, if_neg h24])
  have hpw9 : (CW G A (up (up (up S 0 (up (S 0) 7 (S 0 3))) 4 (cpS (S 2) (S 4) (3 * 6))) 24 (S 20)) R) H := hW
  exact W.vret hx hb hr (fun t ht hW9 => ⟨⟨(), rfl, trivial, by show (CW G A (up (up (up S 0 (up (S 0) 7 (S 0 3))) 4 (cpS (S 2) (S 4) (3 * 6))) 24 (S 20)) R) t.heap; rw [ht]; exact hpw9⟩, hS.F ht⟩) hS.2.2 dX2_takes_39

set_option maxHeartbeats 1000000 in
set_option maxRecDepth 100000 in
theorem mX2_gives_0 {l : Launch} {G : GG} {s0 : State} {b0 : Nat} (Z : ZZ l G s0 b0) (A : Nat → Nat) (hI : Own s0 A 156) (S : Sta) (R : Nat → Option Nat) (hFk : WF (S 24)) (sz : Nat) : Met l yX2_gives (ws_ yX2_gives cX2_gives 1 none) ({ frames := 2, cells := 0, slots := 0, locals := 40 } : Room) (pcM s0 sz (CW G A S R) [.ref (A (15 + 0))]) (mV (CW G A (up (up (up S 0 (up (S 0) 3 (S 0 7))) 2 (cpS (S 4) (S 2) (3 * 6))) 20 (S 24)) R) (AA A 156 sz)) 0 0 (AA A 156 sz) := by
  refine Met.ofW (cc := cX2_gives) (maxL := 1) (ret := none) (by decide) rfl ?_
  intro p e s m args below meth c s₁ B hml hv
  obtain ⟨rfl, hsz, hW, hB⟩ := hv
  subst hsz
  have hx := B.exec
  have hb := B.bytes
  have hr := B.returns
  have hts := atoms_spec (ws := (ws_ yX2_gives cX2_gives 1 none)) B.pre
  have hts : ∀ w ∈ lw_all, w.before _ s = true := fun w h => hts w (List.mem_cons_of_mem _ h)
  have hown : s.vm.findClass RX2 = some m.cls := findClass_of_methodNamed B.named
  have hlocks := B.notSynchronized
  have hN := AA.old hI hB
  have hS : va_S (AA A 156 s.heap.size) s.heap s.heap [] := va_S.rf
  have hl := lv_entry ([.ref (A (15 + 0))]) (n := 1) (Nat.le_of_ble_eq_true rfl)
  rw [lg_entry_eq]
  generalize (lg_sl ([.ref (A (15 + 0))]) ++ List.replicate (1 - (lg_sl ([.ref (A (15 + 0))])).length) Slot.unset).toArray = ls at hl ⊢
  have hl : lv_has ls 1 [(0, .ref (A (15 + 0)))] := hl
  refine lv_aload_n hx hb dX2_gives_0 rfl (lv_at hl 0 rfl) ?_
  refine r_get (ci := 2) (k := 4) (v := .ref (A 0)) (C := RX2) (T := TX2) (N := 5) Z hB hx hb hts hown rfl in_X2 (hW.imgO 0 (by omega)) (by decide) q766 rfl dX2_gives_1 ?_
  refine r_getN (ci := 0) (k := 3) (v := .ref (A 36)) (C := RX0) (T := TX0) (N := 16) Z hB hx hb hts hown rfl in_X0 hW.obj (by decide) q795 rfl dX2_gives_4 ?_
  refine lv_aload_n hx hb dX2_gives_7 rfl (lv_at hl 0 rfl) ?_
  refine r_get (ci := 2) (k := 0) (v := .ref (A 116)) (C := RX2) (T := TX2) (N := 5) Z hB hx hb hts hown rfl in_X2 (hW.imgO 0 (by omega)) (by decide) q762 rfl dX2_gives_8 ?_
  refine cmV (va_runV (As := [.ref (A 116)]) (rest := []) ⟨hx, hb, hml, hown, hts⟩ (mX1_takes Z (fa A 0) (hI.fa (by omega)) (S 20) (fa A 4) (S 24) (fa_apart hI (f := 0) (g := 4) (by omega) (by omega) (by omega)) s.heap.size) (cwV 1 hts (lw_V q732 q425 q426 q80 q427) rfl rfl rfl (by decide +kernel) ⟨Nat.le_of_ble_eq_true rfl, Nat.le_of_ble_eq_true rfl⟩) (pvM (BornH.S hB hN hS) (OBJ.recv Z hB ((hW.fw (f := 0) (by omega) (F := (S 20)) rfl)).1 (q := (RX1, TX1, 8)) rfl) (⟨(hW.fw (f := 0) (by omega) (F := (S 20)) rfl), (hW.fw (f := 4) (by omega) (F := (S 24)) rfl)⟩)) rfl rfl hl.1 rfl (lv_room (Nat.le_of_ble_eq_true rfl)) dX2_gives_11 ⟨Nat.zero_le _, Nat.zero_le _⟩) hS (AA.fa (by omega) hS.1) (fun H1 locs hW1 hz1 hk1 hS => ?_)
  have hW := hW.joinF hI (f := 0) (by omega) hk1 hW1
  clear hW1 hk1 hz1
  generalize H1 = H at hW hS ⊢
  refine lv_aload_n hx hb dX2_gives_14 rfl (lv_at hl 0 rfl) ?_
  refine r_get (ci := 2) (k := 1) (v := .ref (A (17 + 7 * 0))) (C := RX2) (T := TX2) (N := 5) Z hB hx hb hts hown rfl in_X2 (hW.imgO 0 (by omega)) (by decide) q763 rfl dX2_gives_15 ?_
  refine lv_aload_n hx hb dX2_gives_18 rfl (lv_at hl 0 rfl) ?_
  refine r_get (ci := 2) (k := 4) (v := .ref (A 0)) (C := RX2) (T := TX2) (N := 5) Z hB hx hb hts hown rfl in_X2 (hW.imgO 0 (by omega)) (by decide) q766 rfl dX2_gives_19 ?_
  refine r_getN (ci := 0) (k := 7) (v := .ref (A 2)) (C := RX0) (T := TX0) (N := 16) Z hB hx hb hts hown rfl in_X0 hW.obj (by decide) q800 rfl dX2_gives_22 ?_
  refine cmV (va_runSN (As := [.ref (A (17 + 7 * 0)), .ref (A 2)]) (rest := []) ⟨hx, hb, hml, hown, hts⟩ (mX0_copies_g0 Z A hI (up S 20 (S 24)) R (S 4) (S 2) rfl rfl H.size) ⟨va_cnB 2 hts (lw_meth q735) rfl rfl rfl (nwM Z hB q733) (hts _ q79) (by decide +kernel) ⟨Nat.le_of_ble_eq_true rfl, Nat.le_of_ble_eq_true rfl⟩, hts _ q734, trivial⟩ (psM (BornH.S hB hN hS) hW) rfl rfl hl.1 rfl (lv_room (Nat.le_of_ble_eq_true rfl)) dX2_gives_25 ⟨Nat.zero_le _, Nat.zero_le _⟩) hS (AA.le hS.1) (fun H1 locs hW1 hz1 hk1 hS => ?_)
  have hW := hW1
  clear hW1 hk1 hz1
  generalize H1 = H at hW hS ⊢
  have hW := hW.eqS (S' := (up (up S 2 (cpS (S 4) (S 2) (3 * 6))) 20 (S 24))) (by
      funext a
      by_cases h2 : a = 2
      · subst h2; rfl
      by_cases h20 : a = 20
      · subst h20; rfl
      simp only [up, if_neg h2, if_neg h20])
  refine lv_aload_n hx hb dX2_gives_28 rfl (lv_at hl 0 rfl) ?_
  refine r_get (ci := 2) (k := 4) (v := .ref (A 0)) (C := RX2) (T := TX2) (N := 5) Z hB hx hb hts hown rfl in_X2 (hW.imgO 0 (by omega)) (by decide) q766 rfl dX2_gives_29 ?_
  refine lv_aload_n hx hb dX2_gives_32 rfl (lv_at hl 0 rfl) ?_
  refine r_get (ci := 2) (k := 2) (v := .int (iI ((S 0) 7))) (C := RX2) (T := TX2) (N := 5) Z hB hx hb hts hown rfl in_X2 (hW.imgO 0 (by omega)) (by decide) q764 rfl dX2_gives_33 ?_
  refine r_putN (ci := 0) (k := 8) (C := RX0) (T := TX0) (N := 16) Z hB hx hb hts hown rfl in_X0 tyX0 tyX0_ok nmX0 hW.obj hS (Or.inl ⟨0, by omega, rfl⟩) (by decide) q802 rfl rfl rfl rfl (Nat.le_of_ble_eq_true rfl) dX2_gives_36 (CW G A (up (up (up S 2 (cpS (S 4) (S 2) (3 * 6))) 20 (S 24)) 0 (up (S 0) 3 ((S 0) 7))) R) (fun H1 hz oq ho => hW.setO hI (k := 3) (by omega) oq ho) (fun H locs hW hS => ?_)
  have hW := hW.eqS (S' := (up (up (up S 0 (up (S 0) 3 ((S 0) 7))) 2 (cpS (S 4) (S 2) (3 * 6))) 20 (S 24))) (by
      funext a
      by_cases h0 : a = 0
      · subst h0
        funext j
        by_cases k0 : j = 3
        · subst k0; rfl
        simp only [up, if_neg k0, if_true, if_false, Nat.reduceEqDiff, reduceIte]
      by_cases h2 : a = 2
      · subst h2; rfl
      by_cases h20 : a = 20
      · subst h20; rfl
      simp only [up, if_neg h0, if_neg h2, if_neg h20])
  have hpw9 : (CW G A (up (up (up S 0 (up (S 0) 3 (S 0 7))) 2 (cpS (S 4) (S 2) (3 * 6))) 20 (S 24)) R) H := hW
  exact W.vret hx hb hr (fun t ht hW9 => ⟨⟨(), rfl, trivial, by show (CW G A (up (up (up S 0 (up (S 0) 3 (S 0 7))) 2 (cpS (S 4) (S 2) (3 * 6))) 20 (S 24)) R) t.heap; rw [ht]; exact hpw9⟩, hS.F ht⟩) hS.2.2 dX2_gives_39

set_option maxHeartbeats 1000000 in
set_option maxRecDepth 100000 in
theorem mX2_takes_1 {l : Launch} {G : GG} {s0 : State} {b0 : Nat} (Z : ZZ l G s0 b0) (A : Nat → Nat) (hI : Own s0 A 156) (S : Sta) (R : Nat → Option Nat) (hF0 : WF (S 20)) (sz : Nat) : Met l yX2_takes (ws_ yX2_takes cX2_takes 1 none) ({ frames := 2, cells := 0, slots := 0, locals := 40 } : Room) (pcM s0 sz (CW G A S R) [.ref (A (15 + 1))]) (mV (CW G A (up (up (up S 0 (up (S 0) 8 (S 0 3))) 5 (cpS (S 2) (S 5) (3 * 6))) 25 (S 20)) R) (AA A 156 sz)) 0 0 (AA A 156 sz) := by
  refine Met.ofW (cc := cX2_takes) (maxL := 1) (ret := none) (by decide) rfl ?_
  intro p e s m args below meth c s₁ B hml hv
  obtain ⟨rfl, hsz, hW, hB⟩ := hv
  subst hsz
  have hx := B.exec
  have hb := B.bytes
  have hr := B.returns
  have hts := atoms_spec (ws := (ws_ yX2_takes cX2_takes 1 none)) B.pre
  have hts : ∀ w ∈ lw_all, w.before _ s = true := fun w h => hts w (List.mem_cons_of_mem _ h)
  have hown : s.vm.findClass RX2 = some m.cls := findClass_of_methodNamed B.named
  have hlocks := B.notSynchronized
  have hN := AA.old hI hB
  have hS : va_S (AA A 156 s.heap.size) s.heap s.heap [] := va_S.rf
  have hl := lv_entry ([.ref (A (15 + 1))]) (n := 1) (Nat.le_of_ble_eq_true rfl)
  rw [lg_entry_eq]
  generalize (lg_sl ([.ref (A (15 + 1))]) ++ List.replicate (1 - (lg_sl ([.ref (A (15 + 1))])).length) Slot.unset).toArray = ls at hl ⊢
  have hl : lv_has ls 1 [(0, .ref (A (15 + 1)))] := hl
  refine lv_aload_n hx hb dX2_takes_0 rfl (lv_at hl 0 rfl) ?_
  refine r_get (ci := 2) (k := 0) (v := .ref (A 136)) (C := RX2) (T := TX2) (N := 5) Z hB hx hb hts hown rfl in_X2 (hW.imgO 1 (by omega)) (by decide) q762 rfl dX2_takes_1 ?_
  refine lv_aload_n hx hb dX2_takes_4 rfl (lv_at hl 0 rfl) ?_
  refine r_get (ci := 2) (k := 4) (v := .ref (A 0)) (C := RX2) (T := TX2) (N := 5) Z hB hx hb hts hown rfl in_X2 (hW.imgO 1 (by omega)) (by decide) q766 rfl dX2_takes_5 ?_
  refine r_getN (ci := 0) (k := 3) (v := .ref (A 36)) (C := RX0) (T := TX0) (N := 16) Z hB hx hb hts hown rfl in_X0 hW.obj (by decide) q795 rfl dX2_takes_8 ?_
  refine cmV (va_runV (As := [.ref (A 36)]) (rest := []) ⟨hx, hb, hml, hown, hts⟩ (mX1_takes Z (fa A 5) (hI.fa (by omega)) (S 25) (fa A 0) (S 20) (fa_apart hI (f := 5) (g := 0) (by omega) (by omega) (by omega)) s.heap.size) (cwV 1 hts (lw_V q732 q425 q426 q80 q427) rfl rfl rfl (by decide +kernel) ⟨Nat.le_of_ble_eq_true rfl, Nat.le_of_ble_eq_true rfl⟩) (pvM (BornH.S hB hN hS) (OBJ.recv Z hB ((hW.fw (f := 5) (by omega) (F := (S 25)) rfl)).1 (q := (RX1, TX1, 8)) rfl) (⟨(hW.fw (f := 5) (by omega) (F := (S 25)) rfl), (hW.fw (f := 0) (by omega) (F := (S 20)) rfl)⟩)) rfl rfl hl.1 rfl (lv_room (Nat.le_of_ble_eq_true rfl)) dX2_takes_11 ⟨Nat.zero_le _, Nat.zero_le _⟩) hS (AA.fa (by omega) hS.1) (fun H1 locs hW1 hz1 hk1 hS => ?_)
  have hW := hW.joinF hI (f := 5) (by omega) hk1 hW1
  clear hW1 hk1 hz1
  generalize H1 = H at hW hS ⊢
  refine lv_aload_n hx hb dX2_takes_14 rfl (lv_at hl 0 rfl) ?_
  refine r_get (ci := 2) (k := 4) (v := .ref (A 0)) (C := RX2) (T := TX2) (N := 5) Z hB hx hb hts hown rfl in_X2 (hW.imgO 1 (by omega)) (by decide) q766 rfl dX2_takes_15 ?_
  refine r_getN (ci := 0) (k := 7) (v := .ref (A 2)) (C := RX0) (T := TX0) (N := 16) Z hB hx hb hts hown rfl in_X0 hW.obj (by decide) q800 rfl dX2_takes_18 ?_
  refine lv_aload_n hx hb dX2_takes_21 rfl (lv_at hl 0 rfl) ?_
  refine r_get (ci := 2) (k := 1) (v := .ref (A (17 + 7 * 1))) (C := RX2) (T := TX2) (N := 5) Z hB hx hb hts hown rfl in_X2 (hW.imgO 1 (by omega)) (by decide) q763 rfl dX2_takes_22 ?_
  refine cmV (va_runSN (As := [.ref (A 2), .ref (A (17 + 7 * 1))]) (rest := []) ⟨hx, hb, hml, hown, hts⟩ (mX0_copies_t1 Z A hI (up S 25 (S 20)) R (S 2) (S 5) rfl rfl H.size) ⟨va_cnB 2 hts (lw_meth q735) rfl rfl rfl (nwM Z hB q733) (hts _ q79) (by decide +kernel) ⟨Nat.le_of_ble_eq_true rfl, Nat.le_of_ble_eq_true rfl⟩, hts _ q734, trivial⟩ (psM (BornH.S hB hN hS) hW) rfl rfl hl.1 rfl (lv_room (Nat.le_of_ble_eq_true rfl)) dX2_takes_25 ⟨Nat.zero_le _, Nat.zero_le _⟩) hS (AA.le hS.1) (fun H1 locs hW1 hz1 hk1 hS => ?_)
  have hW := hW1
  clear hW1 hk1 hz1
  generalize H1 = H at hW hS ⊢
  have hW := hW.eqS (S' := (up (up S 5 (cpS (S 2) (S 5) (3 * 6))) 25 (S 20))) (by
      funext a
      by_cases h5 : a = 5
      · subst h5; rfl
      by_cases h25 : a = 25
      · subst h25; rfl
      simp only [up, if_neg h5, if_neg h25])
  refine lv_aload_n hx hb dX2_takes_28 rfl (lv_at hl 0 rfl) ?_
  refine lv_aload_n hx hb dX2_takes_29 rfl (lv_at hl 0 rfl) ?_
  refine r_get (ci := 2) (k := 4) (v := .ref (A 0)) (C := RX2) (T := TX2) (N := 5) Z hB hx hb hts hown rfl in_X2 (hW.imgO 1 (by omega)) (by decide) q766 rfl dX2_takes_30 ?_
  refine r_getN (ci := 0) (k := 8) (v := .int (iI ((S 0) 3))) (C := RX0) (T := TX0) (N := 16) Z hB hx hb hts hown rfl in_X0 hW.obj (by decide) q802 rfl dX2_takes_33 ?_
  refine r_put (ci := 2) (k := 2) (C := RX2) (T := TX2) (N := 5) Z hB hx hb hts hown rfl in_X2 tyX2 tyX2_ok nmX2 (hW.imgO 1 (by omega)) hS (Or.inl ⟨15 + 1, by omega, rfl⟩) (by decide) q764 rfl rfl rfl rfl (Nat.le_of_ble_eq_true rfl) dX2_takes_36 (CW G A (up (up (up S 5 (cpS (S 2) (S 5) (3 * 6))) 25 (S 20)) 0 (up (S 0) 8 ((S 0) 3))) R) (fun H1 hz oq ho => hW.setImg hI (i := 1) (by omega) (by omega) oq (imgF_m ho)) (fun H locs hW hS => ?_)
  have hW := hW.eqS (S' := (up (up (up S 0 (up (S 0) 8 ((S 0) 3))) 5 (cpS (S 2) (S 5) (3 * 6))) 25 (S 20))) (by
      funext a
      by_cases h0 : a = 0
      · subst h0
        funext j
        by_cases k0 : j = 8
        · subst k0; rfl
        simp only [up, if_neg k0, if_true, if_false, Nat.reduceEqDiff, reduceIte]
      by_cases h5 : a = 5
      · subst h5; rfl
      by_cases h25 : a = 25
      · subst h25; rfl
      simp only [up, if_neg h0, if_neg h5, if_neg h25])
  have hpw9 : (CW G A (up (up (up S 0 (up (S 0) 8 (S 0 3))) 5 (cpS (S 2) (S 5) (3 * 6))) 25 (S 20)) R) H := hW
  exact W.vret hx hb hr (fun t ht hW9 => ⟨⟨(), rfl, trivial, by show (CW G A (up (up (up S 0 (up (S 0) 8 (S 0 3))) 5 (cpS (S 2) (S 5) (3 * 6))) 25 (S 20)) R) t.heap; rw [ht]; exact hpw9⟩, hS.F ht⟩) hS.2.2 dX2_takes_39

set_option maxHeartbeats 1000000 in
set_option maxRecDepth 100000 in
theorem mX2_gives_1 {l : Launch} {G : GG} {s0 : State} {b0 : Nat} (Z : ZZ l G s0 b0) (A : Nat → Nat) (hI : Own s0 A 156) (S : Sta) (R : Nat → Option Nat) (hFk : WF (S 25)) (sz : Nat) : Met l yX2_gives (ws_ yX2_gives cX2_gives 1 none) ({ frames := 2, cells := 0, slots := 0, locals := 40 } : Room) (pcM s0 sz (CW G A S R) [.ref (A (15 + 1))]) (mV (CW G A (up (up (up S 0 (up (S 0) 3 (S 0 8))) 2 (cpS (S 5) (S 2) (3 * 6))) 20 (S 25)) R) (AA A 156 sz)) 0 0 (AA A 156 sz) := by
  refine Met.ofW (cc := cX2_gives) (maxL := 1) (ret := none) (by decide) rfl ?_
  intro p e s m args below meth c s₁ B hml hv
  obtain ⟨rfl, hsz, hW, hB⟩ := hv
  subst hsz
  have hx := B.exec
  have hb := B.bytes
  have hr := B.returns
  have hts := atoms_spec (ws := (ws_ yX2_gives cX2_gives 1 none)) B.pre
  have hts : ∀ w ∈ lw_all, w.before _ s = true := fun w h => hts w (List.mem_cons_of_mem _ h)
  have hown : s.vm.findClass RX2 = some m.cls := findClass_of_methodNamed B.named
  have hlocks := B.notSynchronized
  have hN := AA.old hI hB
  have hS : va_S (AA A 156 s.heap.size) s.heap s.heap [] := va_S.rf
  have hl := lv_entry ([.ref (A (15 + 1))]) (n := 1) (Nat.le_of_ble_eq_true rfl)
  rw [lg_entry_eq]
  generalize (lg_sl ([.ref (A (15 + 1))]) ++ List.replicate (1 - (lg_sl ([.ref (A (15 + 1))])).length) Slot.unset).toArray = ls at hl ⊢
  have hl : lv_has ls 1 [(0, .ref (A (15 + 1)))] := hl
  refine lv_aload_n hx hb dX2_gives_0 rfl (lv_at hl 0 rfl) ?_
  refine r_get (ci := 2) (k := 4) (v := .ref (A 0)) (C := RX2) (T := TX2) (N := 5) Z hB hx hb hts hown rfl in_X2 (hW.imgO 1 (by omega)) (by decide) q766 rfl dX2_gives_1 ?_
  refine r_getN (ci := 0) (k := 3) (v := .ref (A 36)) (C := RX0) (T := TX0) (N := 16) Z hB hx hb hts hown rfl in_X0 hW.obj (by decide) q795 rfl dX2_gives_4 ?_
  refine lv_aload_n hx hb dX2_gives_7 rfl (lv_at hl 0 rfl) ?_
  refine r_get (ci := 2) (k := 0) (v := .ref (A 136)) (C := RX2) (T := TX2) (N := 5) Z hB hx hb hts hown rfl in_X2 (hW.imgO 1 (by omega)) (by decide) q762 rfl dX2_gives_8 ?_
  refine cmV (va_runV (As := [.ref (A 136)]) (rest := []) ⟨hx, hb, hml, hown, hts⟩ (mX1_takes Z (fa A 0) (hI.fa (by omega)) (S 20) (fa A 5) (S 25) (fa_apart hI (f := 0) (g := 5) (by omega) (by omega) (by omega)) s.heap.size) (cwV 1 hts (lw_V q732 q425 q426 q80 q427) rfl rfl rfl (by decide +kernel) ⟨Nat.le_of_ble_eq_true rfl, Nat.le_of_ble_eq_true rfl⟩) (pvM (BornH.S hB hN hS) (OBJ.recv Z hB ((hW.fw (f := 0) (by omega) (F := (S 20)) rfl)).1 (q := (RX1, TX1, 8)) rfl) (⟨(hW.fw (f := 0) (by omega) (F := (S 20)) rfl), (hW.fw (f := 5) (by omega) (F := (S 25)) rfl)⟩)) rfl rfl hl.1 rfl (lv_room (Nat.le_of_ble_eq_true rfl)) dX2_gives_11 ⟨Nat.zero_le _, Nat.zero_le _⟩) hS (AA.fa (by omega) hS.1) (fun H1 locs hW1 hz1 hk1 hS => ?_)
  have hW := hW.joinF hI (f := 0) (by omega) hk1 hW1
  clear hW1 hk1 hz1
  generalize H1 = H at hW hS ⊢
  refine lv_aload_n hx hb dX2_gives_14 rfl (lv_at hl 0 rfl) ?_
  refine r_get (ci := 2) (k := 1) (v := .ref (A (17 + 7 * 1))) (C := RX2) (T := TX2) (N := 5) Z hB hx hb hts hown rfl in_X2 (hW.imgO 1 (by omega)) (by decide) q763 rfl dX2_gives_15 ?_
  refine lv_aload_n hx hb dX2_gives_18 rfl (lv_at hl 0 rfl) ?_
  refine r_get (ci := 2) (k := 4) (v := .ref (A 0)) (C := RX2) (T := TX2) (N := 5) Z hB hx hb hts hown rfl in_X2 (hW.imgO 1 (by omega)) (by decide) q766 rfl dX2_gives_19 ?_
  refine r_getN (ci := 0) (k := 7) (v := .ref (A 2)) (C := RX0) (T := TX0) (N := 16) Z hB hx hb hts hown rfl in_X0 hW.obj (by decide) q800 rfl dX2_gives_22 ?_
  refine cmV (va_runSN (As := [.ref (A (17 + 7 * 1)), .ref (A 2)]) (rest := []) ⟨hx, hb, hml, hown, hts⟩ (mX0_copies_g1 Z A hI (up S 20 (S 25)) R (S 5) (S 2) rfl rfl H.size) ⟨va_cnB 2 hts (lw_meth q735) rfl rfl rfl (nwM Z hB q733) (hts _ q79) (by decide +kernel) ⟨Nat.le_of_ble_eq_true rfl, Nat.le_of_ble_eq_true rfl⟩, hts _ q734, trivial⟩ (psM (BornH.S hB hN hS) hW) rfl rfl hl.1 rfl (lv_room (Nat.le_of_ble_eq_true rfl)) dX2_gives_25 ⟨Nat.zero_le _, Nat.zero_le _⟩) hS (AA.le hS.1) (fun H1 locs hW1 hz1 hk1 hS => ?_)
  have hW := hW1
  clear hW1 hk1 hz1
  generalize H1 = H at hW hS ⊢
  have hW := hW.eqS (S' := (up (up S 2 (cpS (S 5) (S 2) (3 * 6))) 20 (S 25))) (by
      funext a
      by_cases h2 : a = 2
      · subst h2; rfl
      by_cases h20 : a = 20
      · subst h20; rfl
      simp only [up, if_neg h2, if_neg h20])
  refine lv_aload_n hx hb dX2_gives_28 rfl (lv_at hl 0 rfl) ?_
  refine r_get (ci := 2) (k := 4) (v := .ref (A 0)) (C := RX2) (T := TX2) (N := 5) Z hB hx hb hts hown rfl in_X2 (hW.imgO 1 (by omega)) (by decide) q766 rfl dX2_gives_29 ?_
  refine lv_aload_n hx hb dX2_gives_32 rfl (lv_at hl 0 rfl) ?_
  refine r_get (ci := 2) (k := 2) (v := .int (iI ((S 0) 8))) (C := RX2) (T := TX2) (N := 5) Z hB hx hb hts hown rfl in_X2 (hW.imgO 1 (by omega)) (by decide) q764 rfl dX2_gives_33 ?_
  refine r_putN (ci := 0) (k := 8) (C := RX0) (T := TX0) (N := 16) Z hB hx hb hts hown rfl in_X0 tyX0 tyX0_ok nmX0 hW.obj hS (Or.inl ⟨0, by omega, rfl⟩) (by decide) q802 rfl rfl rfl rfl (Nat.le_of_ble_eq_true rfl) dX2_gives_36 (CW G A (up (up (up S 2 (cpS (S 5) (S 2) (3 * 6))) 20 (S 25)) 0 (up (S 0) 3 ((S 0) 8))) R) (fun H1 hz oq ho => hW.setO hI (k := 3) (by omega) oq ho) (fun H locs hW hS => ?_)
  have hW := hW.eqS (S' := (up (up (up S 0 (up (S 0) 3 ((S 0) 8))) 2 (cpS (S 5) (S 2) (3 * 6))) 20 (S 25))) (by
      funext a
      by_cases h0 : a = 0
      · subst h0
        funext j
        by_cases k0 : j = 3
        · subst k0; rfl
        simp only [up, if_neg k0, if_true, if_false, Nat.reduceEqDiff, reduceIte]
      by_cases h2 : a = 2
      · subst h2; rfl
      by_cases h20 : a = 20
      · subst h20; rfl
      simp only [up, if_neg h0, if_neg h2, if_neg h20])
  have hpw9 : (CW G A (up (up (up S 0 (up (S 0) 3 (S 0 8))) 2 (cpS (S 5) (S 2) (3 * 6))) 20 (S 25)) R) H := hW
  exact W.vret hx hb hr (fun t ht hW9 => ⟨⟨(), rfl, trivial, by show (CW G A (up (up (up S 0 (up (S 0) 3 (S 0 8))) 2 (cpS (S 5) (S 2) (3 * 6))) 20 (S 25)) R) t.heap; rw [ht]; exact hpw9⟩, hS.F ht⟩) hS.2.2 dX2_gives_39

set_option maxHeartbeats 1000000 in
set_option maxRecDepth 100000 in
theorem mX0_keep {l : Launch} {G : GG} {s0 : State} {b0 : Nat} (Z : ZZ l G s0 b0) (A : Nat → Nat) (hI : Own s0 A 156) (S : Sta) (R : Nat → Option Nat) (hF0 : WF (S 20)) (hk : (S 0 9 = 0 ∨ S 0 9 = 1) ∧ (S 0 10 = 0 ∨ S 0 10 = 1)) (i : Int) (hi : inR i) (sz : Nat) : Met l yX0_keep (ws_ yX0_keep cX0_keep 3 (some .int)) ({ frames := 3, cells := 0, slots := 0, locals := 60 } : Room) (pcM s0 sz (CW G A S R) [.ref (A 0), .int (iI i)]) (mI (keepA S i) (CW G A (keepT S i) R) (AA A 156 sz)) 0 0 (AA A 156 sz) := by
  refine Met.ofW (cc := cX0_keep) (maxL := 3) (ret := (some .int)) (by decide) rfl ?_
  intro p e s m args below meth c s₁ B hml hv
  obtain ⟨rfl, hsz, hW, hB⟩ := hv
  subst hsz
  have hx := B.exec
  have hb := B.bytes
  have hr := B.returns
  have hts := atoms_spec (ws := (ws_ yX0_keep cX0_keep 3 (some .int))) B.pre
  have hts : ∀ w ∈ lw_all, w.before _ s = true := fun w h => hts w (List.mem_cons_of_mem _ h)
  have hown : s.vm.findClass RX0 = some m.cls := findClass_of_methodNamed B.named
  have hlocks := B.notSynchronized
  have hN := AA.old hI hB
  have hS : va_S (AA A 156 s.heap.size) s.heap s.heap [] := va_S.rf
  have hl := lv_entry ([.ref (A 0), .int (iI i)]) (n := 3) (Nat.le_of_ble_eq_true rfl)
  rw [lg_entry_eq]
  generalize (lg_sl ([.ref (A 0), .int (iI i)]) ++ List.replicate (3 - (lg_sl ([.ref (A 0), .int (iI i)])).length) Slot.unset).toArray = ls at hl ⊢
  have hl : lv_has ls 3 [(0, .ref (A 0)), (1, .int (iI i))] := hl
  refine lv_iload_n hx hb dX0_keep_0 rfl (lv_at hl 1 rfl) ?_
  refine ii_i2l hx hb (by omega) dX0_keep_1 ?_
  refine ii_lconst (z := 0) hx hb dX0_keep_2 rfl ?_
  refine ii_lconst (z := 1) hx hb dX0_keep_3 rfl ?_
  refine cqI (va_runS (As := [.long (lI i), .long (lI 0), .long (lI 1)]) (rest := []) ⟨hx, hb, hml, hown, hts⟩ (mX0_isIn Z i (by omega) 0 (by omega) 1 (by omega)) (va_cwS 3 hts (lw_S q106 q107 q79 q108) rfl rfl rfl (by decide +kernel) ⟨Nat.le_of_ble_eq_true rfl, Nat.le_of_ble_eq_true rfl⟩) (psR (BornH.S hB hN hS) trivial) rfl rfl hl.1 rfl (lv_room (Nat.le_of_ble_eq_true rfl)) dX0_keep_4 ⟨Nat.zero_le _, Nat.zero_le _⟩) ?_
  refine bb_if_ne (P := 0 ≤ i ∧ i ≤ 1) (tgt := 12) hx hb dX0_keep_7 (by decide) (fun c_1 => ?_) (fun c_1 => ?_)
  · -- 7 -> 12
    refine lv_aload_n hx hb dX0_keep_12 rfl (lv_at hl 0 rfl) ?_
    refine r_get (ci := 0) (k := 10) (v := .ref (A 14)) (C := RX0) (T := TX0) (N := 16) Z hB hx hb hts hown rfl in_X0 hW.obj (by decide) q805 rfl dX0_keep_13 ?_
    refine lv_iload_n hx hb dX0_keep_16 rfl (lv_at hl 1 rfl) ?_
    by_cases hi9 : i = 0
    · --
      refine r_aald (t := 5) (ty := .object "TemperIsles$Image") (k := 0) Z hB hx hb rfl rfl hW.img (by omega) (by omega) (by omega) rfl dX0_keep_17 ?_
      refine r_getN (ci := 2) (k := 3) (v := .int (iI ((S 0) 9))) (C := RX2) (T := TX2) (N := 5) Z hB hx hb hts hown rfl in_X2 (hW.imgO 0 (by omega)) (by decide) q765 rfl dX0_keep_18 ?_
      refine ii_if_eq (tgt := 28) hx hb dX0_keep_21 (by decide) (by omega) (fun c_2 => ?_) (fun c_2 => ?_)
      · -- 21 -> 28
        refine ii_const hx hb dX0_keep_28 ?_
        refine lv_istore_n (lv' := [(2, .int (iI 0)), (0, .ref (A 0)), (1, .int (iI i))]) hx hb dX0_keep_29 rfl hl (by decide) rfl (fun ls hl => ?_)
        refine lv_aload_n hx hb dX0_keep_30 rfl (lv_at hl 1 rfl) ?_
        refine r_get (ci := 0) (k := 10) (v := .ref (A 14)) (C := RX0) (T := TX0) (N := 16) Z hB hx hb hts hown rfl in_X0 hW.obj (by decide) q805 rfl dX0_keep_31 ?_
        refine lv_iload_n hx hb dX0_keep_34 rfl (lv_at hl 2 rfl) ?_
        refine r_aald (t := 5) (ty := .object "TemperIsles$Image") (k := 0) Z hB hx hb rfl rfl hW.img (by omega) (by omega) (by omega) rfl dX0_keep_35 ?_
        refine cmV (va_runV (As := []) (rest := []) ⟨hx, hb, hml, hown, hts⟩ (mX2_takes_0 Z A hI S R hF0 s.heap.size) (cwV 0 hts (lw_V q728 q729 q730 q81 q731) rfl rfl rfl (by decide +kernel) ⟨Nat.le_of_ble_eq_true rfl, Nat.le_of_ble_eq_true rfl⟩) (pvM (BornH.S hB hN hS) (OBJ.recv Z hB (hW.imgO 0 (by omega)) (q := (RX2, TX2, 5)) rfl) hW) rfl rfl hl.1 rfl (lv_room (Nat.le_of_ble_eq_true rfl)) dX0_keep_36 ⟨Nat.zero_le _, Nat.zero_le _⟩) hS (AA.le hS.1) (fun H1 locs hW1 hz1 hk1 hS => ?_)
        have hW := hW1
        clear hW1 hk1 hz1
        generalize H1 = H at hW hS ⊢
        refine lv_aload_n hx hb dX0_keep_39 rfl (lv_at hl 1 rfl) ?_
        refine r_get (ci := 0) (k := 10) (v := .ref (A 14)) (C := RX0) (T := TX0) (N := 16) Z hB hx hb hts hown rfl in_X0 hW.obj (by decide) q805 rfl dX0_keep_40 ?_
        refine lv_iload_n hx hb dX0_keep_43 rfl (lv_at hl 2 rfl) ?_
        refine r_aald (t := 5) (ty := .object "TemperIsles$Image") (k := 0) Z hB hx hb rfl rfl hW.img (by omega) (by omega) (by omega) rfl dX0_keep_44 ?_
        refine ii_const hx hb dX0_keep_45 ?_
        refine r_putN (ci := 2) (k := 3) (C := RX2) (T := TX2) (N := 5) Z hB hx hb hts hown rfl in_X2 tyX2 tyX2_ok nmX2 (hW.imgO 0 (by omega)) hS (Or.inl ⟨15 + 0, by omega, rfl⟩) (by decide) q765 rfl rfl rfl rfl (Nat.le_of_ble_eq_true rfl) dX0_keep_46 (CW G A (up (up (up (up S 0 (up (S 0) 7 ((S 0) 3))) 4 (cpS (S 2) (S 4) (3 * 6))) 24 (S 20)) 0 (up (up (S 0) 7 ((S 0) 3)) 9 1)) R) (fun H1 hz oq ho => hW.setImg hI (i := 0) (by omega) (by omega) oq (imgF_k ho)) (fun H locs hW hS => ?_)
        have hW := hW.eqS (S' := (up (up (up S 0 (up (up (S 0) 7 ((S 0) 3)) 9 1)) 4 (cpS (S 2) (S 4) (3 * 6))) 24 (S 20))) (by
            funext a
            by_cases h0 : a = 0
            · subst h0
              funext j
              by_cases k0 : j = 7
              · subst k0; rfl
              by_cases k1 : j = 9
              · subst k1; rfl
              simp only [up, if_neg k0, if_neg k1, if_true, if_false, Nat.reduceEqDiff, reduceIte]
            by_cases h4 : a = 4
            · subst h4; rfl
            by_cases h24 : a = 24
            · subst h24; rfl
            simp only [up, if_neg h0, if_neg h4, if_neg h24])
        refine lv_iload_n hx hb dX0_keep_49 rfl (lv_at hl 0 rfl) ?_
        have hpw9 : (CW G A (keepT S i) R) H := (by rw [show keepT S i = (up (up (up S 0 (up (up (S 0) 7 ((S 0) 3)) 9 1)) 4 (cpS (S 2) (S 4) (3 * 6))) 24 (S 20)) by unfold keepT; (repeat' split) <;> first | rfl | omega]; exact hW)
        have he9 : 0 = (keepA S i) := by unfold keepA; (repeat' split) <;> first | rfl | omega
        exact W.iret hx hb hr (fun t ht hW9 => ⟨⟨_, (), rfl, congrArg iI he9, by show (CW G A (keepT S i) R) t.heap; rw [ht]; exact hpw9⟩, hS.F ht⟩) hS.2.2 dX0_keep_50
      · -- 21 -> 24
        refine ii_const hx hb dX0_keep_24 ?_
        refine lv_goto (tgt := 29) hx hb dX0_keep_25 (by decide) ?_
        refine lv_istore_n (lv' := [(2, .int (iI 1)), (0, .ref (A 0)), (1, .int (iI i))]) hx hb dX0_keep_29 rfl hl (by decide) rfl (fun ls hl => ?_)
        refine lv_aload_n hx hb dX0_keep_30 rfl (lv_at hl 1 rfl) ?_
        refine r_get (ci := 0) (k := 10) (v := .ref (A 14)) (C := RX0) (T := TX0) (N := 16) Z hB hx hb hts hown rfl in_X0 hW.obj (by decide) q805 rfl dX0_keep_31 ?_
        refine lv_iload_n hx hb dX0_keep_34 rfl (lv_at hl 2 rfl) ?_
        refine r_aald (t := 5) (ty := .object "TemperIsles$Image") (k := 0) Z hB hx hb rfl rfl hW.img (by omega) (by omega) (by omega) rfl dX0_keep_35 ?_
        refine cmV (va_runV (As := []) (rest := []) ⟨hx, hb, hml, hown, hts⟩ (mX2_takes_0 Z A hI S R hF0 s.heap.size) (cwV 0 hts (lw_V q728 q729 q730 q81 q731) rfl rfl rfl (by decide +kernel) ⟨Nat.le_of_ble_eq_true rfl, Nat.le_of_ble_eq_true rfl⟩) (pvM (BornH.S hB hN hS) (OBJ.recv Z hB (hW.imgO 0 (by omega)) (q := (RX2, TX2, 5)) rfl) hW) rfl rfl hl.1 rfl (lv_room (Nat.le_of_ble_eq_true rfl)) dX0_keep_36 ⟨Nat.zero_le _, Nat.zero_le _⟩) hS (AA.le hS.1) (fun H1 locs hW1 hz1 hk1 hS => ?_)
        have hW := hW1
        clear hW1 hk1 hz1
        generalize H1 = H at hW hS ⊢
        refine lv_aload_n hx hb dX0_keep_39 rfl (lv_at hl 1 rfl) ?_
        refine r_get (ci := 0) (k := 10) (v := .ref (A 14)) (C := RX0) (T := TX0) (N := 16) Z hB hx hb hts hown rfl in_X0 hW.obj (by decide) q805 rfl dX0_keep_40 ?_
        refine lv_iload_n hx hb dX0_keep_43 rfl (lv_at hl 2 rfl) ?_
        refine r_aald (t := 5) (ty := .object "TemperIsles$Image") (k := 0) Z hB hx hb rfl rfl hW.img (by omega) (by omega) (by omega) rfl dX0_keep_44 ?_
        refine ii_const hx hb dX0_keep_45 ?_
        refine r_putN (ci := 2) (k := 3) (C := RX2) (T := TX2) (N := 5) Z hB hx hb hts hown rfl in_X2 tyX2 tyX2_ok nmX2 (hW.imgO 0 (by omega)) hS (Or.inl ⟨15 + 0, by omega, rfl⟩) (by decide) q765 rfl rfl rfl rfl (Nat.le_of_ble_eq_true rfl) dX0_keep_46 (CW G A (up (up (up (up S 0 (up (S 0) 7 ((S 0) 3))) 4 (cpS (S 2) (S 4) (3 * 6))) 24 (S 20)) 0 (up (up (S 0) 7 ((S 0) 3)) 9 1)) R) (fun H1 hz oq ho => hW.setImg hI (i := 0) (by omega) (by omega) oq (imgF_k ho)) (fun H locs hW hS => ?_)
        have hW := hW.eqS (S' := (up (up (up S 0 (up (up (S 0) 7 ((S 0) 3)) 9 1)) 4 (cpS (S 2) (S 4) (3 * 6))) 24 (S 20))) (by
            funext a
            by_cases h0 : a = 0
            · subst h0
              funext j
              by_cases k0 : j = 7
              · subst k0; rfl
              by_cases k1 : j = 9
              · subst k1; rfl
              simp only [up, if_neg k0, if_neg k1, if_true, if_false, Nat.reduceEqDiff, reduceIte]
            by_cases h4 : a = 4
            · subst h4; rfl
            by_cases h24 : a = 24
            · subst h24; rfl
            simp only [up, if_neg h0, if_neg h4, if_neg h24])
        refine lv_iload_n hx hb dX0_keep_49 rfl (lv_at hl 0 rfl) ?_
        have hpw9 : (CW G A (keepT S i) R) H := (by rw [show keepT S i = (up (up (up S 0 (up (up (S 0) 7 ((S 0) 3)) 9 1)) 4 (cpS (S 2) (S 4) (3 * 6))) 24 (S 20)) by unfold keepT; (repeat' split) <;> first | rfl | omega]; exact hW)
        have he9 : 1 = (keepA S i) := by unfold keepA; (repeat' split) <;> first | rfl | omega
        exact W.iret hx hb hr (fun t ht hW9 => ⟨⟨_, (), rfl, congrArg iI he9, by show (CW G A (keepT S i) R) t.heap; rw [ht]; exact hpw9⟩, hS.F ht⟩) hS.2.2 dX0_keep_50
    · --
      refine r_aald (t := 5) (ty := .object "TemperIsles$Image") (k := 1) Z hB hx hb rfl rfl hW.img (by omega) (by omega) (by omega) rfl dX0_keep_17 ?_
      refine r_getN (ci := 2) (k := 3) (v := .int (iI ((S 0) 10))) (C := RX2) (T := TX2) (N := 5) Z hB hx hb hts hown rfl in_X2 (hW.imgO 1 (by omega)) (by decide) q765 rfl dX0_keep_18 ?_
      refine ii_if_eq (tgt := 28) hx hb dX0_keep_21 (by decide) (by omega) (fun c_3 => ?_) (fun c_3 => ?_)
      · -- 21 -> 28
        refine ii_const hx hb dX0_keep_28 ?_
        refine lv_istore_n (lv' := [(2, .int (iI 0)), (0, .ref (A 0)), (1, .int (iI i))]) hx hb dX0_keep_29 rfl hl (by decide) rfl (fun ls hl => ?_)
        refine lv_aload_n hx hb dX0_keep_30 rfl (lv_at hl 1 rfl) ?_
        refine r_get (ci := 0) (k := 10) (v := .ref (A 14)) (C := RX0) (T := TX0) (N := 16) Z hB hx hb hts hown rfl in_X0 hW.obj (by decide) q805 rfl dX0_keep_31 ?_
        refine lv_iload_n hx hb dX0_keep_34 rfl (lv_at hl 2 rfl) ?_
        refine r_aald (t := 5) (ty := .object "TemperIsles$Image") (k := 1) Z hB hx hb rfl rfl hW.img (by omega) (by omega) (by omega) rfl dX0_keep_35 ?_
        refine cmV (va_runV (As := []) (rest := []) ⟨hx, hb, hml, hown, hts⟩ (mX2_takes_1 Z A hI S R hF0 s.heap.size) (cwV 0 hts (lw_V q728 q729 q730 q81 q731) rfl rfl rfl (by decide +kernel) ⟨Nat.le_of_ble_eq_true rfl, Nat.le_of_ble_eq_true rfl⟩) (pvM (BornH.S hB hN hS) (OBJ.recv Z hB (hW.imgO 1 (by omega)) (q := (RX2, TX2, 5)) rfl) hW) rfl rfl hl.1 rfl (lv_room (Nat.le_of_ble_eq_true rfl)) dX0_keep_36 ⟨Nat.zero_le _, Nat.zero_le _⟩) hS (AA.le hS.1) (fun H1 locs hW1 hz1 hk1 hS => ?_)
        have hW := hW1
        clear hW1 hk1 hz1
        generalize H1 = H at hW hS ⊢
        refine lv_aload_n hx hb dX0_keep_39 rfl (lv_at hl 1 rfl) ?_
        refine r_get (ci := 0) (k := 10) (v := .ref (A 14)) (C := RX0) (T := TX0) (N := 16) Z hB hx hb hts hown rfl in_X0 hW.obj (by decide) q805 rfl dX0_keep_40 ?_
        refine lv_iload_n hx hb dX0_keep_43 rfl (lv_at hl 2 rfl) ?_
        refine r_aald (t := 5) (ty := .object "TemperIsles$Image") (k := 1) Z hB hx hb rfl rfl hW.img (by omega) (by omega) (by omega) rfl dX0_keep_44 ?_
        refine ii_const hx hb dX0_keep_45 ?_
        refine r_putN (ci := 2) (k := 3) (C := RX2) (T := TX2) (N := 5) Z hB hx hb hts hown rfl in_X2 tyX2 tyX2_ok nmX2 (hW.imgO 1 (by omega)) hS (Or.inl ⟨15 + 1, by omega, rfl⟩) (by decide) q765 rfl rfl rfl rfl (Nat.le_of_ble_eq_true rfl) dX0_keep_46 (CW G A (up (up (up (up S 0 (up (S 0) 8 ((S 0) 3))) 5 (cpS (S 2) (S 5) (3 * 6))) 25 (S 20)) 0 (up (up (S 0) 8 ((S 0) 3)) 10 1)) R) (fun H1 hz oq ho => hW.setImg hI (i := 1) (by omega) (by omega) oq (imgF_k ho)) (fun H locs hW hS => ?_)
        have hW := hW.eqS (S' := (up (up (up S 0 (up (up (S 0) 8 ((S 0) 3)) 10 1)) 5 (cpS (S 2) (S 5) (3 * 6))) 25 (S 20))) (by
            funext a
            by_cases h0 : a = 0
            · subst h0
              funext j
              by_cases k0 : j = 8
              · subst k0; rfl
              by_cases k1 : j = 10
              · subst k1; rfl
              simp only [up, if_neg k0, if_neg k1, if_true, if_false, Nat.reduceEqDiff, reduceIte]
            by_cases h5 : a = 5
            · subst h5; rfl
            by_cases h25 : a = 25
            · subst h25; rfl
            simp only [up, if_neg h0, if_neg h5, if_neg h25])
        refine lv_iload_n hx hb dX0_keep_49 rfl (lv_at hl 0 rfl) ?_
        have hpw9 : (CW G A (keepT S i) R) H := (by rw [show keepT S i = (up (up (up S 0 (up (up (S 0) 8 ((S 0) 3)) 10 1)) 5 (cpS (S 2) (S 5) (3 * 6))) 25 (S 20)) by unfold keepT; (repeat' split) <;> first | rfl | omega]; exact hW)
        have he9 : 0 = (keepA S i) := by unfold keepA; (repeat' split) <;> first | rfl | omega
        exact W.iret hx hb hr (fun t ht hW9 => ⟨⟨_, (), rfl, congrArg iI he9, by show (CW G A (keepT S i) R) t.heap; rw [ht]; exact hpw9⟩, hS.F ht⟩) hS.2.2 dX0_keep_50
      · -- 21 -> 24
        refine ii_const hx hb dX0_keep_24 ?_
        refine lv_goto (tgt := 29) hx hb dX0_keep_25 (by decide) ?_
        refine lv_istore_n (lv' := [(2, .int (iI 1)), (0, .ref (A 0)), (1, .int (iI i))]) hx hb dX0_keep_29 rfl hl (by decide) rfl (fun ls hl => ?_)
        refine lv_aload_n hx hb dX0_keep_30 rfl (lv_at hl 1 rfl) ?_
        refine r_get (ci := 0) (k := 10) (v := .ref (A 14)) (C := RX0) (T := TX0) (N := 16) Z hB hx hb hts hown rfl in_X0 hW.obj (by decide) q805 rfl dX0_keep_31 ?_
        refine lv_iload_n hx hb dX0_keep_34 rfl (lv_at hl 2 rfl) ?_
        refine r_aald (t := 5) (ty := .object "TemperIsles$Image") (k := 1) Z hB hx hb rfl rfl hW.img (by omega) (by omega) (by omega) rfl dX0_keep_35 ?_
        refine cmV (va_runV (As := []) (rest := []) ⟨hx, hb, hml, hown, hts⟩ (mX2_takes_1 Z A hI S R hF0 s.heap.size) (cwV 0 hts (lw_V q728 q729 q730 q81 q731) rfl rfl rfl (by decide +kernel) ⟨Nat.le_of_ble_eq_true rfl, Nat.le_of_ble_eq_true rfl⟩) (pvM (BornH.S hB hN hS) (OBJ.recv Z hB (hW.imgO 1 (by omega)) (q := (RX2, TX2, 5)) rfl) hW) rfl rfl hl.1 rfl (lv_room (Nat.le_of_ble_eq_true rfl)) dX0_keep_36 ⟨Nat.zero_le _, Nat.zero_le _⟩) hS (AA.le hS.1) (fun H1 locs hW1 hz1 hk1 hS => ?_)
        have hW := hW1
        clear hW1 hk1 hz1
        generalize H1 = H at hW hS ⊢
        refine lv_aload_n hx hb dX0_keep_39 rfl (lv_at hl 1 rfl) ?_
        refine r_get (ci := 0) (k := 10) (v := .ref (A 14)) (C := RX0) (T := TX0) (N := 16) Z hB hx hb hts hown rfl in_X0 hW.obj (by decide) q805 rfl dX0_keep_40 ?_
        refine lv_iload_n hx hb dX0_keep_43 rfl (lv_at hl 2 rfl) ?_
        refine r_aald (t := 5) (ty := .object "TemperIsles$Image") (k := 1) Z hB hx hb rfl rfl hW.img (by omega) (by omega) (by omega) rfl dX0_keep_44 ?_
        refine ii_const hx hb dX0_keep_45 ?_
        refine r_putN (ci := 2) (k := 3) (C := RX2) (T := TX2) (N := 5) Z hB hx hb hts hown rfl in_X2 tyX2 tyX2_ok nmX2 (hW.imgO 1 (by omega)) hS (Or.inl ⟨15 + 1, by omega, rfl⟩) (by decide) q765 rfl rfl rfl rfl (Nat.le_of_ble_eq_true rfl) dX0_keep_46 (CW G A (up (up (up (up S 0 (up (S 0) 8 ((S 0) 3))) 5 (cpS (S 2) (S 5) (3 * 6))) 25 (S 20)) 0 (up (up (S 0) 8 ((S 0) 3)) 10 1)) R) (fun H1 hz oq ho => hW.setImg hI (i := 1) (by omega) (by omega) oq (imgF_k ho)) (fun H locs hW hS => ?_)
        have hW := hW.eqS (S' := (up (up (up S 0 (up (up (S 0) 8 ((S 0) 3)) 10 1)) 5 (cpS (S 2) (S 5) (3 * 6))) 25 (S 20))) (by
            funext a
            by_cases h0 : a = 0
            · subst h0
              funext j
              by_cases k0 : j = 8
              · subst k0; rfl
              by_cases k1 : j = 10
              · subst k1; rfl
              simp only [up, if_neg k0, if_neg k1, if_true, if_false, Nat.reduceEqDiff, reduceIte]
            by_cases h5 : a = 5
            · subst h5; rfl
            by_cases h25 : a = 25
            · subst h25; rfl
            simp only [up, if_neg h0, if_neg h5, if_neg h25])
        refine lv_iload_n hx hb dX0_keep_49 rfl (lv_at hl 0 rfl) ?_
        have hpw9 : (CW G A (keepT S i) R) H := (by rw [show keepT S i = (up (up (up S 0 (up (up (S 0) 8 ((S 0) 3)) 10 1)) 5 (cpS (S 2) (S 5) (3 * 6))) 25 (S 20)) by unfold keepT; (repeat' split) <;> first | rfl | omega]; exact hW)
        have he9 : 1 = (keepA S i) := by unfold keepA; (repeat' split) <;> first | rfl | omega
        exact W.iret hx hb hr (fun t ht hW9 => ⟨⟨_, (), rfl, congrArg iI he9, by show (CW G A (keepT S i) R) t.heap; rw [ht]; exact hpw9⟩, hS.F ht⟩) hS.2.2 dX0_keep_50
  · -- 7 -> 10
    refine ii_const hx hb dX0_keep_10 ?_
    have hpw9 : (CW G A (keepT S i) R) s.heap := (by rw [show keepT S i = S by unfold keepT; (repeat' split) <;> first | rfl | omega]; exact hW)
    have he9 : (-1) = (keepA S i) := by unfold keepA; (repeat' split) <;> first | rfl | omega
    exact W.iret hx hb hr (fun t ht hW9 => ⟨⟨_, (), rfl, congrArg iI he9, by show (CW G A (keepT S i) R) t.heap; rw [ht]; exact hpw9⟩, hS.F ht⟩) hS.2.2 dX0_keep_11

set_option maxHeartbeats 1000000 in
set_option maxRecDepth 100000 in
theorem mX0_back {l : Launch} {G : GG} {s0 : State} {b0 : Nat} (Z : ZZ l G s0 b0) (A : Nat → Nat) (hI : Own s0 A 156) (S : Sta) (R : Nat → Option Nat) (hF0 : WF (S 20)) (hF4 : WF (S 24)) (hF5 : WF (S 25)) (hk : (S 0 9 = 0 ∨ S 0 9 = 1) ∧ (S 0 10 = 0 ∨ S 0 10 = 1)) (i : Int) (hi : inR i) (sz : Nat) : Met l yX0_back (ws_ yX0_back cX0_back 2 (some .int)) ({ frames := 3, cells := 0, slots := 0, locals := 60 } : Room) (pcM s0 sz (CW G A S R) [.ref (A 0), .int (iI i)]) (mI (backA S i) (CW G A (backT S i) R) (AA A 156 sz)) 0 0 (AA A 156 sz) := by
  refine Met.ofW (cc := cX0_back) (maxL := 2) (ret := (some .int)) (by decide) rfl ?_
  intro p e s m args below meth c s₁ B hml hv
  obtain ⟨rfl, hsz, hW, hB⟩ := hv
  subst hsz
  have hx := B.exec
  have hb := B.bytes
  have hr := B.returns
  have hts := atoms_spec (ws := (ws_ yX0_back cX0_back 2 (some .int))) B.pre
  have hts : ∀ w ∈ lw_all, w.before _ s = true := fun w h => hts w (List.mem_cons_of_mem _ h)
  have hown : s.vm.findClass RX0 = some m.cls := findClass_of_methodNamed B.named
  have hlocks := B.notSynchronized
  have hN := AA.old hI hB
  have hS : va_S (AA A 156 s.heap.size) s.heap s.heap [] := va_S.rf
  have hl := lv_entry ([.ref (A 0), .int (iI i)]) (n := 2) (Nat.le_of_ble_eq_true rfl)
  rw [lg_entry_eq]
  generalize (lg_sl ([.ref (A 0), .int (iI i)]) ++ List.replicate (2 - (lg_sl ([.ref (A 0), .int (iI i)])).length) Slot.unset).toArray = ls at hl ⊢
  have hl : lv_has ls 2 [(0, .ref (A 0)), (1, .int (iI i))] := hl
  refine lv_iload_n hx hb dX0_back_0 rfl (lv_at hl 1 rfl) ?_
  refine ii_i2l hx hb (by omega) dX0_back_1 ?_
  refine ii_lconst (z := 0) hx hb dX0_back_2 rfl ?_
  refine ii_lconst (z := 1) hx hb dX0_back_3 rfl ?_
  refine cqI (va_runS (As := [.long (lI i), .long (lI 0), .long (lI 1)]) (rest := []) ⟨hx, hb, hml, hown, hts⟩ (mX0_isIn Z i (by omega) 0 (by omega) 1 (by omega)) (va_cwS 3 hts (lw_S q106 q107 q79 q108) rfl rfl rfl (by decide +kernel) ⟨Nat.le_of_ble_eq_true rfl, Nat.le_of_ble_eq_true rfl⟩) (psR (BornH.S hB hN hS) trivial) rfl rfl hl.1 rfl (lv_room (Nat.le_of_ble_eq_true rfl)) dX0_back_4 ⟨Nat.zero_le _, Nat.zero_le _⟩) ?_
  refine bb_if_ne (P := 0 ≤ i ∧ i ≤ 1) (tgt := 12) hx hb dX0_back_7 (by decide) (fun c_1 => ?_) (fun c_1 => ?_)
  · -- 7 -> 12
    refine lv_aload_n hx hb dX0_back_12 rfl (lv_at hl 0 rfl) ?_
    refine r_get (ci := 0) (k := 10) (v := .ref (A 14)) (C := RX0) (T := TX0) (N := 16) Z hB hx hb hts hown rfl in_X0 hW.obj (by decide) q805 rfl dX0_back_13 ?_
    refine lv_iload_n hx hb dX0_back_16 rfl (lv_at hl 1 rfl) ?_
    by_cases hi9 : i = 0
    · --
      refine r_aald (t := 5) (ty := .object "TemperIsles$Image") (k := 0) Z hB hx hb rfl rfl hW.img (by omega) (by omega) (by omega) rfl dX0_back_17 ?_
      refine r_getN (ci := 2) (k := 3) (v := .int (iI ((S 0) 9))) (C := RX2) (T := TX2) (N := 5) Z hB hx hb hts hown rfl in_X2 (hW.imgO 0 (by omega)) (by decide) q765 rfl dX0_back_18 ?_
      refine ii_if_ne (tgt := 27) hx hb dX0_back_21 (by decide) (by omega) (fun c_2 => ?_) (fun c_2 => ?_)
      · -- 21 -> 27
        refine lv_aload_n hx hb dX0_back_27 rfl (lv_at hl 0 rfl) ?_
        refine r_get (ci := 0) (k := 10) (v := .ref (A 14)) (C := RX0) (T := TX0) (N := 16) Z hB hx hb hts hown rfl in_X0 hW.obj (by decide) q805 rfl dX0_back_28 ?_
        refine lv_iload_n hx hb dX0_back_31 rfl (lv_at hl 1 rfl) ?_
        refine r_aald (t := 5) (ty := .object "TemperIsles$Image") (k := 0) Z hB hx hb rfl rfl hW.img (by omega) (by omega) (by omega) rfl dX0_back_32 ?_
        refine cmV (va_runV (As := []) (rest := []) ⟨hx, hb, hml, hown, hts⟩ (mX2_gives_0 Z A hI S R hF4 s.heap.size) (cwV 0 hts (lw_V q740 q741 q742 q81 q743) rfl rfl rfl (by decide +kernel) ⟨Nat.le_of_ble_eq_true rfl, Nat.le_of_ble_eq_true rfl⟩) (pvM (BornH.S hB hN hS) (OBJ.recv Z hB (hW.imgO 0 (by omega)) (q := (RX2, TX2, 5)) rfl) hW) rfl rfl hl.1 rfl (lv_room (Nat.le_of_ble_eq_true rfl)) dX0_back_33 ⟨Nat.zero_le _, Nat.zero_le _⟩) hS (AA.le hS.1) (fun H1 locs hW1 hz1 hk1 hS => ?_)
        have hW := hW1
        clear hW1 hk1 hz1
        generalize H1 = H at hW hS ⊢
        refine lv_aload_n hx hb dX0_back_36 rfl (lv_at hl 0 rfl) ?_
        refine r_get (ci := 0) (k := 3) (v := .ref (A 36)) (C := RX0) (T := TX0) (N := 16) Z hB hx hb hts hown rfl in_X0 hW.obj (by decide) q796 rfl dX0_back_37 ?_
        have b_758 := hF4.day 
        refine r_getN (ci := 1) (k := 6) (v := .int (iI ((S 24) 54))) (C := RX1) (T := TX1) (N := 8) Z hB hx hb hts hown rfl in_X1 (((hW.fw (f := 0) (by omega) (F := (S 24)) (up_s _ _ _))).1) (by decide) q155 rfl dX0_back_40 ?_
        have hpw9 : (CW G A (backT S i) R) H := (by rw [show backT S i = (up (up (up S 0 (up (S 0) 3 ((S 0) 7))) 2 (cpS (S 4) (S 2) (3 * 6))) 20 (S 24)) by unfold backT; (repeat' split) <;> first | rfl | omega]; exact hW)
        have he9 : ((S 24) 54) = (backA S i) := by unfold backA; (repeat' split) <;> first | rfl | omega
        exact W.iret hx hb hr (fun t ht hW9 => ⟨⟨_, (), rfl, congrArg iI he9, by show (CW G A (backT S i) R) t.heap; rw [ht]; exact hpw9⟩, hS.F ht⟩) hS.2.2 dX0_back_43
      · -- 21 -> 24
        refine ii_bipush hx hb dX0_back_24 (by decide) ?_
        have hpw9 : (CW G A (backT S i) R) s.heap := (by rw [show backT S i = S by unfold backT; (repeat' split) <;> first | rfl | omega]; exact hW)
        have he9 : (-2) = (backA S i) := by unfold backA; (repeat' split) <;> first | rfl | omega
        exact W.iret hx hb hr (fun t ht hW9 => ⟨⟨_, (), rfl, congrArg iI he9, by show (CW G A (backT S i) R) t.heap; rw [ht]; exact hpw9⟩, hS.F ht⟩) hS.2.2 dX0_back_26
    · --
      refine r_aald (t := 5) (ty := .object "TemperIsles$Image") (k := 1) Z hB hx hb rfl rfl hW.img (by omega) (by omega) (by omega) rfl dX0_back_17 ?_
      refine r_getN (ci := 2) (k := 3) (v := .int (iI ((S 0) 10))) (C := RX2) (T := TX2) (N := 5) Z hB hx hb hts hown rfl in_X2 (hW.imgO 1 (by omega)) (by decide) q765 rfl dX0_back_18 ?_
      refine ii_if_ne (tgt := 27) hx hb dX0_back_21 (by decide) (by omega) (fun c_3 => ?_) (fun c_3 => ?_)
      · -- 21 -> 27
        refine lv_aload_n hx hb dX0_back_27 rfl (lv_at hl 0 rfl) ?_
        refine r_get (ci := 0) (k := 10) (v := .ref (A 14)) (C := RX0) (T := TX0) (N := 16) Z hB hx hb hts hown rfl in_X0 hW.obj (by decide) q805 rfl dX0_back_28 ?_
        refine lv_iload_n hx hb dX0_back_31 rfl (lv_at hl 1 rfl) ?_
        refine r_aald (t := 5) (ty := .object "TemperIsles$Image") (k := 1) Z hB hx hb rfl rfl hW.img (by omega) (by omega) (by omega) rfl dX0_back_32 ?_
        refine cmV (va_runV (As := []) (rest := []) ⟨hx, hb, hml, hown, hts⟩ (mX2_gives_1 Z A hI S R hF5 s.heap.size) (cwV 0 hts (lw_V q740 q741 q742 q81 q743) rfl rfl rfl (by decide +kernel) ⟨Nat.le_of_ble_eq_true rfl, Nat.le_of_ble_eq_true rfl⟩) (pvM (BornH.S hB hN hS) (OBJ.recv Z hB (hW.imgO 1 (by omega)) (q := (RX2, TX2, 5)) rfl) hW) rfl rfl hl.1 rfl (lv_room (Nat.le_of_ble_eq_true rfl)) dX0_back_33 ⟨Nat.zero_le _, Nat.zero_le _⟩) hS (AA.le hS.1) (fun H1 locs hW1 hz1 hk1 hS => ?_)
        have hW := hW1
        clear hW1 hk1 hz1
        generalize H1 = H at hW hS ⊢
        refine lv_aload_n hx hb dX0_back_36 rfl (lv_at hl 0 rfl) ?_
        refine r_get (ci := 0) (k := 3) (v := .ref (A 36)) (C := RX0) (T := TX0) (N := 16) Z hB hx hb hts hown rfl in_X0 hW.obj (by decide) q796 rfl dX0_back_37 ?_
        have b_762 := hF5.day 
        refine r_getN (ci := 1) (k := 6) (v := .int (iI ((S 25) 54))) (C := RX1) (T := TX1) (N := 8) Z hB hx hb hts hown rfl in_X1 (((hW.fw (f := 0) (by omega) (F := (S 25)) (up_s _ _ _))).1) (by decide) q155 rfl dX0_back_40 ?_
        have hpw9 : (CW G A (backT S i) R) H := (by rw [show backT S i = (up (up (up S 0 (up (S 0) 3 ((S 0) 8))) 2 (cpS (S 5) (S 2) (3 * 6))) 20 (S 25)) by unfold backT; (repeat' split) <;> first | rfl | omega]; exact hW)
        have he9 : ((S 25) 54) = (backA S i) := by unfold backA; (repeat' split) <;> first | rfl | omega
        exact W.iret hx hb hr (fun t ht hW9 => ⟨⟨_, (), rfl, congrArg iI he9, by show (CW G A (backT S i) R) t.heap; rw [ht]; exact hpw9⟩, hS.F ht⟩) hS.2.2 dX0_back_43
      · -- 21 -> 24
        refine ii_bipush hx hb dX0_back_24 (by decide) ?_
        have hpw9 : (CW G A (backT S i) R) s.heap := (by rw [show backT S i = S by unfold backT; (repeat' split) <;> first | rfl | omega]; exact hW)
        have he9 : (-2) = (backA S i) := by unfold backA; (repeat' split) <;> first | rfl | omega
        exact W.iret hx hb hr (fun t ht hW9 => ⟨⟨_, (), rfl, congrArg iI he9, by show (CW G A (backT S i) R) t.heap; rw [ht]; exact hpw9⟩, hS.F ht⟩) hS.2.2 dX0_back_26
  · -- 7 -> 10
    refine ii_const hx hb dX0_back_10 ?_
    have hpw9 : (CW G A (backT S i) R) s.heap := (by rw [show backT S i = S by unfold backT; (repeat' split) <;> first | rfl | omega]; exact hW)
    have he9 : (-1) = (backA S i) := by unfold backA; (repeat' split) <;> first | rfl | omega
    exact W.iret hx hb hr (fun t ht hW9 => ⟨⟨_, (), rfl, congrArg iI he9, by show (CW G A (backT S i) R) t.heap; rw [ht]; exact hpw9⟩, hS.F ht⟩) hS.2.2 dX0_back_11
