/-! MODEL: sheets, count, the tape (written by gen/mod13.py) -/
set_option maxRecDepth 100000
set_option maxHeartbeats 1000000 in
set_option maxRecDepth 100000 in
theorem mX4_isSheet {l : Launch} {G : GG} {s0 : State} {b0 : Nat} (Z : ZZ l G s0 b0) (k : Int) (hk : inR k) (lane : Int) (hlane : inR lane) : Met l yX4_isSheet (ws_ yX4_isSheet cX4_isSheet 2 (some .boolean)) ({ frames := 1, cells := 0, slots := 0, locals := 25 } : Room) (pcR s0 (fun _ => True) [.int (iI k), .int (iI lane)]) (qI (b2 (okSh k lane))) 0 0 (fun _ => False) := by
  refine Met.ofW (cc := cX4_isSheet) (maxL := 2) (ret := (some .boolean)) (by decide) rfl ?_
  intro p e s m args below meth c s₁ B hml hv
  obtain ⟨rfl, hW, hB⟩ := hv
  have hx := B.exec
  have hb := B.bytes
  have hr := B.returns
  have hts := atoms_spec (ws := (ws_ yX4_isSheet cX4_isSheet 2 (some .boolean))) B.pre
  have hts : ∀ w ∈ lw_all, w.before _ s = true := fun w h => hts w (List.mem_cons_of_mem _ h)
  have hown : s.vm.findClass RX4 = some m.cls := findClass_of_methodNamed B.named
  have hlocks := B.notSynchronized
  have hl := lv_entry ([.int (iI k), .int (iI lane)]) (n := 2) (Nat.le_of_ble_eq_true rfl)
  rw [lg_entry_eq]
  generalize (lg_sl ([.int (iI k), .int (iI lane)]) ++ List.replicate (2 - (lg_sl ([.int (iI k), .int (iI lane)])).length) Slot.unset).toArray = ls at hl ⊢
  have hl : lv_has ls 2 [(0, .int (iI k)), (1, .int (iI lane))] := hl
  refine lv_iload_n hx hb dX4_isSheet_0 rfl (lv_at hl 0 rfl) ?_
  refine ii_i2l hx hb (by omega) dX4_isSheet_1 ?_
  refine ii_lconst (z := 0) hx hb dX4_isSheet_2 rfl ?_
  refine ii_ldc2 (z := 3) hx hb hts hown q1222 dX4_isSheet_3 (by decide) ?_
  refine cqI (va_runS (As := [.long (lI k), .long (lI 0), .long (lI 3)]) (rest := []) ⟨hx, hb, hml, hown, hts⟩ (mX4_in Z k (by omega) 0 (by omega) 3 (by omega)) (va_cwS 3 hts (lw_S q1072 q1073 q83 q1074) rfl rfl rfl (by decide +kernel) ⟨Nat.le_of_ble_eq_true rfl, Nat.le_of_ble_eq_true rfl⟩) (psR hB trivial) rfl rfl hl.1 rfl (lv_room (Nat.le_of_ble_eq_true rfl)) dX4_isSheet_6 ⟨Nat.zero_le _, Nat.zero_le _⟩) ?_
  refine bb_if_eq (P := 0 ≤ k ∧ k ≤ 3) (tgt := 28) hx hb dX4_isSheet_9 (by decide) (fun c_1 => ?_) (fun c_1 => ?_)
  · -- 9 -> 28
    refine ii_const hx hb dX4_isSheet_28 ?_
    have he9 : 0 = (b2 (okSh k lane)) := by first | exact (b2_t (by omega)).symm | exact (b2_f (by omega)).symm
    exact W.zret (ty := .boolean) hx hb hr (by first | rfl | exact b2_nar _) (fun t ht hW9 => ⟨_, rfl, congrArg iI he9, ht⟩) (fun q hq => by cases hq) dX4_isSheet_29
  · -- 9 -> 12
    refine lv_iload_n hx hb dX4_isSheet_12 rfl (lv_at hl 1 rfl) ?_
    refine ii_i2l hx hb (by omega) dX4_isSheet_13 ?_
    refine ii_lconst (z := 0) hx hb dX4_isSheet_14 rfl ?_
    refine ii_ldc2 (z := 2) hx hb hts hown q1213 dX4_isSheet_15 (by decide) ?_
    refine cqI (va_runS (As := [.long (lI lane), .long (lI 0), .long (lI 2)]) (rest := []) ⟨hx, hb, hml, hown, hts⟩ (mX4_in Z lane (by omega) 0 (by omega) 2 (by omega)) (va_cwS 3 hts (lw_S q1072 q1073 q83 q1074) rfl rfl rfl (by decide +kernel) ⟨Nat.le_of_ble_eq_true rfl, Nat.le_of_ble_eq_true rfl⟩) (psR hB trivial) rfl rfl hl.1 rfl (lv_room (Nat.le_of_ble_eq_true rfl)) dX4_isSheet_18 ⟨Nat.zero_le _, Nat.zero_le _⟩) ?_
    refine bb_if_eq (P := 0 ≤ lane ∧ lane ≤ 2) (tgt := 28) hx hb dX4_isSheet_21 (by decide) (fun c_2 => ?_) (fun c_2 => ?_)
    · -- 21 -> 28
      refine ii_const hx hb dX4_isSheet_28 ?_
      have he9 : 0 = (b2 (okSh k lane)) := by first | exact (b2_t (by omega)).symm | exact (b2_f (by omega)).symm
      exact W.zret (ty := .boolean) hx hb hr (by first | rfl | exact b2_nar _) (fun t ht hW9 => ⟨_, rfl, congrArg iI he9, ht⟩) (fun q hq => by cases hq) dX4_isSheet_29
    · -- 21 -> 24
      refine ii_const hx hb dX4_isSheet_24 ?_
      refine lv_goto (tgt := 29) hx hb dX4_isSheet_25 (by decide) ?_
      have he9 : 1 = (b2 (okSh k lane)) := by first | exact (b2_t (by omega)).symm | exact (b2_f (by omega)).symm
      exact W.zret (ty := .boolean) hx hb hr (by first | rfl | exact b2_nar _) (fun t ht hW9 => ⟨_, rfl, congrArg iI he9, ht⟩) (fun q hq => by cases hq) dX4_isSheet_29

set_option maxHeartbeats 1000000 in
set_option maxRecDepth 100000 in
theorem mX4_sheet {l : Launch} {G : GG} {s0 : State} {b0 : Nat} (Z : ZZ l G s0 b0) (K : Nat → Nat) (hI : Own s0 K 12) (T : Sta) (k : Int) (hk : inR k) (lane : Int) (hlane : inR lane) (n : Int) (hn : inR n) (sz : Nat) : Met l yX4_sheet (ws_ yX4_sheet cX4_sheet 5 (some .int)) ({ frames := 2, cells := 0, slots := 0, locals := 46 } : Room) (pcM s0 sz (MW G K T) [.ref (K 0), .int (iI k), .int (iI lane), .int (iI n)]) (mI (msheetA k lane n) (MW G K (msheetT T k lane n)) (AA K 12 sz)) 0 0 (AA K 12 sz) := by
  refine Met.ofW (cc := cX4_sheet) (maxL := 5) (ret := (some .int)) (by decide) rfl ?_
  intro p e s m args below meth c s₁ B hml hv
  obtain ⟨rfl, hsz, hW, hB⟩ := hv
  subst hsz
  have hx := B.exec
  have hb := B.bytes
  have hr := B.returns
  have hts := atoms_spec (ws := (ws_ yX4_sheet cX4_sheet 5 (some .int))) B.pre
  have hts : ∀ w ∈ lw_all, w.before _ s = true := fun w h => hts w (List.mem_cons_of_mem _ h)
  have hown : s.vm.findClass RX4 = some m.cls := findClass_of_methodNamed B.named
  have hlocks := B.notSynchronized
  have hN := AA.old hI hB
  have hS : va_S (AA K 12 s.heap.size) s.heap s.heap [] := va_S.rf
  have hl := lv_entry ([.ref (K 0), .int (iI k), .int (iI lane), .int (iI n)]) (n := 5) (Nat.le_of_ble_eq_true rfl)
  rw [lg_entry_eq]
  generalize (lg_sl ([.ref (K 0), .int (iI k), .int (iI lane), .int (iI n)]) ++ List.replicate (5 - (lg_sl ([.ref (K 0), .int (iI k), .int (iI lane), .int (iI n)])).length) Slot.unset).toArray = ls at hl ⊢
  have hl : lv_has ls 5 [(0, .ref (K 0)), (1, .int (iI k)), (2, .int (iI lane)), (3, .int (iI n))] := hl
  refine lv_iload_n hx hb dX4_sheet_0 rfl (lv_at hl 1 rfl) ?_
  refine lv_iload_n hx hb dX4_sheet_1 rfl (lv_at hl 2 rfl) ?_
  refine cqI (va_runS (As := [.int (iI k), .int (iI lane)]) (rest := []) ⟨hx, hb, hml, hown, hts⟩ (mX4_isSheet Z k (by omega) lane (by omega)) (va_cwS 2 hts (lw_S q1431 q1432 q83 q1433) rfl rfl rfl (by decide +kernel) ⟨Nat.le_of_ble_eq_true rfl, Nat.le_of_ble_eq_true rfl⟩) (psR (BornH.S hB hN hS) trivial) rfl rfl hl.1 rfl (lv_room (Nat.le_of_ble_eq_true rfl)) dX4_sheet_2 ⟨Nat.zero_le _, Nat.zero_le _⟩) ?_
  refine bb_if_eq (P := okSh k lane) (tgt := 14) hx hb dX4_sheet_5 (by decide) (fun c_1 => ?_) (fun c_1 => ?_)
  · -- 5 -> 14
    refine ii_const hx hb dX4_sheet_14 ?_
    have hpw9 : (MW G K (msheetT T k lane n)) s.heap := (by rw [show msheetT T k lane n = T by unfold msheetT; (repeat' split) <;> first | rfl | omega]; exact hW)
    have he9 : (-1) = (msheetA k lane n) := by unfold msheetA; (repeat' split) <;> first | rfl | omega
    exact W.iret hx hb hr (fun t ht hW9 => ⟨⟨_, (), rfl, congrArg iI he9, by show (MW G K (msheetT T k lane n)) t.heap; rw [ht]; exact hpw9⟩, hS.F ht⟩) hS.2.2 dX4_sheet_15
  · -- 5 -> 8
    refine lv_iload_n hx hb dX4_sheet_8 rfl (lv_at hl 3 rfl) ?_
    refine ii_bipush hx hb dX4_sheet_9 (by decide) ?_
    refine ii_icmp_le (tgt := 16) hx hb dX4_sheet_11 (by decide) (by omega) (by omega) (fun c_2 => ?_) (fun c_2 => ?_)
    · -- 11 -> 16
      refine lv_iload_n hx hb dX4_sheet_16 rfl (lv_at hl 3 rfl) ?_
      refine ii_if_ge (tgt := 23) hx hb dX4_sheet_17 (by decide) (by omega) (fun c_3 => ?_) (fun c_3 => ?_)
      · -- 17 -> 23
        refine lv_aload_n hx hb dX4_sheet_23 rfl (lv_at hl 0 rfl) ?_
        refine r_get (ci := 4) (k := 24) (v := .ref (K 8)) (C := RX4) (T := TX4) (N := 29) Z hB hx hb hts hown rfl in_X4 hW.obj (by decide) q1002 rfl dX4_sheet_24 ?_
        refine lv_iload_n hx hb dX4_sheet_27 rfl (lv_at hl 1 rfl) ?_
        refine lv_iload_n hx hb dX4_sheet_28 rfl (lv_at hl 2 rfl) ?_
        refine r_iast (k := k.toNat) Z hB hx hb hW.lanes hS (AA.me (by omega)) (by omega) (by omega) (by omega) dX4_sheet_29 (MW G K (up T 8 (up (T 8) k.toNat lane))) (fun H1 hz oq ha => hW.setA hI (j := 8) (by omega) (by omega) (fun h => absurd h (by omega)) oq ha) (fun H locs hW hS => ?_)
        refine lv_aload_n hx hb dX4_sheet_30 rfl (lv_at hl 0 rfl) ?_
        refine r_get (ci := 4) (k := 25) (v := .ref (K 9)) (C := RX4) (T := TX4) (N := 29) Z hB hx hb hts hown rfl in_X4 hW.obj (by decide) q1003 rfl dX4_sheet_31 ?_
        refine lv_iload_n hx hb dX4_sheet_34 rfl (lv_at hl 1 rfl) ?_
        refine lv_iload_n hx hb dX4_sheet_35 rfl (lv_at hl 3 rfl) ?_
        refine r_iast (k := k.toNat) Z hB hx hb hW.sizes hS (AA.me (by omega)) (by omega) (by omega) (by omega) dX4_sheet_36 (MW G K (up (up T 8 (up (T 8) k.toNat lane)) 9 (up (T 9) k.toNat n))) (fun H1 hz oq ha => hW.setA hI (j := 9) (by omega) (by omega) (fun h => absurd h (by omega)) oq ha) (fun H locs hW hS => ?_)
        refine ii_const hx hb dX4_sheet_37 ?_
        refine lv_istore (lv' := [(4, .int (iI 0)), (0, .ref (K 0)), (1, .int (iI k)), (2, .int (iI lane)), (3, .int (iI n))]) hx hb dX4_sheet_38 hl (by decide) rfl (fun ls hl => ?_)
        have loop_40 : ∀ (fu : Nat) (i : Nat) (zi : Int), (zi = (i : Int)) → (i ≤ 40) → (41 - i) < fu → ∀ (H : Heap) (locs : List Loc), (MW G K (up (up (up T 8 (up (T 8) k.toNat lane)) 9 (up (T 9) k.toNat n)) 10 (clS (T 10) k.toNat i))) H → va_S (AA K 12 s.heap.size) s.heap H locs → ∀ (ls : Array Slot), lv_has ls 5 [(4, .int (iI zi)), (0, .ref (K 0)), (1, .int (iI k)), (2, .int (iI lane)), (3, .int (iI n))] → W p l e (headSpec (ws_ yX4_sheet cX4_sheet 5 (some .int)) ({ frames := 2, cells := 0, slots := 0, locals := 46 } : Room)).room s m ([.ref (K 0), .int (iI k), .int (iI lane), .int (iI n)] : List Value).toArray below meth c H locs 0 0 (MQ below (mI (msheetA k lane n) (MW G K (msheetT T k lane n)) (AA K 12 s.heap.size)) ([.ref (K 0), .int (iI k), .int (iI lane), .int (iI n)] : List Value).toArray s 0 0 (AA K 12 s.heap.size)) (F0 m 40 ls []) := by
          intro fu
          induction fu with
          | zero => intro i zi ezi hi hmu; exact absurd hmu (Nat.not_lt_zero _)
          | succ fu ih40 =>
            intro i zi ezi hi hmu H locs hW hS ls hl
            refine lv_iload hx hb dX4_sheet_40 (lv_at hl 0 rfl) ?_
            refine ii_bipush hx hb dX4_sheet_42 (by decide) ?_
            refine ii_icmp_ge (tgt := 66) hx hb dX4_sheet_44 (by decide) (by omega) (by omega) (fun c_4 => ?_) (fun c_4 => ?_)
            · -- 44 -> 66
              have ex_i : 40 = i := by omega
              subst ex_i
              refine ii_const hx hb dX4_sheet_66 ?_
              have hpw9 : (MW G K (msheetT T k lane n)) H := (by rw [show msheetT T k lane n = (up (up (up T 8 (up (T 8) k.toNat lane)) 9 (up (T 9) k.toNat n)) 10 (clS (T 10) k.toNat 40)) by unfold msheetT; (repeat' split) <;> first | rfl | omega]; exact hW)
              have he9 : 1 = (msheetA k lane n) := by unfold msheetA; (repeat' split) <;> first | rfl | omega
              exact W.iret hx hb hr (fun t ht hW9 => ⟨⟨_, (), rfl, congrArg iI he9, by show (MW G K (msheetT T k lane n)) t.heap; rw [ht]; exact hpw9⟩, hS.F ht⟩) hS.2.2 dX4_sheet_67
            · -- 44 -> 47
              refine lv_aload_n hx hb dX4_sheet_47 rfl (lv_at hl 1 rfl) ?_
              refine r_get (ci := 4) (k := 26) (v := .ref (K 10)) (C := RX4) (T := TX4) (N := 29) Z hB hx hb hts hown rfl in_X4 hW.obj (by decide) q1004 rfl dX4_sheet_48 ?_
              refine ii_bipush hx hb dX4_sheet_51 (by decide) ?_
              refine lv_iload_n hx hb dX4_sheet_53 rfl (lv_at hl 2 rfl) ?_
              refine ii_mul hx hb dX4_sheet_54 ?_
              refine lv_iload hx hb dX4_sheet_55 (lv_at hl 0 rfl) ?_
              refine ii_add hx hb dX4_sheet_57 ?_
              refine ii_const hx hb dX4_sheet_58 ?_
              refine r_iast (k := ((40 * k.toNat) + i)) Z hB hx hb hW.cells hS (AA.me (by omega)) (by omega) (by omega) (by omega) dX4_sheet_59 (MW G K (up (up (up (up T 8 (up (T 8) k.toNat lane)) 9 (up (T 9) k.toNat n)) 10 (clS (T 10) k.toNat i)) 10 (up (clS (T 10) k.toNat i) ((40 * k.toNat) + i) 0))) (fun H1 hz oq ha => hW.setA hI (j := 10) (by omega) (by omega) (fun h => absurd h (by omega)) oq ha) (fun H locs hW hS => ?_)
              have hW := hW.eqS (S' := (up (up (up T 8 (up (T 8) k.toNat lane)) 9 (up (T 9) k.toNat n)) 10 (up (clS (T 10) k.toNat i) ((40 * k.toNat) + i) 0))) (by
                  funext a
                  by_cases h8 : a = 8
                  · subst h8; rfl
                  by_cases h9 : a = 9
                  · subst h9; rfl
                  by_cases h10 : a = 10
                  · subst h10; rfl
                  simp only [up, if_neg h8, if_neg h9, if_neg h10])
              refine ii_iinc (k := 0) (lv' := [(4, .int (iI (zi + 1))), (0, .ref (K 0)), (1, .int (iI k)), (2, .int (iI lane)), (3, .int (iI n))]) hx hb dX4_sheet_60 hl rfl (by decide) rfl (fun ls hl => ?_)
              refine lv_goto (tgt := 40) hx hb dX4_sheet_63 (by decide) ?_
              exact ih40 (i + 1) (zi + 1) (by omega) (by omega) (by omega) _ _ (by rw [← clS_s]; exact hW) hS ls (lv_sub hl [0, 1, 2, 3, 4] rfl)
        exact loop_40 _ 0 0 (by omega) (by omega) (Nat.lt_succ_self _) _ _ (hW.eqS (by rw [clS_0]; exact (up_id (up (up T 8 (up (T 8) k.toNat lane)) 9 (up (T 9) k.toNat n)) 10).symm)) hS ls (lv_sub hl [0, 1, 2, 3, 4] rfl)
      · -- 17 -> 20
        refine ii_bipush hx hb dX4_sheet_20 (by decide) ?_
        have hpw9 : (MW G K (msheetT T k lane n)) s.heap := (by rw [show msheetT T k lane n = T by unfold msheetT; (repeat' split) <;> first | rfl | omega]; exact hW)
        have he9 : (-14) = (msheetA k lane n) := by unfold msheetA; (repeat' split) <;> first | rfl | omega
        exact W.iret hx hb hr (fun t ht hW9 => ⟨⟨_, (), rfl, congrArg iI he9, by show (MW G K (msheetT T k lane n)) t.heap; rw [ht]; exact hpw9⟩, hS.F ht⟩) hS.2.2 dX4_sheet_22
    · -- 11 -> 14
      refine ii_const hx hb dX4_sheet_14 ?_
      have hpw9 : (MW G K (msheetT T k lane n)) s.heap := (by rw [show msheetT T k lane n = T by unfold msheetT; (repeat' split) <;> first | rfl | omega]; exact hW)
      have he9 : (-1) = (msheetA k lane n) := by unfold msheetA; (repeat' split) <;> first | rfl | omega
      exact W.iret hx hb hr (fun t ht hW9 => ⟨⟨_, (), rfl, congrArg iI he9, by show (MW G K (msheetT T k lane n)) t.heap; rw [ht]; exact hpw9⟩, hS.F ht⟩) hS.2.2 dX4_sheet_15

set_option maxHeartbeats 1000000 in
set_option maxRecDepth 100000 in
theorem mX4_lay {l : Launch} {G : GG} {s0 : State} {b0 : Nat} (Z : ZZ l G s0 b0) (K : Nat → Nat) (hI : Own s0 K 12) (T : Sta) (hsh : SheetOK T) (k : Int) (hk : inR k) (i : Int) (hi : inR i) (v : Int) (hv : inR v) (sz : Nat) : Met l yX4_lay (ws_ yX4_lay cX4_lay 4 (some .int)) ({ frames := 2, cells := 0, slots := 0, locals := 46 } : Room) (pcM s0 sz (MW G K T) [.ref (K 0), .int (iI k), .int (iI i), .int (iI v)]) (mI (mlayA T k i) (MW G K (mlayT T k i v)) (AA K 12 sz)) 0 0 (AA K 12 sz) := by
  refine Met.ofW (cc := cX4_lay) (maxL := 4) (ret := (some .int)) (by decide) rfl ?_
  intro p e s m args below meth c s₁ B hml hv
  obtain ⟨rfl, hsz, hW, hB⟩ := hv
  subst hsz
  have hx := B.exec
  have hb := B.bytes
  have hr := B.returns
  have hts := atoms_spec (ws := (ws_ yX4_lay cX4_lay 4 (some .int))) B.pre
  have hts : ∀ w ∈ lw_all, w.before _ s = true := fun w h => hts w (List.mem_cons_of_mem _ h)
  have hown : s.vm.findClass RX4 = some m.cls := findClass_of_methodNamed B.named
  have hlocks := B.notSynchronized
  have hN := AA.old hI hB
  have hS : va_S (AA K 12 s.heap.size) s.heap s.heap [] := va_S.rf
  have hl := lv_entry ([.ref (K 0), .int (iI k), .int (iI i), .int (iI v)]) (n := 4) (Nat.le_of_ble_eq_true rfl)
  rw [lg_entry_eq]
  generalize (lg_sl ([.ref (K 0), .int (iI k), .int (iI i), .int (iI v)]) ++ List.replicate (4 - (lg_sl ([.ref (K 0), .int (iI k), .int (iI i), .int (iI v)])).length) Slot.unset).toArray = ls at hl ⊢
  have hl : lv_has ls 4 [(0, .ref (K 0)), (1, .int (iI k)), (2, .int (iI i)), (3, .int (iI v))] := hl
  refine lv_iload_n hx hb dX4_lay_0 rfl (lv_at hl 1 rfl) ?_
  refine ii_const hx hb dX4_lay_1 ?_
  refine cqI (va_runS (As := [.int (iI k), .int (iI 0)]) (rest := []) ⟨hx, hb, hml, hown, hts⟩ (mX4_isSheet Z k (by omega) 0 (by omega)) (va_cwS 2 hts (lw_S q1431 q1432 q83 q1433) rfl rfl rfl (by decide +kernel) ⟨Nat.le_of_ble_eq_true rfl, Nat.le_of_ble_eq_true rfl⟩) (psR (BornH.S hB hN hS) trivial) rfl rfl hl.1 rfl (lv_room (Nat.le_of_ble_eq_true rfl)) dX4_lay_2 ⟨Nat.zero_le _, Nat.zero_le _⟩) ?_
  refine bb_if_ne (P := okSh k 0) (tgt := 10) hx hb dX4_lay_5 (by decide) (fun c_1 => ?_) (fun c_1 => ?_)
  · -- 5 -> 10
    have hs4 := hsh k.toNat (by omega)
    refine lv_aload_n hx hb dX4_lay_10 rfl (lv_at hl 0 rfl) ?_
    refine r_get (ci := 4) (k := 24) (v := .ref (K 8)) (C := RX4) (T := TX4) (N := 29) Z hB hx hb hts hown rfl in_X4 hW.obj (by decide) q1002 rfl dX4_lay_11 ?_
    refine lv_iload_n hx hb dX4_lay_14 rfl (lv_at hl 1 rfl) ?_
    refine r_iald (k := k.toNat) (f := (T 8)) Z hB hx hb hW.lanes (by omega) (by omega) (by omega) dX4_lay_15 ?_
    refine ii_bipush hx hb dX4_lay_16 (by decide) ?_
    refine ii_icmp_ne (tgt := 24) hx hb dX4_lay_18 (by decide) (by omega) (by omega) (fun c_2 => ?_) (fun c_2 => ?_)
    · -- 18 -> 24
      refine lv_iload_n hx hb dX4_lay_24 rfl (lv_at hl 2 rfl) ?_
      refine ii_i2l hx hb (by omega) dX4_lay_25 ?_
      refine ii_lconst (z := 0) hx hb dX4_lay_26 rfl ?_
      refine lv_aload_n hx hb dX4_lay_27 rfl (lv_at hl 0 rfl) ?_
      refine r_get (ci := 4) (k := 25) (v := .ref (K 9)) (C := RX4) (T := TX4) (N := 29) Z hB hx hb hts hown rfl in_X4 hW.obj (by decide) q1003 rfl dX4_lay_28 ?_
      refine lv_iload_n hx hb dX4_lay_31 rfl (lv_at hl 1 rfl) ?_
      refine r_iald (k := k.toNat) (f := (T 9)) Z hB hx hb hW.sizes (by omega) (by omega) (by omega) dX4_lay_32 ?_
      refine ii_const hx hb dX4_lay_33 ?_
      refine ii_sub hx hb dX4_lay_34 ?_
      refine ii_i2l hx hb (by omega) dX4_lay_35 ?_
      refine cqI (va_runS (As := [.long (lI i), .long (lI 0), .long (lI (((T 9) k.toNat) - 1))]) (rest := []) ⟨hx, hb, hml, hown, hts⟩ (mX4_in Z i (by omega) 0 (by omega) (((T 9) k.toNat) - 1) (by omega)) (va_cwS 3 hts (lw_S q1072 q1073 q83 q1074) rfl rfl rfl (by decide +kernel) ⟨Nat.le_of_ble_eq_true rfl, Nat.le_of_ble_eq_true rfl⟩) (psR (BornH.S hB hN hS) trivial) rfl rfl hl.1 rfl (lv_room (Nat.le_of_ble_eq_true rfl)) dX4_lay_36 ⟨Nat.zero_le _, Nat.zero_le _⟩) ?_
      refine bb_if_ne (P := 0 ≤ i ∧ i ≤ (((T 9) k.toNat) - 1)) (tgt := 45) hx hb dX4_lay_39 (by decide) (fun c_3 => ?_) (fun c_3 => ?_)
      · -- 39 -> 45
        refine lv_aload_n hx hb dX4_lay_45 rfl (lv_at hl 0 rfl) ?_
        refine r_get (ci := 4) (k := 26) (v := .ref (K 10)) (C := RX4) (T := TX4) (N := 29) Z hB hx hb hts hown rfl in_X4 hW.obj (by decide) q1004 rfl dX4_lay_46 ?_
        refine ii_bipush hx hb dX4_lay_49 (by decide) ?_
        refine lv_iload_n hx hb dX4_lay_51 rfl (lv_at hl 1 rfl) ?_
        refine ii_mul hx hb dX4_lay_52 ?_
        refine lv_iload_n hx hb dX4_lay_53 rfl (lv_at hl 2 rfl) ?_
        refine ii_add hx hb dX4_lay_54 ?_
        refine lv_aload_n hx hb dX4_lay_55 rfl (lv_at hl 0 rfl) ?_
        refine r_get (ci := 4) (k := 24) (v := .ref (K 8)) (C := RX4) (T := TX4) (N := 29) Z hB hx hb hts hown rfl in_X4 hW.obj (by decide) q1002 rfl dX4_lay_56 ?_
        refine lv_iload_n hx hb dX4_lay_59 rfl (lv_at hl 1 rfl) ?_
        refine r_iald (k := k.toNat) (f := (T 8)) Z hB hx hb hW.lanes (by omega) (by omega) (by omega) dX4_lay_60 ?_
        refine ii_if_ne (tgt := 69) hx hb dX4_lay_61 (by decide) (by omega) (fun c_4 => ?_) (fun c_4 => ?_)
        · -- 61 -> 69
          refine lv_aload_n hx hb dX4_lay_69 rfl (lv_at hl 0 rfl) ?_
          refine r_get (ci := 4) (k := 24) (v := .ref (K 8)) (C := RX4) (T := TX4) (N := 29) Z hB hx hb hts hown rfl in_X4 hW.obj (by decide) q1002 rfl dX4_lay_70 ?_
          refine lv_iload_n hx hb dX4_lay_73 rfl (lv_at hl 1 rfl) ?_
          refine r_iald (k := k.toNat) (f := (T 8)) Z hB hx hb hW.lanes (by omega) (by omega) (by omega) dX4_lay_74 ?_
          refine ii_const hx hb dX4_lay_75 ?_
          refine ii_icmp_ne (tgt := 84) hx hb dX4_lay_76 (by decide) (by omega) (by omega) (fun c_5 => ?_) (fun c_5 => ?_)
          · -- 76 -> 84
            refine lv_iload_n hx hb dX4_lay_84 rfl (lv_at hl 3 rfl) ?_
            refine r_iast (k := ((40 * k.toNat) + i.toNat)) Z hB hx hb hW.cells hS (AA.me (by omega)) (by omega) (by omega) (by omega) dX4_lay_85 (MW G K (up T 10 (up (T 10) ((40 * k.toNat) + i.toNat) v))) (fun H1 hz oq ha => hW.setA hI (j := 10) (by omega) (by omega) (fun h => absurd h (by omega)) oq ha) (fun H locs hW hS => ?_)
            refine ii_const hx hb dX4_lay_86 ?_
            have hpw9 : (MW G K (mlayT T k i v)) H := (by rw [show mlayT T k i v = (up T 10 (up (T 10) ((40 * k.toNat) + i.toNat) v)) by unfold mlayT layV; (repeat' split) <;> first | rfl | omega]; exact hW)
            have he9 : 1 = (mlayA T k i) := by unfold mlayA; (repeat' split) <;> first | rfl | omega
            exact W.iret hx hb hr (fun t ht hW9 => ⟨⟨_, (), rfl, congrArg iI he9, by show (MW G K (mlayT T k i v)) t.heap; rw [ht]; exact hpw9⟩, hS.F ht⟩) hS.2.2 dX4_lay_87
          · -- 76 -> 79
            refine lv_iload_n hx hb dX4_lay_79 rfl (lv_at hl 3 rfl) ?_
            refine ii_sh16 hx hb dX4_lay_80 ?_
            refine lv_goto (tgt := 85) hx hb dX4_lay_81 (by decide) ?_
            refine r_iast (k := ((40 * k.toNat) + i.toNat)) Z hB hx hb hW.cells hS (AA.me (by omega)) (by omega) (by omega) (by omega) dX4_lay_85 (MW G K (up T 10 (up (T 10) ((40 * k.toNat) + i.toNat) (sh16 v)))) (fun H1 hz oq ha => hW.setA hI (j := 10) (by omega) (by omega) (fun h => absurd h (by omega)) oq ha) (fun H locs hW hS => ?_)
            refine ii_const hx hb dX4_lay_86 ?_
            have hpw9 : (MW G K (mlayT T k i v)) H := (by rw [show mlayT T k i v = (up T 10 (up (T 10) ((40 * k.toNat) + i.toNat) (sh16 v))) by unfold mlayT layV; (repeat' split) <;> first | rfl | omega]; exact hW)
            have he9 : 1 = (mlayA T k i) := by unfold mlayA; (repeat' split) <;> first | rfl | omega
            exact W.iret hx hb hr (fun t ht hW9 => ⟨⟨_, (), rfl, congrArg iI he9, by show (MW G K (mlayT T k i v)) t.heap; rw [ht]; exact hpw9⟩, hS.F ht⟩) hS.2.2 dX4_lay_87
        · -- 61 -> 64
          refine lv_iload_n hx hb dX4_lay_64 rfl (lv_at hl 3 rfl) ?_
          refine ii_by8 hx hb dX4_lay_65 ?_
          refine lv_goto (tgt := 85) hx hb dX4_lay_66 (by decide) ?_
          refine r_iast (k := ((40 * k.toNat) + i.toNat)) Z hB hx hb hW.cells hS (AA.me (by omega)) (by omega) (by omega) (by omega) dX4_lay_85 (MW G K (up T 10 (up (T 10) ((40 * k.toNat) + i.toNat) (by8 v)))) (fun H1 hz oq ha => hW.setA hI (j := 10) (by omega) (by omega) (fun h => absurd h (by omega)) oq ha) (fun H locs hW hS => ?_)
          refine ii_const hx hb dX4_lay_86 ?_
          have hpw9 : (MW G K (mlayT T k i v)) H := (by rw [show mlayT T k i v = (up T 10 (up (T 10) ((40 * k.toNat) + i.toNat) (by8 v))) by unfold mlayT layV; (repeat' split) <;> first | rfl | omega]; exact hW)
          have he9 : 1 = (mlayA T k i) := by unfold mlayA; (repeat' split) <;> first | rfl | omega
          exact W.iret hx hb hr (fun t ht hW9 => ⟨⟨_, (), rfl, congrArg iI he9, by show (MW G K (mlayT T k i v)) t.heap; rw [ht]; exact hpw9⟩, hS.F ht⟩) hS.2.2 dX4_lay_87
      · -- 39 -> 42
        refine ii_bipush hx hb dX4_lay_42 (by decide) ?_
        have hpw9 : (MW G K (mlayT T k i v)) s.heap := (by rw [show mlayT T k i v = T by unfold mlayT layV; (repeat' split) <;> first | rfl | omega]; exact hW)
        have he9 : (-12) = (mlayA T k i) := by unfold mlayA; (repeat' split) <;> first | rfl | omega
        exact W.iret hx hb hr (fun t ht hW9 => ⟨⟨_, (), rfl, congrArg iI he9, by show (MW G K (mlayT T k i v)) t.heap; rw [ht]; exact hpw9⟩, hS.F ht⟩) hS.2.2 dX4_lay_44
    · -- 18 -> 21
      refine ii_bipush hx hb dX4_lay_21 (by decide) ?_
      have hpw9 : (MW G K (mlayT T k i v)) s.heap := (by rw [show mlayT T k i v = T by unfold mlayT layV; (repeat' split) <;> first | rfl | omega]; exact hW)
      have he9 : (-11) = (mlayA T k i) := by unfold mlayA; (repeat' split) <;> first | rfl | omega
      exact W.iret hx hb hr (fun t ht hW9 => ⟨⟨_, (), rfl, congrArg iI he9, by show (MW G K (mlayT T k i v)) t.heap; rw [ht]; exact hpw9⟩, hS.F ht⟩) hS.2.2 dX4_lay_23
  · -- 5 -> 8
    refine ii_const hx hb dX4_lay_8 ?_
    have hpw9 : (MW G K (mlayT T k i v)) s.heap := (by rw [show mlayT T k i v = T by unfold mlayT layV; (repeat' split) <;> first | rfl | omega]; exact hW)
    have he9 : (-1) = (mlayA T k i) := by unfold mlayA; (repeat' split) <;> first | rfl | omega
    exact W.iret hx hb hr (fun t ht hW9 => ⟨⟨_, (), rfl, congrArg iI he9, by show (MW G K (mlayT T k i v)) t.heap; rw [ht]; exact hpw9⟩, hS.F ht⟩) hS.2.2 dX4_lay_9

set_option maxHeartbeats 1000000 in
set_option maxRecDepth 100000 in
theorem mX4_count {l : Launch} {G : GG} {s0 : State} {b0 : Nat} (Z : ZZ l G s0 b0) (K : Nat → Nat) (T : Sta) (F : Nat → Int) (eF : T 1 = F) (hF : WF F) (hk : (T 3 0 = 0 ∨ T 3 0 = 1) ∧ (T 3 1 = 0 ∨ T 3 1 = 1)) (h80 : T 8 0 = -4 ∨ (0 ≤ T 8 0 ∧ T 8 0 ≤ 2)) (what : Int) (hwhat : inR what) : Met l yX4_count (ws_ yX4_count cX4_count 5 (some .int)) ({ frames := 1, cells := 0, slots := 0, locals := 20 } : Room) (pcR s0 (MW G K T) [.ref (K 0), .int (iI what)]) (qI (mcountA T what)) 0 0 (fun _ => False) := by
  refine Met.ofW (cc := cX4_count) (maxL := 5) (ret := (some .int)) (by decide) rfl ?_
  intro p e s m args below meth c s₁ B hml hv
  obtain ⟨rfl, hW, hB⟩ := hv
  have hx := B.exec
  have hb := B.bytes
  have hr := B.returns
  have hts := atoms_spec (ws := (ws_ yX4_count cX4_count 5 (some .int))) B.pre
  have hts : ∀ w ∈ lw_all, w.before _ s = true := fun w h => hts w (List.mem_cons_of_mem _ h)
  have hown : s.vm.findClass RX4 = some m.cls := findClass_of_methodNamed B.named
  have hlocks := B.notSynchronized
  have hl := lv_entry ([.ref (K 0), .int (iI what)]) (n := 5) (Nat.le_of_ble_eq_true rfl)
  rw [lg_entry_eq]
  generalize (lg_sl ([.ref (K 0), .int (iI what)]) ++ List.replicate (5 - (lg_sl ([.ref (K 0), .int (iI what)])).length) Slot.unset).toArray = ls at hl ⊢
  have hl : lv_has ls 5 [(0, .ref (K 0)), (1, .int (iI what))] := hl
  subst eF
  have hrm := hF.rm
  refine ii_const hx hb dX4_count_0 ?_
  refine lv_istore_n (lv' := [(2, .int (iI 0)), (0, .ref (K 0)), (1, .int (iI what))]) hx hb dX4_count_1 rfl hl (by decide) rfl (fun ls hl => ?_)
  refine ii_const hx hb dX4_count_2 ?_
  refine lv_istore_n (lv' := [(3, .int (iI 0)), (2, .int (iI 0)), (0, .ref (K 0)), (1, .int (iI what))]) hx hb dX4_count_3 rfl hl (by decide) rfl (fun ls hl => ?_)
  refine ii_const hx hb dX4_count_4 ?_
  refine lv_istore (lv' := [(4, .int (iI 0)), (3, .int (iI 0)), (2, .int (iI 0)), (0, .ref (K 0)), (1, .int (iI what))]) hx hb dX4_count_5 hl (by decide) rfl (fun ls hl => ?_)
  have loop_7 : ∀ (fu : Nat) (k : Nat) (zk : Int), (zk = (k : Int)) → (k ≤ ((T 1) 53).toNat) → (7 - k) < fu → ∀ (ls : Array Slot), lv_has ls 5 [(4, .int (iI zk)), (3, .int (iI 0)), (2, .int (iI (lenS (T 1) k))), (0, .ref (K 0)), (1, .int (iI what))] → W p l e (headSpec (ws_ yX4_count cX4_count 5 (some .int)) ({ frames := 1, cells := 0, slots := 0, locals := 20 } : Room)).room s m ([.ref (K 0), .int (iI what)] : List Value).toArray below meth c s.heap [] 0 0 (MQ below (qI (mcountA T what)) ([.ref (K 0), .int (iI what)] : List Value).toArray s 0 0 (fun _ => False)) (F0 m 7 ls []) := by
    intro fu
    induction fu with
    | zero => intro k zk ezk hk2 hmu; exact absurd hmu (Nat.not_lt_zero _)
    | succ fu ih7 =>
      intro k zk ezk hk2 hmu ls hl
      refine lv_iload hx hb dX4_count_7 (lv_at hl 0 rfl) ?_
      refine lv_aload_n hx hb dX4_count_9 rfl (lv_at hl 3 rfl) ?_
      refine r_get (ci := 4) (k := 0) (v := .ref (K 1)) (C := RX4) (T := TX4) (N := 29) Z hB hx hb hts hown rfl in_X4 hW.obj (by decide) q978 rfl dX4_count_10 ?_
      refine ii_bipush hx hb dX4_count_13 (by decide) ?_
      have b_773 := hF.rm
      refine r_iald (k := 53) (f := (stF T)) Z hB hx hb hW.st (by omega) (by omega) (by omega) dX4_count_15 ?_
      rw [show stF T 53 = (T 1) 53 from stF_lo _ (by omega)]
      refine ii_icmp_ge (tgt := 42) hx hb dX4_count_16 (by decide) (by omega) (by omega) (fun c_1 => ?_) (fun c_1 => ?_)
      · -- 16 -> 42
        have ex_k : ((T 1) 53).toNat = k := by omega
        subst ex_k
        refine ii_const hx hb dX4_count_42 ?_
        refine lv_istore (lv' := [(4, .int (iI 0)), (3, .int (iI 0)), (2, .int (iI (lenS (T 1) ((T 1) 53).toNat))), (0, .ref (K 0)), (1, .int (iI what))]) hx hb dX4_count_43 hl (by decide) rfl (fun ls hl => ?_)
        have loop_45 : ∀ (fu : Nat) (x : Nat) (zx : Int), (zx = (x : Int)) → (x ≤ 25) → (26 - x) < fu → ∀ (ls : Array Slot), lv_has ls 5 [(4, .int (iI zx)), (3, .int (iI (c25 (T 1) x))), (2, .int (iI (lenS (T 1) ((T 1) 53).toNat))), (0, .ref (K 0)), (1, .int (iI what))] → W p l e (headSpec (ws_ yX4_count cX4_count 5 (some .int)) ({ frames := 1, cells := 0, slots := 0, locals := 20 } : Room)).room s m ([.ref (K 0), .int (iI what)] : List Value).toArray below meth c s.heap [] 0 0 (MQ below (qI (mcountA T what)) ([.ref (K 0), .int (iI what)] : List Value).toArray s 0 0 (fun _ => False)) (F0 m 45 ls []) := by
          intro fu
          induction fu with
          | zero => intro x zx ezx hx9 hmu; exact absurd hmu (Nat.not_lt_zero _)
          | succ fu ih45 =>
            intro x zx ezx hx9 hmu ls hl
            refine lv_iload hx hb dX4_count_45 (lv_at hl 0 rfl) ?_
            refine ii_bipush hx hb dX4_count_47 (by decide) ?_
            refine ii_icmp_ge (tgt := 71) hx hb dX4_count_49 (by decide) (by omega) (by omega) (fun c_2 => ?_) (fun c_2 => ?_)
            · -- 49 -> 71
              have ex_x : 25 = x := by omega
              subst ex_x
              refine lv_iload_n hx hb dX4_count_71 rfl (lv_at hl 4 rfl) ?_
              by_cases c_3_0 : what = 0
              · --
                refine lv_tableIn (off := 40) (tgt := 112) hx hb dX4_count_72 (by rw [iI_toInt (by omega)]; omega) (by rw [iI_toInt (by omega)]; omega) (by rw [iI_toInt (by omega), c_3_0]; rfl) (by decide) ?_
                refine lv_aload_n hx hb dX4_count_112 rfl (lv_at hl 3 rfl) ?_
                refine r_get (ci := 4) (k := 0) (v := .ref (K 1)) (C := RX4) (T := TX4) (N := 29) Z hB hx hb hts hown rfl in_X4 hW.obj (by decide) q978 rfl dX4_count_113 ?_
                refine ii_bipush hx hb dX4_count_116 (by decide) ?_
                refine r_iald (k := 57) (f := (stF T)) Z hB hx hb hW.st (by omega) (by omega) (by omega) dX4_count_118 ?_
                rw [show stF T 57 = (T 1) 57 from stF_lo _ (by omega)]
                have he9 : ((T 1) 57) = (mcountA T what) := by unfold mcountA; (repeat' split) <;> first | rfl | omega
                exact W.iret hx hb hr (fun t ht hW9 => ⟨_, rfl, congrArg iI he9, ht⟩) (fun q hq => by cases hq) dX4_count_119
              by_cases c_3_1 : what = 1
              · --
                refine lv_tableIn (off := 48) (tgt := 120) hx hb dX4_count_72 (by rw [iI_toInt (by omega)]; omega) (by rw [iI_toInt (by omega)]; omega) (by rw [iI_toInt (by omega), c_3_1]; rfl) (by decide) ?_
                refine lv_aload_n hx hb dX4_count_120 rfl (lv_at hl 3 rfl) ?_
                refine r_get (ci := 4) (k := 2) (v := .ref (K 3)) (C := RX4) (T := TX4) (N := 29) Z hB hx hb hts hown rfl in_X4 hW.obj (by decide) q980 rfl dX4_count_121 ?_
                refine ii_const hx hb dX4_count_124 ?_
                refine r_zald (k := 0) (f := (T 3)) Z hB hx hb hW.isKept (by omega) (by omega) (by omega) dX4_count_125 ?_
                refine cqI (va_runS (As := [.int (iI ((T 3) 0))]) (rest := []) ⟨hx, hb, hml, hown, hts⟩ (mX4_flag Z ((T 3) 0) (by omega)) (va_cwS 1 hts (lw_S q1182 q1183 q83 q1184) rfl rfl rfl (by decide +kernel) ⟨Nat.le_of_ble_eq_true rfl, Nat.le_of_ble_eq_true rfl⟩) (psR hB trivial) rfl rfl hl.1 rfl (lv_room (Nat.le_of_ble_eq_true rfl)) dX4_count_126 ⟨Nat.zero_le _, Nat.zero_le _⟩) ?_
                refine lv_aload_n hx hb dX4_count_129 rfl (lv_at hl 3 rfl) ?_
                refine r_get (ci := 4) (k := 2) (v := .ref (K 3)) (C := RX4) (T := TX4) (N := 29) Z hB hx hb hts hown rfl in_X4 hW.obj (by decide) q980 rfl dX4_count_130 ?_
                refine ii_const hx hb dX4_count_133 ?_
                refine r_zald (k := 1) (f := (T 3)) Z hB hx hb hW.isKept (by omega) (by omega) (by omega) dX4_count_134 ?_
                refine cqI (va_runS (As := [.int (iI ((T 3) 1))]) (rest := [.int (iI ((T 3) 0))]) ⟨hx, hb, hml, hown, hts⟩ (mX4_flag Z ((T 3) 1) (by omega)) (va_cwS 1 hts (lw_S q1182 q1183 q83 q1184) rfl rfl rfl (by decide +kernel) ⟨Nat.le_of_ble_eq_true rfl, Nat.le_of_ble_eq_true rfl⟩) (psR hB trivial) rfl rfl hl.1 rfl (lv_room (Nat.le_of_ble_eq_true rfl)) dX4_count_135 ⟨Nat.zero_le _, Nat.zero_le _⟩) ?_
                refine ii_add hx hb dX4_count_138 ?_
                have he9 : (((T 3) 0) + ((T 3) 1)) = (mcountA T what) := by unfold mcountA; (repeat' split) <;> first | rfl | omega
                exact W.iret hx hb hr (fun t ht hW9 => ⟨_, rfl, congrArg iI he9, ht⟩) (fun q hq => by cases hq) dX4_count_139
              by_cases c_3_2 : what = 2
              · --
                refine lv_tableIn (off := 68) (tgt := 140) hx hb dX4_count_72 (by rw [iI_toInt (by omega)]; omega) (by rw [iI_toInt (by omega)]; omega) (by rw [iI_toInt (by omega), c_3_2]; rfl) (by decide) ?_
                refine lv_aload_n hx hb dX4_count_140 rfl (lv_at hl 3 rfl) ?_
                refine r_get (ci := 4) (k := 10) (v := .int (iI ((T 0) 10))) (C := RX4) (T := TX4) (N := 29) Z hB hx hb hts hown rfl in_X4 hW.obj (by decide) q988 rfl dX4_count_141 ?_
                have he9 : ((T 0) 10) = (mcountA T what) := by unfold mcountA; (repeat' split) <;> first | rfl | omega
                exact W.iret hx hb hr (fun t ht hW9 => ⟨_, rfl, congrArg iI he9, ht⟩) (fun q hq => by cases hq) dX4_count_144
              by_cases c_3_3 : what = 3
              · --
                refine lv_tableIn (off := 73) (tgt := 145) hx hb dX4_count_72 (by rw [iI_toInt (by omega)]; omega) (by rw [iI_toInt (by omega)]; omega) (by rw [iI_toInt (by omega), c_3_3]; rfl) (by decide) ?_
                refine lv_aload_n hx hb dX4_count_145 rfl (lv_at hl 3 rfl) ?_
                refine r_get (ci := 4) (k := 24) (v := .ref (K 8)) (C := RX4) (T := TX4) (N := 29) Z hB hx hb hts hown rfl in_X4 hW.obj (by decide) q1002 rfl dX4_count_146 ?_
                refine ii_const hx hb dX4_count_149 ?_
                refine r_iald (k := 0) (f := (T 8)) Z hB hx hb hW.lanes (by omega) (by omega) (by omega) dX4_count_150 ?_
                refine ii_bipush hx hb dX4_count_151 (by decide) ?_
                refine ii_icmp_ne (tgt := 161) hx hb dX4_count_153 (by decide) (by omega) (by omega) (fun c_4 => ?_) (fun c_4 => ?_)
                · -- 153 -> 161
                  refine lv_aload_n hx hb dX4_count_161 rfl (lv_at hl 3 rfl) ?_
                  refine r_get (ci := 4) (k := 25) (v := .ref (K 9)) (C := RX4) (T := TX4) (N := 29) Z hB hx hb hts hown rfl in_X4 hW.obj (by decide) q1003 rfl dX4_count_162 ?_
                  refine ii_const hx hb dX4_count_165 ?_
                  refine r_iald (k := 0) (f := (T 9)) Z hB hx hb hW.sizes (by omega) (by omega) (by omega) dX4_count_166 ?_
                  have he9 : ((T 9) 0) = (mcountA T what) := by unfold mcountA; (repeat' split) <;> first | rfl | omega
                  exact W.iret hx hb hr (fun t ht hW9 => ⟨_, rfl, congrArg iI he9, ht⟩) (fun q hq => by cases hq) dX4_count_167
                · -- 153 -> 156
                  refine ii_bipush hx hb dX4_count_156 (by decide) ?_
                  refine lv_goto (tgt := 167) hx hb dX4_count_158 (by decide) ?_
                  have he9 : (-4) = (mcountA T what) := by unfold mcountA; (repeat' split) <;> first | rfl | omega
                  exact W.iret hx hb hr (fun t ht hW9 => ⟨_, rfl, congrArg iI he9, ht⟩) (fun q hq => by cases hq) dX4_count_167
              by_cases c_3_4 : what = 4
              · --
                refine lv_tableIn (off := 96) (tgt := 168) hx hb dX4_count_72 (by rw [iI_toInt (by omega)]; omega) (by rw [iI_toInt (by omega)]; omega) (by rw [iI_toInt (by omega), c_3_4]; rfl) (by decide) ?_
                refine lv_iload_n hx hb dX4_count_168 rfl (lv_at hl 2 rfl) ?_
                have he9 : (lenS (T 1) ((T 1) 53).toNat) = (mcountA T what) := by unfold mcountA; (repeat' split) <;> first | rfl | omega
                exact W.iret hx hb hr (fun t ht hW9 => ⟨_, rfl, congrArg iI he9, ht⟩) (fun q hq => by cases hq) dX4_count_169
              by_cases c_3_5 : what = 5
              · --
                refine lv_tableIn (off := 98) (tgt := 170) hx hb dX4_count_72 (by rw [iI_toInt (by omega)]; omega) (by rw [iI_toInt (by omega)]; omega) (by rw [iI_toInt (by omega), c_3_5]; rfl) (by decide) ?_
                refine lv_iload_n hx hb dX4_count_170 rfl (lv_at hl 1 rfl) ?_
                have he9 : (c25 (T 1) 25) = (mcountA T what) := by unfold mcountA; (repeat' split) <;> first | rfl | omega
                exact W.iret hx hb hr (fun t ht hW9 => ⟨_, rfl, congrArg iI he9, ht⟩) (fun q hq => by cases hq) dX4_count_171
              refine lv_tableOut (tgt := 172) hx hb dX4_count_72 (by rw [iI_toInt (by omega)]; omega) (by decide) ?_
              refine ii_const hx hb dX4_count_172 ?_
              have he9 : (-1) = (mcountA T what) := by unfold mcountA; (repeat' split) <;> first | rfl | omega
              exact W.iret hx hb hr (fun t ht hW9 => ⟨_, rfl, congrArg iI he9, ht⟩) (fun q hq => by cases hq) dX4_count_173
            · -- 49 -> 52
              refine lv_iload_n hx hb dX4_count_52 rfl (lv_at hl 1 rfl) ?_
              refine lv_aload_n hx hb dX4_count_53 rfl (lv_at hl 3 rfl) ?_
              refine r_get (ci := 4) (k := 0) (v := .ref (K 1)) (C := RX4) (T := TX4) (N := 29) Z hB hx hb hts hown rfl in_X4 hW.obj (by decide) q978 rfl dX4_count_54 ?_
              refine ii_bipush hx hb dX4_count_57 (by decide) ?_
              refine lv_iload hx hb dX4_count_59 (lv_at hl 0 rfl) ?_
              refine ii_add hx hb dX4_count_61 ?_
              refine r_iald (k := (10 + x)) (f := (stF T)) Z hB hx hb hW.st (by omega) (by omega) (by omega) dX4_count_62 ?_
              rw [show stF T (10 + x) = (T 1) (10 + x) from stF_lo _ (by omega)]
              refine ii_add hx hb dX4_count_63 ?_
              refine lv_istore_n (lv' := [(3, .int (iI ((c25 (T 1) x) + ((T 1) (10 + x))))), (4, .int (iI zx)), (2, .int (iI (lenS (T 1) ((T 1) 53).toNat))), (0, .ref (K 0)), (1, .int (iI what))]) hx hb dX4_count_64 rfl hl (by decide) rfl (fun ls hl => ?_)
              refine ii_iinc (k := 1) (lv' := [(4, .int (iI (zx + 1))), (3, .int (iI ((c25 (T 1) x) + ((T 1) (10 + x))))), (2, .int (iI (lenS (T 1) ((T 1) 53).toNat))), (0, .ref (K 0)), (1, .int (iI what))]) hx hb dX4_count_65 hl rfl (by decide) rfl (fun ls hl => ?_)
              refine lv_goto (tgt := 45) hx hb dX4_count_68 (by decide) ?_
              have e_5 : (c25 (T 1) (x + 1)) = ((c25 (T 1) x) + ((T 1) (10 + x))) := rfl
              exact ih45 (x + 1) (zx + 1) (by omega) (by omega) (by omega) ls (by rw [e_5]; exact lv_sub hl [0, 1, 2, 3, 4] rfl)
        have e_6 : (c25 (T 1) 0) = 0 := rfl
        exact loop_45 _ 0 0 (by omega) (by omega) (Nat.lt_succ_self _) ls (by rw [e_6]; exact lv_sub hl [0, 1, 2, 3, 4] rfl)
      · -- 16 -> 19
        refine lv_iload_n hx hb dX4_count_19 rfl (lv_at hl 2 rfl) ?_
        refine lv_aload_n hx hb dX4_count_20 rfl (lv_at hl 3 rfl) ?_
        refine r_get (ci := 4) (k := 0) (v := .ref (K 1)) (C := RX4) (T := TX4) (N := 29) Z hB hx hb hts hown rfl in_X4 hW.obj (by decide) q978 rfl dX4_count_21 ?_
        refine ii_bipush hx hb dX4_count_24 (by decide) ?_
        refine ii_const hx hb dX4_count_26 ?_
        refine lv_iload hx hb dX4_count_27 (lv_at hl 0 rfl) ?_
        refine ii_mul hx hb dX4_count_29 ?_
        refine ii_add hx hb dX4_count_30 ?_
        refine ii_const hx hb dX4_count_31 ?_
        refine ii_add hx hb dX4_count_32 ?_
        have b_774 := hF.r2 k (by omega)
        refine r_iald (k := (35 + 3 * k + 2)) (f := (stF T)) Z hB hx hb hW.st (by omega) (by omega) (by omega) dX4_count_33 ?_
        rw [show stF T (35 + 3 * k + 2) = (T 1) (35 + 3 * k + 2) from stF_lo _ (by omega)]
        refine ii_add hx hb dX4_count_34 ?_
        refine lv_istore_n (lv' := [(2, .int (iI ((lenS (T 1) k) + ((T 1) (35 + 3 * k + 2))))), (4, .int (iI zk)), (3, .int (iI 0)), (0, .ref (K 0)), (1, .int (iI what))]) hx hb dX4_count_35 rfl hl (by decide) rfl (fun ls hl => ?_)
        refine ii_iinc (k := 1) (lv' := [(4, .int (iI (zk + 1))), (2, .int (iI ((lenS (T 1) k) + ((T 1) (35 + 3 * k + 2))))), (3, .int (iI 0)), (0, .ref (K 0)), (1, .int (iI what))]) hx hb dX4_count_36 hl rfl (by decide) rfl (fun ls hl => ?_)
        refine lv_goto (tgt := 7) hx hb dX4_count_39 (by decide) ?_
        have e_7 : (lenS (T 1) (k + 1)) = ((lenS (T 1) k) + ((T 1) (35 + 3 * k + 2))) := rfl
        exact ih7 (k + 1) (zk + 1) (by omega) (by omega) (by omega) ls (by rw [e_7]; exact lv_sub hl [0, 2, 1, 3, 4] rfl)
  have e_8 : (lenS (T 1) 0) = 0 := rfl
  exact loop_7 _ 0 0 (by omega) (by omega) (Nat.lt_succ_self _) ls (by rw [e_8]; exact lv_sub hl [0, 1, 2, 3, 4] rfl)

set_option maxHeartbeats 1000000 in
set_option maxRecDepth 100000 in
theorem mX4_feed {l : Launch} {G : GG} {s0 : State} {b0 : Nat} (Z : ZZ l G s0 b0) (K : Nat → Nat) (hI : Own s0 K 12) (T : Sta) (ht0 : 0 ≤ T 0 10 ∧ T 0 10 ≤ 160) (v : Int) (hv : inR v) (sz : Nat) : Met l yX4_feed (ws_ yX4_feed cX4_feed 2 (some .int)) ({ frames := 1, cells := 0, slots := 0, locals := 25 } : Room) (pcM s0 sz (MW G K T) [.ref (K 0), .int (iI v)]) (mI (mfeedA T v) (MW G K (mfeedT T v)) (AA K 12 sz)) 0 0 (AA K 12 sz) := by
  refine Met.ofW (cc := cX4_feed) (maxL := 2) (ret := (some .int)) (by decide) rfl ?_
  intro p e s m args below meth c s₁ B hml hv
  obtain ⟨rfl, hsz, hW, hB⟩ := hv
  subst hsz
  have hx := B.exec
  have hb := B.bytes
  have hr := B.returns
  have hts := atoms_spec (ws := (ws_ yX4_feed cX4_feed 2 (some .int))) B.pre
  have hts : ∀ w ∈ lw_all, w.before _ s = true := fun w h => hts w (List.mem_cons_of_mem _ h)
  have hown : s.vm.findClass RX4 = some m.cls := findClass_of_methodNamed B.named
  have hlocks := B.notSynchronized
  have hN := AA.old hI hB
  have hS : va_S (AA K 12 s.heap.size) s.heap s.heap [] := va_S.rf
  have hl := lv_entry ([.ref (K 0), .int (iI v)]) (n := 2) (Nat.le_of_ble_eq_true rfl)
  rw [lg_entry_eq]
  generalize (lg_sl ([.ref (K 0), .int (iI v)]) ++ List.replicate (2 - (lg_sl ([.ref (K 0), .int (iI v)])).length) Slot.unset).toArray = ls at hl ⊢
  have hl : lv_has ls 2 [(0, .ref (K 0)), (1, .int (iI v))] := hl
  refine lv_iload_n hx hb dX4_feed_0 rfl (lv_at hl 1 rfl) ?_
  refine ii_i2l hx hb (by omega) dX4_feed_1 ?_
  refine ii_lconst (z := 0) hx hb dX4_feed_2 rfl ?_
  refine ii_ldc2 (z := 127) hx hb hts hown q1071 dX4_feed_3 (by decide) ?_
  refine cqI (va_runS (As := [.long (lI v), .long (lI 0), .long (lI 127)]) (rest := []) ⟨hx, hb, hml, hown, hts⟩ (mX4_in Z v (by omega) 0 (by omega) 127 (by omega)) (va_cwS 3 hts (lw_S q1072 q1073 q83 q1074) rfl rfl rfl (by decide +kernel) ⟨Nat.le_of_ble_eq_true rfl, Nat.le_of_ble_eq_true rfl⟩) (psR (BornH.S hB hN hS) trivial) rfl rfl hl.1 rfl (lv_room (Nat.le_of_ble_eq_true rfl)) dX4_feed_6 ⟨Nat.zero_le _, Nat.zero_le _⟩) ?_
  refine bb_if_ne (P := 0 ≤ v ∧ v ≤ 127) (tgt := 14) hx hb dX4_feed_9 (by decide) (fun c_1 => ?_) (fun c_1 => ?_)
  · -- 9 -> 14
    refine lv_aload_n hx hb dX4_feed_14 rfl (lv_at hl 0 rfl) ?_
    refine r_get (ci := 4) (k := 10) (v := .int (iI ((T 0) 10))) (C := RX4) (T := TX4) (N := 29) Z hB hx hb hts hown rfl in_X4 hW.obj (by decide) q988 rfl dX4_feed_15 ?_
    refine ii_sipush hx hb dX4_feed_18 (by decide) ?_
    refine ii_icmp_ne (tgt := 27) hx hb dX4_feed_21 (by decide) (by omega) (by omega) (fun c_2 => ?_) (fun c_2 => ?_)
    · -- 21 -> 27
      refine lv_aload_n hx hb dX4_feed_27 rfl (lv_at hl 0 rfl) ?_
      refine r_get (ci := 4) (k := 9) (v := .ref (K 5)) (C := RX4) (T := TX4) (N := 29) Z hB hx hb hts hown rfl in_X4 hW.obj (by decide) q987 rfl dX4_feed_28 ?_
      refine lv_aload_n hx hb dX4_feed_31 rfl (lv_at hl 0 rfl) ?_
      refine r_get (ci := 4) (k := 10) (v := .int (iI ((T 0) 10))) (C := RX4) (T := TX4) (N := 29) Z hB hx hb hts hown rfl in_X4 hW.obj (by decide) q988 rfl dX4_feed_32 ?_
      refine lv_iload_n hx hb dX4_feed_35 rfl (lv_at hl 1 rfl) ?_
      refine r_iast (k := ((T 0) 10).toNat) Z hB hx hb hW.tape hS (AA.me (by omega)) (by omega) (by omega) (by omega) dX4_feed_36 (MW G K (up T 5 (up (T 5) ((T 0) 10).toNat v))) (fun H1 hz oq ha => hW.setA hI (j := 5) (by omega) (by omega) (fun h => absurd h (by omega)) oq ha) (fun H locs hW hS => ?_)
      refine lv_aload_n hx hb dX4_feed_37 rfl (lv_at hl 0 rfl) ?_
      refine lv_dup hx hb dX4_feed_38 rfl ?_
      refine r_get (ci := 4) (k := 10) (v := .int (iI ((T 0) 10))) (C := RX4) (T := TX4) (N := 29) Z hB hx hb hts hown rfl in_X4 hW.obj (by decide) q988 rfl dX4_feed_39 ?_
      refine ii_const hx hb dX4_feed_42 ?_
      refine ii_add hx hb dX4_feed_43 ?_
      refine r_put (ci := 4) (k := 10) (C := RX4) (T := TX4) (N := 29) Z hB hx hb hts hown rfl in_X4 tyX4 tyX4_ok nmX4 hW.obj hS (AA.me (by omega)) (by decide) q988 rfl rfl rfl rfl (Nat.le_of_ble_eq_true rfl) dX4_feed_44 (MW G K (up (up T 5 (up (T 5) ((T 0) 10).toNat v)) 0 (up (T 0) 10 (((T 0) 10) + 1)))) (fun H1 hz oq ho => hW.setO hI (k := 10) oq ho) (fun H locs hW hS => ?_)
      have hW := hW.eqS (S' := (up (up T 0 (up (T 0) 10 (((T 0) 10) + 1))) 5 (up (T 5) ((T 0) 10).toNat v))) (by
          funext a
          by_cases h0 : a = 0
          · subst h0
            funext j
            by_cases k0 : j = 10
            · subst k0; rfl
            simp only [up, if_neg k0, if_true, if_false, Nat.reduceEqDiff, reduceIte]
          by_cases h5 : a = 5
          · subst h5; rfl
          simp only [up, if_neg h0, if_neg h5])
      refine lv_aload_n hx hb dX4_feed_47 rfl (lv_at hl 0 rfl) ?_
      refine r_get (ci := 4) (k := 10) (v := .int (iI (((T 0) 10) + 1))) (C := RX4) (T := TX4) (N := 29) Z hB hx hb hts hown rfl in_X4 hW.obj (by decide) q988 rfl dX4_feed_48 ?_
      have hpw9 : (MW G K (mfeedT T v)) H := (by rw [show mfeedT T v = (up (up T 0 (up (T 0) 10 (((T 0) 10) + 1))) 5 (up (T 5) ((T 0) 10).toNat v)) by unfold mfeedT; (repeat' split) <;> first | rfl | omega]; exact hW)
      have he9 : (((T 0) 10) + 1) = (mfeedA T v) := by unfold mfeedA; (repeat' split) <;> first | rfl | omega
      exact W.iret hx hb hr (fun t ht hW9 => ⟨⟨_, (), rfl, congrArg iI he9, by show (MW G K (mfeedT T v)) t.heap; rw [ht]; exact hpw9⟩, hS.F ht⟩) hS.2.2 dX4_feed_51
    · -- 21 -> 24
      refine ii_bipush hx hb dX4_feed_24 (by decide) ?_
      have hpw9 : (MW G K (mfeedT T v)) s.heap := (by rw [show mfeedT T v = T by unfold mfeedT; (repeat' split) <;> first | rfl | omega]; exact hW)
      have he9 : (-3) = (mfeedA T v) := by unfold mfeedA; (repeat' split) <;> first | rfl | omega
      exact W.iret hx hb hr (fun t ht hW9 => ⟨⟨_, (), rfl, congrArg iI he9, by show (MW G K (mfeedT T v)) t.heap; rw [ht]; exact hpw9⟩, hS.F ht⟩) hS.2.2 dX4_feed_26
  · -- 9 -> 12
    refine ii_const hx hb dX4_feed_12 ?_
    have hpw9 : (MW G K (mfeedT T v)) s.heap := (by rw [show mfeedT T v = T by unfold mfeedT; (repeat' split) <;> first | rfl | omega]; exact hW)
    have he9 : (-1) = (mfeedA T v) := by unfold mfeedA; (repeat' split) <;> first | rfl | omega
    exact W.iret hx hb hr (fun t ht hW9 => ⟨⟨_, (), rfl, congrArg iI he9, by show (MW G K (mfeedT T v)) t.heap; rw [ht]; exact hpw9⟩, hS.F ht⟩) hS.2.2 dX4_feed_13

set_option maxHeartbeats 1000000 in
set_option maxRecDepth 100000 in
theorem mX4_end {l : Launch} {G : GG} {s0 : State} {b0 : Nat} (Z : ZZ l G s0 b0) (K : Nat → Nat) (hI : Own s0 K 12) (T : Sta) (ht0 : 0 ≤ T 0 10 ∧ T 0 10 ≤ 160) (n : Int) (hn : inR n) (sz : Nat) : Met l yX4_end (ws_ yX4_end cX4_end 3 (some .int)) ({ frames := 1, cells := 0, slots := 0, locals := 25 } : Room) (pcM s0 sz (MW G K T) [.ref (K 0), .int (iI n)]) (mI (mendA T n) (MW G K (mendT T n)) (AA K 12 sz)) 0 0 (AA K 12 sz) := by
  refine Met.ofW (cc := cX4_end) (maxL := 3) (ret := (some .int)) (by decide) rfl ?_
  intro p e s m args below meth c s₁ B hml hv
  obtain ⟨rfl, hsz, hW, hB⟩ := hv
  subst hsz
  have hx := B.exec
  have hb := B.bytes
  have hr := B.returns
  have hts := atoms_spec (ws := (ws_ yX4_end cX4_end 3 (some .int))) B.pre
  have hts : ∀ w ∈ lw_all, w.before _ s = true := fun w h => hts w (List.mem_cons_of_mem _ h)
  have hown : s.vm.findClass RX4 = some m.cls := findClass_of_methodNamed B.named
  have hlocks := B.notSynchronized
  have hN := AA.old hI hB
  have hS : va_S (AA K 12 s.heap.size) s.heap s.heap [] := va_S.rf
  have hl := lv_entry ([.ref (K 0), .int (iI n)]) (n := 3) (Nat.le_of_ble_eq_true rfl)
  rw [lg_entry_eq]
  generalize (lg_sl ([.ref (K 0), .int (iI n)]) ++ List.replicate (3 - (lg_sl ([.ref (K 0), .int (iI n)])).length) Slot.unset).toArray = ls at hl ⊢
  have hl : lv_has ls 3 [(0, .ref (K 0)), (1, .int (iI n))] := hl
  refine lv_iload_n hx hb dX4_end_0 rfl (lv_at hl 1 rfl) ?_
  refine ii_i2l hx hb (by omega) dX4_end_1 ?_
  refine ii_lconst (z := 0) hx hb dX4_end_2 rfl ?_
  refine lv_aload_n hx hb dX4_end_3 rfl (lv_at hl 0 rfl) ?_
  refine r_get (ci := 4) (k := 10) (v := .int (iI ((T 0) 10))) (C := RX4) (T := TX4) (N := 29) Z hB hx hb hts hown rfl in_X4 hW.obj (by decide) q988 rfl dX4_end_4 ?_
  refine ii_i2l hx hb (by omega) dX4_end_7 ?_
  refine cqI (va_runS (As := [.long (lI n), .long (lI 0), .long (lI ((T 0) 10))]) (rest := []) ⟨hx, hb, hml, hown, hts⟩ (mX4_in Z n (by omega) 0 (by omega) ((T 0) 10) (by omega)) (va_cwS 3 hts (lw_S q1072 q1073 q83 q1074) rfl rfl rfl (by decide +kernel) ⟨Nat.le_of_ble_eq_true rfl, Nat.le_of_ble_eq_true rfl⟩) (psR (BornH.S hB hN hS) trivial) rfl rfl hl.1 rfl (lv_room (Nat.le_of_ble_eq_true rfl)) dX4_end_8 ⟨Nat.zero_le _, Nat.zero_le _⟩) ?_
  refine bb_if_ne (P := 0 ≤ n ∧ n ≤ ((T 0) 10)) (tgt := 16) hx hb dX4_end_11 (by decide) (fun c_1 => ?_) (fun c_1 => ?_)
  · -- 11 -> 16
    refine lv_aload_n hx hb dX4_end_16 rfl (lv_at hl 0 rfl) ?_
    refine r_get (ci := 4) (k := 10) (v := .int (iI ((T 0) 10))) (C := RX4) (T := TX4) (N := 29) Z hB hx hb hts hown rfl in_X4 hW.obj (by decide) q988 rfl dX4_end_17 ?_
    refine lv_istore_n (lv' := [(2, .int (iI ((T 0) 10))), (0, .ref (K 0)), (1, .int (iI n))]) hx hb dX4_end_20 rfl hl (by decide) rfl (fun ls hl => ?_)
    refine lv_aload_n hx hb dX4_end_21 rfl (lv_at hl 1 rfl) ?_
    refine lv_iload_n hx hb dX4_end_22 rfl (lv_at hl 2 rfl) ?_
    refine r_put (ci := 4) (k := 10) (C := RX4) (T := TX4) (N := 29) Z hB hx hb hts hown rfl in_X4 tyX4 tyX4_ok nmX4 hW.obj hS (AA.me (by omega)) (by decide) q988 rfl rfl rfl rfl (Nat.le_of_ble_eq_true rfl) dX4_end_23 (MW G K (up T 0 (up (T 0) 10 n))) (fun H1 hz oq ho => hW.setO hI (k := 10) oq ho) (fun H locs hW hS => ?_)
    refine lv_iload_n hx hb dX4_end_26 rfl (lv_at hl 0 rfl) ?_
    have hpw9 : (MW G K (mendT T n)) H := (by rw [show mendT T n = (up T 0 (up (T 0) 10 n)) by unfold mendT; (repeat' split) <;> first | rfl | omega]; exact hW)
    have he9 : ((T 0) 10) = (mendA T n) := by unfold mendA; (repeat' split) <;> first | rfl | omega
    exact W.iret hx hb hr (fun t ht hW9 => ⟨⟨_, (), rfl, congrArg iI he9, by show (MW G K (mendT T n)) t.heap; rw [ht]; exact hpw9⟩, hS.F ht⟩) hS.2.2 dX4_end_27
  · -- 11 -> 14
    refine ii_const hx hb dX4_end_14 ?_
    have hpw9 : (MW G K (mendT T n)) s.heap := (by rw [show mendT T n = T by unfold mendT; (repeat' split) <;> first | rfl | omega]; exact hW)
    have he9 : (-1) = (mendA T n) := by unfold mendA; (repeat' split) <;> first | rfl | omega
    exact W.iret hx hb hr (fun t ht hW9 => ⟨⟨_, (), rfl, congrArg iI he9, by show (MW G K (mendT T n)) t.heap; rw [ht]; exact hpw9⟩, hS.F ht⟩) hS.2.2 dX4_end_15
