/-! MODEL: storms (written by gen/mod9.py) -/
set_option maxRecDepth 100000
set_option maxHeartbeats 1000000 in
set_option maxRecDepth 100000 in
theorem mX4_common {l : Launch} {G : GG} {s0 : State} {b0 : Nat} (Z : ZZ l G s0 b0) (a b : Int) (ha : 0 ≤ a ∧ a < 9223372036854775808) (hb0 : 0 ≤ b ∧ b < 9223372036854775808) : Met l yX4_common (ws_ yX4_common cX4_common 10 (some .long)) ({ frames := 0, cells := 0, slots := 0, locals := 0 } : Room) (pcR s0 (fun _ => True) [.long (lI a), .long (lI b)]) (qL (dvS a b)) 0 0 (fun _ => False) := by
  refine Met.ofW (cc := cX4_common) (maxL := 10) (ret := (some .long)) (by decide) rfl ?_
  intro p e s m args below meth c s₁ B hml hv
  obtain ⟨rfl, hW, hB⟩ := hv
  have hx := B.exec
  have hb := B.bytes
  have hr := B.returns
  have hts := atoms_spec (ws := (ws_ yX4_common cX4_common 10 (some .long))) B.pre
  have hts : ∀ w ∈ lw_all, w.before _ s = true := fun w h => hts w (List.mem_cons_of_mem _ h)
  have hown : s.vm.findClass RX4 = some m.cls := findClass_of_methodNamed B.named
  have hlocks := B.notSynchronized
  have hl := lv_entry ([.long (lI a), .long (lI b)]) (n := 10) (Nat.le_of_ble_eq_true rfl)
  rw [lg_entry_eq]
  generalize (lg_sl ([.long (lI a), .long (lI b)]) ++ List.replicate (10 - (lg_sl ([.long (lI a), .long (lI b)])).length) Slot.unset).toArray = ls at hl ⊢
  have hl : lv_has ls 10 [(0, .long (lI a)), (2, .long (lI b))] := hl
  refine lv_lload_n hx hb dX4_common_0 rfl (lv_at hl 0 rfl) ?_
  refine lv_lstore (lv' := [(4, .long (lI a)), (0, .long (lI a)), (2, .long (lI b))]) hx hb dX4_common_1 hl (by decide) rfl (fun ls hl => ?_)
  refine lv_lload_n hx hb dX4_common_3 rfl (lv_at hl 2 rfl) ?_
  refine lv_lstore (lv' := [(6, .long (lI b)), (4, .long (lI a)), (0, .long (lI a)), (2, .long (lI b))]) hx hb dX4_common_4 hl (by decide) rfl (fun ls hl => ?_)
  have loop_6 : ∀ (fu : Nat) (xx : Int) (yy : Int), (0 ≤ xx ∧ xx < 9223372036854775808) → (0 ≤ yy ∧ yy < 9223372036854775808) → (dvS xx yy = dvS a b) → yy.toNat < fu → ∀ (ls : Array Slot), lv_has ls 10 [(6, .long (lI yy)), (4, .long (lI xx)), (0, .long (lI a)), (2, .long (lI b))] → W p l e (headSpec (ws_ yX4_common cX4_common 10 (some .long)) ({ frames := 0, cells := 0, slots := 0, locals := 0 } : Room)).room s m ([.long (lI a), .long (lI b)] : List Value).toArray below meth c s.heap [] 0 0 (MQ below (qL (dvS a b)) ([.long (lI a), .long (lI b)] : List Value).toArray s 0 0 (fun _ => False)) (F0 m 6 ls []) := by
    intro fu
    induction fu with
    | zero => intro xx yy hxx hyy hinv hmu; exact absurd hmu (Nat.not_lt_zero _)
    | succ fu ih6 =>
      intro xx yy hxx hyy hinv hmu ls hl
      refine lv_lload hx hb dX4_common_6 (lv_at hl 0 rfl) ?_
      refine ii_lconst (z := 0) hx hb dX4_common_8 rfl ?_
      refine ll_cmp hx hb (by omega) (by omega) dX4_common_9 ?_
      refine ii_if_eq (tgt := 31) hx hb dX4_common_10 (by decide) (by have := cmpZ_in yy 0; omega) (fun c_1 => ?_) (fun c_1 => ?_)
      · -- 10 -> 31
        have c_1 := cmpZ_eq.mp c_1
        refine lv_lload hx hb dX4_common_31 (lv_at hl 1 rfl) ?_
        have he9 : xx = (dvS a b) := by rw [← hinv]; exact (dvS_0 (by omega) (by omega)).symm
        exact W.lret hx hb hr (fun t ht hW9 => ⟨_, rfl, congrArg lI he9, ht⟩) (fun q hq => by cases hq) dX4_common_33
      · -- 10 -> 13
        have c_1 := mt cmpZ_eq.mpr c_1
        have hm0 := Int.emod_nonneg xx (show yy ≠ 0 by omega)
        have hm1 := Int.emod_lt_of_pos xx (show 0 < yy by omega)
        refine lv_lload hx hb dX4_common_13 (lv_at hl 1 rfl) ?_
        refine lv_lload hx hb dX4_common_15 (lv_at hl 0 rfl) ?_
        refine ll_rem hx hb (by omega) (by omega) dX4_common_17 ?_
        refine lv_lstore (lv' := [(8, .long (lI (xx % yy))), (6, .long (lI yy)), (4, .long (lI xx)), (0, .long (lI a)), (2, .long (lI b))]) hx hb dX4_common_18 hl (by decide) rfl (fun ls hl => ?_)
        refine lv_lload hx hb dX4_common_20 (lv_at hl 1 rfl) ?_
        refine lv_lstore (lv' := [(4, .long (lI yy)), (8, .long (lI (xx % yy))), (6, .long (lI yy)), (0, .long (lI a)), (2, .long (lI b))]) hx hb dX4_common_22 hl (by decide) rfl (fun ls hl => ?_)
        refine lv_lload hx hb dX4_common_24 (lv_at hl 1 rfl) ?_
        refine lv_lstore (lv' := [(6, .long (lI (xx % yy))), (4, .long (lI yy)), (8, .long (lI (xx % yy))), (0, .long (lI a)), (2, .long (lI b))]) hx hb dX4_common_26 hl (by decide) rfl (fun ls hl => ?_)
        refine lv_goto (tgt := 6) hx hb dX4_common_28 (by decide) ?_
        exact ih6 yy (xx % yy) (by omega) (by omega) ((dvS_s (by omega) (by omega)).trans hinv) (by omega) ls (lv_sub hl [0, 1, 3, 4] rfl)
  exact loop_6 _ a b (by omega) (by omega) (rfl) (Nat.lt_succ_self _) ls (lv_sub hl [0, 1, 2, 3] rfl)

set_option maxHeartbeats 1000000 in
set_option maxRecDepth 100000 in
theorem mX4_told {l : Launch} {G : GG} {s0 : State} {b0 : Nat} (Z : ZZ l G s0 b0) (a b z : Int) (ha : 0 ≤ a ∧ a ≤ 1000000000000000) (hb1 : 0 < b ∧ b ≤ 1000000000000000) (hz : inR z) : Met l yX4_told (ws_ yX4_told cX4_told 7 (some .long)) ({ frames := 1, cells := 0, slots := 0, locals := 29 } : Room) (pcR s0 (fun _ => True) [.long (lI a), .long (lI b), .int (iI z)]) (qL (loS a b z)) 0 0 (fun _ => False) := by
  refine Met.ofW (cc := cX4_told) (maxL := 7) (ret := (some .long)) (by decide) rfl ?_
  intro p e s m args below meth c s₁ B hml hv
  obtain ⟨rfl, hW, hB⟩ := hv
  have hx := B.exec
  have hb := B.bytes
  have hr := B.returns
  have hts := atoms_spec (ws := (ws_ yX4_told cX4_told 7 (some .long))) B.pre
  have hts : ∀ w ∈ lw_all, w.before _ s = true := fun w h => hts w (List.mem_cons_of_mem _ h)
  have hown : s.vm.findClass RX4 = some m.cls := findClass_of_methodNamed B.named
  have hlocks := B.notSynchronized
  have hl := lv_entry ([.long (lI a), .long (lI b), .int (iI z)]) (n := 7) (Nat.le_of_ble_eq_true rfl)
  rw [lg_entry_eq]
  generalize (lg_sl ([.long (lI a), .long (lI b), .int (iI z)]) ++ List.replicate (7 - (lg_sl ([.long (lI a), .long (lI b), .int (iI z)])).length) Slot.unset).toArray = ls at hl ⊢
  have hl : lv_has ls 7 [(0, .long (lI a)), (2, .long (lI b)), (4, .int (iI z))] := hl
  refine lv_lload_n hx hb dX4_told_0 rfl (lv_at hl 1 rfl) ?_
  refine lv_lload_n hx hb dX4_told_1 rfl (lv_at hl 0 rfl) ?_
  refine cqL (va_runS (As := [.long (lI b), .long (lI a)]) (rest := []) ⟨hx, hb, hml, hown, hts⟩ (mX4_common Z b a (by omega) (by omega)) (va_cwS 2 hts (lw_S q1374 q1375 q83 q1376) rfl rfl rfl (by decide +kernel) ⟨Nat.le_of_ble_eq_true rfl, Nat.le_of_ble_eq_true rfl⟩) (psR hB trivial) rfl rfl hl.1 rfl (lv_room (Nat.le_of_ble_eq_true rfl)) dX4_told_2 ⟨Nat.zero_le _, Nat.zero_le _⟩) ?_
  have b_767 : 0 < dvS b a ∧ dvS b a ≤ b := by rw [dvS_c]; exact dvS_in (by omega) (by omega)
  refine lv_lstore (lv' := [(5, .long (lI (dvS b a))), (0, .long (lI a)), (2, .long (lI b)), (4, .int (iI z))]) hx hb dX4_told_5 hl (by decide) rfl (fun ls hl => ?_)
  refine lv_iload hx hb dX4_told_7 (lv_at hl 3 rfl) ?_
  refine ii_if_ne (tgt := 19) hx hb dX4_told_9 (by decide) (by omega) (fun c_1 => ?_) (fun c_1 => ?_)
  · -- 9 -> 19
    refine lv_lload_n hx hb dX4_told_19 rfl (lv_at hl 2 rfl) ?_
    refine lv_lload hx hb dX4_told_20 (lv_at hl 0 rfl) ?_
    refine ll_div hx hb (by omega) (by omega) dX4_told_22 ?_
    have he9 : (b / (dvS b a)) = (loS a b z) := by unfold loS; rw [dvS_c a b]; first | rw [if_pos (by omega)] | rw [if_neg (by omega)]
    exact W.lret hx hb hr (fun t ht hW9 => ⟨_, rfl, congrArg lI he9, ht⟩) (fun q hq => by cases hq) dX4_told_23
  · -- 9 -> 12
    refine lv_lload_n hx hb dX4_told_12 rfl (lv_at hl 1 rfl) ?_
    refine lv_lload hx hb dX4_told_13 (lv_at hl 0 rfl) ?_
    refine ll_div hx hb (by omega) (by omega) dX4_told_15 ?_
    refine lv_goto (tgt := 23) hx hb dX4_told_16 (by decide) ?_
    have he9 : (a / (dvS b a)) = (loS a b z) := by unfold loS; rw [dvS_c a b]; first | rw [if_pos (by omega)] | rw [if_neg (by omega)]
    exact W.lret hx hb hr (fun t ht hW9 => ⟨_, rfl, congrArg lI he9, ht⟩) (fun q hq => by cases hq) dX4_told_23

set_option maxHeartbeats 1000000 in
set_option maxRecDepth 100000 in
theorem mX4_findOdds {l : Launch} {G : GG} {s0 : State} {b0 : Nat} (Z : ZZ l G s0 b0) (K : Nat → Nat) (hI : Own s0 K 12) (T : Sta) (F : Nat → Int) (eF : T 1 = F) (hF : WF F) (hD : Dia F) (hd : F 54 ≤ 2000) (a n v : Int) (ha : 0 ≤ a ∧ a ≤ 10) (hn : 0 ≤ n ∧ n ≤ 8) (hv9 : 0 ≤ v ∧ v ≤ 99) (sz : Nat) : Met l yX4_findOdds (ws_ yX4_findOdds cX4_findOdds 9 none) ({ frames := 5, cells := 0, slots := 0, locals := 119 } : Room) (pcM s0 sz (MW G K T) [.ref (K 0), .int (iI a), .int (iI n), .int (iI v)]) (mV (fun H => ∃ F2 : Nat → Int, MW G K (up (up T 0 (up (up (up (T 0) 19 (ttS F a n.toNat v (pw2 n.toNat))) 20 (ttS F a n.toNat (-4) (pw2 n.toNat))) 21 (tnS n.toNat))) 2 F2) H) (AA K 12 sz)) 0 0 (AA K 12 sz) := by
  refine Met.ofW (cc := cX4_findOdds) (maxL := 9) (ret := none) (by decide) rfl ?_
  intro p e s m args below meth c s₁ B hml hv
  obtain ⟨rfl, hsz, hW, hB⟩ := hv
  subst hsz
  have hx := B.exec
  have hb := B.bytes
  have hr := B.returns
  have hts := atoms_spec (ws := (ws_ yX4_findOdds cX4_findOdds 9 none)) B.pre
  have hts : ∀ w ∈ lw_all, w.before _ s = true := fun w h => hts w (List.mem_cons_of_mem _ h)
  have hown : s.vm.findClass RX4 = some m.cls := findClass_of_methodNamed B.named
  have hlocks := B.notSynchronized
  have hN := AA.old hI hB
  have hS : va_S (AA K 12 s.heap.size) s.heap s.heap [] := va_S.rf
  have hl := lv_entry ([.ref (K 0), .int (iI a), .int (iI n), .int (iI v)]) (n := 9) (Nat.le_of_ble_eq_true rfl)
  rw [lg_entry_eq]
  generalize (lg_sl ([.ref (K 0), .int (iI a), .int (iI n), .int (iI v)]) ++ List.replicate (9 - (lg_sl ([.ref (K 0), .int (iI a), .int (iI n), .int (iI v)])).length) Slot.unset).toArray = ls at hl ⊢
  have hl : lv_has ls 9 [(0, .ref (K 0)), (1, .int (iI a)), (2, .int (iI n)), (3, .int (iI v))] := hl
  subst eF
  have hn5 := hF.n
  have hp2 := pw2_in (show n.toNat ≤ 8 by omega)
  refine lv_aload_n hx hb dX4_findOdds_0 rfl (lv_at hl 0 rfl) ?_
  refine ii_lconst (z := 0) hx hb dX4_findOdds_1 rfl ?_
  refine r_put (ci := 4) (k := 19) (C := RX4) (T := TX4) (N := 29) Z hB hx hb hts hown rfl in_X4 tyX4 tyX4_ok nmX4 hW.obj hS (AA.me (by omega)) (by decide) q997 rfl rfl rfl rfl (Nat.le_of_ble_eq_true rfl) dX4_findOdds_2 (MW G K (up T 0 (up (T 0) 19 0))) (fun H1 hz oq ho => hW.setO hI (k := 19) oq ho) (fun H locs hW hS => ?_)
  refine lv_aload_n hx hb dX4_findOdds_5 rfl (lv_at hl 0 rfl) ?_
  refine ii_lconst (z := 0) hx hb dX4_findOdds_6 rfl ?_
  refine r_put (ci := 4) (k := 20) (C := RX4) (T := TX4) (N := 29) Z hB hx hb hts hown rfl in_X4 tyX4 tyX4_ok nmX4 hW.obj hS (AA.me (by omega)) (by decide) q998 rfl rfl rfl rfl (Nat.le_of_ble_eq_true rfl) dX4_findOdds_7 (MW G K (up (up T 0 (up (T 0) 19 0)) 0 (up (up (T 0) 19 0) 20 0))) (fun H1 hz oq ho => hW.setO hI (k := 20) oq ho) (fun H locs hW hS => ?_)
  have hW := hW.eqS (S' := (up T 0 (up (up (T 0) 19 0) 20 0))) (by
      funext a
      by_cases h0 : a = 0
      · subst h0
        funext j
        by_cases k0 : j = 19
        · subst k0; rfl
        by_cases k1 : j = 20
        · subst k1; rfl
        simp only [up, if_neg k0, if_neg k1, if_true, if_false, Nat.reduceEqDiff, reduceIte]
      simp only [up, if_neg h0])
  refine lv_aload_n hx hb dX4_findOdds_10 rfl (lv_at hl 0 rfl) ?_
  refine ii_lconst (z := 1) hx hb dX4_findOdds_11 rfl ?_
  refine r_put (ci := 4) (k := 21) (C := RX4) (T := TX4) (N := 29) Z hB hx hb hts hown rfl in_X4 tyX4 tyX4_ok nmX4 hW.obj hS (AA.me (by omega)) (by decide) q999 rfl rfl rfl rfl (Nat.le_of_ble_eq_true rfl) dX4_findOdds_12 (MW G K (up (up T 0 (up (up (T 0) 19 0) 20 0)) 0 (up (up (up (T 0) 19 0) 20 0) 21 1))) (fun H1 hz oq ho => hW.setO hI (k := 21) oq ho) (fun H locs hW hS => ?_)
  have hW := hW.eqS (S' := (up T 0 (up (up (up (T 0) 19 0) 20 0) 21 1))) (by
      funext a
      by_cases h0 : a = 0
      · subst h0
        funext j
        by_cases k0 : j = 19
        · subst k0; rfl
        by_cases k1 : j = 20
        · subst k1; rfl
        by_cases k2 : j = 21
        · subst k2; rfl
        simp only [up, if_neg k0, if_neg k1, if_neg k2, if_true, if_false, Nat.reduceEqDiff, reduceIte]
      simp only [up, if_neg h0])
  refine ii_const hx hb dX4_findOdds_15 ?_
  refine lv_istore (lv' := [(4, .int (iI 0)), (0, .ref (K 0)), (1, .int (iI a)), (2, .int (iI n)), (3, .int (iI v))]) hx hb dX4_findOdds_16 hl (by decide) rfl (fun ls hl => ?_)
  have loop_18 : ∀ (fu : Nat) (i : Nat) (zi : Int), (zi = (i : Int)) → (i ≤ n.toNat) → (9 - i) < fu → ∀ (H : Heap) (locs : List Loc), (MW G K (up T 0 (up (up (up (T 0) 19 0) 20 0) 21 (tnS i)))) H → va_S (AA K 12 s.heap.size) s.heap H locs → ∀ (ls : Array Slot), lv_has ls 9 [(4, .int (iI zi)), (0, .ref (K 0)), (1, .int (iI a)), (2, .int (iI n)), (3, .int (iI v))] → W p l e (headSpec (ws_ yX4_findOdds cX4_findOdds 9 none) ({ frames := 5, cells := 0, slots := 0, locals := 119 } : Room)).room s m ([.ref (K 0), .int (iI a), .int (iI n), .int (iI v)] : List Value).toArray below meth c H locs 0 0 (MQ below (mV (fun H => ∃ F2 : Nat → Int, MW G K (up (up T 0 (up (up (up (T 0) 19 (ttS (T 1) a n.toNat v (pw2 n.toNat))) 20 (ttS (T 1) a n.toNat (-4) (pw2 n.toNat))) 21 (tnS n.toNat))) 2 F2) H) (AA K 12 s.heap.size)) ([.ref (K 0), .int (iI a), .int (iI n), .int (iI v)] : List Value).toArray s 0 0 (AA K 12 s.heap.size)) (F0 m 18 ls []) := by
    intro fu
    induction fu with
    | zero => intro i zi ezi hi hmu; exact absurd hmu (Nat.not_lt_zero _)
    | succ fu ih18 =>
      intro i zi ezi hi hmu H locs hW hS ls hl
      refine lv_iload hx hb dX4_findOdds_18 (lv_at hl 0 rfl) ?_
      refine lv_iload_n hx hb dX4_findOdds_20 rfl (lv_at hl 3 rfl) ?_
      refine ii_icmp_ge (tgt := 42) hx hb dX4_findOdds_21 (by decide) (by omega) (by omega) (fun c_1 => ?_) (fun c_1 => ?_)
      · -- 21 -> 42
        have ex_i : n.toNat = i := by omega
        subst ex_i
        refine ii_const hx hb dX4_findOdds_42 ?_
        refine lv_istore (lv' := [(4, .int (iI 0)), (0, .ref (K 0)), (1, .int (iI a)), (2, .int (iI n)), (3, .int (iI v))]) hx hb dX4_findOdds_43 hl (by decide) rfl (fun ls hl => ?_)
        have loop_45 : ∀ (fu : Nat) (m9 : Nat) (zm : Int) (F2 : Nat → Int), (zm = (m9 : Int)) → (m9 ≤ pw2 n.toNat) → (257 - m9) < fu → ∀ (H : Heap) (locs : List Loc), (MW G K (up (up T 0 (up (up (up (T 0) 19 (ttS (T 1) a n.toNat v m9)) 20 (ttS (T 1) a n.toNat (-4) m9)) 21 (tnS n.toNat))) 2 F2)) H → va_S (AA K 12 s.heap.size) s.heap H locs → ∀ (ls : Array Slot), lv_has ls 9 [(4, .int (iI zm)), (0, .ref (K 0)), (1, .int (iI a)), (2, .int (iI n)), (3, .int (iI v))] → W p l e (headSpec (ws_ yX4_findOdds cX4_findOdds 9 none) ({ frames := 5, cells := 0, slots := 0, locals := 119 } : Room)).room s m ([.ref (K 0), .int (iI a), .int (iI n), .int (iI v)] : List Value).toArray below meth c H locs 0 0 (MQ below (mV (fun H => ∃ F2 : Nat → Int, MW G K (up (up T 0 (up (up (up (T 0) 19 (ttS (T 1) a n.toNat v (pw2 n.toNat))) 20 (ttS (T 1) a n.toNat (-4) (pw2 n.toNat))) 21 (tnS n.toNat))) 2 F2) H) (AA K 12 s.heap.size)) ([.ref (K 0), .int (iI a), .int (iI n), .int (iI v)] : List Value).toArray s 0 0 (AA K 12 s.heap.size)) (F0 m 45 ls []) := by
          intro fu
          induction fu with
          | zero => intro m9 zm F2 ezm hm9 hmu; exact absurd hmu (Nat.not_lt_zero _)
          | succ fu ih45 =>
            intro m9 zm F2 ezm hm9 hmu H locs hW hS ls hl
            refine lv_iload hx hb dX4_findOdds_45 (lv_at hl 0 rfl) ?_
            refine ii_const hx hb dX4_findOdds_47 ?_
            refine lv_iload_n hx hb dX4_findOdds_48 rfl (lv_at hl 3 rfl) ?_
            refine ii_shl1 hx hb (by omega) dX4_findOdds_49 ?_
            refine ii_icmp_ge (tgt := 165) hx hb dX4_findOdds_50 (by decide) (by omega) (by omega) (fun c_2 => ?_) (fun c_2 => ?_)
            · -- 50 -> 165
              have ex_m9 : (pw2 n.toNat) = m9 := by omega
              subst ex_m9
              have hpw9 : ((fun H => ∃ F2 : Nat → Int, MW G K (up (up T 0 (up (up (up (T 0) 19 (ttS (T 1) a n.toNat v (pw2 n.toNat))) 20 (ttS (T 1) a n.toNat (-4) (pw2 n.toNat))) 21 (tnS n.toNat))) 2 F2) H)) H := ⟨F2, hW⟩
              exact W.vret hx hb hr (fun t ht hW9 => ⟨⟨(), rfl, trivial, by show ((fun H => ∃ F2 : Nat → Int, MW G K (up (up T 0 (up (up (up (T 0) 19 (ttS (T 1) a n.toNat v (pw2 n.toNat))) 20 (ttS (T 1) a n.toNat (-4) (pw2 n.toNat))) 21 (tnS n.toNat))) 2 F2) H)) t.heap; rw [ht]; exact hpw9⟩, hS.F ht⟩) hS.2.2 dX4_findOdds_165
            · -- 50 -> 53
              refine ii_lconst (z := 1) hx hb dX4_findOdds_53 rfl ?_
              refine lv_lstore (lv' := [(5, .long (lI 1)), (4, .int (iI zm)), (0, .ref (K 0)), (1, .int (iI a)), (2, .int (iI n)), (3, .int (iI v))]) hx hb dX4_findOdds_54 hl (by decide) rfl (fun ls hl => ?_)
              refine lv_aload_n hx hb dX4_findOdds_56 rfl (lv_at hl 2 rfl) ?_
              refine cmV (va_runV (As := []) (rest := []) ⟨hx, hb, hml, hown, hts⟩ (mX4_starts Z K hI (up (up T 0 (up (up (up (T 0) 19 (ttS (T 1) a n.toNat v m9)) 20 (ttS (T 1) a n.toNat (-4) m9)) 21 (tnS n.toNat))) 2 F2) (T 1) rfl H.size) (cwV 0 hts (lw_V q1151 q1153 qs48 q83 q1154) rfl rfl rfl (by decide +kernel) ⟨Nat.le_of_ble_eq_true rfl, Nat.le_of_ble_eq_true rfl⟩) (pvM (BornH.S hB hN hS) (OBJ.recv Z hB hW.obj (q := (RX4, TX4, 29)) rfl) hW) rfl rfl hl.1 rfl (lv_room (Nat.le_of_ble_eq_true rfl)) dX4_findOdds_57 ⟨Nat.zero_le _, Nat.zero_le _⟩) hS (AA.le hS.1) (fun H1 locs hW1 hz1 hk1 hS => ?_)
              have hW := hW1
              clear hW1 hk1 hz1
              generalize H1 = H at hW hS ⊢
              have hW := hW.eqS (S' := (up (up T 0 (up (up (up (T 0) 19 (ttS (T 1) a n.toNat v m9)) 20 (ttS (T 1) a n.toNat (-4) m9)) 21 (tnS n.toNat))) 2 (T 1))) (by
                  funext a
                  by_cases h0 : a = 0
                  · subst h0
                    funext j
                    by_cases k0 : j = 19
                    · subst k0; rfl
                    by_cases k1 : j = 20
                    · subst k1; rfl
                    by_cases k2 : j = 21
                    · subst k2; rfl
                    simp only [up, if_neg k0, if_neg k1, if_neg k2, if_true, if_false, Nat.reduceEqDiff, reduceIte]
                  by_cases h2 : a = 2
                  · subst h2; rfl
                  simp only [up, if_neg h0, if_neg h2])
              refine ii_const hx hb dX4_findOdds_60 ?_
              refine lv_istore (lv' := [(7, .int (iI 0)), (5, .long (lI 1)), (4, .int (iI zm)), (0, .ref (K 0)), (1, .int (iI a)), (2, .int (iI n)), (3, .int (iI v))]) hx hb dX4_findOdds_61 hl (by decide) rfl (fun ls hl => ?_)
              have loop_63 : ∀ (fu : Nat) (dd : Nat) (zd : Int), (zd = (dd : Int)) → (dd ≤ n.toNat) → (9 - dd) < fu → ∀ (H : Heap) (locs : List Loc), (MW G K (up (up T 0 (up (up (up (T 0) 19 (ttS (T 1) a n.toNat v m9)) 20 (ttS (T 1) a n.toNat (-4) m9)) 21 (tnS n.toNat))) 2 (stS (T 1) m9 dd))) H → va_S (AA K 12 s.heap.size) s.heap H locs → ∀ (ls : Array Slot), lv_has ls 9 [(7, .int (iI zd)), (5, .long (lI (wtS a m9 dd))), (4, .int (iI zm)), (0, .ref (K 0)), (1, .int (iI a)), (2, .int (iI n)), (3, .int (iI v))] → W p l e (headSpec (ws_ yX4_findOdds cX4_findOdds 9 none) ({ frames := 5, cells := 0, slots := 0, locals := 119 } : Room)).room s m ([.ref (K 0), .int (iI a), .int (iI n), .int (iI v)] : List Value).toArray below meth c H locs 0 0 (MQ below (mV (fun H => ∃ F2 : Nat → Int, MW G K (up (up T 0 (up (up (up (T 0) 19 (ttS (T 1) a n.toNat v (pw2 n.toNat))) 20 (ttS (T 1) a n.toNat (-4) (pw2 n.toNat))) 21 (tnS n.toNat))) 2 F2) H) (AA K 12 s.heap.size)) ([.ref (K 0), .int (iI a), .int (iI n), .int (iI v)] : List Value).toArray s 0 0 (AA K 12 s.heap.size)) (F0 m 63 ls []) := by
                intro fu
                induction fu with
                | zero => intro dd zd ezd hdd hmu; exact absurd hmu (Nat.not_lt_zero _)
                | succ fu ih63 =>
                  intro dd zd ezd hdd hmu H locs hW hS ls hl
                  have hwd := stS_wf hF hd m9 dd (by omega)
                  have hwt := hwd.1.day
                  have h76 : stS (T 1) m9 dd 76 = T 1 76 := stS_same hF hd m9 (by omega) (by omega) (by omega) dd (by omega)
                  have hDd : Dia (stS (T 1) m9 dd) := fun a ha => by rw [stS_same hF hd m9 (by omega) (by omega) (by omega) dd (by omega)]; exact hD a ha
                  refine lv_iload hx hb dX4_findOdds_63 (lv_at hl 0 rfl) ?_
                  refine lv_iload_n hx hb dX4_findOdds_65 rfl (lv_at hl 5 rfl) ?_
                  refine ii_icmp_ge (tgt := 119) hx hb dX4_findOdds_66 (by decide) (by omega) (by omega) (fun c_3 => ?_) (fun c_3 => ?_)
                  · -- 66 -> 119
                    have ex_dd : n.toNat = dd := by omega
                    subst ex_dd
                    refine lv_aload_n hx hb dX4_findOdds_119 rfl (lv_at hl 3 rfl) ?_
                    refine lv_dup hx hb dX4_findOdds_120 rfl ?_
                    refine r_get (ci := 4) (k := 19) (v := .long (lI (ttS (T 1) a n.toNat v m9))) (C := RX4) (T := TX4) (N := 29) Z hB hx hb hts hown rfl in_X4 hW.obj (by decide) q997 rfl dX4_findOdds_121 ?_
                    refine lv_aload_n hx hb dX4_findOdds_124 rfl (lv_at hl 3 rfl) ?_
                    have hn_4 : (T 1) 76 = (stS (T 1) m9 n.toNat) 76 := by first | rfl | omega
                    refine cqI (va_runV (As := []) (rest := [.long (lI (ttS (T 1) a n.toNat v m9)), .ref (K 0)]) ⟨hx, hb, hml, hown, hts⟩ (mX4_spread Z K (up (up T 0 (up (up (up (T 0) 19 (ttS (T 1) a n.toNat v m9)) 20 (ttS (T 1) a n.toNat (-4) m9)) 21 (tnS n.toNat))) 2 (stS (T 1) m9 n.toNat)) (stS (T 1) m9 n.toNat) rfl hwd.1 hn_4 ) (cwV 0 hts (lw_V q1155 q1157 qs49 q83 q1158) rfl rfl rfl (by decide +kernel) ⟨Nat.le_of_ble_eq_true rfl, Nat.le_of_ble_eq_true rfl⟩) (pvR (BornH.S hB hN hS) (OBJ.recv Z hB hW.obj (q := (RX4, TX4, 29)) rfl) hW) rfl rfl hl.1 rfl (lv_room (Nat.le_of_ble_eq_true rfl)) dX4_findOdds_125 ⟨Nat.zero_le _, Nat.zero_le _⟩) ?_
                    have b_768 := spS_in hwd.1
                    refine lv_iload_n hx hb dX4_findOdds_128 rfl (lv_at hl 6 rfl) ?_
                    refine ii_icmp_gt (tgt := 137) hx hb dX4_findOdds_129 (by decide) (by omega) (by omega) (fun c_5 => ?_) (fun c_5 => ?_)
                    · -- 129 -> 137
                      refine ii_lconst (z := 0) hx hb dX4_findOdds_137 rfl ?_
                      refine ll_add hx hb dX4_findOdds_138 ?_
                      refine r_put (ci := 4) (k := 19) (C := RX4) (T := TX4) (N := 29) Z hB hx hb hts hown rfl in_X4 tyX4 tyX4_ok nmX4 hW.obj hS (AA.me (by omega)) (by decide) q997 rfl rfl rfl rfl (Nat.le_of_ble_eq_true rfl) dX4_findOdds_139 (MW G K (up (up (up T 0 (up (up (up (T 0) 19 (ttS (T 1) a n.toNat v m9)) 20 (ttS (T 1) a n.toNat (-4) m9)) 21 (tnS n.toNat))) 2 (stS (T 1) m9 n.toNat)) 0 (up (up (up (up (T 0) 19 (ttS (T 1) a n.toNat v m9)) 20 (ttS (T 1) a n.toNat (-4) m9)) 21 (tnS n.toNat)) 19 ((ttS (T 1) a n.toNat v m9) + 0)))) (fun H1 hz oq ho => hW.setO hI (k := 19) oq ho) (fun H locs hW hS => ?_)
                      have hW := hW.eqS (S' := (up (up T 0 (up (up (up (T 0) 19 ((ttS (T 1) a n.toNat v m9) + 0)) 20 (ttS (T 1) a n.toNat (-4) m9)) 21 (tnS n.toNat))) 2 (stS (T 1) m9 n.toNat))) (by
                          funext a
                          by_cases h0 : a = 0
                          · subst h0
                            funext j
                            by_cases k0 : j = 19
                            · subst k0; rfl
                            by_cases k1 : j = 20
                            · subst k1; rfl
                            by_cases k2 : j = 21
                            · subst k2; rfl
                            simp only [up, if_neg k0, if_neg k1, if_neg k2, if_true, if_false, Nat.reduceEqDiff, reduceIte]
                          by_cases h2 : a = 2
                          · subst h2; rfl
                          simp only [up, if_neg h0, if_neg h2])
                      refine lv_aload_n hx hb dX4_findOdds_142 rfl (lv_at hl 3 rfl) ?_
                      refine lv_dup hx hb dX4_findOdds_143 rfl ?_
                      refine r_get (ci := 4) (k := 20) (v := .long (lI (ttS (T 1) a n.toNat (-4) m9))) (C := RX4) (T := TX4) (N := 29) Z hB hx hb hts hown rfl in_X4 hW.obj (by decide) q998 rfl dX4_findOdds_144 ?_
                      refine lv_lload hx hb dX4_findOdds_147 (lv_at hl 1 rfl) ?_
                      refine lv_aload_n hx hb dX4_findOdds_149 rfl (lv_at hl 3 rfl) ?_
                      have hn_6 : (T 1) 76 = (stS (T 1) m9 n.toNat) 76 := by first | rfl | omega
                      refine cqI (va_runV (As := []) (rest := [.long (lI (wtS a m9 n.toNat)), .long (lI (ttS (T 1) a n.toNat (-4) m9)), .ref (K 0)]) ⟨hx, hb, hml, hown, hts⟩ (mX4_spread Z K (up (up T 0 (up (up (up (T 0) 19 ((ttS (T 1) a n.toNat v m9) + 0)) 20 (ttS (T 1) a n.toNat (-4) m9)) 21 (tnS n.toNat))) 2 (stS (T 1) m9 n.toNat)) (stS (T 1) m9 n.toNat) rfl hwd.1 hn_6 ) (cwV 0 hts (lw_V q1155 q1157 qs49 q83 q1158) rfl rfl rfl (by decide +kernel) ⟨Nat.le_of_ble_eq_true rfl, Nat.le_of_ble_eq_true rfl⟩) (pvR (BornH.S hB hN hS) (OBJ.recv Z hB hW.obj (q := (RX4, TX4, 29)) rfl) hW) rfl rfl hl.1 rfl (lv_room (Nat.le_of_ble_eq_true rfl)) dX4_findOdds_150 ⟨Nat.zero_le _, Nat.zero_le _⟩) ?_
                      have b_769 := spS_in hwd.1
                      refine ii_i2l hx hb (by omega) dX4_findOdds_153 ?_
                      refine ll_mul hx hb dX4_findOdds_154 ?_
                      refine ll_add hx hb dX4_findOdds_155 ?_
                      refine r_put (ci := 4) (k := 20) (C := RX4) (T := TX4) (N := 29) Z hB hx hb hts hown rfl in_X4 tyX4 tyX4_ok nmX4 hW.obj hS (AA.me (by omega)) (by decide) q998 rfl rfl rfl rfl (Nat.le_of_ble_eq_true rfl) dX4_findOdds_156 (MW G K (up (up (up T 0 (up (up (up (T 0) 19 ((ttS (T 1) a n.toNat v m9) + 0)) 20 (ttS (T 1) a n.toNat (-4) m9)) 21 (tnS n.toNat))) 2 (stS (T 1) m9 n.toNat)) 0 (up (up (up (up (T 0) 19 ((ttS (T 1) a n.toNat v m9) + 0)) 20 (ttS (T 1) a n.toNat (-4) m9)) 21 (tnS n.toNat)) 20 ((ttS (T 1) a n.toNat (-4) m9) + ((wtS a m9 n.toNat) * (spS (stS (T 1) m9 n.toNat))))))) (fun H1 hz oq ho => hW.setO hI (k := 20) oq ho) (fun H locs hW hS => ?_)
                      have hW := hW.eqS (S' := (up (up T 0 (up (up (up (T 0) 19 ((ttS (T 1) a n.toNat v m9) + 0)) 20 ((ttS (T 1) a n.toNat (-4) m9) + ((wtS a m9 n.toNat) * (spS (stS (T 1) m9 n.toNat))))) 21 (tnS n.toNat))) 2 (stS (T 1) m9 n.toNat))) (by
                          funext a
                          by_cases h0 : a = 0
                          · subst h0
                            funext j
                            by_cases k0 : j = 19
                            · subst k0; rfl
                            by_cases k1 : j = 20
                            · subst k1; rfl
                            by_cases k2 : j = 21
                            · subst k2; rfl
                            simp only [up, if_neg k0, if_neg k1, if_neg k2, if_true, if_false, Nat.reduceEqDiff, reduceIte]
                          by_cases h2 : a = 2
                          · subst h2; rfl
                          simp only [up, if_neg h0, if_neg h2])
                      refine ii_iinc (k := 2) (lv' := [(4, .int (iI (zm + 1))), (7, .int (iI zd)), (5, .long (lI (wtS a m9 n.toNat))), (0, .ref (K 0)), (1, .int (iI a)), (2, .int (iI n)), (3, .int (iI v))]) hx hb dX4_findOdds_159 hl rfl (by decide) rfl (fun ls hl => ?_)
                      refine lv_goto (tgt := 45) hx hb dX4_findOdds_162 (by decide) ?_
                      exact ih45 (m9 + 1) (zm + 1) (stS (T 1) m9 n.toNat) (by omega) (by omega) (by omega) _ _ (by rw [show ttS (T 1) a n.toNat v (m9 + 1) = ((ttS (T 1) a n.toNat v m9) + 0) by simp only [ttS]; unfold vsS; (repeat' split) <;> omega, show ttS (T 1) a n.toNat (-4) (m9 + 1) = ((ttS (T 1) a n.toNat (-4) m9) + ((wtS a m9 n.toNat) * (spS (stS (T 1) m9 n.toNat)))) by simp only [ttS]; unfold vsS; rw [if_pos rfl]]; exact hW) hS ls (lv_sub hl [0, 3, 4, 5, 6] rfl)
                    · -- 129 -> 132
                      refine lv_lload hx hb dX4_findOdds_132 (lv_at hl 1 rfl) ?_
                      refine lv_goto (tgt := 138) hx hb dX4_findOdds_134 (by decide) ?_
                      refine ll_add hx hb dX4_findOdds_138 ?_
                      refine r_put (ci := 4) (k := 19) (C := RX4) (T := TX4) (N := 29) Z hB hx hb hts hown rfl in_X4 tyX4 tyX4_ok nmX4 hW.obj hS (AA.me (by omega)) (by decide) q997 rfl rfl rfl rfl (Nat.le_of_ble_eq_true rfl) dX4_findOdds_139 (MW G K (up (up (up T 0 (up (up (up (T 0) 19 (ttS (T 1) a n.toNat v m9)) 20 (ttS (T 1) a n.toNat (-4) m9)) 21 (tnS n.toNat))) 2 (stS (T 1) m9 n.toNat)) 0 (up (up (up (up (T 0) 19 (ttS (T 1) a n.toNat v m9)) 20 (ttS (T 1) a n.toNat (-4) m9)) 21 (tnS n.toNat)) 19 ((ttS (T 1) a n.toNat v m9) + (wtS a m9 n.toNat))))) (fun H1 hz oq ho => hW.setO hI (k := 19) oq ho) (fun H locs hW hS => ?_)
                      have hW := hW.eqS (S' := (up (up T 0 (up (up (up (T 0) 19 ((ttS (T 1) a n.toNat v m9) + (wtS a m9 n.toNat))) 20 (ttS (T 1) a n.toNat (-4) m9)) 21 (tnS n.toNat))) 2 (stS (T 1) m9 n.toNat))) (by
                          funext a
                          by_cases h0 : a = 0
                          · subst h0
                            funext j
                            by_cases k0 : j = 19
                            · subst k0; rfl
                            by_cases k1 : j = 20
                            · subst k1; rfl
                            by_cases k2 : j = 21
                            · subst k2; rfl
                            simp only [up, if_neg k0, if_neg k1, if_neg k2, if_true, if_false, Nat.reduceEqDiff, reduceIte]
                          by_cases h2 : a = 2
                          · subst h2; rfl
                          simp only [up, if_neg h0, if_neg h2])
                      refine lv_aload_n hx hb dX4_findOdds_142 rfl (lv_at hl 3 rfl) ?_
                      refine lv_dup hx hb dX4_findOdds_143 rfl ?_
                      refine r_get (ci := 4) (k := 20) (v := .long (lI (ttS (T 1) a n.toNat (-4) m9))) (C := RX4) (T := TX4) (N := 29) Z hB hx hb hts hown rfl in_X4 hW.obj (by decide) q998 rfl dX4_findOdds_144 ?_
                      refine lv_lload hx hb dX4_findOdds_147 (lv_at hl 1 rfl) ?_
                      refine lv_aload_n hx hb dX4_findOdds_149 rfl (lv_at hl 3 rfl) ?_
                      have hn_7 : (T 1) 76 = (stS (T 1) m9 n.toNat) 76 := by first | rfl | omega
                      refine cqI (va_runV (As := []) (rest := [.long (lI (wtS a m9 n.toNat)), .long (lI (ttS (T 1) a n.toNat (-4) m9)), .ref (K 0)]) ⟨hx, hb, hml, hown, hts⟩ (mX4_spread Z K (up (up T 0 (up (up (up (T 0) 19 ((ttS (T 1) a n.toNat v m9) + (wtS a m9 n.toNat))) 20 (ttS (T 1) a n.toNat (-4) m9)) 21 (tnS n.toNat))) 2 (stS (T 1) m9 n.toNat)) (stS (T 1) m9 n.toNat) rfl hwd.1 hn_7 ) (cwV 0 hts (lw_V q1155 q1157 qs49 q83 q1158) rfl rfl rfl (by decide +kernel) ⟨Nat.le_of_ble_eq_true rfl, Nat.le_of_ble_eq_true rfl⟩) (pvR (BornH.S hB hN hS) (OBJ.recv Z hB hW.obj (q := (RX4, TX4, 29)) rfl) hW) rfl rfl hl.1 rfl (lv_room (Nat.le_of_ble_eq_true rfl)) dX4_findOdds_150 ⟨Nat.zero_le _, Nat.zero_le _⟩) ?_
                      have b_770 := spS_in hwd.1
                      refine ii_i2l hx hb (by omega) dX4_findOdds_153 ?_
                      refine ll_mul hx hb dX4_findOdds_154 ?_
                      refine ll_add hx hb dX4_findOdds_155 ?_
                      refine r_put (ci := 4) (k := 20) (C := RX4) (T := TX4) (N := 29) Z hB hx hb hts hown rfl in_X4 tyX4 tyX4_ok nmX4 hW.obj hS (AA.me (by omega)) (by decide) q998 rfl rfl rfl rfl (Nat.le_of_ble_eq_true rfl) dX4_findOdds_156 (MW G K (up (up (up T 0 (up (up (up (T 0) 19 ((ttS (T 1) a n.toNat v m9) + (wtS a m9 n.toNat))) 20 (ttS (T 1) a n.toNat (-4) m9)) 21 (tnS n.toNat))) 2 (stS (T 1) m9 n.toNat)) 0 (up (up (up (up (T 0) 19 ((ttS (T 1) a n.toNat v m9) + (wtS a m9 n.toNat))) 20 (ttS (T 1) a n.toNat (-4) m9)) 21 (tnS n.toNat)) 20 ((ttS (T 1) a n.toNat (-4) m9) + ((wtS a m9 n.toNat) * (spS (stS (T 1) m9 n.toNat))))))) (fun H1 hz oq ho => hW.setO hI (k := 20) oq ho) (fun H locs hW hS => ?_)
                      have hW := hW.eqS (S' := (up (up T 0 (up (up (up (T 0) 19 ((ttS (T 1) a n.toNat v m9) + (wtS a m9 n.toNat))) 20 ((ttS (T 1) a n.toNat (-4) m9) + ((wtS a m9 n.toNat) * (spS (stS (T 1) m9 n.toNat))))) 21 (tnS n.toNat))) 2 (stS (T 1) m9 n.toNat))) (by
                          funext a
                          by_cases h0 : a = 0
                          · subst h0
                            funext j
                            by_cases k0 : j = 19
                            · subst k0; rfl
                            by_cases k1 : j = 20
                            · subst k1; rfl
                            by_cases k2 : j = 21
                            · subst k2; rfl
                            simp only [up, if_neg k0, if_neg k1, if_neg k2, if_true, if_false, Nat.reduceEqDiff, reduceIte]
                          by_cases h2 : a = 2
                          · subst h2; rfl
                          simp only [up, if_neg h0, if_neg h2])
                      refine ii_iinc (k := 2) (lv' := [(4, .int (iI (zm + 1))), (7, .int (iI zd)), (5, .long (lI (wtS a m9 n.toNat))), (0, .ref (K 0)), (1, .int (iI a)), (2, .int (iI n)), (3, .int (iI v))]) hx hb dX4_findOdds_159 hl rfl (by decide) rfl (fun ls hl => ?_)
                      refine lv_goto (tgt := 45) hx hb dX4_findOdds_162 (by decide) ?_
                      exact ih45 (m9 + 1) (zm + 1) (stS (T 1) m9 n.toNat) (by omega) (by omega) (by omega) _ _ (by rw [show ttS (T 1) a n.toNat v (m9 + 1) = ((ttS (T 1) a n.toNat v m9) + (wtS a m9 n.toNat)) by simp only [ttS]; unfold vsS; (repeat' split) <;> omega, show ttS (T 1) a n.toNat (-4) (m9 + 1) = ((ttS (T 1) a n.toNat (-4) m9) + ((wtS a m9 n.toNat) * (spS (stS (T 1) m9 n.toNat)))) by simp only [ttS]; unfold vsS; rw [if_pos rfl]]; exact hW) hS ls (lv_sub hl [0, 3, 4, 5, 6] rfl)
                  · -- 66 -> 69
                    refine lv_iload hx hb dX4_findOdds_69 (lv_at hl 2 rfl) ?_
                    refine lv_iload hx hb dX4_findOdds_71 (lv_at hl 0 rfl) ?_
                    refine ii_shand hx hb (by omega) (by omega) dX4_findOdds_73 dX4_findOdds_74 dX4_findOdds_75 ?_
                    have b_8 := Nat.mod_two_eq_zero_or_one (zm.toNat / 2 ^ zd.toNat)
                    refine ii_const hx hb dX4_findOdds_76 ?_
                    refine ii_icmp_ne (tgt := 84) hx hb dX4_findOdds_77 (by decide) (by omega) (by omega) (fun c_9 => ?_) (fun c_9 => ?_)
                    · -- 77 -> 84
                      have hbt : ¬ bitS zm zd := by omega
                      refine ii_const hx hb dX4_findOdds_84 ?_
                      refine lv_istore (lv' := [(8, .int (iI 0)), (7, .int (iI zd)), (5, .long (lI (wtS a m9 dd))), (4, .int (iI zm)), (0, .ref (K 0)), (1, .int (iI a)), (2, .int (iI n)), (3, .int (iI v))]) hx hb dX4_findOdds_85 hl (by decide) rfl (fun ls hl => ?_)
                      refine lv_lload hx hb dX4_findOdds_87 (lv_at hl 2 rfl) ?_
                      refine lv_iload hx hb dX4_findOdds_89 (lv_at hl 0 rfl) ?_
                      refine ii_if_eq (tgt := 99) hx hb dX4_findOdds_91 (by decide) (by omega) (fun c_10 => ?_) (fun c_10 => ?_)
                      · -- 91 -> 99
                        refine ii_bipush hx hb dX4_findOdds_99 (by decide) ?_
                        refine lv_iload_n hx hb dX4_findOdds_101 rfl (lv_at hl 5 rfl) ?_
                        refine ii_sub hx hb dX4_findOdds_102 ?_
                        refine ii_i2l hx hb (by omega) dX4_findOdds_103 ?_
                        refine ll_mul hx hb dX4_findOdds_104 ?_
                        refine lv_lstore (lv' := [(5, .long (lI ((wtS a m9 dd) * (10 - a)))), (8, .int (iI 0)), (7, .int (iI zd)), (4, .int (iI zm)), (0, .ref (K 0)), (1, .int (iI a)), (2, .int (iI n)), (3, .int (iI v))]) hx hb dX4_findOdds_105 hl (by decide) rfl (fun ls hl => ?_)
                        refine lv_aload_n hx hb dX4_findOdds_107 rfl (lv_at hl 4 rfl) ?_
                        refine lv_iload hx hb dX4_findOdds_108 (lv_at hl 1 rfl) ?_
                        have hn_11 : (T 1) 76 = (stS (T 1) m9 dd) 76 := by first | rfl | omega
                        refine cmV (va_runV (As := [.int (iI 0)]) (rest := []) ⟨hx, hb, hml, hown, hts⟩ (mX4_dayGoes Z K hI (up (up T 0 (up (up (up (T 0) 19 (ttS (T 1) a n.toNat v m9)) 20 (ttS (T 1) a n.toNat (-4) m9)) 21 (tnS n.toNat))) 2 (stS (T 1) m9 dd)) (stS (T 1) m9 dd) rfl hwd.1 hn_11 0 (by omega) hDd H.size) (cwV 1 hts (lw_V q1273 q1275 qs64 q83 q1276) rfl rfl rfl (by decide +kernel) ⟨Nat.le_of_ble_eq_true rfl, Nat.le_of_ble_eq_true rfl⟩) (pvM (BornH.S hB hN hS) (OBJ.recv Z hB hW.obj (q := (RX4, TX4, 29)) rfl) hW) rfl rfl hl.1 rfl (lv_room (Nat.le_of_ble_eq_true rfl)) dX4_findOdds_110 ⟨Nat.zero_le _, Nat.zero_le _⟩) hS (AA.le hS.1) (fun H1 locs hW1 hz1 hk1 hS => ?_)
                        have hW := hW1
                        clear hW1 hk1 hz1
                        generalize H1 = H at hW hS ⊢
                        have hW := hW.eqS (S' := (up (up T 0 (up (up (up (T 0) 19 (ttS (T 1) a n.toNat v m9)) 20 (ttS (T 1) a n.toNat (-4) m9)) 21 (tnS n.toNat))) 2 (dayS (stS (T 1) m9 dd)))) (by
                            funext a
                            by_cases h0 : a = 0
                            · subst h0
                              funext j
                              by_cases k0 : j = 19
                              · subst k0; rfl
                              by_cases k1 : j = 20
                              · subst k1; rfl
                              by_cases k2 : j = 21
                              · subst k2; rfl
                              simp only [up, if_neg k0, if_neg k1, if_neg k2, if_true, if_false, Nat.reduceEqDiff, reduceIte]
                            by_cases h2 : a = 2
                            · subst h2; rfl
                            simp only [up, if_neg h0, if_neg h2])
                        refine ii_iinc (k := 2) (lv' := [(7, .int (iI (zd + 1))), (5, .long (lI ((wtS a m9 dd) * (10 - a)))), (8, .int (iI 0)), (4, .int (iI zm)), (0, .ref (K 0)), (1, .int (iI a)), (2, .int (iI n)), (3, .int (iI v))]) hx hb dX4_findOdds_113 hl rfl (by decide) rfl (fun ls hl => ?_)
                        refine lv_goto (tgt := 63) hx hb dX4_findOdds_116 (by decide) ?_
                        have e_12 : (wtS a m9 (dd + 1)) = ((wtS a m9 dd) * (10 - a)) := by simp only [wtS]; rw [← ezd, ← ezm]; first | rw [if_pos (by assumption)] | rw [if_neg (by assumption)]
                        exact ih63 (dd + 1) (zd + 1) (by omega) (by omega) (by omega) _ _ (by rw [show stS (T 1) m9 (dd + 1) = (dayS (stS (T 1) m9 dd)) by simp only [stS]; rw [← ezd, ← ezm]; first | exact (if_pos (by assumption)).trans (stepS_1 _).symm | exact if_neg (by assumption)]; exact hW) hS ls (by rw [e_12]; exact lv_sub hl [0, 1, 3, 4, 5, 6, 7] rfl)
                      · -- 91 -> 94
                        exact absurd c_10 (by omega)
                    · -- 77 -> 80
                      have hbt : bitS zm zd := by omega
                      refine ii_const hx hb dX4_findOdds_80 ?_
                      refine lv_goto (tgt := 85) hx hb dX4_findOdds_81 (by decide) ?_
                      refine lv_istore (lv' := [(8, .int (iI 1)), (7, .int (iI zd)), (5, .long (lI (wtS a m9 dd))), (4, .int (iI zm)), (0, .ref (K 0)), (1, .int (iI a)), (2, .int (iI n)), (3, .int (iI v))]) hx hb dX4_findOdds_85 hl (by decide) rfl (fun ls hl => ?_)
                      refine lv_lload hx hb dX4_findOdds_87 (lv_at hl 2 rfl) ?_
                      refine lv_iload hx hb dX4_findOdds_89 (lv_at hl 0 rfl) ?_
                      refine ii_if_eq (tgt := 99) hx hb dX4_findOdds_91 (by decide) (by omega) (fun c_13 => ?_) (fun c_13 => ?_)
                      · -- 91 -> 99
                        exact absurd c_13 (by omega)
                      · -- 91 -> 94
                        refine lv_iload_n hx hb dX4_findOdds_94 rfl (lv_at hl 5 rfl) ?_
                        refine ii_i2l hx hb (by omega) dX4_findOdds_95 ?_
                        refine lv_goto (tgt := 104) hx hb dX4_findOdds_96 (by decide) ?_
                        refine ll_mul hx hb dX4_findOdds_104 ?_
                        refine lv_lstore (lv' := [(5, .long (lI ((wtS a m9 dd) * a))), (8, .int (iI 1)), (7, .int (iI zd)), (4, .int (iI zm)), (0, .ref (K 0)), (1, .int (iI a)), (2, .int (iI n)), (3, .int (iI v))]) hx hb dX4_findOdds_105 hl (by decide) rfl (fun ls hl => ?_)
                        refine lv_aload_n hx hb dX4_findOdds_107 rfl (lv_at hl 4 rfl) ?_
                        refine lv_iload hx hb dX4_findOdds_108 (lv_at hl 1 rfl) ?_
                        have hn_14 : (T 1) 76 = (stS (T 1) m9 dd) 76 := by first | rfl | omega
                        refine cmV (va_runV (As := [.int (iI 1)]) (rest := []) ⟨hx, hb, hml, hown, hts⟩ (mX4_dayGoes Z K hI (up (up T 0 (up (up (up (T 0) 19 (ttS (T 1) a n.toNat v m9)) 20 (ttS (T 1) a n.toNat (-4) m9)) 21 (tnS n.toNat))) 2 (stS (T 1) m9 dd)) (stS (T 1) m9 dd) rfl hwd.1 hn_14 1 (by omega) hDd H.size) (cwV 1 hts (lw_V q1273 q1275 qs64 q83 q1276) rfl rfl rfl (by decide +kernel) ⟨Nat.le_of_ble_eq_true rfl, Nat.le_of_ble_eq_true rfl⟩) (pvM (BornH.S hB hN hS) (OBJ.recv Z hB hW.obj (q := (RX4, TX4, 29)) rfl) hW) rfl rfl hl.1 rfl (lv_room (Nat.le_of_ble_eq_true rfl)) dX4_findOdds_110 ⟨Nat.zero_le _, Nat.zero_le _⟩) hS (AA.le hS.1) (fun H1 locs hW1 hz1 hk1 hS => ?_)
                        have hW := hW1
                        clear hW1 hk1 hz1
                        generalize H1 = H at hW hS ⊢
                        have hW := hW.eqS (S' := (up (up T 0 (up (up (up (T 0) 19 (ttS (T 1) a n.toNat v m9)) 20 (ttS (T 1) a n.toNat (-4) m9)) 21 (tnS n.toNat))) 2 (stepS (stS (T 1) m9 dd) 1))) (by
                            funext a
                            by_cases h0 : a = 0
                            · subst h0
                              funext j
                              by_cases k0 : j = 19
                              · subst k0; rfl
                              by_cases k1 : j = 20
                              · subst k1; rfl
                              by_cases k2 : j = 21
                              · subst k2; rfl
                              simp only [up, if_neg k0, if_neg k1, if_neg k2, if_true, if_false, Nat.reduceEqDiff, reduceIte]
                            by_cases h2 : a = 2
                            · subst h2; rfl
                            simp only [up, if_neg h0, if_neg h2])
                        refine ii_iinc (k := 2) (lv' := [(7, .int (iI (zd + 1))), (5, .long (lI ((wtS a m9 dd) * a))), (8, .int (iI 1)), (4, .int (iI zm)), (0, .ref (K 0)), (1, .int (iI a)), (2, .int (iI n)), (3, .int (iI v))]) hx hb dX4_findOdds_113 hl rfl (by decide) rfl (fun ls hl => ?_)
                        refine lv_goto (tgt := 63) hx hb dX4_findOdds_116 (by decide) ?_
                        have e_15 : (wtS a m9 (dd + 1)) = ((wtS a m9 dd) * a) := by simp only [wtS]; rw [← ezd, ← ezm]; first | rw [if_pos (by assumption)] | rw [if_neg (by assumption)]
                        exact ih63 (dd + 1) (zd + 1) (by omega) (by omega) (by omega) _ _ (by rw [show stS (T 1) m9 (dd + 1) = (stepS (stS (T 1) m9 dd) 1) by simp only [stS]; rw [← ezd, ← ezm]; first | exact (if_pos (by assumption)).trans (stepS_1 _).symm | exact if_neg (by assumption)]; exact hW) hS ls (by rw [e_15]; exact lv_sub hl [0, 1, 3, 4, 5, 6, 7] rfl)
              have e_16 : (wtS a m9 0) = 1 := rfl
              exact loop_63 _ 0 0 (by omega) (by omega) (Nat.lt_succ_self _) _ _ hW hS ls (by rw [e_16]; exact lv_sub hl [0, 1, 2, 3, 4, 5, 6] rfl)
        have hW := hW.eqS (S' := (up (up T 0 (up (up (up (T 0) 19 (ttS (T 1) a n.toNat v 0)) 20 (ttS (T 1) a n.toNat (-4) 0)) 21 (tnS n.toNat))) 2 (T 2))) (by
            funext a
            by_cases h0 : a = 0
            · subst h0
              funext j
              by_cases k0 : j = 19
              · subst k0; rfl
              by_cases k1 : j = 20
              · subst k1; rfl
              by_cases k2 : j = 21
              · subst k2; rfl
              simp only [up, if_neg k0, if_neg k1, if_neg k2, if_true, if_false, Nat.reduceEqDiff, reduceIte]
            by_cases h2 : a = 2
            · subst h2; rfl
            simp only [up, if_neg h0, if_neg h2])
        exact loop_45 _ 0 0 (T 2) (by omega) (by omega) (Nat.lt_succ_self _) _ _ hW hS ls (lv_sub hl [0, 1, 2, 3, 4] rfl)
      · -- 21 -> 24
        refine lv_aload_n hx hb dX4_findOdds_24 rfl (lv_at hl 1 rfl) ?_
        refine lv_dup hx hb dX4_findOdds_25 rfl ?_
        refine r_get (ci := 4) (k := 21) (v := .long (lI (tnS i))) (C := RX4) (T := TX4) (N := 29) Z hB hx hb hts hown rfl in_X4 hW.obj (by decide) q999 rfl dX4_findOdds_26 ?_
        refine ii_ldc2 (z := 10) hx hb hts hown q1364 dX4_findOdds_29 (by decide) ?_
        refine ll_mul hx hb dX4_findOdds_32 ?_
        refine r_put (ci := 4) (k := 21) (C := RX4) (T := TX4) (N := 29) Z hB hx hb hts hown rfl in_X4 tyX4 tyX4_ok nmX4 hW.obj hS (AA.me (by omega)) (by decide) q999 rfl rfl rfl rfl (Nat.le_of_ble_eq_true rfl) dX4_findOdds_33 (MW G K (up (up T 0 (up (up (up (T 0) 19 0) 20 0) 21 (tnS i))) 0 (up (up (up (up (T 0) 19 0) 20 0) 21 (tnS i)) 21 ((tnS i) * 10)))) (fun H1 hz oq ho => hW.setO hI (k := 21) oq ho) (fun H locs hW hS => ?_)
        have hW := hW.eqS (S' := (up T 0 (up (up (up (T 0) 19 0) 20 0) 21 ((tnS i) * 10)))) (by
            funext a
            by_cases h0 : a = 0
            · subst h0
              funext j
              by_cases k0 : j = 19
              · subst k0; rfl
              by_cases k1 : j = 20
              · subst k1; rfl
              by_cases k2 : j = 21
              · subst k2; rfl
              simp only [up, if_neg k0, if_neg k1, if_neg k2, if_true, if_false, Nat.reduceEqDiff, reduceIte]
            simp only [up, if_neg h0])
        refine ii_iinc (k := 0) (lv' := [(4, .int (iI (zi + 1))), (0, .ref (K 0)), (1, .int (iI a)), (2, .int (iI n)), (3, .int (iI v))]) hx hb dX4_findOdds_36 hl rfl (by decide) rfl (fun ls hl => ?_)
        refine lv_goto (tgt := 18) hx hb dX4_findOdds_39 (by decide) ?_
        exact ih18 (i + 1) (zi + 1) (by omega) (by omega) (by omega) _ _ hW hS ls (lv_sub hl [0, 1, 2, 3, 4] rfl)
  exact loop_18 _ 0 0 (by omega) (by omega) (Nat.lt_succ_self _) _ _ hW hS ls (lv_sub hl [0, 1, 2, 3, 4] rfl)

set_option maxHeartbeats 1000000 in
set_option maxRecDepth 100000 in
theorem mX4_luck {l : Launch} {G : GG} {s0 : State} {b0 : Nat} (Z : ZZ l G s0 b0) (K : Nat → Nat) (hI : Own s0 K 12) (T : Sta) (F : Nat → Int) (eF : T 1 = F) (hF : WF F) (hD : Dia F) (hd : F 54 ≤ 2000) (a : Int) (ha : inR a) (n : Int) (hn : inR n) (v : Int) (hv : inR v) (z : Int) (hz : inR z) (sz : Nat) : Met l yX4_luck (ws_ yX4_luck cX4_luck 5 (some .long)) ({ frames := 6, cells := 0, slots := 0, locals := 147 } : Room) (pcM s0 sz (MW G K T) [.ref (K 0), .int (iI a), .int (iI n), .int (iI v), .int (iI z)]) (mL (luckA F a n v z) (MWx G K T) (AA K 12 sz)) 0 0 (AA K 12 sz) := by
  refine Met.ofW (cc := cX4_luck) (maxL := 5) (ret := (some .long)) (by decide) rfl ?_
  intro p e s m args below meth c s₁ B hml hv
  obtain ⟨rfl, hsz, hW, hB⟩ := hv
  subst hsz
  have hx := B.exec
  have hb := B.bytes
  have hr := B.returns
  have hts := atoms_spec (ws := (ws_ yX4_luck cX4_luck 5 (some .long))) B.pre
  have hts : ∀ w ∈ lw_all, w.before _ s = true := fun w h => hts w (List.mem_cons_of_mem _ h)
  have hown : s.vm.findClass RX4 = some m.cls := findClass_of_methodNamed B.named
  have hlocks := B.notSynchronized
  have hN := AA.old hI hB
  have hS : va_S (AA K 12 s.heap.size) s.heap s.heap [] := va_S.rf
  have hl := lv_entry ([.ref (K 0), .int (iI a), .int (iI n), .int (iI v), .int (iI z)]) (n := 5) (Nat.le_of_ble_eq_true rfl)
  rw [lg_entry_eq]
  generalize (lg_sl ([.ref (K 0), .int (iI a), .int (iI n), .int (iI v), .int (iI z)]) ++ List.replicate (5 - (lg_sl ([.ref (K 0), .int (iI a), .int (iI n), .int (iI v), .int (iI z)])).length) Slot.unset).toArray = ls at hl ⊢
  have hl : lv_has ls 5 [(0, .ref (K 0)), (1, .int (iI a)), (2, .int (iI n)), (3, .int (iI v)), (4, .int (iI z))] := hl
  subst eF
  refine lv_iload_n hx hb dX4_luck_0 rfl (lv_at hl 1 rfl) ?_
  refine ii_i2l hx hb (by omega) dX4_luck_1 ?_
  refine ii_lconst (z := 0) hx hb dX4_luck_2 rfl ?_
  refine ii_ldc2 (z := 10) hx hb hts hown q1364 dX4_luck_3 (by decide) ?_
  refine cqI (va_runS (As := [.long (lI a), .long (lI 0), .long (lI 10)]) (rest := []) ⟨hx, hb, hml, hown, hts⟩ (mX4_in Z a (by omega) 0 (by omega) 10 (by omega)) (va_cwS 3 hts (lw_S q1072 q1073 q83 q1074) rfl rfl rfl (by decide +kernel) ⟨Nat.le_of_ble_eq_true rfl, Nat.le_of_ble_eq_true rfl⟩) (psR (BornH.S hB hN hS) trivial) rfl rfl hl.1 rfl (lv_room (Nat.le_of_ble_eq_true rfl)) dX4_luck_6 ⟨Nat.zero_le _, Nat.zero_le _⟩) ?_
  refine bb_if_eq (P := 0 ≤ a ∧ a ≤ 10) (tgt := 39) hx hb dX4_luck_9 (by decide) (fun c_1 => ?_) (fun c_1 => ?_)
  · -- 9 -> 39
    refine ii_ldc2 (z := (-1)) hx hb hts hown q1366 dX4_luck_39 (by decide) ?_
    have hpw9 : (MWx G K T) s.heap := ⟨T, ⟨fun _ _ _ _ _ _ => rfl, fun _ _ _ _ _ _ => rfl⟩, hW⟩
    have he9 : (-1) = (luckA (T 1) a n v z) := by unfold luckA; first | (rw [if_pos (by omega)]; rfl) | rw [if_neg (by omega)]
    exact W.lret hx hb hr (fun t ht hW9 => ⟨⟨_, (), rfl, congrArg lI he9, by show (MWx G K T) t.heap; rw [ht]; exact hpw9⟩, hS.F ht⟩) hS.2.2 dX4_luck_42
  · -- 9 -> 12
    refine lv_iload_n hx hb dX4_luck_12 rfl (lv_at hl 2 rfl) ?_
    refine ii_i2l hx hb (by omega) dX4_luck_13 ?_
    refine ii_lconst (z := 0) hx hb dX4_luck_14 rfl ?_
    refine ii_ldc2 (z := 8) hx hb hts hown q1365 dX4_luck_15 (by decide) ?_
    refine cqI (va_runS (As := [.long (lI n), .long (lI 0), .long (lI 8)]) (rest := []) ⟨hx, hb, hml, hown, hts⟩ (mX4_in Z n (by omega) 0 (by omega) 8 (by omega)) (va_cwS 3 hts (lw_S q1072 q1073 q83 q1074) rfl rfl rfl (by decide +kernel) ⟨Nat.le_of_ble_eq_true rfl, Nat.le_of_ble_eq_true rfl⟩) (psR (BornH.S hB hN hS) trivial) rfl rfl hl.1 rfl (lv_room (Nat.le_of_ble_eq_true rfl)) dX4_luck_18 ⟨Nat.zero_le _, Nat.zero_le _⟩) ?_
    refine bb_if_eq (P := 0 ≤ n ∧ n ≤ 8) (tgt := 39) hx hb dX4_luck_21 (by decide) (fun c_2 => ?_) (fun c_2 => ?_)
    · -- 21 -> 39
      refine ii_ldc2 (z := (-1)) hx hb hts hown q1366 dX4_luck_39 (by decide) ?_
      have hpw9 : (MWx G K T) s.heap := ⟨T, ⟨fun _ _ _ _ _ _ => rfl, fun _ _ _ _ _ _ => rfl⟩, hW⟩
      have he9 : (-1) = (luckA (T 1) a n v z) := by unfold luckA; first | (rw [if_pos (by omega)]; rfl) | rw [if_neg (by omega)]
      exact W.lret hx hb hr (fun t ht hW9 => ⟨⟨_, (), rfl, congrArg lI he9, by show (MWx G K T) t.heap; rw [ht]; exact hpw9⟩, hS.F ht⟩) hS.2.2 dX4_luck_42
    · -- 21 -> 24
      refine lv_iload_n hx hb dX4_luck_24 rfl (lv_at hl 3 rfl) ?_
      refine cqI (va_runS (As := [.int (iI v)]) (rest := []) ⟨hx, hb, hml, hown, hts⟩ (mX4_isFathom Z v (by omega)) (va_cwS 1 hts (lw_S q1223 q1224 q83 q1225) rfl rfl rfl (by decide +kernel) ⟨Nat.le_of_ble_eq_true rfl, Nat.le_of_ble_eq_true rfl⟩) (psR (BornH.S hB hN hS) trivial) rfl rfl hl.1 rfl (lv_room (Nat.le_of_ble_eq_true rfl)) dX4_luck_25 ⟨Nat.zero_le _, Nat.zero_le _⟩) ?_
      refine bb_if_eq (P := 0 ≤ v ∧ v ≤ 99) (tgt := 39) hx hb dX4_luck_28 (by decide) (fun c_3 => ?_) (fun c_3 => ?_)
      · -- 28 -> 39
        refine ii_ldc2 (z := (-1)) hx hb hts hown q1366 dX4_luck_39 (by decide) ?_
        have hpw9 : (MWx G K T) s.heap := ⟨T, ⟨fun _ _ _ _ _ _ => rfl, fun _ _ _ _ _ _ => rfl⟩, hW⟩
        have he9 : (-1) = (luckA (T 1) a n v z) := by unfold luckA; first | (rw [if_pos (by omega)]; rfl) | rw [if_neg (by omega)]
        exact W.lret hx hb hr (fun t ht hW9 => ⟨⟨_, (), rfl, congrArg lI he9, by show (MWx G K T) t.heap; rw [ht]; exact hpw9⟩, hS.F ht⟩) hS.2.2 dX4_luck_42
      · -- 28 -> 31
        refine lv_iload hx hb dX4_luck_31 (lv_at hl 4 rfl) ?_
        refine cqI (va_runS (As := [.int (iI z)]) (rest := []) ⟨hx, hb, hml, hown, hts⟩ (mX4_isPart Z z (by omega)) (va_cwS 1 hts (lw_S q1316 q1317 q83 q1318) rfl rfl rfl (by decide +kernel) ⟨Nat.le_of_ble_eq_true rfl, Nat.le_of_ble_eq_true rfl⟩) (psR (BornH.S hB hN hS) trivial) rfl rfl hl.1 rfl (lv_room (Nat.le_of_ble_eq_true rfl)) dX4_luck_33 ⟨Nat.zero_le _, Nat.zero_le _⟩) ?_
        refine bb_if_ne (P := 0 ≤ z ∧ z ≤ 1) (tgt := 43) hx hb dX4_luck_36 (by decide) (fun c_4 => ?_) (fun c_4 => ?_)
        · -- 36 -> 43
          have hp2 := pw2_in (show n.toNat ≤ 8 by omega)
          have htn := tnS_in (show n.toNat ≤ 8 by omega)
          have htt := ttS_in hF hd (show 0 ≤ a ∧ a ≤ 10 by omega) (show n.toNat ≤ 8 by omega) v (pw2 n.toNat)
          refine lv_aload_n hx hb dX4_luck_43 rfl (lv_at hl 0 rfl) ?_
          refine lv_iload_n hx hb dX4_luck_44 rfl (lv_at hl 1 rfl) ?_
          refine lv_iload_n hx hb dX4_luck_45 rfl (lv_at hl 2 rfl) ?_
          refine lv_iload_n hx hb dX4_luck_46 rfl (lv_at hl 3 rfl) ?_
          refine cmV (va_runV (As := [.int (iI a), .int (iI n), .int (iI v)]) (rest := []) ⟨hx, hb, hml, hown, hts⟩ (mX4_findOdds Z K hI T (T 1) rfl hF hD hd a n v (by omega) (by omega) (by omega) s.heap.size) (cwV 3 hts (lw_V q1367 q1369 qs74 q83 q1370) rfl rfl rfl (by decide +kernel) ⟨Nat.le_of_ble_eq_true rfl, Nat.le_of_ble_eq_true rfl⟩) (pvM (BornH.S hB hN hS) (OBJ.recv Z hB hW.obj (q := (RX4, TX4, 29)) rfl) hW) rfl rfl hl.1 rfl (lv_room (Nat.le_of_ble_eq_true rfl)) dX4_luck_47 ⟨Nat.zero_le _, Nat.zero_le _⟩) hS (AA.le hS.1) (fun H1 locs hW1 hz1 hk1 hS => ?_)
          obtain ⟨Fo_5, hW⟩ := hW1
          clear hk1 hz1
          generalize H1 = H at hW hS ⊢
          refine lv_aload_n hx hb dX4_luck_50 rfl (lv_at hl 0 rfl) ?_
          refine r_get (ci := 4) (k := 19) (v := .long (lI (ttS (T 1) a n.toNat v (pw2 n.toNat)))) (C := RX4) (T := TX4) (N := 29) Z hB hx hb hts hown rfl in_X4 hW.obj (by decide) q997 rfl dX4_luck_51 ?_
          refine lv_aload_n hx hb dX4_luck_54 rfl (lv_at hl 0 rfl) ?_
          refine r_get (ci := 4) (k := 21) (v := .long (lI (tnS n.toNat))) (C := RX4) (T := TX4) (N := 29) Z hB hx hb hts hown rfl in_X4 hW.obj (by decide) q999 rfl dX4_luck_55 ?_
          refine lv_iload hx hb dX4_luck_58 (lv_at hl 4 rfl) ?_
          refine cqL (va_runS (As := [.long (lI (ttS (T 1) a n.toNat v (pw2 n.toNat))), .long (lI (tnS n.toNat)), .int (iI z)]) (rest := []) ⟨hx, hb, hml, hown, hts⟩ (mX4_told Z (ttS (T 1) a n.toNat v (pw2 n.toNat)) (tnS n.toNat) z (by omega) (by omega) (by omega)) (va_cwS 3 hts (lw_S q1371 q1372 q83 q1373) rfl rfl rfl (by decide +kernel) ⟨Nat.le_of_ble_eq_true rfl, Nat.le_of_ble_eq_true rfl⟩) (psR (BornH.S hB hN hS) trivial) rfl rfl hl.1 rfl (lv_room (Nat.le_of_ble_eq_true rfl)) dX4_luck_60 ⟨Nat.zero_le _, Nat.zero_le _⟩) ?_
          have hpw9 : (MWx G K T) H := (hW.x (fun a h0 h2 h6 h7 h11 => by first | rfl | simp only [up, if_neg h0, if_neg h2, if_neg h6, if_neg h7, if_neg h11]) (fun j h1 h2 h3 h4 h5 => by first | rfl | simp [up, h1, h2, h3, h4, h5]))
          have he9 : (loS (ttS (T 1) a n.toNat v (pw2 n.toNat)) (tnS n.toNat) z) = (luckA (T 1) a n v z) := by unfold luckA; first | (rw [if_pos (by omega)]; rfl) | rw [if_neg (by omega)]
          exact W.lret hx hb hr (fun t ht hW9 => ⟨⟨_, (), rfl, congrArg lI he9, by show (MWx G K T) t.heap; rw [ht]; exact hpw9⟩, hS.F ht⟩) hS.2.2 dX4_luck_63
        · -- 36 -> 39
          refine ii_ldc2 (z := (-1)) hx hb hts hown q1366 dX4_luck_39 (by decide) ?_
          have hpw9 : (MWx G K T) s.heap := ⟨T, ⟨fun _ _ _ _ _ _ => rfl, fun _ _ _ _ _ _ => rfl⟩, hW⟩
          have he9 : (-1) = (luckA (T 1) a n v z) := by unfold luckA; first | (rw [if_pos (by omega)]; rfl) | rw [if_neg (by omega)]
          exact W.lret hx hb hr (fun t ht hW9 => ⟨⟨_, (), rfl, congrArg lI he9, by show (MWx G K T) t.heap; rw [ht]; exact hpw9⟩, hS.F ht⟩) hS.2.2 dX4_luck_42

set_option maxHeartbeats 1000000 in
set_option maxRecDepth 100000 in
theorem mX4_mean {l : Launch} {G : GG} {s0 : State} {b0 : Nat} (Z : ZZ l G s0 b0) (K : Nat → Nat) (hI : Own s0 K 12) (T : Sta) (F : Nat → Int) (eF : T 1 = F) (hF : WF F) (hD : Dia F) (hd : F 54 ≤ 2000) (a : Int) (ha : inR a) (n : Int) (hn : inR n) (z : Int) (hz : inR z) (sz : Nat) : Met l yX4_mean (ws_ yX4_mean cX4_mean 4 (some .long)) ({ frames := 6, cells := 0, slots := 0, locals := 147 } : Room) (pcM s0 sz (MW G K T) [.ref (K 0), .int (iI a), .int (iI n), .int (iI z)]) (mL (meanA F a n z) (MWx G K T) (AA K 12 sz)) 0 0 (AA K 12 sz) := by
  refine Met.ofW (cc := cX4_mean) (maxL := 4) (ret := (some .long)) (by decide) rfl ?_
  intro p e s m args below meth c s₁ B hml hv
  obtain ⟨rfl, hsz, hW, hB⟩ := hv
  subst hsz
  have hx := B.exec
  have hb := B.bytes
  have hr := B.returns
  have hts := atoms_spec (ws := (ws_ yX4_mean cX4_mean 4 (some .long))) B.pre
  have hts : ∀ w ∈ lw_all, w.before _ s = true := fun w h => hts w (List.mem_cons_of_mem _ h)
  have hown : s.vm.findClass RX4 = some m.cls := findClass_of_methodNamed B.named
  have hlocks := B.notSynchronized
  have hN := AA.old hI hB
  have hS : va_S (AA K 12 s.heap.size) s.heap s.heap [] := va_S.rf
  have hl := lv_entry ([.ref (K 0), .int (iI a), .int (iI n), .int (iI z)]) (n := 4) (Nat.le_of_ble_eq_true rfl)
  rw [lg_entry_eq]
  generalize (lg_sl ([.ref (K 0), .int (iI a), .int (iI n), .int (iI z)]) ++ List.replicate (4 - (lg_sl ([.ref (K 0), .int (iI a), .int (iI n), .int (iI z)])).length) Slot.unset).toArray = ls at hl ⊢
  have hl : lv_has ls 4 [(0, .ref (K 0)), (1, .int (iI a)), (2, .int (iI n)), (3, .int (iI z))] := hl
  subst eF
  refine lv_iload_n hx hb dX4_mean_0 rfl (lv_at hl 1 rfl) ?_
  refine ii_i2l hx hb (by omega) dX4_mean_1 ?_
  refine ii_lconst (z := 0) hx hb dX4_mean_2 rfl ?_
  refine ii_ldc2 (z := 10) hx hb hts hown q1364 dX4_mean_3 (by decide) ?_
  refine cqI (va_runS (As := [.long (lI a), .long (lI 0), .long (lI 10)]) (rest := []) ⟨hx, hb, hml, hown, hts⟩ (mX4_in Z a (by omega) 0 (by omega) 10 (by omega)) (va_cwS 3 hts (lw_S q1072 q1073 q83 q1074) rfl rfl rfl (by decide +kernel) ⟨Nat.le_of_ble_eq_true rfl, Nat.le_of_ble_eq_true rfl⟩) (psR (BornH.S hB hN hS) trivial) rfl rfl hl.1 rfl (lv_room (Nat.le_of_ble_eq_true rfl)) dX4_mean_6 ⟨Nat.zero_le _, Nat.zero_le _⟩) ?_
  refine bb_if_eq (P := 0 ≤ a ∧ a ≤ 10) (tgt := 31) hx hb dX4_mean_9 (by decide) (fun c_1 => ?_) (fun c_1 => ?_)
  · -- 9 -> 31
    refine ii_ldc2 (z := (-1)) hx hb hts hown q1366 dX4_mean_31 (by decide) ?_
    have hpw9 : (MWx G K T) s.heap := ⟨T, ⟨fun _ _ _ _ _ _ => rfl, fun _ _ _ _ _ _ => rfl⟩, hW⟩
    have he9 : (-1) = (meanA (T 1) a n z) := by unfold meanA; first | (rw [if_pos (by omega)]; rfl) | rw [if_neg (by omega)]
    exact W.lret hx hb hr (fun t ht hW9 => ⟨⟨_, (), rfl, congrArg lI he9, by show (MWx G K T) t.heap; rw [ht]; exact hpw9⟩, hS.F ht⟩) hS.2.2 dX4_mean_34
  · -- 9 -> 12
    refine lv_iload_n hx hb dX4_mean_12 rfl (lv_at hl 2 rfl) ?_
    refine ii_i2l hx hb (by omega) dX4_mean_13 ?_
    refine ii_lconst (z := 0) hx hb dX4_mean_14 rfl ?_
    refine ii_ldc2 (z := 8) hx hb hts hown q1365 dX4_mean_15 (by decide) ?_
    refine cqI (va_runS (As := [.long (lI n), .long (lI 0), .long (lI 8)]) (rest := []) ⟨hx, hb, hml, hown, hts⟩ (mX4_in Z n (by omega) 0 (by omega) 8 (by omega)) (va_cwS 3 hts (lw_S q1072 q1073 q83 q1074) rfl rfl rfl (by decide +kernel) ⟨Nat.le_of_ble_eq_true rfl, Nat.le_of_ble_eq_true rfl⟩) (psR (BornH.S hB hN hS) trivial) rfl rfl hl.1 rfl (lv_room (Nat.le_of_ble_eq_true rfl)) dX4_mean_18 ⟨Nat.zero_le _, Nat.zero_le _⟩) ?_
    refine bb_if_eq (P := 0 ≤ n ∧ n ≤ 8) (tgt := 31) hx hb dX4_mean_21 (by decide) (fun c_2 => ?_) (fun c_2 => ?_)
    · -- 21 -> 31
      refine ii_ldc2 (z := (-1)) hx hb hts hown q1366 dX4_mean_31 (by decide) ?_
      have hpw9 : (MWx G K T) s.heap := ⟨T, ⟨fun _ _ _ _ _ _ => rfl, fun _ _ _ _ _ _ => rfl⟩, hW⟩
      have he9 : (-1) = (meanA (T 1) a n z) := by unfold meanA; first | (rw [if_pos (by omega)]; rfl) | rw [if_neg (by omega)]
      exact W.lret hx hb hr (fun t ht hW9 => ⟨⟨_, (), rfl, congrArg lI he9, by show (MWx G K T) t.heap; rw [ht]; exact hpw9⟩, hS.F ht⟩) hS.2.2 dX4_mean_34
    · -- 21 -> 24
      refine lv_iload_n hx hb dX4_mean_24 rfl (lv_at hl 3 rfl) ?_
      refine cqI (va_runS (As := [.int (iI z)]) (rest := []) ⟨hx, hb, hml, hown, hts⟩ (mX4_isPart Z z (by omega)) (va_cwS 1 hts (lw_S q1316 q1317 q83 q1318) rfl rfl rfl (by decide +kernel) ⟨Nat.le_of_ble_eq_true rfl, Nat.le_of_ble_eq_true rfl⟩) (psR (BornH.S hB hN hS) trivial) rfl rfl hl.1 rfl (lv_room (Nat.le_of_ble_eq_true rfl)) dX4_mean_25 ⟨Nat.zero_le _, Nat.zero_le _⟩) ?_
      refine bb_if_ne (P := 0 ≤ z ∧ z ≤ 1) (tgt := 35) hx hb dX4_mean_28 (by decide) (fun c_3 => ?_) (fun c_3 => ?_)
      · -- 28 -> 35
        have hp2 := pw2_in (show n.toNat ≤ 8 by omega)
        have htn := tnS_in (show n.toNat ≤ 8 by omega)
        have htt := ttS_in hF hd (show 0 ≤ a ∧ a ≤ 10 by omega) (show n.toNat ≤ 8 by omega) (-4) (pw2 n.toNat)
        refine lv_aload_n hx hb dX4_mean_35 rfl (lv_at hl 0 rfl) ?_
        refine lv_iload_n hx hb dX4_mean_36 rfl (lv_at hl 1 rfl) ?_
        refine lv_iload_n hx hb dX4_mean_37 rfl (lv_at hl 2 rfl) ?_
        refine ii_const hx hb dX4_mean_38 ?_
        refine cmV (va_runV (As := [.int (iI a), .int (iI n), .int (iI 0)]) (rest := []) ⟨hx, hb, hml, hown, hts⟩ (mX4_findOdds Z K hI T (T 1) rfl hF hD hd a n 0 (by omega) (by omega) (by omega) s.heap.size) (cwV 3 hts (lw_V q1367 q1369 qs74 q83 q1370) rfl rfl rfl (by decide +kernel) ⟨Nat.le_of_ble_eq_true rfl, Nat.le_of_ble_eq_true rfl⟩) (pvM (BornH.S hB hN hS) (OBJ.recv Z hB hW.obj (q := (RX4, TX4, 29)) rfl) hW) rfl rfl hl.1 rfl (lv_room (Nat.le_of_ble_eq_true rfl)) dX4_mean_39 ⟨Nat.zero_le _, Nat.zero_le _⟩) hS (AA.le hS.1) (fun H1 locs hW1 hz1 hk1 hS => ?_)
        obtain ⟨Fo_4, hW⟩ := hW1
        clear hk1 hz1
        generalize H1 = H at hW hS ⊢
        refine lv_aload_n hx hb dX4_mean_42 rfl (lv_at hl 0 rfl) ?_
        refine r_get (ci := 4) (k := 20) (v := .long (lI (ttS (T 1) a n.toNat (-4) (pw2 n.toNat)))) (C := RX4) (T := TX4) (N := 29) Z hB hx hb hts hown rfl in_X4 hW.obj (by decide) q998 rfl dX4_mean_43 ?_
        refine lv_aload_n hx hb dX4_mean_46 rfl (lv_at hl 0 rfl) ?_
        refine r_get (ci := 4) (k := 21) (v := .long (lI (tnS n.toNat))) (C := RX4) (T := TX4) (N := 29) Z hB hx hb hts hown rfl in_X4 hW.obj (by decide) q999 rfl dX4_mean_47 ?_
        refine lv_iload_n hx hb dX4_mean_50 rfl (lv_at hl 3 rfl) ?_
        refine cqL (va_runS (As := [.long (lI (ttS (T 1) a n.toNat (-4) (pw2 n.toNat))), .long (lI (tnS n.toNat)), .int (iI z)]) (rest := []) ⟨hx, hb, hml, hown, hts⟩ (mX4_told Z (ttS (T 1) a n.toNat (-4) (pw2 n.toNat)) (tnS n.toNat) z (by omega) (by omega) (by omega)) (va_cwS 3 hts (lw_S q1371 q1372 q83 q1373) rfl rfl rfl (by decide +kernel) ⟨Nat.le_of_ble_eq_true rfl, Nat.le_of_ble_eq_true rfl⟩) (psR (BornH.S hB hN hS) trivial) rfl rfl hl.1 rfl (lv_room (Nat.le_of_ble_eq_true rfl)) dX4_mean_51 ⟨Nat.zero_le _, Nat.zero_le _⟩) ?_
        have hpw9 : (MWx G K T) H := (hW.x (fun a h0 h2 h6 h7 h11 => by first | rfl | simp only [up, if_neg h0, if_neg h2, if_neg h6, if_neg h7, if_neg h11]) (fun j h1 h2 h3 h4 h5 => by first | rfl | simp [up, h1, h2, h3, h4, h5]))
        have he9 : (loS (ttS (T 1) a n.toNat (-4) (pw2 n.toNat)) (tnS n.toNat) z) = (meanA (T 1) a n z) := by unfold meanA; first | (rw [if_pos (by omega)]; rfl) | rw [if_neg (by omega)]
        exact W.lret hx hb hr (fun t ht hW9 => ⟨⟨_, (), rfl, congrArg lI he9, by show (MWx G K T) t.heap; rw [ht]; exact hpw9⟩, hS.F ht⟩) hS.2.2 dX4_mean_54
      · -- 28 -> 31
        refine ii_ldc2 (z := (-1)) hx hb hts hown q1366 dX4_mean_31 (by decide) ?_
        have hpw9 : (MWx G K T) s.heap := ⟨T, ⟨fun _ _ _ _ _ _ => rfl, fun _ _ _ _ _ _ => rfl⟩, hW⟩
        have he9 : (-1) = (meanA (T 1) a n z) := by unfold meanA; first | (rw [if_pos (by omega)]; rfl) | rw [if_neg (by omega)]
        exact W.lret hx hb hr (fun t ht hW9 => ⟨⟨_, (), rfl, congrArg lI he9, by show (MWx G K T) t.heap; rw [ht]; exact hpw9⟩, hS.F ht⟩) hS.2.2 dX4_mean_34
