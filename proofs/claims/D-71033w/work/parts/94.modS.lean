/-! MODEL: a text read, 3 (written by gen/mod18.py) -/
set_option maxRecDepth 100000
set_option maxHeartbeats 1000000 in
set_option maxRecDepth 100000 in
theorem mX4_noteHighest {l : Launch} {G : GG} {s0 : State} {b0 : Nat} (Z : ZZ l G s0 b0) (K : Nat → Nat) (hI : Own s0 K 12) (T : Sta) (P : Nat → Int) (eP : T 0 = P) (h8 : -4 ≤ P 8 ∧ P 8 ≤ 4) (i : Int) (hi9 : 0 ≤ i ∧ i ≤ 30) (sz : Nat) : Met l yX4_noteHighest (ws_ yX4_noteHighest cX4_noteHighest 2 none) ({ frames := 0, cells := 0, slots := 0, locals := 0 } : Room) (pcM s0 sz (MW G K T) [.ref (K 0), .int (iI i)]) (mV (MW G K (up T 0 (nhP P i))) (AA K 12 sz)) 0 0 (AA K 12 sz) := by
  refine Met.ofW (cc := cX4_noteHighest) (maxL := 2) (ret := none) (by decide) rfl ?_
  intro p e s m args below meth c s₁ B hml hv
  obtain ⟨rfl, hsz, hW, hB⟩ := hv
  subst hsz
  have hx := B.exec
  have hb := B.bytes
  have hr := B.returns
  have hts := atoms_spec (ws := (ws_ yX4_noteHighest cX4_noteHighest 2 none)) B.pre
  have hts : ∀ w ∈ lw_all, w.before _ s = true := fun w h => hts w (List.mem_cons_of_mem _ h)
  have hown : s.vm.findClass RX4 = some m.cls := findClass_of_methodNamed B.named
  have hlocks := B.notSynchronized
  have hN := AA.old hI hB
  have hS : va_S (AA K 12 s.heap.size) s.heap s.heap [] := va_S.rf
  have hl := lv_entry ([.ref (K 0), .int (iI i)]) (n := 2) (Nat.le_of_ble_eq_true rfl)
  rw [lg_entry_eq]
  generalize (lg_sl ([.ref (K 0), .int (iI i)]) ++ List.replicate (2 - (lg_sl ([.ref (K 0), .int (iI i)])).length) Slot.unset).toArray = ls at hl ⊢
  have hl : lv_has ls 2 [(0, .ref (K 0)), (1, .int (iI i))] := hl
  subst eP
  refine lv_aload_n hx hb dX4_noteHighest_0 rfl (lv_at hl 0 rfl) ?_
  refine lv_iload_n hx hb dX4_noteHighest_1 rfl (lv_at hl 1 rfl) ?_
  refine lv_aload_n hx hb dX4_noteHighest_2 rfl (lv_at hl 0 rfl) ?_
  refine r_get (ci := 4) (k := 8) (v := .int (iI ((T 0) 8))) (C := RX4) (T := TX4) (N := 29) Z hB hx hb hts hown rfl in_X4 hW.obj (by decide) q986 rfl dX4_noteHighest_3 ?_
  refine ii_icmp_le (tgt := 13) hx hb dX4_noteHighest_6 (by decide) (by omega) (by omega) (fun c_1 => ?_) (fun c_1 => ?_)
  · -- 6 -> 13
    refine lv_aload_n hx hb dX4_noteHighest_13 rfl (lv_at hl 0 rfl) ?_
    refine r_get (ci := 4) (k := 8) (v := .int (iI ((T 0) 8))) (C := RX4) (T := TX4) (N := 29) Z hB hx hb hts hown rfl in_X4 hW.obj (by decide) q986 rfl dX4_noteHighest_14 ?_
    refine r_put (ci := 4) (k := 8) (C := RX4) (T := TX4) (N := 29) Z hB hx hb hts hown rfl in_X4 tyX4 tyX4_ok nmX4 hW.obj hS (AA.me (by omega)) (by decide) q986 rfl rfl rfl rfl (Nat.le_of_ble_eq_true rfl) dX4_noteHighest_17 (MW G K (up T 0 (up (T 0) 8 ((T 0) 8)))) (fun H1 hz oq ho => hW.setO hI (k := 8) oq ho) (fun H locs hW hS => ?_)
    have hpw9 : (MW G K (up T 0 (nhP (T 0) i))) H := (by rw [show nhP (T 0) i = (up (T 0) 8 ((T 0) 8)) by unfold nhP; first | rw [if_pos (by omega)] | rw [if_neg (by omega)]]; exact hW)
    exact W.vret hx hb hr (fun t ht hW9 => ⟨⟨(), rfl, trivial, by show (MW G K (up T 0 (nhP (T 0) i))) t.heap; rw [ht]; exact hpw9⟩, hS.F ht⟩) hS.2.2 dX4_noteHighest_20
  · -- 6 -> 9
    refine lv_iload_n hx hb dX4_noteHighest_9 rfl (lv_at hl 1 rfl) ?_
    refine lv_goto (tgt := 17) hx hb dX4_noteHighest_10 (by decide) ?_
    refine r_put (ci := 4) (k := 8) (C := RX4) (T := TX4) (N := 29) Z hB hx hb hts hown rfl in_X4 tyX4 tyX4_ok nmX4 hW.obj hS (AA.me (by omega)) (by decide) q986 rfl rfl rfl rfl (Nat.le_of_ble_eq_true rfl) dX4_noteHighest_17 (MW G K (up T 0 (up (T 0) 8 i))) (fun H1 hz oq ho => hW.setO hI (k := 8) oq ho) (fun H locs hW hS => ?_)
    have hpw9 : (MW G K (up T 0 (nhP (T 0) i))) H := (by rw [show nhP (T 0) i = (up (T 0) 8 i) by unfold nhP; first | rw [if_pos (by omega)] | rw [if_neg (by omega)]]; exact hW)
    exact W.vret hx hb hr (fun t ht hW9 => ⟨⟨(), rfl, trivial, by show (MW G K (up T 0 (nhP (T 0) i))) t.heap; rw [ht]; exact hpw9⟩, hS.F ht⟩) hS.2.2 dX4_noteHighest_20

set_option maxHeartbeats 1000000 in
set_option maxRecDepth 100000 in
theorem mX4_firstDraft {l : Launch} {G : GG} {s0 : State} {b0 : Nat} (Z : ZZ l G s0 b0) (K : Nat → Nat) (hI : Own s0 K 12) (T : Sta) (P D : Nat → Int) (eP : T 0 = P) (eD : T 4 = D) (sz : Nat) : Met l yX4_firstDraft (ws_ yX4_firstDraft cX4_firstDraft 2 none) ({ frames := 0, cells := 0, slots := 0, locals := 0 } : Room) (pcM s0 sz (MW G K T) [.ref (K 0)]) (mV (MW G K (up (up T 0 (first0 P)) 4 (draft0 D))) (AA K 12 sz)) 0 0 (AA K 12 sz) := by
  refine Met.ofW (cc := cX4_firstDraft) (maxL := 2) (ret := none) (by decide) rfl ?_
  intro p e s m args below meth c s₁ B hml hv
  obtain ⟨rfl, hsz, hW, hB⟩ := hv
  subst hsz
  have hx := B.exec
  have hb := B.bytes
  have hr := B.returns
  have hts := atoms_spec (ws := (ws_ yX4_firstDraft cX4_firstDraft 2 none)) B.pre
  have hts : ∀ w ∈ lw_all, w.before _ s = true := fun w h => hts w (List.mem_cons_of_mem _ h)
  have hown : s.vm.findClass RX4 = some m.cls := findClass_of_methodNamed B.named
  have hlocks := B.notSynchronized
  have hN := AA.old hI hB
  have hS : va_S (AA K 12 s.heap.size) s.heap s.heap [] := va_S.rf
  have hl := lv_entry ([.ref (K 0)]) (n := 2) (Nat.le_of_ble_eq_true rfl)
  rw [lg_entry_eq]
  generalize (lg_sl ([.ref (K 0)]) ++ List.replicate (2 - (lg_sl ([.ref (K 0)])).length) Slot.unset).toArray = ls at hl ⊢
  have hl : lv_has ls 2 [(0, .ref (K 0))] := hl
  subst eP
  subst eD
  refine ii_const hx hb dX4_firstDraft_0 ?_
  refine lv_istore_n (lv' := [(1, .int (iI 0)), (0, .ref (K 0))]) hx hb dX4_firstDraft_1 rfl hl (by decide) rfl (fun ls hl => ?_)
  have loop_2 : ∀ (fu : Nat) (i : Nat) (zi : Int), (zi = (i : Int)) → (i ≤ 76) → (77 - i) < fu → ∀ (H : Heap) (locs : List Loc), (MW G K (up T 4 (cpS (fun _ => 0) (T 4) i))) H → va_S (AA K 12 s.heap.size) s.heap H locs → ∀ (ls : Array Slot), lv_has ls 2 [(1, .int (iI zi)), (0, .ref (K 0))] → W p l e (headSpec (ws_ yX4_firstDraft cX4_firstDraft 2 none) ({ frames := 0, cells := 0, slots := 0, locals := 0 } : Room)).room s m ([.ref (K 0)] : List Value).toArray below meth c H locs 0 0 (MQ below (mV (MW G K (up (up T 0 (first0 (T 0))) 4 (draft0 (T 4)))) (AA K 12 s.heap.size)) ([.ref (K 0)] : List Value).toArray s 0 0 (AA K 12 s.heap.size)) (F0 m 2 ls []) := by
    intro fu
    induction fu with
    | zero => intro i zi ezi hi hmu; exact absurd hmu (Nat.not_lt_zero _)
    | succ fu ih2 =>
      intro i zi ezi hi hmu H locs hW hS ls hl
      refine lv_iload_n hx hb dX4_firstDraft_2 rfl (lv_at hl 0 rfl) ?_
      refine ii_bipush hx hb dX4_firstDraft_3 (by decide) ?_
      refine ii_icmp_ge (tgt := 21) hx hb dX4_firstDraft_5 (by decide) (by omega) (by omega) (fun c_1 => ?_) (fun c_1 => ?_)
      · -- 5 -> 21
        have ex_i : 76 = i := by omega
        subst ex_i
        refine lv_aload_n hx hb dX4_firstDraft_21 rfl (lv_at hl 1 rfl) ?_
        refine ii_const hx hb dX4_firstDraft_22 ?_
        refine r_put (ci := 4) (k := 5) (C := RX4) (T := TX4) (N := 29) Z hB hx hb hts hown rfl in_X4 tyX4 tyX4_ok nmX4 hW.obj hS (AA.me (by omega)) (by decide) q983 rfl rfl rfl rfl (Nat.le_of_ble_eq_true rfl) dX4_firstDraft_23 (MW G K (up (up T 4 (cpS (fun _ => 0) (T 4) 76)) 4 (up (cpS (fun _ => 0) (T 4) 76) 76 0))) (fun H1 hz oq ho => hW.setDN hI oq ho) (fun H locs hW hS => ?_)
        have hW := hW.eqS (S' := (up T 4 (up (cpS (fun _ => 0) (T 4) 76) 76 0))) (by
            funext a
            by_cases h4 : a = 4
            · subst h4; rfl
            simp only [up, if_neg h4])
        refine lv_aload_n hx hb dX4_firstDraft_26 rfl (lv_at hl 1 rfl) ?_
        refine ii_const hx hb dX4_firstDraft_27 ?_
        refine r_put (ci := 4) (k := 6) (C := RX4) (T := TX4) (N := 29) Z hB hx hb hts hown rfl in_X4 tyX4 tyX4_ok nmX4 hW.obj hS (AA.me (by omega)) (by decide) q984 rfl rfl rfl rfl (Nat.le_of_ble_eq_true rfl) dX4_firstDraft_28 (MW G K (up (up T 4 (up (cpS (fun _ => 0) (T 4) 76) 76 0)) 0 (up (T 0) 6 0))) (fun H1 hz oq ho => hW.setO hI (k := 6) oq ho) (fun H locs hW hS => ?_)
        have hW := hW.eqS (S' := (up (up T 0 (up (T 0) 6 0)) 4 (up (cpS (fun _ => 0) (T 4) 76) 76 0))) (by
            funext a
            by_cases h0 : a = 0
            · subst h0
              funext j
              by_cases k0 : j = 6
              · subst k0; rfl
              simp only [up, if_neg k0, if_true, if_false, Nat.reduceEqDiff, reduceIte]
            by_cases h4 : a = 4
            · subst h4; rfl
            simp only [up, if_neg h0, if_neg h4])
        refine lv_aload_n hx hb dX4_firstDraft_31 rfl (lv_at hl 1 rfl) ?_
        refine ii_const hx hb dX4_firstDraft_32 ?_
        refine r_put (ci := 4) (k := 7) (C := RX4) (T := TX4) (N := 29) Z hB hx hb hts hown rfl in_X4 tyX4 tyX4_ok nmX4 hW.obj hS (AA.me (by omega)) (by decide) q985 rfl rfl rfl rfl (Nat.le_of_ble_eq_true rfl) dX4_firstDraft_33 (MW G K (up (up (up T 0 (up (T 0) 6 0)) 4 (up (cpS (fun _ => 0) (T 4) 76) 76 0)) 0 (up (up (T 0) 6 0) 7 0))) (fun H1 hz oq ho => hW.setO hI (k := 7) oq ho) (fun H locs hW hS => ?_)
        have hW := hW.eqS (S' := (up (up T 0 (up (up (T 0) 6 0) 7 0)) 4 (up (cpS (fun _ => 0) (T 4) 76) 76 0))) (by
            funext a
            by_cases h0 : a = 0
            · subst h0
              funext j
              by_cases k0 : j = 6
              · subst k0; rfl
              by_cases k1 : j = 7
              · subst k1; rfl
              simp only [up, if_neg k0, if_neg k1, if_true, if_false, Nat.reduceEqDiff, reduceIte]
            by_cases h4 : a = 4
            · subst h4; rfl
            simp only [up, if_neg h0, if_neg h4])
        refine lv_aload_n hx hb dX4_firstDraft_36 rfl (lv_at hl 1 rfl) ?_
        refine ii_bipush hx hb dX4_firstDraft_37 (by decide) ?_
        refine r_put (ci := 4) (k := 8) (C := RX4) (T := TX4) (N := 29) Z hB hx hb hts hown rfl in_X4 tyX4 tyX4_ok nmX4 hW.obj hS (AA.me (by omega)) (by decide) q986 rfl rfl rfl rfl (Nat.le_of_ble_eq_true rfl) dX4_firstDraft_39 (MW G K (up (up (up T 0 (up (up (T 0) 6 0) 7 0)) 4 (up (cpS (fun _ => 0) (T 4) 76) 76 0)) 0 (up (up (up (T 0) 6 0) 7 0) 8 (-4)))) (fun H1 hz oq ho => hW.setO hI (k := 8) oq ho) (fun H locs hW hS => ?_)
        have hW := hW.eqS (S' := (up (up T 0 (up (up (up (T 0) 6 0) 7 0) 8 (-4))) 4 (up (cpS (fun _ => 0) (T 4) 76) 76 0))) (by
            funext a
            by_cases h0 : a = 0
            · subst h0
              funext j
              by_cases k0 : j = 6
              · subst k0; rfl
              by_cases k1 : j = 7
              · subst k1; rfl
              by_cases k2 : j = 8
              · subst k2; rfl
              simp only [up, if_neg k0, if_neg k1, if_neg k2, if_true, if_false, Nat.reduceEqDiff, reduceIte]
            by_cases h4 : a = 4
            · subst h4; rfl
            simp only [up, if_neg h0, if_neg h4])
        have hpw9 : (MW G K (up (up T 0 (first0 (T 0))) 4 (draft0 (T 4)))) H := hW
        exact W.vret hx hb hr (fun t ht hW9 => ⟨⟨(), rfl, trivial, by show (MW G K (up (up T 0 (first0 (T 0))) 4 (draft0 (T 4)))) t.heap; rw [ht]; exact hpw9⟩, hS.F ht⟩) hS.2.2 dX4_firstDraft_42
      · -- 5 -> 8
        refine lv_aload_n hx hb dX4_firstDraft_8 rfl (lv_at hl 1 rfl) ?_
        refine r_get (ci := 4) (k := 4) (v := .ref (K 4)) (C := RX4) (T := TX4) (N := 29) Z hB hx hb hts hown rfl in_X4 hW.obj (by decide) q982 rfl dX4_firstDraft_9 ?_
        refine lv_iload_n hx hb dX4_firstDraft_12 rfl (lv_at hl 0 rfl) ?_
        refine ii_const hx hb dX4_firstDraft_13 ?_
        refine r_iast (k := i) Z hB hx hb hW.draft hS (AA.me (by omega)) (by omega) (by omega) (by omega) dX4_firstDraft_14 (MW G K (up (up T 4 (cpS (fun _ => 0) (T 4) i)) 4 (up (cpS (fun _ => 0) (T 4) i) i 0))) (fun H1 hz oq ha => hW.setA hI (j := 4) (by omega) (by omega) (fun h => up_n _ _ (by omega)) oq ha) (fun H locs hW hS => ?_)
        have hW := hW.eqS (S' := (up T 4 (up (cpS (fun _ => 0) (T 4) i) i 0))) (by
            funext a
            by_cases h4 : a = 4
            · subst h4; rfl
            simp only [up, if_neg h4])
        refine ii_iinc (k := 0) (lv' := [(1, .int (iI (zi + 1))), (0, .ref (K 0))]) hx hb dX4_firstDraft_15 hl rfl (by decide) rfl (fun ls hl => ?_)
        refine lv_goto (tgt := 2) hx hb dX4_firstDraft_18 (by decide) ?_
        exact ih2 (i + 1) (zi + 1) (by omega) (by omega) (by omega) _ _ (by rw [← cpS_s]; exact hW) hS ls (lv_sub hl [0, 1] rfl)
  exact loop_2 _ 0 0 (by omega) (by omega) (Nat.lt_succ_self _) _ _ (by rw [cpS_z, show up T 4 (T 4) = T from up_id T 4]; exact hW) hS ls (lv_sub hl [0, 1] rfl)

set_option maxHeartbeats 1000000 in
set_option maxRecDepth 100000 in
theorem mX4_keepDraft {l : Launch} {G : GG} {s0 : State} {b0 : Nat} (Z : ZZ l G s0 b0) (K : Nat → Nat) (hI : Own s0 K 12) (T : Sta) (D : Nat → Int) (eD : T 4 = D) (sz : Nat) : Met l yX4_keepDraft (ws_ yX4_keepDraft cX4_keepDraft 2 none) ({ frames := 0, cells := 0, slots := 0, locals := 0 } : Room) (pcM s0 sz (MW G K T) [.ref (K 0)]) (mV (MW G K (up (up T 1 D) 3 (up (up (T 3) 0 0) 1 0))) (AA K 12 sz)) 0 0 (AA K 12 sz) := by
  refine Met.ofW (cc := cX4_keepDraft) (maxL := 2) (ret := none) (by decide) rfl ?_
  intro p e s m args below meth c s₁ B hml hv
  obtain ⟨rfl, hsz, hW, hB⟩ := hv
  subst hsz
  have hx := B.exec
  have hb := B.bytes
  have hr := B.returns
  have hts := atoms_spec (ws := (ws_ yX4_keepDraft cX4_keepDraft 2 none)) B.pre
  have hts : ∀ w ∈ lw_all, w.before _ s = true := fun w h => hts w (List.mem_cons_of_mem _ h)
  have hown : s.vm.findClass RX4 = some m.cls := findClass_of_methodNamed B.named
  have hlocks := B.notSynchronized
  have hN := AA.old hI hB
  have hS : va_S (AA K 12 s.heap.size) s.heap s.heap [] := va_S.rf
  have hl := lv_entry ([.ref (K 0)]) (n := 2) (Nat.le_of_ble_eq_true rfl)
  rw [lg_entry_eq]
  generalize (lg_sl ([.ref (K 0)]) ++ List.replicate (2 - (lg_sl ([.ref (K 0)])).length) Slot.unset).toArray = ls at hl ⊢
  have hl : lv_has ls 2 [(0, .ref (K 0))] := hl
  subst eD
  refine ii_const hx hb dX4_keepDraft_0 ?_
  refine lv_istore_n (lv' := [(1, .int (iI 0)), (0, .ref (K 0))]) hx hb dX4_keepDraft_1 rfl hl (by decide) rfl (fun ls hl => ?_)
  have loop_2 : ∀ (fu : Nat) (i : Nat) (zi : Int), (zi = (i : Int)) → (i ≤ 76) → (77 - i) < fu → ∀ (H : Heap) (locs : List Loc), (MW G K (up T 1 (cpS (T 4) (T 1) i))) H → va_S (AA K 12 s.heap.size) s.heap H locs → ∀ (ls : Array Slot), lv_has ls 2 [(1, .int (iI zi)), (0, .ref (K 0))] → W p l e (headSpec (ws_ yX4_keepDraft cX4_keepDraft 2 none) ({ frames := 0, cells := 0, slots := 0, locals := 0 } : Room)).room s m ([.ref (K 0)] : List Value).toArray below meth c H locs 0 0 (MQ below (mV (MW G K (up (up T 1 (T 4)) 3 (up (up (T 3) 0 0) 1 0))) (AA K 12 s.heap.size)) ([.ref (K 0)] : List Value).toArray s 0 0 (AA K 12 s.heap.size)) (F0 m 2 ls []) := by
    intro fu
    induction fu with
    | zero => intro i zi ezi hi hmu; exact absurd hmu (Nat.not_lt_zero _)
    | succ fu ih2 =>
      intro i zi ezi hi hmu H locs hW hS ls hl
      refine lv_iload_n hx hb dX4_keepDraft_2 rfl (lv_at hl 0 rfl) ?_
      refine ii_bipush hx hb dX4_keepDraft_3 (by decide) ?_
      refine ii_icmp_ge (tgt := 26) hx hb dX4_keepDraft_5 (by decide) (by omega) (by omega) (fun c_1 => ?_) (fun c_1 => ?_)
      · -- 5 -> 26
        have ex_i : 76 = i := by omega
        subst ex_i
        refine lv_aload_n hx hb dX4_keepDraft_26 rfl (lv_at hl 1 rfl) ?_
        refine lv_aload_n hx hb dX4_keepDraft_27 rfl (lv_at hl 1 rfl) ?_
        refine r_get (ci := 4) (k := 5) (v := .int (iI ((T 4) 76))) (C := RX4) (T := TX4) (N := 29) Z hB hx hb hts hown rfl in_X4 hW.obj (by decide) q983 rfl dX4_keepDraft_28 ?_
        refine r_put (ci := 4) (k := 3) (C := RX4) (T := TX4) (N := 29) Z hB hx hb hts hown rfl in_X4 tyX4 tyX4_ok nmX4 hW.obj hS (AA.me (by omega)) (by decide) q981 rfl rfl rfl rfl (Nat.le_of_ble_eq_true rfl) dX4_keepDraft_31 (MW G K (up (up T 1 (cpS (T 4) (T 1) 76)) 1 (up (cpS (T 4) (T 1) 76) 76 ((T 4) 76)))) (fun H1 hz oq ho => hW.setN hI oq ho) (fun H locs hW hS => ?_)
        have hW := hW.eqS (S' := (up T 1 (up (cpS (T 4) (T 1) 76) 76 ((T 4) 76)))) (by
            funext a
            by_cases h1 : a = 1
            · subst h1; rfl
            simp only [up, if_neg h1])
        refine lv_aload_n hx hb dX4_keepDraft_34 rfl (lv_at hl 1 rfl) ?_
        refine r_get (ci := 4) (k := 2) (v := .ref (K 3)) (C := RX4) (T := TX4) (N := 29) Z hB hx hb hts hown rfl in_X4 hW.obj (by decide) q980 rfl dX4_keepDraft_35 ?_
        refine ii_const hx hb dX4_keepDraft_38 ?_
        refine ii_const hx hb dX4_keepDraft_39 ?_
        refine r_zast (k := 0) Z hB hx hb hW.isKept hS (AA.me (by omega)) (by omega) (by omega) (by omega) rfl dX4_keepDraft_40 (MW G K (up (up T 1 (up (cpS (T 4) (T 1) 76) 76 ((T 4) 76))) 3 (up (T 3) 0 0))) (fun H1 hz oq ha => hW.setA hI (j := 3) (by omega) (by omega) (fun h => absurd h (by omega)) oq ha) (fun H locs hW hS => ?_)
        refine lv_aload_n hx hb dX4_keepDraft_41 rfl (lv_at hl 1 rfl) ?_
        refine r_get (ci := 4) (k := 2) (v := .ref (K 3)) (C := RX4) (T := TX4) (N := 29) Z hB hx hb hts hown rfl in_X4 hW.obj (by decide) q980 rfl dX4_keepDraft_42 ?_
        refine ii_const hx hb dX4_keepDraft_45 ?_
        refine ii_const hx hb dX4_keepDraft_46 ?_
        refine r_zast (k := 1) Z hB hx hb hW.isKept hS (AA.me (by omega)) (by omega) (by omega) (by omega) rfl dX4_keepDraft_47 (MW G K (up (up (up T 1 (up (cpS (T 4) (T 1) 76) 76 ((T 4) 76))) 3 (up (T 3) 0 0)) 3 (up (up (T 3) 0 0) 1 0))) (fun H1 hz oq ha => hW.setA hI (j := 3) (by omega) (by omega) (fun h => absurd h (by omega)) oq ha) (fun H locs hW hS => ?_)
        have hW := hW.eqS (S' := (up (up T 1 (up (cpS (T 4) (T 1) 76) 76 ((T 4) 76))) 3 (up (up (T 3) 0 0) 1 0))) (by
            funext a
            by_cases h1 : a = 1
            · subst h1; rfl
            by_cases h3 : a = 3
            · subst h3; rfl
            simp only [up, if_neg h1, if_neg h3])
        have hpw9 : (MW G K (up (up T 1 (T 4)) 3 (up (up (T 3) 0 0) 1 0))) H := hW.re13 kd_eq
        exact W.vret hx hb hr (fun t ht hW9 => ⟨⟨(), rfl, trivial, by show (MW G K (up (up T 1 (T 4)) 3 (up (up (T 3) 0 0) 1 0))) t.heap; rw [ht]; exact hpw9⟩, hS.F ht⟩) hS.2.2 dX4_keepDraft_48
      · -- 5 -> 8
        refine lv_aload_n hx hb dX4_keepDraft_8 rfl (lv_at hl 1 rfl) ?_
        refine r_get (ci := 4) (k := 0) (v := .ref (K 1)) (C := RX4) (T := TX4) (N := 29) Z hB hx hb hts hown rfl in_X4 hW.obj (by decide) q978 rfl dX4_keepDraft_9 ?_
        refine lv_iload_n hx hb dX4_keepDraft_12 rfl (lv_at hl 0 rfl) ?_
        refine lv_aload_n hx hb dX4_keepDraft_13 rfl (lv_at hl 1 rfl) ?_
        refine r_get (ci := 4) (k := 4) (v := .ref (K 4)) (C := RX4) (T := TX4) (N := 29) Z hB hx hb hts hown rfl in_X4 hW.obj (by decide) q982 rfl dX4_keepDraft_14 ?_
        refine lv_iload_n hx hb dX4_keepDraft_17 rfl (lv_at hl 0 rfl) ?_
        refine r_iald (k := i) (f := (T 4)) Z hB hx hb hW.draft (by omega) (by omega) (by omega) dX4_keepDraft_18 ?_
        refine r_iast (k := i) Z hB hx hb hW.st hS (AA.me (by omega)) (by omega) (by omega) (by omega) dX4_keepDraft_19 (MW G K (up (up T 1 (cpS (T 4) (T 1) i)) 1 (up (cpS (T 4) (T 1) i) i ((T 4) i)))) (fun H1 hz oq ha => hW.setS hI (by omega) oq ha) (fun H locs hW hS => ?_)
        have hW := hW.eqS (S' := (up T 1 (up (cpS (T 4) (T 1) i) i ((T 4) i)))) (by
            funext a
            by_cases h1 : a = 1
            · subst h1; rfl
            simp only [up, if_neg h1])
        refine ii_iinc (k := 0) (lv' := [(1, .int (iI (zi + 1))), (0, .ref (K 0))]) hx hb dX4_keepDraft_20 hl rfl (by decide) rfl (fun ls hl => ?_)
        refine lv_goto (tgt := 2) hx hb dX4_keepDraft_23 (by decide) ?_
        exact ih2 (i + 1) (zi + 1) (by omega) (by omega) (by omega) _ _ (by rw [← cpS_s]; exact hW) hS ls (lv_sub hl [0, 1] rfl)
  exact loop_2 _ 0 0 (by omega) (by omega) (Nat.lt_succ_self _) _ _ (by rw [cpS_z, show up T 1 (T 1) = T from up_id T 1]; exact hW) hS ls (lv_sub hl [0, 1] rfl)

set_option maxHeartbeats 1000000 in
set_option maxRecDepth 100000 in
theorem mX4_readIsle {l : Launch} {G : GG} {s0 : State} {b0 : Nat} (Z : ZZ l G s0 b0) (K : Nat → Nat) (hI : Own s0 K 12) (T : Sta) (P D : Nat → Int) (eP : T 0 = P) (eD : T 4 = D) (hP : PI P) (hD : WF D) (t : Nat → Int) (et : T 5 = t) (ht : TapeOK t) (hd5 : D 76 < 5) (kd : Int) (hkd : 0 ≤ kd ∧ kd ≤ 3) (sz : Nat) : Met l yX4_readIsle (ws_ yX4_readIsle cX4_readIsle 4 none) ({ frames := 2, cells := 0, slots := 0, locals := 47 } : Room) (pcM s0 sz (MW G K T) [.ref (K 0), .int (iI kd)]) (mV (MW G K (up (up T 0 (riP t P D)) 4 (riD P D kd))) (AA K 12 sz)) 0 0 (AA K 12 sz) := by
  refine Met.ofW (cc := cX4_readIsle) (maxL := 4) (ret := none) (by decide) rfl ?_
  intro p e s m args below meth c s₁ B hml hv
  obtain ⟨rfl, hsz, hW, hB⟩ := hv
  subst hsz
  have hx := B.exec
  have hb := B.bytes
  have hr := B.returns
  have hts := atoms_spec (ws := (ws_ yX4_readIsle cX4_readIsle 4 none)) B.pre
  have hts : ∀ w ∈ lw_all, w.before _ s = true := fun w h => hts w (List.mem_cons_of_mem _ h)
  have hown : s.vm.findClass RX4 = some m.cls := findClass_of_methodNamed B.named
  have hlocks := B.notSynchronized
  have hN := AA.old hI hB
  have hS : va_S (AA K 12 s.heap.size) s.heap s.heap [] := va_S.rf
  have hl := lv_entry ([.ref (K 0), .int (iI kd)]) (n := 4) (Nat.le_of_ble_eq_true rfl)
  rw [lg_entry_eq]
  generalize (lg_sl ([.ref (K 0), .int (iI kd)]) ++ List.replicate (4 - (lg_sl ([.ref (K 0), .int (iI kd)])).length) Slot.unset).toArray = ls at hl ⊢
  have hl : lv_has ls 4 [(0, .ref (K 0)), (1, .int (iI kd))] := hl
  subst eP
  subst eD
  subst et
  have hn5 := hD.n
  have hrm := hD.rm
  refine lv_aload_n hx hb dX4_readIsle_0 rfl (lv_at hl 0 rfl) ?_
  refine ii_const hx hb dX4_readIsle_1 ?_
  refine ii_bipush hx hb dX4_readIsle_2 (by decide) ?_
  refine cmI (va_runV (As := [.int (iI 0), .int (iI 99)]) (rest := []) ⟨hx, hb, hml, hown, hts⟩ (mX4_looked Z K hI T (T 0) rfl hP 0 (by omega) 99 (by omega) s.heap.size) (cwV 2 hts (lw_V q1127 q1129 qs44 q83 q1130) rfl rfl rfl (by decide +kernel) ⟨Nat.le_of_ble_eq_true rfl, Nat.le_of_ble_eq_true rfl⟩) (pvM (BornH.S hB hN hS) (OBJ.recv Z hB hW.obj (q := (RX4, TX4, 29)) rfl) hW) rfl rfl hl.1 rfl (lv_room (Nat.le_of_ble_eq_true rfl)) dX4_readIsle_4 ⟨Nat.zero_le _, Nat.zero_le _⟩) hS (AA.le hS.1) (fun H1 locs hW1 hz1 hk1 hS => ?_)
  have hW := hW1
  clear hW1 hk1 hz1
  generalize H1 = H at hW hS ⊢
  have b_1 := lk_in (P := (T 0)) (lo := 0) (hi := 99) (by omega)
  have hp_2 : PI (lkP (T 0) 0 99) := lkP_pi hP _ _
  have ho_3 : (lkP (T 0) 0 99) 6 = ((T 0) 6) := (lkP_o _ _ _ (by omega) (by omega)).trans (by rfl)
  have ho_4 : (lkP (T 0) 0 99) 7 = ((T 0) 7) := (lkP_o _ _ _ (by omega) (by omega)).trans (by rfl)
  have ho_5 : (lkP (T 0) 0 99) 8 = ((T 0) 8) := (lkP_o _ _ _ (by omega) (by omega)).trans (by rfl)
  have ho_6 : (lkP (T 0) 0 99) 10 = ((T 0) 10) := (lkP_o _ _ _ (by omega) (by omega)).trans (by rfl)
  generalize eX1 : (lkP (T 0) 0 99) = X1 at hp_2 ho_3 ho_4 ho_5 ho_6 hW
  refine lv_istore_n (lv' := [(2, .int (iI (lkV (T 0) 0 99))), (0, .ref (K 0)), (1, .int (iI kd))]) hx hb dX4_readIsle_7 rfl hl (by decide) rfl (fun ls hl => ?_)
  refine ii_const hx hb dX4_readIsle_8 ?_
  refine lv_istore_n (lv' := [(3, .int (iI 0)), (2, .int (iI (lkV (T 0) 0 99))), (0, .ref (K 0)), (1, .int (iI kd))]) hx hb dX4_readIsle_9 rfl hl (by decide) rfl (fun ls hl => ?_)
  have loop_10 : ∀ (fu : Nat) (i : Nat) (zi : Int) (Xq : Nat → Int), (zi = (i : Int)) → (i ≤ ((T 4) 76).toNat) → (riN (T 4) (lkV (T 0) 0 99) i X1 = Xq) → (PI Xq) → (Xq 6 = (T 0) 6) → (Xq 7 = (T 0) 7) → (Xq 8 = (T 0) 8) → (Xq 10 = (T 0) 10) → (6 - i) < fu → ∀ (H : Heap) (locs : List Loc), (MW G K (up T 0 Xq)) H → va_S (AA K 12 s.heap.size) s.heap H locs → ∀ (ls : Array Slot), lv_has ls 4 [(3, .int (iI zi)), (2, .int (iI (lkV (T 0) 0 99))), (0, .ref (K 0)), (1, .int (iI kd))] → W p l e (headSpec (ws_ yX4_readIsle cX4_readIsle 4 none) ({ frames := 2, cells := 0, slots := 0, locals := 47 } : Room)).room s m ([.ref (K 0), .int (iI kd)] : List Value).toArray below meth c H locs 0 0 (MQ below (mV (MW G K (up (up T 0 (riP (T 5) (T 0) (T 4))) 4 (riD (T 0) (T 4) kd))) (AA K 12 s.heap.size)) ([.ref (K 0), .int (iI kd)] : List Value).toArray s 0 0 (AA K 12 s.heap.size)) (F0 m 10 ls []) := by
    intro fu
    induction fu with
    | zero => intro i zi Xq ezi hi hinv hpq hq6 hq7 hq8 hq10 hmu; exact absurd hmu (Nat.not_lt_zero _)
    | succ fu ih10 =>
      intro i zi Xq ezi hi hinv hpq hq6 hq7 hq8 hq10 hmu H locs hW hS ls hl
      have hpl := hD.pl i
      refine lv_iload_n hx hb dX4_readIsle_10 rfl (lv_at hl 0 rfl) ?_
      refine lv_aload_n hx hb dX4_readIsle_11 rfl (lv_at hl 2 rfl) ?_
      refine r_get (ci := 4) (k := 5) (v := .int (iI ((T 4) 76))) (C := RX4) (T := TX4) (N := 29) Z hB hx hb hts hown rfl in_X4 hW.obj (by decide) q983 rfl dX4_readIsle_12 ?_
      refine ii_icmp_ge (tgt := 48) hx hb dX4_readIsle_15 (by decide) (by omega) (by omega) (fun c_7 => ?_) (fun c_7 => ?_)
      · -- 15 -> 48
        have ex_i : ((T 4) 76).toNat = i := by omega
        subst ex_i
        refine lv_aload_n hx hb dX4_readIsle_48 rfl (lv_at hl 2 rfl) ?_
        refine r_get (ci := 4) (k := 4) (v := .ref (K 4)) (C := RX4) (T := TX4) (N := 29) Z hB hx hb hts hown rfl in_X4 hW.obj (by decide) q982 rfl dX4_readIsle_49 ?_
        refine ii_const hx hb dX4_readIsle_52 ?_
        refine lv_aload_n hx hb dX4_readIsle_53 rfl (lv_at hl 2 rfl) ?_
        refine r_get (ci := 4) (k := 5) (v := .int (iI ((T 4) 76))) (C := RX4) (T := TX4) (N := 29) Z hB hx hb hts hown rfl in_X4 hW.obj (by decide) q983 rfl dX4_readIsle_54 ?_
        refine ii_mul hx hb dX4_readIsle_57 ?_
        refine ii_const hx hb dX4_readIsle_58 ?_
        refine ii_add hx hb dX4_readIsle_59 ?_
        refine lv_iload_n hx hb dX4_readIsle_60 rfl (lv_at hl 3 rfl) ?_
        refine r_iast (k := (2 * ((T 4) 76).toNat + 0)) Z hB hx hb hW.draft hS (AA.me (by omega)) (by omega) (by omega) (by omega) dX4_readIsle_61 (MW G K (up (up T 0 Xq) 4 (up (T 4) (2 * ((T 4) 76).toNat + 0) kd))) (fun H1 hz oq ha => hW.setA hI (j := 4) (by omega) (by omega) (fun h => up_n _ _ (by omega)) oq ha) (fun H locs hW hS => ?_)
        refine lv_aload_n hx hb dX4_readIsle_62 rfl (lv_at hl 2 rfl) ?_
        refine r_get (ci := 4) (k := 4) (v := .ref (K 4)) (C := RX4) (T := TX4) (N := 29) Z hB hx hb hts hown rfl in_X4 hW.obj (by decide) q982 rfl dX4_readIsle_63 ?_
        refine ii_const hx hb dX4_readIsle_66 ?_
        refine lv_aload_n hx hb dX4_readIsle_67 rfl (lv_at hl 2 rfl) ?_
        refine r_get (ci := 4) (k := 5) (v := _) (C := RX4) (T := TX4) (N := 29) Z hB hx hb hts hown rfl in_X4 hW.obj (by decide) q983 rfl dX4_readIsle_68 ?_
        rw [show (up (up T 0 Xq) 4 (up (T 4) (2 * ((T 4) 76).toNat + 0) kd)) 4 76 = (T 4) 76 from (show (up (T 4) (2 * ((T 4) 76).toNat + 0) kd) 76 = (T 4) 76 by rw [up_n _ _ (by omega)])]
        refine ii_mul hx hb dX4_readIsle_71 ?_
        refine ii_const hx hb dX4_readIsle_72 ?_
        refine ii_add hx hb dX4_readIsle_73 ?_
        refine lv_iload_n hx hb dX4_readIsle_74 rfl (lv_at hl 1 rfl) ?_
        refine r_iast (k := (2 * ((T 4) 76).toNat + 1)) Z hB hx hb hW.draft hS (AA.me (by omega)) (by omega) (by omega) (by omega) dX4_readIsle_75 (MW G K (up (up (up T 0 Xq) 4 (up (T 4) (2 * ((T 4) 76).toNat + 0) kd)) 4 (up (up (T 4) (2 * ((T 4) 76).toNat + 0) kd) (2 * ((T 4) 76).toNat + 1) (lkV (T 0) 0 99)))) (fun H1 hz oq ha => hW.setA hI (j := 4) (by omega) (by omega) (fun h => up_n _ _ (by omega)) oq ha) (fun H locs hW hS => ?_)
        have hW := hW.eqS (S' := (up (up T 0 Xq) 4 (up (up (T 4) (2 * ((T 4) 76).toNat + 0) kd) (2 * ((T 4) 76).toNat + 1) (lkV (T 0) 0 99)))) (by
            funext a
            by_cases h4 : a = 4
            · subst h4; rfl
            simp only [up, if_neg h4])
        refine lv_aload_n hx hb dX4_readIsle_76 rfl (lv_at hl 2 rfl) ?_
        refine lv_dup hx hb dX4_readIsle_77 rfl ?_
        refine r_get (ci := 4) (k := 5) (v := _) (C := RX4) (T := TX4) (N := 29) Z hB hx hb hts hown rfl in_X4 hW.obj (by decide) q983 rfl dX4_readIsle_78 ?_
        rw [show (up (up T 0 Xq) 4 (up (up (T 4) (2 * ((T 4) 76).toNat + 0) kd) (2 * ((T 4) 76).toNat + 1) (lkV (T 0) 0 99))) 4 76 = (T 4) 76 from (show (up (up (T 4) (2 * ((T 4) 76).toNat + 0) kd) (2 * ((T 4) 76).toNat + 1) (lkV (T 0) 0 99)) 76 = (T 4) 76 by rw [up_n _ _ (by omega), up_n _ _ (by omega)])]
        refine ii_const hx hb dX4_readIsle_81 ?_
        refine ii_add hx hb dX4_readIsle_82 ?_
        refine r_put (ci := 4) (k := 5) (C := RX4) (T := TX4) (N := 29) Z hB hx hb hts hown rfl in_X4 tyX4 tyX4_ok nmX4 hW.obj hS (AA.me (by omega)) (by decide) q983 rfl rfl rfl rfl (Nat.le_of_ble_eq_true rfl) dX4_readIsle_83 (MW G K (up (up (up T 0 Xq) 4 (up (up (T 4) (2 * ((T 4) 76).toNat + 0) kd) (2 * ((T 4) 76).toNat + 1) (lkV (T 0) 0 99))) 4 (up (up (up (T 4) (2 * ((T 4) 76).toNat + 0) kd) (2 * ((T 4) 76).toNat + 1) (lkV (T 0) 0 99)) 76 (((T 4) 76) + 1)))) (fun H1 hz oq ho => hW.setDN hI oq ho) (fun H locs hW hS => ?_)
        have hW := hW.eqS (S' := (up (up T 0 Xq) 4 (up (up (up (T 4) (2 * ((T 4) 76).toNat + 0) kd) (2 * ((T 4) 76).toNat + 1) (lkV (T 0) 0 99)) 76 (((T 4) 76) + 1)))) (by
            funext a
            by_cases h4 : a = 4
            · subst h4; rfl
            simp only [up, if_neg h4])
        refine lv_aload_n hx hb dX4_readIsle_86 rfl (lv_at hl 2 rfl) ?_
        refine cmV (va_runV (As := []) (rest := []) ⟨hx, hb, hml, hown, hts⟩ (mX4_takes Z K hI (up (up T 0 Xq) 4 (up (up (up (T 4) (2 * ((T 4) 76).toNat + 0) kd) (2 * ((T 4) 76).toNat + 1) (lkV (T 0) 0 99)) 76 (((T 4) 76) + 1))) Xq rfl hpq ht H.size) (cwV 0 hts (lw_V q1083 q1085 qs34 q83 q1086) rfl rfl rfl (by decide +kernel) ⟨Nat.le_of_ble_eq_true rfl, Nat.le_of_ble_eq_true rfl⟩) (pvM (BornH.S hB hN hS) (OBJ.recv Z hB hW.obj (q := (RX4, TX4, 29)) rfl) hW) rfl rfl hl.1 rfl (lv_room (Nat.le_of_ble_eq_true rfl)) dX4_readIsle_87 ⟨Nat.zero_le _, Nat.zero_le _⟩) hS (AA.le hS.1) (fun H1 locs hW1 hz1 hk1 hS => ?_)
        have hW := hW1
        clear hW1 hk1 hz1
        generalize H1 = H at hW hS ⊢
        have hW := hW.eqS (S' := (up (up T 0 (tkP (T 5) Xq)) 4 (up (up (up (T 4) (2 * ((T 4) 76).toNat + 0) kd) (2 * ((T 4) 76).toNat + 1) (lkV (T 0) 0 99)) 76 (((T 4) 76) + 1)))) (by
            funext a
            by_cases h0 : a = 0
            · subst h0; rfl
            by_cases h4 : a = 4
            · subst h4; rfl
            simp only [up, if_neg h0, if_neg h4])
        have hp_8 : PI (tkP (T 5) Xq) := tkP_pi ht hpq
        have ho_9 : (tkP (T 5) Xq) 6 = (Xq 6) := (tkP_o _ _ (by omega)).trans (by rfl)
        have ho_10 : (tkP (T 5) Xq) 7 = (Xq 7) := (tkP_o _ _ (by omega)).trans (by rfl)
        have ho_11 : (tkP (T 5) Xq) 8 = (Xq 8) := (tkP_o _ _ (by omega)).trans (by rfl)
        have ho_12 : (tkP (T 5) Xq) 10 = (Xq 10) := (tkP_o _ _ (by omega)).trans (by rfl)
        generalize eX2 : (tkP (T 5) Xq) = X2 at hp_8 ho_9 ho_10 ho_11 ho_12 hW
        have hpw9 : (MW G K (up (up T 0 (riP (T 5) (T 0) (T 4))) 4 (riD (T 0) (T 4) kd))) H := (by rw [show riP (T 5) (T 0) (T 4) = X2 by unfold riP; rw [eX1, hinv, eX2]]; exact hW)
        exact W.vret hx hb hr (fun t ht hW9 => ⟨⟨(), rfl, trivial, by show (MW G K (up (up T 0 (riP (T 5) (T 0) (T 4))) 4 (riD (T 0) (T 4) kd))) t.heap; rw [ht]; exact hpw9⟩, hS.F ht⟩) hS.2.2 dX4_readIsle_90
      · -- 15 -> 18
        have hpi9 := hD.pl i (by omega)
        refine lv_aload_n hx hb dX4_readIsle_18 rfl (lv_at hl 2 rfl) ?_
        refine lv_aload_n hx hb dX4_readIsle_19 rfl (lv_at hl 2 rfl) ?_
        refine r_get (ci := 4) (k := 4) (v := .ref (K 4)) (C := RX4) (T := TX4) (N := 29) Z hB hx hb hts hown rfl in_X4 hW.obj (by decide) q982 rfl dX4_readIsle_20 ?_
        refine ii_const hx hb dX4_readIsle_23 ?_
        refine lv_iload_n hx hb dX4_readIsle_24 rfl (lv_at hl 0 rfl) ?_
        refine ii_mul hx hb dX4_readIsle_25 ?_
        refine ii_const hx hb dX4_readIsle_26 ?_
        refine ii_add hx hb dX4_readIsle_27 ?_
        have b_775 := hD.pl i (by omega)
        refine r_iald (k := (2 * i + 1)) (f := (T 4)) Z hB hx hb hW.draft (by omega) (by omega) (by omega) dX4_readIsle_28 ?_
        refine lv_iload_n hx hb dX4_readIsle_29 rfl (lv_at hl 1 rfl) ?_
        refine ii_icmp_eq (tgt := 37) hx hb dX4_readIsle_30 (by decide) (by omega) (by omega) (fun c_13 => ?_) (fun c_13 => ?_)
        · -- 30 -> 37
          refine ii_const hx hb dX4_readIsle_37 ?_
          refine ii_const hx hb dX4_readIsle_38 ?_
          have h15_14 : inR (Xq 15) := by have h9 := hpq; omega
          refine cmV (va_runV (As := [.int (iI 0), .int (iI 4)]) (rest := []) ⟨hx, hb, hml, hown, hts⟩ (mX4_needs Z K hI (up T 0 Xq) Xq rfl h15_14 0 4 (by omega) H.size) (cwV 2 hts (lw_V q1095 q1097 qs36 q83 q1098) rfl rfl rfl (by decide +kernel) ⟨Nat.le_of_ble_eq_true rfl, Nat.le_of_ble_eq_true rfl⟩) (pvM (BornH.S hB hN hS) (OBJ.recv Z hB hW.obj (q := (RX4, TX4, 29)) rfl) hW) rfl rfl hl.1 rfl (lv_room (Nat.le_of_ble_eq_true rfl)) dX4_readIsle_39 ⟨Nat.zero_le _, Nat.zero_le _⟩) hS (AA.le hS.1) (fun H1 locs hW1 hz1 hk1 hS => ?_)
          have hW := hW1
          clear hW1 hk1 hz1
          generalize H1 = H at hW hS ⊢
          have hW := hW.eqS (S' := (up T 0 (ndS Xq 0 4))) (by
              funext a
              by_cases h0 : a = 0
              · subst h0; rfl
              simp only [up, if_neg h0])
          have hf_15 := ndS_f Xq 0 4
          have hp_16 : PI (ndS Xq 0 4) := ndS_pi hpq (by omega)
          refine ii_iinc (k := 0) (lv' := [(3, .int (iI (zi + 1))), (2, .int (iI (lkV (T 0) 0 99))), (0, .ref (K 0)), (1, .int (iI kd))]) hx hb dX4_readIsle_42 hl rfl (by decide) rfl (fun ls hl => ?_)
          refine lv_goto (tgt := 10) hx hb dX4_readIsle_45 (by decide) ?_
          exact ih10 (i + 1) (zi + 1) (ndS Xq 0 4) (by omega) (by omega) (by simp only [riN]; rw [hinv]; first | (rw [b2_t (by omega)]; exact ndS_1 _ (by omega)) | rw [b2_f (by omega)]) (by first | exact hpq | exact ndS_pi hpq (by omega)) (by first | exact hq6 | exact (ndS_o (by omega) (by omega)).trans hq6) (by first | exact hq7 | exact (ndS_o (by omega) (by omega)).trans hq7) (by first | exact hq8 | exact (ndS_o (by omega) (by omega)).trans hq8) (by first | exact hq10 | exact (ndS_o (by omega) (by omega)).trans hq10) (by omega) _ _ hW hS ls (lv_sub hl [0, 1, 2, 3] rfl)
        · -- 30 -> 33
          refine ii_const hx hb dX4_readIsle_33 ?_
          refine lv_goto (tgt := 38) hx hb dX4_readIsle_34 (by decide) ?_
          refine ii_const hx hb dX4_readIsle_38 ?_
          have h15_18 : inR (Xq 15) := by have h9 := hpq; omega
          refine cmV (va_runV (As := [.int (iI 1), .int (iI 4)]) (rest := []) ⟨hx, hb, hml, hown, hts⟩ (mX4_needs Z K hI (up T 0 Xq) Xq rfl h15_18 1 4 (by omega) H.size) (cwV 2 hts (lw_V q1095 q1097 qs36 q83 q1098) rfl rfl rfl (by decide +kernel) ⟨Nat.le_of_ble_eq_true rfl, Nat.le_of_ble_eq_true rfl⟩) (pvM (BornH.S hB hN hS) (OBJ.recv Z hB hW.obj (q := (RX4, TX4, 29)) rfl) hW) rfl rfl hl.1 rfl (lv_room (Nat.le_of_ble_eq_true rfl)) dX4_readIsle_39 ⟨Nat.zero_le _, Nat.zero_le _⟩) hS (AA.le hS.1) (fun H1 locs hW1 hz1 hk1 hS => ?_)
          have hW := hW1
          clear hW1 hk1 hz1
          generalize H1 = H at hW hS ⊢
          have hW := hW.eqS (S' := (up T 0 Xq)) (by rw [show ndS Xq 1 4 = Xq from ndS_1 _ (by omega)]; first | exact up_id _ 0 | rfl | (exact up_id (up T 0 Xq) 0))
          refine ii_iinc (k := 0) (lv' := [(3, .int (iI (zi + 1))), (2, .int (iI (lkV (T 0) 0 99))), (0, .ref (K 0)), (1, .int (iI kd))]) hx hb dX4_readIsle_42 hl rfl (by decide) rfl (fun ls hl => ?_)
          refine lv_goto (tgt := 10) hx hb dX4_readIsle_45 (by decide) ?_
          exact ih10 (i + 1) (zi + 1) Xq (by omega) (by omega) (by simp only [riN]; rw [hinv]; first | (rw [b2_t (by omega)]; exact ndS_1 _ (by omega)) | rw [b2_f (by omega)]) (by first | exact hpq | exact ndS_pi hpq (by omega)) (by first | exact hq6 | exact (ndS_o (by omega) (by omega)).trans hq6) (by first | exact hq7 | exact (ndS_o (by omega) (by omega)).trans hq7) (by first | exact hq8 | exact (ndS_o (by omega) (by omega)).trans hq8) (by first | exact hq10 | exact (ndS_o (by omega) (by omega)).trans hq10) (by omega) _ _ hW hS ls (lv_sub hl [0, 1, 2, 3] rfl)
  exact loop_10 _ 0 0 X1 (by omega) (by omega) (rfl) (by omega) (by omega) (by omega) (by omega) (by omega) (Nat.lt_succ_self _) _ _ hW hS ls (lv_sub hl [0, 1, 2, 3] rfl)
