/-! MODEL: a text read, 1 (written by gen/mod15.py) -/
set_option maxRecDepth 100000
set_option maxHeartbeats 1000000 in
set_option maxRecDepth 100000 in
theorem mX4_byteAt {l : Launch} {G : GG} {s0 : State} {b0 : Nat} (Z : ZZ l G s0 b0) (K : Nat → Nat) (T : Sta) (n : Int) (en : T 0 10 = n) (hn : 0 ≤ n ∧ n ≤ 160) (t : Nat → Int) (et : T 5 = t) (ht : TapeOK t) (z : Int) (hz : 0 ≤ z ∧ z ≤ 1000) : Met l yX4_byteAt (ws_ yX4_byteAt cX4_byteAt 2 (some .int)) ({ frames := 0, cells := 0, slots := 0, locals := 0 } : Room) (pcR s0 (MW G K T) [.ref (K 0), .int (iI z)]) (qI (byA t n z)) 0 0 (fun _ => False) := by
  refine Met.ofW (cc := cX4_byteAt) (maxL := 2) (ret := (some .int)) (by decide) rfl ?_
  intro p e s m args below meth c s₁ B hml hv
  obtain ⟨rfl, hW, hB⟩ := hv
  have hx := B.exec
  have hb := B.bytes
  have hr := B.returns
  have hts := atoms_spec (ws := (ws_ yX4_byteAt cX4_byteAt 2 (some .int))) B.pre
  have hts : ∀ w ∈ lw_all, w.before _ s = true := fun w h => hts w (List.mem_cons_of_mem _ h)
  have hown : s.vm.findClass RX4 = some m.cls := findClass_of_methodNamed B.named
  have hlocks := B.notSynchronized
  have hl := lv_entry ([.ref (K 0), .int (iI z)]) (n := 2) (Nat.le_of_ble_eq_true rfl)
  rw [lg_entry_eq]
  generalize (lg_sl ([.ref (K 0), .int (iI z)]) ++ List.replicate (2 - (lg_sl ([.ref (K 0), .int (iI z)])).length) Slot.unset).toArray = ls at hl ⊢
  have hl : lv_has ls 2 [(0, .ref (K 0)), (1, .int (iI z))] := hl
  subst en
  subst et
  have ht9 := ht z.toNat
  refine lv_iload_n hx hb dX4_byteAt_0 rfl (lv_at hl 1 rfl) ?_
  refine lv_aload_n hx hb dX4_byteAt_1 rfl (lv_at hl 0 rfl) ?_
  refine r_get (ci := 4) (k := 10) (v := .int (iI ((T 0) 10))) (C := RX4) (T := TX4) (N := 29) Z hB hx hb hts hown rfl in_X4 hW.obj (by decide) q988 rfl dX4_byteAt_2 ?_
  refine ii_icmp_ge (tgt := 17) hx hb dX4_byteAt_5 (by decide) (by omega) (by omega) (fun c_1 => ?_) (fun c_1 => ?_)
  · -- 5 -> 17
    refine ii_const hx hb dX4_byteAt_17 ?_
    have he9 : (-1) = (byA (T 5) ((T 0) 10) z) := by unfold byA; first | exact (if_pos (by omega)).symm | exact (if_neg (by omega)).symm
    exact W.iret hx hb hr (fun t ht hW9 => ⟨_, rfl, congrArg iI he9, ht⟩) (fun q hq => by cases hq) dX4_byteAt_18
  · -- 5 -> 8
    refine lv_aload_n hx hb dX4_byteAt_8 rfl (lv_at hl 0 rfl) ?_
    refine r_get (ci := 4) (k := 9) (v := .ref (K 5)) (C := RX4) (T := TX4) (N := 29) Z hB hx hb hts hown rfl in_X4 hW.obj (by decide) q987 rfl dX4_byteAt_9 ?_
    refine lv_iload_n hx hb dX4_byteAt_12 rfl (lv_at hl 1 rfl) ?_
    refine r_iald (k := z.toNat) (f := (T 5)) Z hB hx hb hW.tape (by omega) (by omega) (by omega) dX4_byteAt_13 ?_
    refine lv_goto (tgt := 18) hx hb dX4_byteAt_14 (by decide) ?_
    have he9 : ((T 5) z.toNat) = (byA (T 5) ((T 0) 10) z) := by unfold byA; first | exact (if_pos (by omega)).symm | exact (if_neg (by omega)).symm
    exact W.iret hx hb hr (fun t ht hW9 => ⟨_, rfl, congrArg iI he9, ht⟩) (fun q hq => by cases hq) dX4_byteAt_18

set_option maxHeartbeats 1000000 in
set_option maxRecDepth 100000 in
theorem mX4_needs {l : Launch} {G : GG} {s0 : State} {b0 : Nat} (Z : ZZ l G s0 b0) (K : Nat → Nat) (hI : Own s0 K 12) (T : Sta) (P : Nat → Int) (eP : T 0 = P) (h15 : inR (P 15)) (g code : Int) (hg : g = 0 ∨ g = 1) (sz : Nat) : Met l yX4_needs (ws_ yX4_needs cX4_needs 3 none) ({ frames := 0, cells := 0, slots := 0, locals := 0 } : Room) (pcM s0 sz (MW G K T) [.ref (K 0), .int (iI g), .int (iI code)]) (mV (MW G K (up T 0 (ndS P g code))) (AA K 12 sz)) 0 0 (AA K 12 sz) := by
  refine Met.ofW (cc := cX4_needs) (maxL := 3) (ret := none) (by decide) rfl ?_
  intro p e s m args below meth c s₁ B hml hv
  obtain ⟨rfl, hsz, hW, hB⟩ := hv
  subst hsz
  have hx := B.exec
  have hb := B.bytes
  have hr := B.returns
  have hts := atoms_spec (ws := (ws_ yX4_needs cX4_needs 3 none)) B.pre
  have hts : ∀ w ∈ lw_all, w.before _ s = true := fun w h => hts w (List.mem_cons_of_mem _ h)
  have hown : s.vm.findClass RX4 = some m.cls := findClass_of_methodNamed B.named
  have hlocks := B.notSynchronized
  have hN := AA.old hI hB
  have hS : va_S (AA K 12 s.heap.size) s.heap s.heap [] := va_S.rf
  have hl := lv_entry ([.ref (K 0), .int (iI g), .int (iI code)]) (n := 3) (Nat.le_of_ble_eq_true rfl)
  rw [lg_entry_eq]
  generalize (lg_sl ([.ref (K 0), .int (iI g), .int (iI code)]) ++ List.replicate (3 - (lg_sl ([.ref (K 0), .int (iI g), .int (iI code)])).length) Slot.unset).toArray = ls at hl ⊢
  have hl : lv_has ls 3 [(0, .ref (K 0)), (1, .int (iI g)), (2, .int (iI code))] := hl
  subst eP
  refine lv_iload_n hx hb dX4_needs_0 rfl (lv_at hl 1 rfl) ?_
  refine ii_if_ne (tgt := 24) hx hb dX4_needs_1 (by decide) (by omega) (fun c_1 => ?_) (fun c_1 => ?_)
  · -- 1 -> 24
    have hpw9 : (MW G K (up T 0 (ndS (T 0) g code))) s.heap := (by rw [show up T 0 (ndS (T 0) g code) = T by unfold ndS; first | (rw [if_pos (by omega)]; exact up_id T 0) | rw [if_neg (by omega)]]; exact hW)
    exact W.vret hx hb hr (fun t ht hW9 => ⟨⟨(), rfl, trivial, by show (MW G K (up T 0 (ndS (T 0) g code))) t.heap; rw [ht]; exact hpw9⟩, hS.F ht⟩) hS.2.2 dX4_needs_24
  · -- 1 -> 4
    refine lv_aload_n hx hb dX4_needs_4 rfl (lv_at hl 0 rfl) ?_
    refine r_get (ci := 4) (k := 15) (v := .int (iI ((T 0) 15))) (C := RX4) (T := TX4) (N := 29) Z hB hx hb hts hown rfl in_X4 hW.obj (by decide) q993 rfl dX4_needs_5 ?_
    refine ii_if_ne (tgt := 24) hx hb dX4_needs_8 (by decide) (by omega) (fun c_2 => ?_) (fun c_2 => ?_)
    · -- 8 -> 24
      have hpw9 : (MW G K (up T 0 (ndS (T 0) g code))) s.heap := (by rw [show up T 0 (ndS (T 0) g code) = T by unfold ndS; first | (rw [if_pos (by omega)]; exact up_id T 0) | rw [if_neg (by omega)]]; exact hW)
      exact W.vret hx hb hr (fun t ht hW9 => ⟨⟨(), rfl, trivial, by show (MW G K (up T 0 (ndS (T 0) g code))) t.heap; rw [ht]; exact hpw9⟩, hS.F ht⟩) hS.2.2 dX4_needs_24
    · -- 8 -> 11
      refine lv_aload_n hx hb dX4_needs_11 rfl (lv_at hl 0 rfl) ?_
      refine lv_iload_n hx hb dX4_needs_12 rfl (lv_at hl 2 rfl) ?_
      refine r_put (ci := 4) (k := 15) (C := RX4) (T := TX4) (N := 29) Z hB hx hb hts hown rfl in_X4 tyX4 tyX4_ok nmX4 hW.obj hS (AA.me (by omega)) (by decide) q993 rfl rfl rfl rfl (Nat.le_of_ble_eq_true rfl) dX4_needs_13 (MW G K (up T 0 (up (T 0) 15 code))) (fun H1 hz oq ho => hW.setO hI (k := 15) oq ho) (fun H locs hW hS => ?_)
      refine lv_aload_n hx hb dX4_needs_16 rfl (lv_at hl 0 rfl) ?_
      refine lv_aload_n hx hb dX4_needs_17 rfl (lv_at hl 0 rfl) ?_
      refine r_get (ci := 4) (k := 12) (v := .int (iI ((T 0) 12))) (C := RX4) (T := TX4) (N := 29) Z hB hx hb hts hown rfl in_X4 hW.obj (by decide) q990 rfl dX4_needs_18 ?_
      refine r_put (ci := 4) (k := 16) (C := RX4) (T := TX4) (N := 29) Z hB hx hb hts hown rfl in_X4 tyX4 tyX4_ok nmX4 hW.obj hS (AA.me (by omega)) (by decide) q994 rfl rfl rfl rfl (Nat.le_of_ble_eq_true rfl) dX4_needs_21 (MW G K (up (up T 0 (up (T 0) 15 code)) 0 (up (up (T 0) 15 code) 16 ((T 0) 12)))) (fun H1 hz oq ho => hW.setO hI (k := 16) oq ho) (fun H locs hW hS => ?_)
      have hW := hW.eqS (S' := (up T 0 (up (up (T 0) 15 code) 16 ((T 0) 12)))) (by
          funext a
          by_cases h0 : a = 0
          · subst h0
            funext j
            by_cases k0 : j = 15
            · subst k0; rfl
            by_cases k1 : j = 16
            · subst k1; rfl
            simp only [up, if_neg k0, if_neg k1, if_true, if_false, Nat.reduceEqDiff, reduceIte]
          simp only [up, if_neg h0])
      have hpw9 : (MW G K (up T 0 (ndS (T 0) g code))) H := (by rw [show up T 0 (ndS (T 0) g code) = (up T 0 (up (up (T 0) 15 code) 16 ((T 0) 12))) by unfold ndS; first | (rw [if_pos (by omega)]; exact up_id T 0) | rw [if_neg (by omega)]]; exact hW)
      exact W.vret hx hb hr (fun t ht hW9 => ⟨⟨(), rfl, trivial, by show (MW G K (up T 0 (ndS (T 0) g code))) t.heap; rw [ht]; exact hpw9⟩, hS.F ht⟩) hS.2.2 dX4_needs_24
