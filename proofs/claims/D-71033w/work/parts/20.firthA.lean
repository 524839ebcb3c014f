/-! FIRTH: the methods that only read (written by gen/firth.py) -/
set_option maxRecDepth 100000
set_option maxHeartbeats 4000000 in
set_option maxRecDepth 100000 in
/-- at(i) -/
theorem mX1_at {l : Launch} {G : GG} {s0 : State} {b0 : Nat} (Z : ZZ l G s0 b0) (ad : Nat → Nat) (F : Nat → Int) (hF : WF F) (i : Nat) (zi : Int) (hi : zi = (i : Int)) (h5 : i < 5) : Met l yX1_at (ws_ yX1_at cX1_at 2 (some .int)) ({ frames := 0, cells := 0, slots := 0, locals := 0 } : Room) (pcR s0 (FW G ad F) [.ref (ad 0), .int (iI zi)]) (qI (F (2 * i + 1))) 0 0 (fun _ => False) := by
  refine Met.ofW (cc := cX1_at) (maxL := 2) (ret := (some .int)) (by decide) rfl ?_
  intro p e s m args below meth c s₁ B hml hv
  obtain ⟨rfl, hW, hB⟩ := hv
  have hx := B.exec
  have hb := B.bytes
  have hr := B.returns
  have hts := atoms_spec (ws := (ws_ yX1_at cX1_at 2 (some .int))) B.pre
  have hts : ∀ w ∈ lw_all, w.before _ s = true := fun w h => hts w (List.mem_cons_of_mem _ h)
  have hown : s.vm.findClass RX1 = some m.cls := findClass_of_methodNamed B.named
  have hlocks := B.notSynchronized
  have hl := lv_entry ([.ref (ad 0), .int (iI zi)]) (n := 2) (Nat.le_of_ble_eq_true rfl)
  rw [lg_entry_eq]
  generalize (lg_sl ([.ref (ad 0), .int (iI zi)]) ++ List.replicate (2 - (lg_sl ([.ref (ad 0), .int (iI zi)])).length) Slot.unset).toArray = ls at hl ⊢
  have hl : lv_has ls 2 [(0, .ref (ad 0)), (1, .int (iI zi))] := hl
  refine lv_aload_n hx hb dX1_at_0 rfl (lv_at hl 0 rfl) ?_
  refine r_get (ci := 1) (k := 0) (C := RX1) (T := TX1) (N := 8) Z hB hx hb hts hown rfl in_X1 ((hW).1) (by decide) q137 rfl dX1_at_1 ?_
  refine lv_iload_n hx hb dX1_at_4 rfl (lv_at hl 1 rfl) ?_
  refine r_aald (t := 1) (ty := .array .int) (k := i) Z hB hx hb rfl rfl ((hW).2.1) (by omega) (by omega) (by omega) rfl dX1_at_5 ?_
  refine ii_const hx hb dX1_at_6 ?_
  have b_5 := hF.pl i (by omega)
  refine r_iald (k := 1) Z hB hx hb ((hW).2.2.1 i (by omega)) (by omega) (by omega) (by omega) dX1_at_7 ?_
  have he9 : (F (2 * i + 1)) = (F (2 * i + 1)) := rfl
  exact W.iret hx hb hr (fun t ht hW9 => ⟨_, rfl, congrArg iI he9, ht⟩) (fun q hq => by cases hq) dX1_at_8

set_option maxHeartbeats 4000000 in
set_option maxRecDepth 100000 in
theorem mX1_apart {l : Launch} {G : GG} {s0 : State} {b0 : Nat} (Z : ZZ l G s0 b0) (ad : Nat → Nat) (F : Nat → Int) (hF : WF F) (i : Nat) (zi : Int) (hi : zi = (i : Int)) (h5 : i < 5) (j : Nat) (zj : Int) (hj : zj = (j : Int)) (h6 : j < 5) : Met l yX1_apart (ws_ yX1_apart cX1_apart 3 (some .int)) ({ frames := 1, cells := 0, slots := 0, locals := 21 } : Room) (pcR s0 (FW G ad F) [.ref (ad 0), .int (iI zi), .int (iI zj)]) (qI (apS F i j)) 0 0 (fun _ => False) := by
  refine Met.ofW (cc := cX1_apart) (maxL := 3) (ret := (some .int)) (by decide) rfl ?_
  intro p e s m args below meth c s₁ B hml hv
  obtain ⟨rfl, hW, hB⟩ := hv
  have hx := B.exec
  have hb := B.bytes
  have hr := B.returns
  have hts := atoms_spec (ws := (ws_ yX1_apart cX1_apart 3 (some .int))) B.pre
  have hts : ∀ w ∈ lw_all, w.before _ s = true := fun w h => hts w (List.mem_cons_of_mem _ h)
  have hown : s.vm.findClass RX1 = some m.cls := findClass_of_methodNamed B.named
  have hlocks := B.notSynchronized
  have hl := lv_entry ([.ref (ad 0), .int (iI zi), .int (iI zj)]) (n := 3) (Nat.le_of_ble_eq_true rfl)
  rw [lg_entry_eq]
  generalize (lg_sl ([.ref (ad 0), .int (iI zi), .int (iI zj)]) ++ List.replicate (3 - (lg_sl ([.ref (ad 0), .int (iI zi), .int (iI zj)])).length) Slot.unset).toArray = ls at hl ⊢
  have hl : lv_has ls 3 [(0, .ref (ad 0)), (1, .int (iI zi)), (2, .int (iI zj))] := hl
  refine lv_aload_n hx hb dX1_apart_0 rfl (lv_at hl 0 rfl) ?_
  refine lv_iload_n hx hb dX1_apart_1 rfl (lv_at hl 1 rfl) ?_
  refine cqI (va_runV (As := [.int (iI zi)]) (rest := []) ⟨hx, hb, hml, hown, hts⟩ (mX1_at Z ad F hF i zi (by omega) (by omega)) (cwV 1 hts (lw_V q386 q387 q388 q80 q389) rfl rfl rfl (by decide +kernel) ⟨Nat.le_of_ble_eq_true rfl, Nat.le_of_ble_eq_true rfl⟩) (pvR hB (OBJ.recv Z hB ((hW).1) (q := (RX1, TX1, 8)) rfl) hW) rfl rfl hl.1 rfl (lv_room (Nat.le_of_ble_eq_true rfl)) dX1_apart_2 ⟨Nat.zero_le _, Nat.zero_le _⟩) ?_
  have b_10 := hF.pl i (by omega)
  refine lv_aload_n hx hb dX1_apart_5 rfl (lv_at hl 0 rfl) ?_
  refine lv_iload_n hx hb dX1_apart_6 rfl (lv_at hl 2 rfl) ?_
  refine cqI (va_runV (As := [.int (iI zj)]) (rest := [.int (iI (F (2 * i + 1)))]) ⟨hx, hb, hml, hown, hts⟩ (mX1_at Z ad F hF j zj (by omega) (by omega)) (cwV 1 hts (lw_V q386 q387 q388 q80 q389) rfl rfl rfl (by decide +kernel) ⟨Nat.le_of_ble_eq_true rfl, Nat.le_of_ble_eq_true rfl⟩) (pvR hB (OBJ.recv Z hB ((hW).1) (q := (RX1, TX1, 8)) rfl) hW) rfl rfl hl.1 rfl (lv_room (Nat.le_of_ble_eq_true rfl)) dX1_apart_7 ⟨Nat.zero_le _, Nat.zero_le _⟩) ?_
  have b_15 := hF.pl j (by omega)
  refine ii_sub hx hb dX1_apart_10 ?_
  refine ii_abs hx hb (hml.trans hl.1.symm) hts hown q468 (Nat.le_of_ble_eq_true rfl) (Nat.le_of_ble_eq_true rfl) (Nat.zero_le _) (Nat.zero_le _) (by omega) dX1_apart_11 ?_
  have b_1 := az_in ((F (2 * i + 1)) - (F (2 * j + 1)))
  have he9 : (az ((F (2 * i + 1)) - (F (2 * j + 1)))) = (apS F i j) := rfl
  exact W.iret hx hb hr (fun t ht hW9 => ⟨_, rfl, congrArg iI he9, ht⟩) (fun q hq => by cases hq) dX1_apart_14

set_option maxHeartbeats 4000000 in
set_option maxRecDepth 100000 in
theorem mX1_whoIsAt {l : Launch} {G : GG} {s0 : State} {b0 : Nat} (Z : ZZ l G s0 b0) (ad : Nat → Nat) (F : Nat → Int) (hF : WF F) (v : Int) (hv : inR v) : Met l yX1_whoIsAt (ws_ yX1_whoIsAt cX1_whoIsAt 3 (some .int)) ({ frames := 1, cells := 0, slots := 0, locals := 21 } : Room) (pcR s0 (FW G ad F) [.ref (ad 0), .int (iI v)]) (qI (whoS F v (F 76).toNat 0)) 0 0 (fun _ => False) := by
  refine Met.ofW (cc := cX1_whoIsAt) (maxL := 3) (ret := (some .int)) (by decide) rfl ?_
  intro p e s m args below meth c s₁ B hml hv
  obtain ⟨rfl, hW, hB⟩ := hv
  have hx := B.exec
  have hb := B.bytes
  have hr := B.returns
  have hts := atoms_spec (ws := (ws_ yX1_whoIsAt cX1_whoIsAt 3 (some .int))) B.pre
  have hts : ∀ w ∈ lw_all, w.before _ s = true := fun w h => hts w (List.mem_cons_of_mem _ h)
  have hown : s.vm.findClass RX1 = some m.cls := findClass_of_methodNamed B.named
  have hlocks := B.notSynchronized
  have hl := lv_entry ([.ref (ad 0), .int (iI v)]) (n := 3) (Nat.le_of_ble_eq_true rfl)
  rw [lg_entry_eq]
  generalize (lg_sl ([.ref (ad 0), .int (iI v)]) ++ List.replicate (3 - (lg_sl ([.ref (ad 0), .int (iI v)])).length) Slot.unset).toArray = ls at hl ⊢
  have hl : lv_has ls 3 [(0, .ref (ad 0)), (1, .int (iI v))] := hl
  have hn5 := hF.n
  refine ii_const hx hb dX1_whoIsAt_0 ?_
  refine lv_istore_n (lv' := [(2, .int (iI 0)), (0, .ref (ad 0)), (1, .int (iI v))]) hx hb dX1_whoIsAt_1 rfl hl (by decide) rfl (fun ls hl => ?_)
  have loop_2 : ∀ (fu : Nat) (i : Nat) (zi : Int), (zi = (i : Int)) → (i ≤ (F 76).toNat) → (whoS F v (F 76).toNat 0 = whoS F v ((F 76).toNat - i) i) → (6 - i) < fu → ∀ (ls : Array Slot), lv_has ls 3 [(2, .int (iI zi)), (0, .ref (ad 0)), (1, .int (iI v))] → W p l e (headSpec (ws_ yX1_whoIsAt cX1_whoIsAt 3 (some .int)) ({ frames := 1, cells := 0, slots := 0, locals := 21 } : Room)).room s m ([.ref (ad 0), .int (iI v)] : List Value).toArray below meth c s.heap [] 0 0 (MQ below (qI (whoS F v (F 76).toNat 0)) ([.ref (ad 0), .int (iI v)] : List Value).toArray s 0 0 (fun _ => False)) (F0 m 2 ls []) := by
    intro fu
    induction fu with
    | zero => intro i zi ezi hi hw hmu; exact absurd hmu (Nat.not_lt_zero _)
    | succ fu ih2 =>
      intro i zi ezi hi hw hmu ls hl
      refine lv_iload_n hx hb dX1_whoIsAt_2 rfl (lv_at hl 0 rfl) ?_
      refine lv_aload_n hx hb dX1_whoIsAt_3 rfl (lv_at hl 1 rfl) ?_
      have b_16 := hF.n 
      refine r_get (ci := 1) (k := 3) (C := RX1) (T := TX1) (N := 8) Z hB hx hb hts hown rfl in_X1 ((hW).1) (by decide) q145 rfl dX1_whoIsAt_4 ?_
      refine ii_icmp_ge (tgt := 27) hx hb dX1_whoIsAt_7 (by decide) (by omega) (by omega) (fun c_1 => ?_) (fun c_1 => ?_)
      · -- 7 -> 27
        refine ii_bipush hx hb dX1_whoIsAt_27 (by decide) ?_
        have he9 : (-4) = (whoS F v (F 76).toNat 0) := by rw [hw, show (F 76).toNat - i = 0 by omega]; rfl
        exact W.iret hx hb hr (fun t ht hW9 => ⟨_, rfl, congrArg iI he9, ht⟩) (fun q hq => by cases hq) dX1_whoIsAt_29
      · -- 7 -> 10
        refine lv_aload_n hx hb dX1_whoIsAt_10 rfl (lv_at hl 1 rfl) ?_
        refine lv_iload_n hx hb dX1_whoIsAt_11 rfl (lv_at hl 0 rfl) ?_
        refine cqI (va_runV (As := [.int (iI zi)]) (rest := []) ⟨hx, hb, hml, hown, hts⟩ (mX1_at Z ad F hF i zi (by omega) (by omega)) (cwV 1 hts (lw_V q386 q387 q388 q80 q389) rfl rfl rfl (by decide +kernel) ⟨Nat.le_of_ble_eq_true rfl, Nat.le_of_ble_eq_true rfl⟩) (pvR hB (OBJ.recv Z hB ((hW).1) (q := (RX1, TX1, 8)) rfl) hW) rfl rfl hl.1 rfl (lv_room (Nat.le_of_ble_eq_true rfl)) dX1_whoIsAt_12 ⟨Nat.zero_le _, Nat.zero_le _⟩) ?_
        have b_24 := hF.pl i (by omega)
        refine lv_iload_n hx hb dX1_whoIsAt_15 rfl (lv_at hl 2 rfl) ?_
        refine ii_icmp_ne (tgt := 21) hx hb dX1_whoIsAt_16 (by decide) (by omega) (by omega) (fun c_2 => ?_) (fun c_2 => ?_)
        · -- 16 -> 21
          refine ii_iinc (k := 0) (lv' := [(2, .int (iI (zi + 1))), (0, .ref (ad 0)), (1, .int (iI v))]) hx hb dX1_whoIsAt_21 hl rfl (by decide) rfl (fun ls hl => ?_)
          refine lv_goto (tgt := 2) hx hb dX1_whoIsAt_24 (by decide) ?_
          exact ih2 (i + 1) (zi + 1) (by omega) (by omega) (by rw [hw, show (F 76).toNat - i = ((F 76).toNat - (i + 1)) + 1 by omega]; simp only [whoS]; exact if_neg (by omega)) (by omega) ls (lv_sub hl [0, 1, 2] rfl)
        · -- 16 -> 19
          refine lv_iload_n hx hb dX1_whoIsAt_19 rfl (lv_at hl 0 rfl) ?_
          have he9 : zi = (whoS F v (F 76).toNat 0) := by rw [hw, show (F 76).toNat - i = ((F 76).toNat - (i + 1)) + 1 by omega]; simp only [whoS]; rw [if_pos (by omega)]; exact ezi
          exact W.iret hx hb hr (fun t ht hW9 => ⟨_, rfl, congrArg iI he9, ht⟩) (fun q hq => by cases hq) dX1_whoIsAt_20
  exact loop_2 _ 0 0 (by omega) (by omega) (by rfl) (Nat.lt_succ_self _) ls (lv_sub hl [0, 1, 2] rfl)

set_option maxHeartbeats 4000000 in
set_option maxRecDepth 100000 in
theorem mX1_spread {l : Launch} {G : GG} {s0 : State} {b0 : Nat} (Z : ZZ l G s0 b0) (ad : Nat → Nat) (F : Nat → Int) (hF : WF F) : Met l yX1_spread (ws_ yX1_spread cX1_spread 4 (some .int)) ({ frames := 1, cells := 0, slots := 0, locals := 21 } : Room) (pcR s0 (FW G ad F) [.ref (ad 0)]) (qI (max 0 (highS F (F 76).toNat - lowS F (F 76).toNat))) 0 0 (fun _ => False) := by
  refine Met.ofW (cc := cX1_spread) (maxL := 4) (ret := (some .int)) (by decide) rfl ?_
  intro p e s m args below meth c s₁ B hml hv
  obtain ⟨rfl, hW, hB⟩ := hv
  have hx := B.exec
  have hb := B.bytes
  have hr := B.returns
  have hts := atoms_spec (ws := (ws_ yX1_spread cX1_spread 4 (some .int))) B.pre
  have hts : ∀ w ∈ lw_all, w.before _ s = true := fun w h => hts w (List.mem_cons_of_mem _ h)
  have hown : s.vm.findClass RX1 = some m.cls := findClass_of_methodNamed B.named
  have hlocks := B.notSynchronized
  have hl := lv_entry ([.ref (ad 0)]) (n := 4) (Nat.le_of_ble_eq_true rfl)
  rw [lg_entry_eq]
  generalize (lg_sl ([.ref (ad 0)]) ++ List.replicate (4 - (lg_sl ([.ref (ad 0)])).length) Slot.unset).toArray = ls at hl ⊢
  have hl : lv_has ls 4 [(0, .ref (ad 0))] := hl
  have hn5 := hF.n
  refine ii_bipush hx hb dX1_spread_0 (by decide) ?_
  refine lv_istore_n (lv' := [(1, .int (iI 100)), (0, .ref (ad 0))]) hx hb dX1_spread_2 rfl hl (by decide) rfl (fun ls hl => ?_)
  refine ii_const hx hb dX1_spread_3 ?_
  refine lv_istore_n (lv' := [(2, .int (iI 0)), (1, .int (iI 100)), (0, .ref (ad 0))]) hx hb dX1_spread_4 rfl hl (by decide) rfl (fun ls hl => ?_)
  refine ii_const hx hb dX1_spread_5 ?_
  refine lv_istore_n (lv' := [(3, .int (iI 0)), (2, .int (iI 0)), (1, .int (iI 100)), (0, .ref (ad 0))]) hx hb dX1_spread_6 rfl hl (by decide) rfl (fun ls hl => ?_)
  have loop_7 : ∀ (fu : Nat) (i : Nat) (zi : Int), (zi = (i : Int)) → (i ≤ (F 76).toNat) → (6 - i) < fu → ∀ (ls : Array Slot), lv_has ls 4 [(3, .int (iI zi)), (2, .int (iI (highS F i))), (1, .int (iI (lowS F i))), (0, .ref (ad 0))] → W p l e (headSpec (ws_ yX1_spread cX1_spread 4 (some .int)) ({ frames := 1, cells := 0, slots := 0, locals := 21 } : Room)).room s m ([.ref (ad 0)] : List Value).toArray below meth c s.heap [] 0 0 (MQ below (qI (max 0 (highS F (F 76).toNat - lowS F (F 76).toNat))) ([.ref (ad 0)] : List Value).toArray s 0 0 (fun _ => False)) (F0 m 7 ls []) := by
    intro fu
    induction fu with
    | zero => intro i zi ezi hi hmu; exact absurd hmu (Nat.not_lt_zero _)
    | succ fu ih7 =>
      intro i zi ezi hi hmu ls hl
      have hlo := lowS_in hF i (by omega)
      have hhi := highS_in hF i (by omega)
      refine lv_iload_n hx hb dX1_spread_7 rfl (lv_at hl 0 rfl) ?_
      refine lv_aload_n hx hb dX1_spread_8 rfl (lv_at hl 3 rfl) ?_
      have b_25 := hF.n 
      refine r_get (ci := 1) (k := 3) (C := RX1) (T := TX1) (N := 8) Z hB hx hb hts hown rfl in_X1 ((hW).1) (by decide) q145 rfl dX1_spread_9 ?_
      refine ii_icmp_ge (tgt := 41) hx hb dX1_spread_12 (by decide) (by omega) (by omega) (fun c_1 => ?_) (fun c_1 => ?_)
      · -- 12 -> 41
        have ex_i : i = (F 76).toNat := by omega
        subst ex_i
        refine ii_const hx hb dX1_spread_41 ?_
        refine lv_iload_n hx hb dX1_spread_42 rfl (lv_at hl 1 rfl) ?_
        refine lv_iload_n hx hb dX1_spread_43 rfl (lv_at hl 2 rfl) ?_
        refine ii_sub hx hb dX1_spread_44 ?_
        refine ii_max hx hb (hml.trans hl.1.symm) hts hown q444 (Nat.le_of_ble_eq_true rfl) (Nat.le_of_ble_eq_true rfl) (Nat.zero_le _) (Nat.zero_le _) (by omega) (by omega) dX1_spread_45 ?_
        have he9 : (max 0 ((highS F (F 76).toNat) - (lowS F (F 76).toNat))) = (max 0 (highS F (F 76).toNat - lowS F (F 76).toNat)) := rfl
        exact W.iret hx hb hr (fun t ht hW9 => ⟨_, rfl, congrArg iI he9, ht⟩) (fun q hq => by cases hq) dX1_spread_48
      · -- 12 -> 15
        refine lv_iload_n hx hb dX1_spread_15 rfl (lv_at hl 2 rfl) ?_
        refine lv_aload_n hx hb dX1_spread_16 rfl (lv_at hl 3 rfl) ?_
        refine lv_iload_n hx hb dX1_spread_17 rfl (lv_at hl 0 rfl) ?_
        refine cqI (va_runV (As := [.int (iI zi)]) (rest := [.int (iI (lowS F i))]) ⟨hx, hb, hml, hown, hts⟩ (mX1_at Z ad F hF i zi (by omega) (by omega)) (cwV 1 hts (lw_V q386 q387 q388 q80 q389) rfl rfl rfl (by decide +kernel) ⟨Nat.le_of_ble_eq_true rfl, Nat.le_of_ble_eq_true rfl⟩) (pvR hB (OBJ.recv Z hB ((hW).1) (q := (RX1, TX1, 8)) rfl) hW) rfl rfl hl.1 rfl (lv_room (Nat.le_of_ble_eq_true rfl)) dX1_spread_18 ⟨Nat.zero_le _, Nat.zero_le _⟩) ?_
        have b_33 := hF.pl i (by omega)
        refine ii_min hx hb (hml.trans hl.1.symm) hts hown q441 (Nat.le_of_ble_eq_true rfl) (Nat.le_of_ble_eq_true rfl) (Nat.zero_le _) (Nat.zero_le _) (by omega) (by omega) dX1_spread_21 ?_
        refine lv_istore_n (lv' := [(1, .int (iI (min (lowS F i) (F (2 * i + 1))))), (3, .int (iI zi)), (2, .int (iI (highS F i))), (0, .ref (ad 0))]) hx hb dX1_spread_24 rfl hl (by decide) rfl (fun ls hl => ?_)
        refine lv_iload_n hx hb dX1_spread_25 rfl (lv_at hl 2 rfl) ?_
        refine lv_aload_n hx hb dX1_spread_26 rfl (lv_at hl 3 rfl) ?_
        refine lv_iload_n hx hb dX1_spread_27 rfl (lv_at hl 1 rfl) ?_
        refine cqI (va_runV (As := [.int (iI zi)]) (rest := [.int (iI (highS F i))]) ⟨hx, hb, hml, hown, hts⟩ (mX1_at Z ad F hF i zi (by omega) (by omega)) (cwV 1 hts (lw_V q386 q387 q388 q80 q389) rfl rfl rfl (by decide +kernel) ⟨Nat.le_of_ble_eq_true rfl, Nat.le_of_ble_eq_true rfl⟩) (pvR hB (OBJ.recv Z hB ((hW).1) (q := (RX1, TX1, 8)) rfl) hW) rfl rfl hl.1 rfl (lv_room (Nat.le_of_ble_eq_true rfl)) dX1_spread_28 ⟨Nat.zero_le _, Nat.zero_le _⟩) ?_
        have b_38 := hF.pl i (by omega)
        refine ii_max hx hb (hml.trans hl.1.symm) hts hown q444 (Nat.le_of_ble_eq_true rfl) (Nat.le_of_ble_eq_true rfl) (Nat.zero_le _) (Nat.zero_le _) (by omega) (by omega) dX1_spread_31 ?_
        refine lv_istore_n (lv' := [(2, .int (iI (max (highS F i) (F (2 * i + 1))))), (1, .int (iI (min (lowS F i) (F (2 * i + 1))))), (3, .int (iI zi)), (0, .ref (ad 0))]) hx hb dX1_spread_34 rfl hl (by decide) rfl (fun ls hl => ?_)
        refine ii_iinc (k := 2) (lv' := [(3, .int (iI (zi + 1))), (2, .int (iI (max (highS F i) (F (2 * i + 1))))), (1, .int (iI (min (lowS F i) (F (2 * i + 1))))), (0, .ref (ad 0))]) hx hb dX1_spread_35 hl rfl (by decide) rfl (fun ls hl => ?_)
        refine lv_goto (tgt := 7) hx hb dX1_spread_38 (by decide) ?_
        have e_2 : (highS F (i + 1)) = (max (highS F i) (F (2 * i + 1))) := by rfl
        have e_3 : (lowS F (i + 1)) = (min (lowS F i) (F (2 * i + 1))) := by rfl
        exact ih7 (i + 1) (zi + 1) (by omega) (by omega) (by omega) ls (by rw [e_2, e_3]; exact lv_sub hl [0, 1, 2, 3] rfl)
  have e_4 : (highS F 0) = 0 := by rfl
  have e_5 : (lowS F 0) = 100 := by rfl
  exact loop_7 _ 0 0 (by omega) (by omega) (Nat.lt_succ_self _) ls (by rw [e_4, e_5]; exact lv_sub hl [0, 1, 2, 3] rfl)

set_option maxHeartbeats 4000000 in
set_option maxRecDepth 100000 in
theorem mX1_sulk {l : Launch} {G : GG} {s0 : State} {b0 : Nat} (Z : ZZ l G s0 b0) (ad : Nat → Nat) (F : Nat → Int) (hF : WF F) (i : Nat) (zi : Int) (hi : zi = (i : Int)) (h5 : i < 5) : Met l yX1_sulk (ws_ yX1_sulk cX1_sulk 4 (some .int)) ({ frames := 1, cells := 0, slots := 0, locals := 21 } : Room) (pcR s0 (FW G ad F) [.ref (ad 0), .int (iI zi)]) (qI (sulkS F i (F 76).toNat)) 0 0 (fun _ => False) := by
  refine Met.ofW (cc := cX1_sulk) (maxL := 4) (ret := (some .int)) (by decide) rfl ?_
  intro p e s m args below meth c s₁ B hml hv
  obtain ⟨rfl, hW, hB⟩ := hv
  have hx := B.exec
  have hb := B.bytes
  have hr := B.returns
  have hts := atoms_spec (ws := (ws_ yX1_sulk cX1_sulk 4 (some .int))) B.pre
  have hts : ∀ w ∈ lw_all, w.before _ s = true := fun w h => hts w (List.mem_cons_of_mem _ h)
  have hown : s.vm.findClass RX1 = some m.cls := findClass_of_methodNamed B.named
  have hlocks := B.notSynchronized
  have hl := lv_entry ([.ref (ad 0), .int (iI zi)]) (n := 4) (Nat.le_of_ble_eq_true rfl)
  rw [lg_entry_eq]
  generalize (lg_sl ([.ref (ad 0), .int (iI zi)]) ++ List.replicate (4 - (lg_sl ([.ref (ad 0), .int (iI zi)])).length) Slot.unset).toArray = ls at hl ⊢
  have hl : lv_has ls 4 [(0, .ref (ad 0)), (1, .int (iI zi))] := hl
  have hn5 := hF.n
  refine ii_const hx hb dX1_sulk_0 ?_
  refine lv_istore_n (lv' := [(2, .int (iI 0)), (0, .ref (ad 0)), (1, .int (iI zi))]) hx hb dX1_sulk_1 rfl hl (by decide) rfl (fun ls hl => ?_)
  refine ii_const hx hb dX1_sulk_2 ?_
  refine lv_istore_n (lv' := [(3, .int (iI 0)), (2, .int (iI 0)), (0, .ref (ad 0)), (1, .int (iI zi))]) hx hb dX1_sulk_3 rfl hl (by decide) rfl (fun ls hl => ?_)
  have loop_4 : ∀ (fu : Nat) (j : Nat) (zj : Int), (zj = (j : Int)) → (j ≤ (F 76).toNat) → (6 - j) < fu → ∀ (ls : Array Slot), lv_has ls 4 [(3, .int (iI zj)), (2, .int (iI (sulkS F i j))), (0, .ref (ad 0)), (1, .int (iI zi))] → W p l e (headSpec (ws_ yX1_sulk cX1_sulk 4 (some .int)) ({ frames := 1, cells := 0, slots := 0, locals := 21 } : Room)).room s m ([.ref (ad 0), .int (iI zi)] : List Value).toArray below meth c s.heap [] 0 0 (MQ below (qI (sulkS F i (F 76).toNat)) ([.ref (ad 0), .int (iI zi)] : List Value).toArray s 0 0 (fun _ => False)) (F0 m 4 ls []) := by
    intro fu
    induction fu with
    | zero => intro j zj ezj hj hmu; exact absurd hmu (Nat.not_lt_zero _)
    | succ fu ih4 =>
      intro j zj ezj hj hmu ls hl
      refine lv_iload_n hx hb dX1_sulk_4 rfl (lv_at hl 0 rfl) ?_
      refine lv_aload_n hx hb dX1_sulk_5 rfl (lv_at hl 2 rfl) ?_
      have b_39 := hF.n 
      refine r_get (ci := 1) (k := 3) (C := RX1) (T := TX1) (N := 8) Z hB hx hb hts hown rfl in_X1 ((hW).1) (by decide) q145 rfl dX1_sulk_6 ?_
      refine ii_icmp_ge (tgt := 54) hx hb dX1_sulk_9 (by decide) (by omega) (by omega) (fun c_1 => ?_) (fun c_1 => ?_)
      · -- 9 -> 54
        have ex_j : j = (F 76).toNat := by omega
        subst ex_j
        refine lv_iload_n hx hb dX1_sulk_54 rfl (lv_at hl 1 rfl) ?_
        have he9 : (sulkS F i (F 76).toNat) = (sulkS F i (F 76).toNat) := rfl
        exact W.iret hx hb hr (fun t ht hW9 => ⟨_, rfl, congrArg iI he9, ht⟩) (fun q hq => by cases hq) dX1_sulk_55
      · -- 9 -> 12
        refine lv_iload_n hx hb dX1_sulk_12 rfl (lv_at hl 1 rfl) ?_
        refine lv_aload_n hx hb dX1_sulk_13 rfl (lv_at hl 2 rfl) ?_
        refine lv_iload_n hx hb dX1_sulk_14 rfl (lv_at hl 3 rfl) ?_
        refine cqI (va_runV (As := [.int (iI zi)]) (rest := [.int (iI (sulkS F i j))]) ⟨hx, hb, hml, hown, hts⟩ (mX1_at Z ad F hF i zi (by omega) (by omega)) (cwV 1 hts (lw_V q386 q387 q388 q80 q389) rfl rfl rfl (by decide +kernel) ⟨Nat.le_of_ble_eq_true rfl, Nat.le_of_ble_eq_true rfl⟩) (pvR hB (OBJ.recv Z hB ((hW).1) (q := (RX1, TX1, 8)) rfl) hW) rfl rfl hl.1 rfl (lv_room (Nat.le_of_ble_eq_true rfl)) dX1_sulk_15 ⟨Nat.zero_le _, Nat.zero_le _⟩) ?_
        have b_47 := hF.pl i (by omega)
        refine lv_aload_n hx hb dX1_sulk_18 rfl (lv_at hl 2 rfl) ?_
        refine lv_iload_n hx hb dX1_sulk_19 rfl (lv_at hl 0 rfl) ?_
        refine cqI (va_runV (As := [.int (iI zj)]) (rest := [.int (iI (F (2 * i + 1))), .int (iI (sulkS F i j))]) ⟨hx, hb, hml, hown, hts⟩ (mX1_at Z ad F hF j zj (by omega) (by omega)) (cwV 1 hts (lw_V q386 q387 q388 q80 q389) rfl rfl rfl (by decide +kernel) ⟨Nat.le_of_ble_eq_true rfl, Nat.le_of_ble_eq_true rfl⟩) (pvR hB (OBJ.recv Z hB ((hW).1) (q := (RX1, TX1, 8)) rfl) hW) rfl rfl hl.1 rfl (lv_room (Nat.le_of_ble_eq_true rfl)) dX1_sulk_20 ⟨Nat.zero_le _, Nat.zero_le _⟩) ?_
        have b_52 := hF.pl j (by omega)
        refine ii_icmp_le (tgt := 37) hx hb dX1_sulk_23 (by decide) (by omega) (by omega) (fun c_2 => ?_) (fun c_2 => ?_)
        · -- 23 -> 37
          refine lv_aload_n hx hb dX1_sulk_37 rfl (lv_at hl 2 rfl) ?_
          refine r_get (ci := 1) (k := 1) (C := RX1) (T := TX1) (N := 8) Z hB hx hb hts hown rfl in_X1 ((hW).1) (by decide) q140 rfl dX1_sulk_38 ?_
          refine lv_iload_n hx hb dX1_sulk_41 rfl (lv_at hl 3 rfl) ?_
          refine r_aald (t := 1) (ty := .array .int) (k := i) Z hB hx hb rfl rfl ((hW).2.2.2.1) (by omega) (by omega) (by omega) rfl dX1_sulk_42 ?_
          refine lv_iload_n hx hb dX1_sulk_43 rfl (lv_at hl 0 rfl) ?_
          have b_57 := hF.cr i j (by omega) (by omega)
          refine r_iald (k := j) Z hB hx hb ((hW).2.2.2.2.1 i (by omega)) (by omega) (by omega) (by omega) dX1_sulk_44 ?_
          refine ii_neg hx hb dX1_sulk_45 ?_
          refine ii_add hx hb dX1_sulk_46 ?_
          refine lv_istore_n (lv' := [(2, .int (iI ((sulkS F i j) + (-(F (10 + 5 * i + j)))))), (3, .int (iI zj)), (0, .ref (ad 0)), (1, .int (iI zi))]) hx hb dX1_sulk_47 rfl hl (by decide) rfl (fun ls hl => ?_)
          refine ii_iinc (k := 1) (lv' := [(3, .int (iI (zj + 1))), (2, .int (iI ((sulkS F i j) + (-(F (10 + 5 * i + j)))))), (0, .ref (ad 0)), (1, .int (iI zi))]) hx hb dX1_sulk_48 hl rfl (by decide) rfl (fun ls hl => ?_)
          refine lv_goto (tgt := 4) hx hb dX1_sulk_51 (by decide) ?_
          have e_3 : (sulkS F i (j + 1)) = ((sulkS F i j) + (-(F (10 + 5 * i + j)))) := by simp only [sulkS]; split <;> omega
          exact ih4 (j + 1) (zj + 1) (by omega) (by omega) (by omega) ls (by rw [e_3]; exact lv_sub hl [0, 1, 2, 3] rfl)
        · -- 23 -> 26
          refine lv_aload_n hx hb dX1_sulk_26 rfl (lv_at hl 2 rfl) ?_
          refine r_get (ci := 1) (k := 1) (C := RX1) (T := TX1) (N := 8) Z hB hx hb hts hown rfl in_X1 ((hW).1) (by decide) q140 rfl dX1_sulk_27 ?_
          refine lv_iload_n hx hb dX1_sulk_30 rfl (lv_at hl 3 rfl) ?_
          refine r_aald (t := 1) (ty := .array .int) (k := i) Z hB hx hb rfl rfl ((hW).2.2.2.1) (by omega) (by omega) (by omega) rfl dX1_sulk_31 ?_
          refine lv_iload_n hx hb dX1_sulk_32 rfl (lv_at hl 0 rfl) ?_
          have b_62 := hF.cr i j (by omega) (by omega)
          refine r_iald (k := j) Z hB hx hb ((hW).2.2.2.2.1 i (by omega)) (by omega) (by omega) (by omega) dX1_sulk_33 ?_
          refine lv_goto (tgt := 46) hx hb dX1_sulk_34 (by decide) ?_
          refine ii_add hx hb dX1_sulk_46 ?_
          refine lv_istore_n (lv' := [(2, .int (iI ((sulkS F i j) + (F (10 + 5 * i + j))))), (3, .int (iI zj)), (0, .ref (ad 0)), (1, .int (iI zi))]) hx hb dX1_sulk_47 rfl hl (by decide) rfl (fun ls hl => ?_)
          refine ii_iinc (k := 1) (lv' := [(3, .int (iI (zj + 1))), (2, .int (iI ((sulkS F i j) + (F (10 + 5 * i + j))))), (0, .ref (ad 0)), (1, .int (iI zi))]) hx hb dX1_sulk_48 hl rfl (by decide) rfl (fun ls hl => ?_)
          refine lv_goto (tgt := 4) hx hb dX1_sulk_51 (by decide) ?_
          have e_4 : (sulkS F i (j + 1)) = ((sulkS F i j) + (F (10 + 5 * i + j))) := by simp only [sulkS]; split <;> omega
          exact ih4 (j + 1) (zj + 1) (by omega) (by omega) (by omega) ls (by rw [e_4]; exact lv_sub hl [0, 1, 2, 3] rfl)
  have e_5 : (sulkS F i 0) = 0 := by rfl
  exact loop_4 _ 0 0 (by omega) (by omega) (Nat.lt_succ_self _) ls (by rw [e_5]; exact lv_sub hl [0, 1, 2, 3] rfl)

set_option maxHeartbeats 4000000 in
set_option maxRecDepth 100000 in
theorem mX1_nearest {l : Launch} {G : GG} {s0 : State} {b0 : Nat} (Z : ZZ l G s0 b0) (ad : Nat → Nat) (F : Nat → Int) (hF : WF F) (i : Nat) (zi : Int) (hi : zi = (i : Int)) (h5 : i < 5) : Met l yX1_nearest (ws_ yX1_nearest cX1_nearest 4 (some .int)) ({ frames := 2, cells := 0, slots := 0, locals := 43 } : Room) (pcR s0 (FW G ad F) [.ref (ad 0), .int (iI zi)]) (qI (nearS F i (F 76).toNat)) 0 0 (fun _ => False) := by
  refine Met.ofW (cc := cX1_nearest) (maxL := 4) (ret := (some .int)) (by decide) rfl ?_
  intro p e s m args below meth c s₁ B hml hv
  obtain ⟨rfl, hW, hB⟩ := hv
  have hx := B.exec
  have hb := B.bytes
  have hr := B.returns
  have hts := atoms_spec (ws := (ws_ yX1_nearest cX1_nearest 4 (some .int))) B.pre
  have hts : ∀ w ∈ lw_all, w.before _ s = true := fun w h => hts w (List.mem_cons_of_mem _ h)
  have hown : s.vm.findClass RX1 = some m.cls := findClass_of_methodNamed B.named
  have hlocks := B.notSynchronized
  have hl := lv_entry ([.ref (ad 0), .int (iI zi)]) (n := 4) (Nat.le_of_ble_eq_true rfl)
  rw [lg_entry_eq]
  generalize (lg_sl ([.ref (ad 0), .int (iI zi)]) ++ List.replicate (4 - (lg_sl ([.ref (ad 0), .int (iI zi)])).length) Slot.unset).toArray = ls at hl ⊢
  have hl : lv_has ls 4 [(0, .ref (ad 0)), (1, .int (iI zi))] := hl
  have hn5 := hF.n
  refine ii_bipush hx hb dX1_nearest_0 (by decide) ?_
  refine lv_istore_n (lv' := [(2, .int (iI (-4))), (0, .ref (ad 0)), (1, .int (iI zi))]) hx hb dX1_nearest_2 rfl hl (by decide) rfl (fun ls hl => ?_)
  refine ii_const hx hb dX1_nearest_3 ?_
  refine lv_istore_n (lv' := [(3, .int (iI 0)), (2, .int (iI (-4))), (0, .ref (ad 0)), (1, .int (iI zi))]) hx hb dX1_nearest_4 rfl hl (by decide) rfl (fun ls hl => ?_)
  have loop_5 : ∀ (fu : Nat) (j : Nat) (zj : Int), (zj = (j : Int)) → (j ≤ (F 76).toNat) → (6 - j) < fu → ∀ (ls : Array Slot), lv_has ls 4 [(3, .int (iI zj)), (2, .int (iI (nearS F i j))), (0, .ref (ad 0)), (1, .int (iI zi))] → W p l e (headSpec (ws_ yX1_nearest cX1_nearest 4 (some .int)) ({ frames := 2, cells := 0, slots := 0, locals := 43 } : Room)).room s m ([.ref (ad 0), .int (iI zi)] : List Value).toArray below meth c s.heap [] 0 0 (MQ below (qI (nearS F i (F 76).toNat)) ([.ref (ad 0), .int (iI zi)] : List Value).toArray s 0 0 (fun _ => False)) (F0 m 5 ls []) := by
    intro fu
    induction fu with
    | zero => intro j zj ezj hj hmu; exact absurd hmu (Nat.not_lt_zero _)
    | succ fu ih5 =>
      intro j zj ezj hj hmu ls hl
      have hne := nearS_in F i j
      refine lv_iload_n hx hb dX1_nearest_5 rfl (lv_at hl 0 rfl) ?_
      refine lv_aload_n hx hb dX1_nearest_6 rfl (lv_at hl 2 rfl) ?_
      have b_63 := hF.n 
      refine r_get (ci := 1) (k := 3) (C := RX1) (T := TX1) (N := 8) Z hB hx hb hts hown rfl in_X1 ((hW).1) (by decide) q145 rfl dX1_nearest_7 ?_
      refine ii_icmp_ge (tgt := 51) hx hb dX1_nearest_10 (by decide) (by omega) (by omega) (fun c_1 => ?_) (fun c_1 => ?_)
      · -- 10 -> 51
        have ex_j : j = (F 76).toNat := by omega
        subst ex_j
        refine lv_iload_n hx hb dX1_nearest_51 rfl (lv_at hl 1 rfl) ?_
        have he9 : (nearS F i (F 76).toNat) = (nearS F i (F 76).toNat) := rfl
        exact W.iret hx hb hr (fun t ht hW9 => ⟨_, rfl, congrArg iI he9, ht⟩) (fun q hq => by cases hq) dX1_nearest_52
      · -- 10 -> 13
        refine lv_iload_n hx hb dX1_nearest_13 rfl (lv_at hl 0 rfl) ?_
        refine lv_iload_n hx hb dX1_nearest_14 rfl (lv_at hl 3 rfl) ?_
        refine ii_icmp_eq (tgt := 43) hx hb dX1_nearest_15 (by decide) (by omega) (by omega) (fun c_2 => ?_) (fun c_2 => ?_)
        · -- 15 -> 43
          refine lv_iload_n hx hb dX1_nearest_43 rfl (lv_at hl 1 rfl) ?_
          refine lv_istore_n (lv' := [(2, .int (iI (nearS F i j))), (3, .int (iI zj)), (0, .ref (ad 0)), (1, .int (iI zi))]) hx hb dX1_nearest_44 rfl hl (by decide) rfl (fun ls hl => ?_)
          refine ii_iinc (k := 1) (lv' := [(3, .int (iI (zj + 1))), (2, .int (iI (nearS F i j))), (0, .ref (ad 0)), (1, .int (iI zi))]) hx hb dX1_nearest_45 hl rfl (by decide) rfl (fun ls hl => ?_)
          refine lv_goto (tgt := 5) hx hb dX1_nearest_48 (by decide) ?_
          have e_3 : (nearS F i (j + 1)) = (nearS F i j) := by simp only [nearS]; split <;> omega
          exact ih5 (j + 1) (zj + 1) (by omega) (by omega) (by omega) ls (by rw [e_3]; exact lv_sub hl [0, 1, 2, 3] rfl)
        · -- 15 -> 18
          refine lv_iload_n hx hb dX1_nearest_18 rfl (lv_at hl 1 rfl) ?_
          refine ii_bipush hx hb dX1_nearest_19 (by decide) ?_
          refine ii_icmp_eq (tgt := 39) hx hb dX1_nearest_21 (by decide) (by omega) (by omega) (fun c_4 => ?_) (fun c_4 => ?_)
          · -- 21 -> 39
            refine lv_iload_n hx hb dX1_nearest_39 rfl (lv_at hl 0 rfl) ?_
            refine lv_goto (tgt := 44) hx hb dX1_nearest_40 (by decide) ?_
            refine lv_istore_n (lv' := [(2, .int (iI zj)), (3, .int (iI zj)), (0, .ref (ad 0)), (1, .int (iI zi))]) hx hb dX1_nearest_44 rfl hl (by decide) rfl (fun ls hl => ?_)
            refine ii_iinc (k := 1) (lv' := [(3, .int (iI (zj + 1))), (2, .int (iI zj)), (0, .ref (ad 0)), (1, .int (iI zi))]) hx hb dX1_nearest_45 hl rfl (by decide) rfl (fun ls hl => ?_)
            refine lv_goto (tgt := 5) hx hb dX1_nearest_48 (by decide) ?_
            have e_5 : (nearS F i (j + 1)) = zj := by simp only [nearS]; split <;> omega
            exact ih5 (j + 1) (zj + 1) (by omega) (by omega) (by omega) ls (by rw [e_5]; exact lv_sub hl [0, 1, 2, 3] rfl)
          · -- 21 -> 24
            refine lv_aload_n hx hb dX1_nearest_24 rfl (lv_at hl 2 rfl) ?_
            refine lv_iload_n hx hb dX1_nearest_25 rfl (lv_at hl 3 rfl) ?_
            refine lv_iload_n hx hb dX1_nearest_26 rfl (lv_at hl 0 rfl) ?_
            refine cqI (va_runV (As := [.int (iI zi), .int (iI zj)]) (rest := []) ⟨hx, hb, hml, hown, hts⟩ (mX1_apart Z ad F hF i zi (by omega) (by omega) j zj (by omega) (by omega)) (cwV 2 hts (lw_V q497 q498 q499 q80 q500) rfl rfl rfl (by decide +kernel) ⟨Nat.le_of_ble_eq_true rfl, Nat.le_of_ble_eq_true rfl⟩) (pvR hB (OBJ.recv Z hB ((hW).1) (q := (RX1, TX1, 8)) rfl) hW) rfl rfl hl.1 rfl (lv_room (Nat.le_of_ble_eq_true rfl)) dX1_nearest_27 ⟨Nat.zero_le _, Nat.zero_le _⟩) ?_
            have b_71 := apS_in hF i j (by omega) (by omega)
            refine lv_aload_n hx hb dX1_nearest_30 rfl (lv_at hl 2 rfl) ?_
            refine lv_iload_n hx hb dX1_nearest_31 rfl (lv_at hl 3 rfl) ?_
            refine lv_iload_n hx hb dX1_nearest_32 rfl (lv_at hl 1 rfl) ?_
            refine cqI (va_runV (As := [.int (iI zi), .int (iI (nearS F i j))]) (rest := [.int (iI (apS F i j))]) ⟨hx, hb, hml, hown, hts⟩ (mX1_apart Z ad F hF i zi (by omega) (by omega) (nearS F i j).toNat (nearS F i j) (by omega) (by omega)) (cwV 2 hts (lw_V q497 q498 q499 q80 q500) rfl rfl rfl (by decide +kernel) ⟨Nat.le_of_ble_eq_true rfl, Nat.le_of_ble_eq_true rfl⟩) (pvR hB (OBJ.recv Z hB ((hW).1) (q := (RX1, TX1, 8)) rfl) hW) rfl rfl hl.1 rfl (lv_room (Nat.le_of_ble_eq_true rfl)) dX1_nearest_33 ⟨Nat.zero_le _, Nat.zero_le _⟩) ?_
            have b_76 := apS_in hF i (nearS F i j).toNat (by omega) (by omega)
            refine ii_icmp_ge (tgt := 43) hx hb dX1_nearest_36 (by decide) (by omega) (by omega) (fun c_6 => ?_) (fun c_6 => ?_)
            · -- 36 -> 43
              refine lv_iload_n hx hb dX1_nearest_43 rfl (lv_at hl 1 rfl) ?_
              refine lv_istore_n (lv' := [(2, .int (iI (nearS F i j))), (3, .int (iI zj)), (0, .ref (ad 0)), (1, .int (iI zi))]) hx hb dX1_nearest_44 rfl hl (by decide) rfl (fun ls hl => ?_)
              refine ii_iinc (k := 1) (lv' := [(3, .int (iI (zj + 1))), (2, .int (iI (nearS F i j))), (0, .ref (ad 0)), (1, .int (iI zi))]) hx hb dX1_nearest_45 hl rfl (by decide) rfl (fun ls hl => ?_)
              refine lv_goto (tgt := 5) hx hb dX1_nearest_48 (by decide) ?_
              have e_7 : (nearS F i (j + 1)) = (nearS F i j) := by simp only [nearS]; split <;> omega
              exact ih5 (j + 1) (zj + 1) (by omega) (by omega) (by omega) ls (by rw [e_7]; exact lv_sub hl [0, 1, 2, 3] rfl)
            · -- 36 -> 39
              refine lv_iload_n hx hb dX1_nearest_39 rfl (lv_at hl 0 rfl) ?_
              refine lv_goto (tgt := 44) hx hb dX1_nearest_40 (by decide) ?_
              refine lv_istore_n (lv' := [(2, .int (iI zj)), (3, .int (iI zj)), (0, .ref (ad 0)), (1, .int (iI zi))]) hx hb dX1_nearest_44 rfl hl (by decide) rfl (fun ls hl => ?_)
              refine ii_iinc (k := 1) (lv' := [(3, .int (iI (zj + 1))), (2, .int (iI zj)), (0, .ref (ad 0)), (1, .int (iI zi))]) hx hb dX1_nearest_45 hl rfl (by decide) rfl (fun ls hl => ?_)
              refine lv_goto (tgt := 5) hx hb dX1_nearest_48 (by decide) ?_
              have e_8 : (nearS F i (j + 1)) = zj := by simp only [nearS]; split <;> omega
              exact ih5 (j + 1) (zj + 1) (by omega) (by omega) (by omega) ls (by rw [e_8]; exact lv_sub hl [0, 1, 2, 3] rfl)
  have e_9 : (nearS F i 0) = (-4) := by rfl
  exact loop_5 _ 0 0 (by omega) (by omega) (Nat.lt_succ_self _) ls (by rw [e_9]; exact lv_sub hl [0, 1, 2, 3] rfl)

set_option maxHeartbeats 4000000 in
set_option maxRecDepth 100000 in
theorem mX1_ropesOf {l : Launch} {G : GG} {s0 : State} {b0 : Nat} (Z : ZZ l G s0 b0) (ad : Nat → Nat) (F : Nat → Int) (hF : WF F) (i : Nat) (zi : Int) (hi : zi = (i : Int)) (h5 : i < 5) : Met l yX1_ropesOf (ws_ yX1_ropesOf cX1_ropesOf 4 (some .int)) ({ frames := 0, cells := 0, slots := 0, locals := 0 } : Room) (pcR s0 (FW G ad F) [.ref (ad 0), .int (iI zi)]) (qI (ropesS F i (F 53).toNat)) 0 0 (fun _ => False) := by
  refine Met.ofW (cc := cX1_ropesOf) (maxL := 4) (ret := (some .int)) (by decide) rfl ?_
  intro p e s m args below meth c s₁ B hml hv
  obtain ⟨rfl, hW, hB⟩ := hv
  have hx := B.exec
  have hb := B.bytes
  have hr := B.returns
  have hts := atoms_spec (ws := (ws_ yX1_ropesOf cX1_ropesOf 4 (some .int))) B.pre
  have hts : ∀ w ∈ lw_all, w.before _ s = true := fun w h => hts w (List.mem_cons_of_mem _ h)
  have hown : s.vm.findClass RX1 = some m.cls := findClass_of_methodNamed B.named
  have hlocks := B.notSynchronized
  have hl := lv_entry ([.ref (ad 0), .int (iI zi)]) (n := 4) (Nat.le_of_ble_eq_true rfl)
  rw [lg_entry_eq]
  generalize (lg_sl ([.ref (ad 0), .int (iI zi)]) ++ List.replicate (4 - (lg_sl ([.ref (ad 0), .int (iI zi)])).length) Slot.unset).toArray = ls at hl ⊢
  have hl : lv_has ls 4 [(0, .ref (ad 0)), (1, .int (iI zi))] := hl
  have hrm := hF.rm
  refine ii_const hx hb dX1_ropesOf_0 ?_
  refine lv_istore_n (lv' := [(2, .int (iI 0)), (0, .ref (ad 0)), (1, .int (iI zi))]) hx hb dX1_ropesOf_1 rfl hl (by decide) rfl (fun ls hl => ?_)
  refine ii_const hx hb dX1_ropesOf_2 ?_
  refine lv_istore_n (lv' := [(3, .int (iI 0)), (2, .int (iI 0)), (0, .ref (ad 0)), (1, .int (iI zi))]) hx hb dX1_ropesOf_3 rfl hl (by decide) rfl (fun ls hl => ?_)
  have loop_4 : ∀ (fu : Nat) (k : Nat) (zk : Int), (zk = (k : Int)) → (k ≤ (F 53).toNat) → (7 - k) < fu → ∀ (ls : Array Slot), lv_has ls 4 [(3, .int (iI zk)), (2, .int (iI (ropesS F i k))), (0, .ref (ad 0)), (1, .int (iI zi))] → W p l e (headSpec (ws_ yX1_ropesOf cX1_ropesOf 4 (some .int)) ({ frames := 0, cells := 0, slots := 0, locals := 0 } : Room)).room s m ([.ref (ad 0), .int (iI zi)] : List Value).toArray below meth c s.heap [] 0 0 (MQ below (qI (ropesS F i (F 53).toNat)) ([.ref (ad 0), .int (iI zi)] : List Value).toArray s 0 0 (fun _ => False)) (F0 m 4 ls []) := by
    intro fu
    induction fu with
    | zero => intro k zk ezk hk hmu; exact absurd hmu (Nat.not_lt_zero _)
    | succ fu ih4 =>
      intro k zk ezk hk hmu ls hl
      refine lv_iload_n hx hb dX1_ropesOf_4 rfl (lv_at hl 0 rfl) ?_
      refine lv_aload_n hx hb dX1_ropesOf_5 rfl (lv_at hl 2 rfl) ?_
      have b_78 := hF.rm 
      refine r_get (ci := 1) (k := 4) (C := RX1) (T := TX1) (N := 8) Z hB hx hb hts hown rfl in_X1 ((hW).1) (by decide) q148 rfl dX1_ropesOf_6 ?_
      refine ii_icmp_ge (tgt := 50) hx hb dX1_ropesOf_9 (by decide) (by omega) (by omega) (fun c_1 => ?_) (fun c_1 => ?_)
      · -- 9 -> 50
        have ex_k : k = (F 53).toNat := by omega
        subst ex_k
        refine lv_iload_n hx hb dX1_ropesOf_50 rfl (lv_at hl 1 rfl) ?_
        have he9 : (ropesS F i (F 53).toNat) = (ropesS F i (F 53).toNat) := rfl
        exact W.iret hx hb hr (fun t ht hW9 => ⟨_, rfl, congrArg iI he9, ht⟩) (fun q hq => by cases hq) dX1_ropesOf_51
      · -- 9 -> 12
        refine lv_iload_n hx hb dX1_ropesOf_12 rfl (lv_at hl 1 rfl) ?_
        refine lv_aload_n hx hb dX1_ropesOf_13 rfl (lv_at hl 2 rfl) ?_
        refine r_get (ci := 1) (k := 2) (C := RX1) (T := TX1) (N := 8) Z hB hx hb hts hown rfl in_X1 ((hW).1) (by decide) q143 rfl dX1_ropesOf_14 ?_
        refine lv_iload_n hx hb dX1_ropesOf_17 rfl (lv_at hl 0 rfl) ?_
        refine r_aald (t := 1) (ty := .array .int) (k := k) Z hB hx hb rfl rfl ((hW).2.2.2.2.2.1) (by omega) (by omega) (by omega) rfl dX1_ropesOf_18 ?_
        refine ii_const hx hb dX1_ropesOf_19 ?_
        have b_85 := hF.r0 k (by omega)
        refine r_iald (k := 0) Z hB hx hb ((hW).2.2.2.2.2.2 k (by omega)) (by omega) (by omega) (by omega) dX1_ropesOf_20 ?_
        refine lv_iload_n hx hb dX1_ropesOf_21 rfl (lv_at hl 3 rfl) ?_
        refine ii_icmp_eq (tgt := 37) hx hb dX1_ropesOf_22 (by decide) (by omega) (by omega) (fun c_2 => ?_) (fun c_2 => ?_)
        · -- 22 -> 37
          refine ii_const hx hb dX1_ropesOf_37 ?_
          refine lv_goto (tgt := 42) hx hb dX1_ropesOf_38 (by decide) ?_
          refine ii_add hx hb dX1_ropesOf_42 ?_
          refine lv_istore_n (lv' := [(2, .int (iI ((ropesS F i k) + 1))), (3, .int (iI zk)), (0, .ref (ad 0)), (1, .int (iI zi))]) hx hb dX1_ropesOf_43 rfl hl (by decide) rfl (fun ls hl => ?_)
          refine ii_iinc (k := 1) (lv' := [(3, .int (iI (zk + 1))), (2, .int (iI ((ropesS F i k) + 1))), (0, .ref (ad 0)), (1, .int (iI zi))]) hx hb dX1_ropesOf_44 hl rfl (by decide) rfl (fun ls hl => ?_)
          refine lv_goto (tgt := 4) hx hb dX1_ropesOf_47 (by decide) ?_
          have e_3 : (ropesS F i (k + 1)) = ((ropesS F i k) + 1) := by simp only [ropesS]; split <;> omega
          exact ih4 (k + 1) (zk + 1) (by omega) (by omega) (by omega) ls (by rw [e_3]; exact lv_sub hl [0, 1, 2, 3] rfl)
        · -- 22 -> 25
          refine lv_aload_n hx hb dX1_ropesOf_25 rfl (lv_at hl 2 rfl) ?_
          refine r_get (ci := 1) (k := 2) (C := RX1) (T := TX1) (N := 8) Z hB hx hb hts hown rfl in_X1 ((hW).1) (by decide) q143 rfl dX1_ropesOf_26 ?_
          refine lv_iload_n hx hb dX1_ropesOf_29 rfl (lv_at hl 0 rfl) ?_
          refine r_aald (t := 1) (ty := .array .int) (k := k) Z hB hx hb rfl rfl ((hW).2.2.2.2.2.1) (by omega) (by omega) (by omega) rfl dX1_ropesOf_30 ?_
          refine ii_const hx hb dX1_ropesOf_31 ?_
          have b_90 := hF.r1 k (by omega)
          refine r_iald (k := 1) Z hB hx hb ((hW).2.2.2.2.2.2 k (by omega)) (by omega) (by omega) (by omega) dX1_ropesOf_32 ?_
          refine lv_iload_n hx hb dX1_ropesOf_33 rfl (lv_at hl 3 rfl) ?_
          refine ii_icmp_ne (tgt := 41) hx hb dX1_ropesOf_34 (by decide) (by omega) (by omega) (fun c_4 => ?_) (fun c_4 => ?_)
          · -- 34 -> 41
            refine ii_const hx hb dX1_ropesOf_41 ?_
            refine ii_add hx hb dX1_ropesOf_42 ?_
            refine lv_istore_n (lv' := [(2, .int (iI ((ropesS F i k) + 0))), (3, .int (iI zk)), (0, .ref (ad 0)), (1, .int (iI zi))]) hx hb dX1_ropesOf_43 rfl hl (by decide) rfl (fun ls hl => ?_)
            refine ii_iinc (k := 1) (lv' := [(3, .int (iI (zk + 1))), (2, .int (iI ((ropesS F i k) + 0))), (0, .ref (ad 0)), (1, .int (iI zi))]) hx hb dX1_ropesOf_44 hl rfl (by decide) rfl (fun ls hl => ?_)
            refine lv_goto (tgt := 4) hx hb dX1_ropesOf_47 (by decide) ?_
            have e_5 : (ropesS F i (k + 1)) = ((ropesS F i k) + 0) := by simp only [ropesS]; split <;> omega
            exact ih4 (k + 1) (zk + 1) (by omega) (by omega) (by omega) ls (by rw [e_5]; exact lv_sub hl [0, 1, 2, 3] rfl)
          · -- 34 -> 37
            refine ii_const hx hb dX1_ropesOf_37 ?_
            refine lv_goto (tgt := 42) hx hb dX1_ropesOf_38 (by decide) ?_
            refine ii_add hx hb dX1_ropesOf_42 ?_
            refine lv_istore_n (lv' := [(2, .int (iI ((ropesS F i k) + 1))), (3, .int (iI zk)), (0, .ref (ad 0)), (1, .int (iI zi))]) hx hb dX1_ropesOf_43 rfl hl (by decide) rfl (fun ls hl => ?_)
            refine ii_iinc (k := 1) (lv' := [(3, .int (iI (zk + 1))), (2, .int (iI ((ropesS F i k) + 1))), (0, .ref (ad 0)), (1, .int (iI zi))]) hx hb dX1_ropesOf_44 hl rfl (by decide) rfl (fun ls hl => ?_)
            refine lv_goto (tgt := 4) hx hb dX1_ropesOf_47 (by decide) ?_
            have e_6 : (ropesS F i (k + 1)) = ((ropesS F i k) + 1) := by simp only [ropesS]; split <;> omega
            exact ih4 (k + 1) (zk + 1) (by omega) (by omega) (by omega) ls (by rw [e_6]; exact lv_sub hl [0, 1, 2, 3] rfl)
  have e_7 : (ropesS F i 0) = 0 := by rfl
  exact loop_4 _ 0 0 (by omega) (by omega) (Nat.lt_succ_self _) ls (by rw [e_7]; exact lv_sub hl [0, 1, 2, 3] rfl)
