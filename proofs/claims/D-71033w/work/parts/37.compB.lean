/-! COMPONENT: has, movedMany, count (written by gen/comp.py) -/
set_option maxRecDepth 100000
set_option maxHeartbeats 1000000 in
set_option maxRecDepth 100000 in
theorem mX0_has {l : Launch} {G : GG} {s0 : State} {b0 : Nat} (Z : ZZ l G s0 b0) (a : Int) (ha : 0 ≤ a ∧ a < 256) (b : Int) (hb8 : 0 ≤ b ∧ b < 8) : Met l yX0_has (ws_ yX0_has cX0_has 2 (some .boolean)) ({ frames := 0, cells := 0, slots := 0, locals := 0 } : Room) (pcR s0 (fun _ => True) [.int (iI a), .int (iI b)]) (qI (b2 (bitS a b))) 0 0 (fun _ => False) := by
  refine Met.ofW (cc := cX0_has) (maxL := 2) (ret := (some .boolean)) (by decide) rfl ?_
  intro p e s m args below meth c s₁ B hml hv
  obtain ⟨rfl, hW, hB⟩ := hv
  have hx := B.exec
  have hb := B.bytes
  have hr := B.returns
  have hts := atoms_spec (ws := (ws_ yX0_has cX0_has 2 (some .boolean))) B.pre
  have hts : ∀ w ∈ lw_all, w.before _ s = true := fun w h => hts w (List.mem_cons_of_mem _ h)
  have hown : s.vm.findClass RX0 = some m.cls := findClass_of_methodNamed B.named
  have hlocks := B.notSynchronized
  have hl := lv_entry ([.int (iI a), .int (iI b)]) (n := 2) (Nat.le_of_ble_eq_true rfl)
  rw [lg_entry_eq]
  generalize (lg_sl ([.int (iI a), .int (iI b)]) ++ List.replicate (2 - (lg_sl ([.int (iI a), .int (iI b)])).length) Slot.unset).toArray = ls at hl ⊢
  have hl : lv_has ls 2 [(0, .int (iI a)), (1, .int (iI b))] := hl
  refine lv_iload_n hx hb dX0_has_0 rfl (lv_at hl 0 rfl) ?_
  refine lv_iload_n hx hb dX0_has_1 rfl (lv_at hl 1 rfl) ?_
  refine ii_shand hx hb (by omega) (by omega) dX0_has_2 dX0_has_3 dX0_has_4 ?_
  have b_1 := Nat.mod_two_eq_zero_or_one (a.toNat / 2 ^ b.toNat)
  refine ii_const hx hb dX0_has_5 ?_
  refine ii_icmp_ne (tgt := 13) hx hb dX0_has_6 (by decide) (by omega) (by omega) (fun c_2 => ?_) (fun c_2 => ?_)
  · -- 6 -> 13
    refine ii_const hx hb dX0_has_13 ?_
    have he9 : 0 = (b2 (bitS a b)) := by first | exact (b2_t (by omega)).symm | exact (b2_f (by omega)).symm
    exact W.zret (ty := .boolean) hx hb hr (by first | rfl | exact b2_nar _) (fun t ht hW9 => ⟨_, rfl, congrArg iI he9, ht⟩) (fun q hq => by cases hq) dX0_has_14
  · -- 6 -> 9
    refine ii_const hx hb dX0_has_9 ?_
    refine lv_goto (tgt := 14) hx hb dX0_has_10 (by decide) ?_
    have he9 : 1 = (b2 (bitS a b)) := by first | exact (b2_t (by omega)).symm | exact (b2_f (by omega)).symm
    exact W.zret (ty := .boolean) hx hb hr (by first | rfl | exact b2_nar _) (fun t ht hW9 => ⟨_, rfl, congrArg iI he9, ht⟩) (fun q hq => by cases hq) dX0_has_14

set_option maxHeartbeats 1000000 in
set_option maxRecDepth 100000 in
theorem mX0_movedMany {l : Launch} {G : GG} {s0 : State} {b0 : Nat} (Z : ZZ l G s0 b0) (A : Nat → Nat) (S : Sta) (R : Nat → Option Nat) (hF0 : WF (S 20)) (hF1 : WF (S 21)) : Met l yX0_movedMany (ws_ yX0_movedMany cX0_movedMany 3 (some .int)) ({ frames := 1, cells := 0, slots := 0, locals := 21 } : Room) (pcR s0 (CW G A S R) [.ref (A 0)]) (qI (movS (S 20) (S 21) (S 20 76).toNat)) 0 0 (fun _ => False) := by
  refine Met.ofW (cc := cX0_movedMany) (maxL := 3) (ret := (some .int)) (by decide) rfl ?_
  intro p e s m args below meth c s₁ B hml hv
  obtain ⟨rfl, hW, hB⟩ := hv
  have hx := B.exec
  have hb := B.bytes
  have hr := B.returns
  have hts := atoms_spec (ws := (ws_ yX0_movedMany cX0_movedMany 3 (some .int))) B.pre
  have hts : ∀ w ∈ lw_all, w.before _ s = true := fun w h => hts w (List.mem_cons_of_mem _ h)
  have hown : s.vm.findClass RX0 = some m.cls := findClass_of_methodNamed B.named
  have hlocks := B.notSynchronized
  have hl := lv_entry ([.ref (A 0)]) (n := 3) (Nat.le_of_ble_eq_true rfl)
  rw [lg_entry_eq]
  generalize (lg_sl ([.ref (A 0)]) ++ List.replicate (3 - (lg_sl ([.ref (A 0)])).length) Slot.unset).toArray = ls at hl ⊢
  have hl : lv_has ls 3 [(0, .ref (A 0))] := hl
  have hn5 := hF0.n
  refine ii_const hx hb dX0_movedMany_0 ?_
  refine lv_istore_n (lv' := [(1, .int (iI 0)), (0, .ref (A 0))]) hx hb dX0_movedMany_1 rfl hl (by decide) rfl (fun ls hl => ?_)
  refine ii_const hx hb dX0_movedMany_2 ?_
  refine lv_istore_n (lv' := [(2, .int (iI 0)), (1, .int (iI 0)), (0, .ref (A 0))]) hx hb dX0_movedMany_3 rfl hl (by decide) rfl (fun ls hl => ?_)
  have loop_4 : ∀ (fu : Nat) (i : Nat) (zi : Int), (zi = (i : Int)) → (i ≤ (S 20 76).toNat) → (6 - i) < fu → ∀ (ls : Array Slot), lv_has ls 3 [(2, .int (iI zi)), (1, .int (iI (movS (S 20) (S 21) i))), (0, .ref (A 0))] → W p l e (headSpec (ws_ yX0_movedMany cX0_movedMany 3 (some .int)) ({ frames := 1, cells := 0, slots := 0, locals := 21 } : Room)).room s m ([.ref (A 0)] : List Value).toArray below meth c s.heap [] 0 0 (MQ below (qI (movS (S 20) (S 21) (S 20 76).toNat)) ([.ref (A 0)] : List Value).toArray s 0 0 (fun _ => False)) (F0 m 4 ls []) := by
    intro fu
    induction fu with
    | zero => intro i zi ezi hi hmu; exact absurd hmu (Nat.not_lt_zero _)
    | succ fu ih4 =>
      intro i zi ezi hi hmu ls hl
      refine lv_iload_n hx hb dX0_movedMany_4 rfl (lv_at hl 0 rfl) ?_
      refine lv_aload_n hx hb dX0_movedMany_5 rfl (lv_at hl 2 rfl) ?_
      refine r_get (ci := 0) (k := 3) (v := .ref (A 36)) (C := RX0) (T := TX0) (N := 16) Z hB hx hb hts hown rfl in_X0 hW.obj (by decide) q796 rfl dX0_movedMany_6 ?_
      have b_333 := hF0.n 
      refine r_getN (ci := 1) (k := 3) (v := .int (iI ((S 20) 76))) (C := RX1) (T := TX1) (N := 8) Z hB hx hb hts hown rfl in_X1 (((hW.fw (f := 0) (by omega) (F := (S 20)) rfl)).1) (by decide) q147 rfl dX0_movedMany_9 ?_
      refine ii_icmp_ge (tgt := 48) hx hb dX0_movedMany_12 (by decide) (by omega) (by omega) (fun c_1 => ?_) (fun c_1 => ?_)
      · -- 12 -> 48
        have ex_i : (S 20 76).toNat = i := by omega
        subst ex_i
        refine lv_iload_n hx hb dX0_movedMany_48 rfl (lv_at hl 1 rfl) ?_
        have he9 : (movS (S 20) (S 21) (S 20 76).toNat) = (movS (S 20) (S 21) (S 20 76).toNat) := rfl
        exact W.iret hx hb hr (fun t ht hW9 => ⟨_, rfl, congrArg iI he9, ht⟩) (fun q hq => by cases hq) dX0_movedMany_49
      · -- 12 -> 15
        refine lv_iload_n hx hb dX0_movedMany_15 rfl (lv_at hl 1 rfl) ?_
        refine lv_aload_n hx hb dX0_movedMany_16 rfl (lv_at hl 2 rfl) ?_
        refine r_get (ci := 0) (k := 4) (v := .ref (A 56)) (C := RX0) (T := TX0) (N := 16) Z hB hx hb hts hown rfl in_X0 hW.obj (by decide) q797 rfl dX0_movedMany_17 ?_
        refine lv_iload_n hx hb dX0_movedMany_20 rfl (lv_at hl 0 rfl) ?_
        refine cqI (va_runV (As := [.int (iI zi)]) (rest := [.int (iI (movS (S 20) (S 21) i))]) ⟨hx, hb, hml, hown, hts⟩ (mX1_at Z (fa A 1) (S 21) hF1 i zi (by omega) (by omega)) (cwV 1 hts (lw_V q600 q387 q388 q80 q389) rfl rfl rfl (by decide +kernel) ⟨Nat.le_of_ble_eq_true rfl, Nat.le_of_ble_eq_true rfl⟩) (pvR hB (OBJ.recv Z hB (((hW.fw (f := 1) (by omega) (F := (S 21)) rfl)).1) (q := (RX1, TX1, 8)) rfl) (hW.fw (f := 1) (by omega) (F := (S 21)) rfl)) rfl rfl hl.1 rfl (lv_room (Nat.le_of_ble_eq_true rfl)) dX0_movedMany_21 ⟨Nat.zero_le _, Nat.zero_le _⟩) ?_
        have b_341 := hF1.pl i (by omega)
        refine lv_aload_n hx hb dX0_movedMany_24 rfl (lv_at hl 2 rfl) ?_
        refine r_get (ci := 0) (k := 3) (v := .ref (A 36)) (C := RX0) (T := TX0) (N := 16) Z hB hx hb hts hown rfl in_X0 hW.obj (by decide) q796 rfl dX0_movedMany_25 ?_
        refine lv_iload_n hx hb dX0_movedMany_28 rfl (lv_at hl 0 rfl) ?_
        refine cqI (va_runV (As := [.int (iI zi)]) (rest := [.int (iI ((S 21) (2 * i + 1))), .int (iI (movS (S 20) (S 21) i))]) ⟨hx, hb, hml, hown, hts⟩ (mX1_at Z (fa A 0) (S 20) hF0 i zi (by omega) (by omega)) (cwV 1 hts (lw_V q600 q387 q388 q80 q389) rfl rfl rfl (by decide +kernel) ⟨Nat.le_of_ble_eq_true rfl, Nat.le_of_ble_eq_true rfl⟩) (pvR hB (OBJ.recv Z hB (((hW.fw (f := 0) (by omega) (F := (S 20)) rfl)).1) (q := (RX1, TX1, 8)) rfl) (hW.fw (f := 0) (by omega) (F := (S 20)) rfl)) rfl rfl hl.1 rfl (lv_room (Nat.le_of_ble_eq_true rfl)) dX0_movedMany_29 ⟨Nat.zero_le _, Nat.zero_le _⟩) ?_
        have b_346 := hF0.pl i (by omega)
        refine ii_icmp_ne (tgt := 39) hx hb dX0_movedMany_32 (by decide) (by omega) (by omega) (fun c_2 => ?_) (fun c_2 => ?_)
        · -- 32 -> 39
          refine ii_const hx hb dX0_movedMany_39 ?_
          refine ii_add hx hb dX0_movedMany_40 ?_
          refine lv_istore_n (lv' := [(1, .int (iI ((movS (S 20) (S 21) i) + 1))), (2, .int (iI zi)), (0, .ref (A 0))]) hx hb dX0_movedMany_41 rfl hl (by decide) rfl (fun ls hl => ?_)
          refine ii_iinc (k := 1) (lv' := [(2, .int (iI (zi + 1))), (1, .int (iI ((movS (S 20) (S 21) i) + 1))), (0, .ref (A 0))]) hx hb dX0_movedMany_42 hl rfl (by decide) rfl (fun ls hl => ?_)
          refine lv_goto (tgt := 4) hx hb dX0_movedMany_45 (by decide) ?_
          have e_3 : (movS (S 20) (S 21) (i + 1)) = ((movS (S 20) (S 21) i) + 1) := by simp only [movS]; split <;> omega
          exact ih4 (i + 1) (zi + 1) (by omega) (by omega) (by omega) ls (by rw [e_3]; exact lv_sub hl [0, 1, 2] rfl)
        · -- 32 -> 35
          refine ii_const hx hb dX0_movedMany_35 ?_
          refine lv_goto (tgt := 40) hx hb dX0_movedMany_36 (by decide) ?_
          refine ii_add hx hb dX0_movedMany_40 ?_
          refine lv_istore_n (lv' := [(1, .int (iI ((movS (S 20) (S 21) i) + 0))), (2, .int (iI zi)), (0, .ref (A 0))]) hx hb dX0_movedMany_41 rfl hl (by decide) rfl (fun ls hl => ?_)
          refine ii_iinc (k := 1) (lv' := [(2, .int (iI (zi + 1))), (1, .int (iI ((movS (S 20) (S 21) i) + 0))), (0, .ref (A 0))]) hx hb dX0_movedMany_42 hl rfl (by decide) rfl (fun ls hl => ?_)
          refine lv_goto (tgt := 4) hx hb dX0_movedMany_45 (by decide) ?_
          have e_4 : (movS (S 20) (S 21) (i + 1)) = ((movS (S 20) (S 21) i) + 0) := by simp only [movS]; split <;> omega
          exact ih4 (i + 1) (zi + 1) (by omega) (by omega) (by omega) ls (by rw [e_4]; exact lv_sub hl [0, 1, 2] rfl)
  have e_5 : (movS (S 20) (S 21) 0) = 0 := by rfl
  exact loop_4 _ 0 0 (by omega) (by omega) (Nat.lt_succ_self _) ls (by rw [e_5]; exact lv_sub hl [0, 1, 2] rfl)

set_option maxHeartbeats 1000000 in
set_option maxRecDepth 100000 in
theorem mX0_count {l : Launch} {G : GG} {s0 : State} {b0 : Nat} (Z : ZZ l G s0 b0) (A : Nat → Nat) (S : Sta) (R : Nat → Option Nat) (hF0 : WF (S 20)) (hk : (S 0 9 = 0 ∨ S 0 9 = 1) ∧ (S 0 10 = 0 ∨ S 0 10 = 1)) (what : Int) (hwhat : inR what) : Met l yX0_count (ws_ yX0_count cX0_count 6 (some .int)) ({ frames := 0, cells := 0, slots := 0, locals := 0 } : Room) (pcR s0 (CW G A S R) [.ref (A 0), .int (iI what)]) (qI (countS S R what)) 0 0 (fun _ => False) := by
  refine Met.ofW (cc := cX0_count) (maxL := 6) (ret := (some .int)) (by decide) rfl ?_
  intro p e s m args below meth c s₁ B hml hv
  obtain ⟨rfl, hW, hB⟩ := hv
  have hx := B.exec
  have hb := B.bytes
  have hr := B.returns
  have hts := atoms_spec (ws := (ws_ yX0_count cX0_count 6 (some .int))) B.pre
  have hts : ∀ w ∈ lw_all, w.before _ s = true := fun w h => hts w (List.mem_cons_of_mem _ h)
  have hown : s.vm.findClass RX0 = some m.cls := findClass_of_methodNamed B.named
  have hlocks := B.notSynchronized
  have hl := lv_entry ([.ref (A 0), .int (iI what)]) (n := 6) (Nat.le_of_ble_eq_true rfl)
  rw [lg_entry_eq]
  generalize (lg_sl ([.ref (A 0), .int (iI what)]) ++ List.replicate (6 - (lg_sl ([.ref (A 0), .int (iI what)])).length) Slot.unset).toArray = ls at hl ⊢
  have hl : lv_has ls 6 [(0, .ref (A 0)), (1, .int (iI what))] := hl
  have hn5 := hF0.n
  have hr6 := hF0.rm
  refine ii_const hx hb dX0_count_0 ?_
  refine lv_istore_n (lv' := [(2, .int (iI 0)), (0, .ref (A 0)), (1, .int (iI what))]) hx hb dX0_count_1 rfl hl (by decide) rfl (fun ls hl => ?_)
  refine ii_const hx hb dX0_count_2 ?_
  refine lv_istore_n (lv' := [(3, .int (iI 0)), (2, .int (iI 0)), (0, .ref (A 0)), (1, .int (iI what))]) hx hb dX0_count_3 rfl hl (by decide) rfl (fun ls hl => ?_)
  refine ii_const hx hb dX0_count_4 ?_
  refine lv_istore (lv' := [(4, .int (iI 0)), (3, .int (iI 0)), (2, .int (iI 0)), (0, .ref (A 0)), (1, .int (iI what))]) hx hb dX0_count_5 hl (by decide) rfl (fun ls hl => ?_)
  have loop_7 : ∀ (fu : Nat) (k : Nat) (zk : Int), (zk = (k : Int)) → (k ≤ (S 20 53).toNat) → (7 - k) < fu → ∀ (ls : Array Slot), lv_has ls 6 [(4, .int (iI zk)), (3, .int (iI 0)), (2, .int (iI (lenS (S 20) k))), (0, .ref (A 0)), (1, .int (iI what))] → W p l e (headSpec (ws_ yX0_count cX0_count 6 (some .int)) ({ frames := 0, cells := 0, slots := 0, locals := 0 } : Room)).room s m ([.ref (A 0), .int (iI what)] : List Value).toArray below meth c s.heap [] 0 0 (MQ below (qI (countS S R what)) ([.ref (A 0), .int (iI what)] : List Value).toArray s 0 0 (fun _ => False)) (F0 m 7 ls []) := by
    intro fu
    induction fu with
    | zero => intro k zk ezk hk2 hmu; exact absurd hmu (Nat.not_lt_zero _)
    | succ fu ih7 =>
      intro k zk ezk hk2 hmu ls hl
      refine lv_iload hx hb dX0_count_7 (lv_at hl 0 rfl) ?_
      refine lv_aload_n hx hb dX0_count_9 rfl (lv_at hl 3 rfl) ?_
      refine r_get (ci := 0) (k := 3) (v := .ref (A 36)) (C := RX0) (T := TX0) (N := 16) Z hB hx hb hts hown rfl in_X0 hW.obj (by decide) q796 rfl dX0_count_10 ?_
      have b_348 := hF0.rm 
      refine r_getN (ci := 1) (k := 4) (v := .int (iI ((S 20) 53))) (C := RX1) (T := TX1) (N := 8) Z hB hx hb hts hown rfl in_X1 (((hW.fw (f := 0) (by omega) (F := (S 20)) rfl)).1) (by decide) q149 rfl dX0_count_13 ?_
      refine ii_icmp_ge (tgt := 40) hx hb dX0_count_16 (by decide) (by omega) (by omega) (fun c_1 => ?_) (fun c_1 => ?_)
      · -- 16 -> 40
        have ex_k : (S 20 53).toNat = k := by omega
        subst ex_k
        refine ii_const hx hb dX0_count_40 ?_
        refine lv_istore (lv' := [(4, .int (iI 0)), (3, .int (iI 0)), (2, .int (iI (lenS (S 20) (S 20 53).toNat))), (0, .ref (A 0)), (1, .int (iI what))]) hx hb dX0_count_41 hl (by decide) rfl (fun ls hl => ?_)
        have loop_43 : ∀ (fu : Nat) (i : Nat) (zi : Int), (zi = (i : Int)) → (i ≤ (S 20 76).toNat) → (6 - i) < fu → ∀ (ls : Array Slot), lv_has ls 6 [(4, .int (iI zi)), (3, .int (iI (crsS (S 20) (S 20 76).toNat i))), (2, .int (iI (lenS (S 20) (S 20 53).toNat))), (0, .ref (A 0)), (1, .int (iI what))] → W p l e (headSpec (ws_ yX0_count cX0_count 6 (some .int)) ({ frames := 0, cells := 0, slots := 0, locals := 0 } : Room)).room s m ([.ref (A 0), .int (iI what)] : List Value).toArray below meth c s.heap [] 0 0 (MQ below (qI (countS S R what)) ([.ref (A 0), .int (iI what)] : List Value).toArray s 0 0 (fun _ => False)) (F0 m 43 ls []) := by
          intro fu
          induction fu with
          | zero => intro i zi ezi hi hmu; exact absurd hmu (Nat.not_lt_zero _)
          | succ fu ih43 =>
            intro i zi ezi hi hmu ls hl
            refine lv_iload hx hb dX0_count_43 (lv_at hl 0 rfl) ?_
            refine lv_aload_n hx hb dX0_count_45 rfl (lv_at hl 3 rfl) ?_
            refine r_get (ci := 0) (k := 3) (v := .ref (A 36)) (C := RX0) (T := TX0) (N := 16) Z hB hx hb hts hown rfl in_X0 hW.obj (by decide) q796 rfl dX0_count_46 ?_
            have b_351 := hF0.n 
            refine r_getN (ci := 1) (k := 3) (v := .int (iI ((S 20) 76))) (C := RX1) (T := TX1) (N := 8) Z hB hx hb hts hown rfl in_X1 (((hW.fw (f := 0) (by omega) (F := (S 20)) rfl)).1) (by decide) q147 rfl dX0_count_49 ?_
            refine ii_icmp_ge (tgt := 98) hx hb dX0_count_52 (by decide) (by omega) (by omega) (fun c_2 => ?_) (fun c_2 => ?_)
            · -- 52 -> 98
              have ex_i : (S 20 76).toNat = i := by omega
              subst ex_i
              refine lv_iload_n hx hb dX0_count_98 rfl (lv_at hl 4 rfl) ?_
              by_cases c_3_0 : what = 0
              · --
                refine lv_tableIn (off := 37) (tgt := 136) hx hb dX0_count_99 (by rw [iI_toInt (by omega)]; omega) (by rw [iI_toInt (by omega)]; omega) (by rw [iI_toInt (by omega), c_3_0]; rfl) (by decide) ?_
                refine lv_aload_n hx hb dX0_count_136 rfl (lv_at hl 3 rfl) ?_
                refine r_get (ci := 0) (k := 8) (v := .int (iI ((S 0) 3))) (C := RX0) (T := TX0) (N := 16) Z hB hx hb hts hown rfl in_X0 hW.obj (by decide) q803 rfl dX0_count_137 ?_
                have he9 : ((S 0) 3) = (countS S R what) := by unfold countS; (repeat' split) <;> first | rfl | omega
                exact W.iret hx hb hr (fun t ht hW9 => ⟨_, rfl, congrArg iI he9, ht⟩) (fun q hq => by cases hq) dX0_count_140
              by_cases c_3_1 : what = 1
              · --
                refine lv_tableIn (off := 42) (tgt := 141) hx hb dX0_count_99 (by rw [iI_toInt (by omega)]; omega) (by rw [iI_toInt (by omega)]; omega) (by rw [iI_toInt (by omega), c_3_1]; rfl) (by decide) ?_
                refine lv_aload_n hx hb dX0_count_141 rfl (lv_at hl 3 rfl) ?_
                refine r_get (ci := 0) (k := 10) (v := .ref (A 14)) (C := RX0) (T := TX0) (N := 16) Z hB hx hb hts hown rfl in_X0 hW.obj (by decide) q805 rfl dX0_count_142 ?_
                refine ii_const hx hb dX0_count_145 ?_
                refine r_aald (t := 5) (ty := .object "TemperIsles$Image") (k := 0) Z hB hx hb rfl rfl hW.img (by omega) (by omega) (by omega) rfl dX0_count_146 ?_
                refine r_getN (ci := 2) (k := 3) (v := .int (iI ((S 0) 9))) (C := RX2) (T := TX2) (N := 5) Z hB hx hb hts hown rfl in_X2 (hW.imgO 0 (by omega)) (by decide) q765 rfl dX0_count_147 ?_
                refine ii_if_eq (tgt := 157) hx hb dX0_count_150 (by decide) (by omega) (fun c_4 => ?_) (fun c_4 => ?_)
                · -- 150 -> 157
                  refine ii_const hx hb dX0_count_157 ?_
                  refine lv_aload_n hx hb dX0_count_158 rfl (lv_at hl 3 rfl) ?_
                  refine r_get (ci := 0) (k := 10) (v := .ref (A 14)) (C := RX0) (T := TX0) (N := 16) Z hB hx hb hts hown rfl in_X0 hW.obj (by decide) q805 rfl dX0_count_159 ?_
                  refine ii_const hx hb dX0_count_162 ?_
                  refine r_aald (t := 5) (ty := .object "TemperIsles$Image") (k := 1) Z hB hx hb rfl rfl hW.img (by omega) (by omega) (by omega) rfl dX0_count_163 ?_
                  refine r_getN (ci := 2) (k := 3) (v := .int (iI ((S 0) 10))) (C := RX2) (T := TX2) (N := 5) Z hB hx hb hts hown rfl in_X2 (hW.imgO 1 (by omega)) (by decide) q765 rfl dX0_count_164 ?_
                  refine ii_if_eq (tgt := 174) hx hb dX0_count_167 (by decide) (by omega) (fun c_5 => ?_) (fun c_5 => ?_)
                  · -- 167 -> 174
                    refine ii_const hx hb dX0_count_174 ?_
                    refine ii_add hx hb dX0_count_175 ?_
                    have he9 : (0 + 0) = (countS S R what) := by unfold countS; (repeat' split) <;> first | rfl | omega
                    exact W.iret hx hb hr (fun t ht hW9 => ⟨_, rfl, congrArg iI he9, ht⟩) (fun q hq => by cases hq) dX0_count_176
                  · -- 167 -> 170
                    refine ii_const hx hb dX0_count_170 ?_
                    refine lv_goto (tgt := 175) hx hb dX0_count_171 (by decide) ?_
                    refine ii_add hx hb dX0_count_175 ?_
                    have he9 : (0 + 1) = (countS S R what) := by unfold countS; (repeat' split) <;> first | rfl | omega
                    exact W.iret hx hb hr (fun t ht hW9 => ⟨_, rfl, congrArg iI he9, ht⟩) (fun q hq => by cases hq) dX0_count_176
                · -- 150 -> 153
                  refine ii_const hx hb dX0_count_153 ?_
                  refine lv_goto (tgt := 158) hx hb dX0_count_154 (by decide) ?_
                  refine lv_aload_n hx hb dX0_count_158 rfl (lv_at hl 3 rfl) ?_
                  refine r_get (ci := 0) (k := 10) (v := .ref (A 14)) (C := RX0) (T := TX0) (N := 16) Z hB hx hb hts hown rfl in_X0 hW.obj (by decide) q805 rfl dX0_count_159 ?_
                  refine ii_const hx hb dX0_count_162 ?_
                  refine r_aald (t := 5) (ty := .object "TemperIsles$Image") (k := 1) Z hB hx hb rfl rfl hW.img (by omega) (by omega) (by omega) rfl dX0_count_163 ?_
                  refine r_getN (ci := 2) (k := 3) (v := .int (iI ((S 0) 10))) (C := RX2) (T := TX2) (N := 5) Z hB hx hb hts hown rfl in_X2 (hW.imgO 1 (by omega)) (by decide) q765 rfl dX0_count_164 ?_
                  refine ii_if_eq (tgt := 174) hx hb dX0_count_167 (by decide) (by omega) (fun c_6 => ?_) (fun c_6 => ?_)
                  · -- 167 -> 174
                    refine ii_const hx hb dX0_count_174 ?_
                    refine ii_add hx hb dX0_count_175 ?_
                    have he9 : (1 + 0) = (countS S R what) := by unfold countS; (repeat' split) <;> first | rfl | omega
                    exact W.iret hx hb hr (fun t ht hW9 => ⟨_, rfl, congrArg iI he9, ht⟩) (fun q hq => by cases hq) dX0_count_176
                  · -- 167 -> 170
                    refine ii_const hx hb dX0_count_170 ?_
                    refine lv_goto (tgt := 175) hx hb dX0_count_171 (by decide) ?_
                    refine ii_add hx hb dX0_count_175 ?_
                    have he9 : (1 + 1) = (countS S R what) := by unfold countS; (repeat' split) <;> first | rfl | omega
                    exact W.iret hx hb hr (fun t ht hW9 => ⟨_, rfl, congrArg iI he9, ht⟩) (fun q hq => by cases hq) dX0_count_176
              by_cases c_3_2 : what = 2
              · --
                refine lv_tableIn (off := 78) (tgt := 177) hx hb dX0_count_99 (by rw [iI_toInt (by omega)]; omega) (by rw [iI_toInt (by omega)]; omega) (by rw [iI_toInt (by omega), c_3_2]; rfl) (by decide) ?_
                refine lv_aload_n hx hb dX0_count_177 rfl (lv_at hl 3 rfl) ?_
                refine r_get (ci := 0) (k := 1) (v := .int (iI ((S 0) 0))) (C := RX0) (T := TX0) (N := 16) Z hB hx hb hts hown rfl in_X0 hW.obj (by decide) q793 rfl dX0_count_178 ?_
                have he9 : ((S 0) 0) = (countS S R what) := by unfold countS; (repeat' split) <;> first | rfl | omega
                exact W.iret hx hb hr (fun t ht hW9 => ⟨_, rfl, congrArg iI he9, ht⟩) (fun q hq => by cases hq) dX0_count_181
              by_cases c_3_3 : what = 3
              · --
                refine lv_tableIn (off := 83) (tgt := 182) hx hb dX0_count_99 (by rw [iI_toInt (by omega)]; omega) (by rw [iI_toInt (by omega)]; omega) (by rw [iI_toInt (by omega), c_3_3]; rfl) (by decide) ?_
                refine lv_aload_n hx hb dX0_count_182 rfl (lv_at hl 3 rfl) ?_
                refine r_get (ci := 0) (k := 12) (v := .ref (A 31)) (C := RX0) (T := TX0) (N := 16) Z hB hx hb hts hown rfl in_X0 hW.obj (by decide) q807 rfl dX0_count_183 ?_
                refine ii_const hx hb dX0_count_186 ?_
                refine r_aald (t := 6) (ty := .object "TemperIsles$Sheet") (k := 0) Z hB hx hb rfl rfl hW.sh (by omega) (by omega) (by omega) rfl dX0_count_187 ?_
                refine r_getN (ci := 3) (k := 0) (v := va_rf (R 0)) (C := RX3) (T := TX3) (N := 2) Z hB hx hb hts hown rfl in_X3 (hW.shO 0 (by omega)) (by decide) q785 rfl dX0_count_188 ?_
                rcases hR0 : R 0 with _ | a9
                · --
                  rw [show va_rf none = Value.null from rfl]
                  refine lv_ifnonnullN hx hb dX0_count_191 ?_
                  refine ii_bipush hx hb dX0_count_194 (by decide) ?_
                  refine lv_goto (tgt := 208) hx hb dX0_count_196 (by decide) ?_
                  have he9 : (-4) = (countS S R what) := by unfold countS; rw [if_neg (by omega), if_neg (by omega), if_neg (by omega), if_pos (by omega), if_pos hR0]
                  exact W.iret hx hb hr (fun t ht hW9 => ⟨_, rfl, congrArg iI he9, ht⟩) (fun q hq => by cases hq) dX0_count_208
                · --
                  rw [show va_rf (some a9) = Value.ref a9 from rfl]
                  refine lv_ifnonnull (tgt := 199) hx hb dX0_count_191 (by decide) ?_
                  refine lv_aload_n hx hb dX0_count_199 rfl (lv_at hl 3 rfl) ?_
                  refine r_get (ci := 0) (k := 12) (v := .ref (A 31)) (C := RX0) (T := TX0) (N := 16) Z hB hx hb hts hown rfl in_X0 hW.obj (by decide) q807 rfl dX0_count_200 ?_
                  refine ii_const hx hb dX0_count_203 ?_
                  refine r_aald (t := 6) (ty := .object "TemperIsles$Sheet") (k := 0) Z hB hx hb rfl rfl hW.sh (by omega) (by omega) (by omega) rfl dX0_count_204 ?_
                  refine r_getN (ci := 3) (k := 1) (v := .int (iI ((S 0) 11))) (C := RX3) (T := TX3) (N := 2) Z hB hx hb hts hown rfl in_X3 (hW.shO 0 (by omega)) (by decide) q786 rfl dX0_count_205 ?_
                  have he9 : ((S 0) 11) = (countS S R what) := by unfold countS; rw [if_neg (by omega), if_neg (by omega), if_neg (by omega), if_pos (by omega), if_neg (by rw [hR0]; intro h; cases h)]
                  exact W.iret hx hb hr (fun t ht hW9 => ⟨_, rfl, congrArg iI he9, ht⟩) (fun q hq => by cases hq) dX0_count_208
              by_cases c_3_4 : what = 4
              · --
                refine lv_tableIn (off := 110) (tgt := 209) hx hb dX0_count_99 (by rw [iI_toInt (by omega)]; omega) (by rw [iI_toInt (by omega)]; omega) (by rw [iI_toInt (by omega), c_3_4]; rfl) (by decide) ?_
                refine lv_iload_n hx hb dX0_count_209 rfl (lv_at hl 2 rfl) ?_
                have he9 : (lenS (S 20) (S 20 53).toNat) = (countS S R what) := by unfold countS; (repeat' split) <;> first | rfl | omega
                exact W.iret hx hb hr (fun t ht hW9 => ⟨_, rfl, congrArg iI he9, ht⟩) (fun q hq => by cases hq) dX0_count_210
              by_cases c_3_5 : what = 5
              · --
                refine lv_tableIn (off := 112) (tgt := 211) hx hb dX0_count_99 (by rw [iI_toInt (by omega)]; omega) (by rw [iI_toInt (by omega)]; omega) (by rw [iI_toInt (by omega), c_3_5]; rfl) (by decide) ?_
                refine lv_iload_n hx hb dX0_count_211 rfl (lv_at hl 1 rfl) ?_
                have he9 : (crsS (S 20) (S 20 76).toNat (S 20 76).toNat) = (countS S R what) := by unfold countS; (repeat' split) <;> first | rfl | omega
                exact W.iret hx hb hr (fun t ht hW9 => ⟨_, rfl, congrArg iI he9, ht⟩) (fun q hq => by cases hq) dX0_count_212
              refine lv_tableOut (tgt := 213) hx hb dX0_count_99 (by rw [iI_toInt (by omega)]; omega) (by decide) ?_
              refine ii_const hx hb dX0_count_213 ?_
              have he9 : (-1) = (countS S R what) := by unfold countS; (repeat' split) <;> first | rfl | omega
              exact W.iret hx hb hr (fun t ht hW9 => ⟨_, rfl, congrArg iI he9, ht⟩) (fun q hq => by cases hq) dX0_count_214
            · -- 52 -> 55
              refine ii_const hx hb dX0_count_55 ?_
              refine lv_istore (lv' := [(5, .int (iI 0)), (4, .int (iI zi)), (3, .int (iI (crsS (S 20) (S 20 76).toNat i))), (2, .int (iI (lenS (S 20) (S 20 53).toNat))), (0, .ref (A 0)), (1, .int (iI what))]) hx hb dX0_count_56 hl (by decide) rfl (fun ls hl => ?_)
              have loop_58 : ∀ (fu : Nat) (j : Nat) (zj : Int), (zj = (j : Int)) → (j ≤ (S 20 76).toNat) → (6 - j) < fu → ∀ (ls : Array Slot), lv_has ls 6 [(5, .int (iI zj)), (4, .int (iI zi)), (3, .int (iI (rowS (S 20) i j (crsS (S 20) (S 20 76).toNat i)))), (2, .int (iI (lenS (S 20) (S 20 53).toNat))), (0, .ref (A 0)), (1, .int (iI what))] → W p l e (headSpec (ws_ yX0_count cX0_count 6 (some .int)) ({ frames := 0, cells := 0, slots := 0, locals := 0 } : Room)).room s m ([.ref (A 0), .int (iI what)] : List Value).toArray below meth c s.heap [] 0 0 (MQ below (qI (countS S R what)) ([.ref (A 0), .int (iI what)] : List Value).toArray s 0 0 (fun _ => False)) (F0 m 58 ls []) := by
                intro fu
                induction fu with
                | zero => intro j zj ezj hj hmu; exact absurd hmu (Nat.not_lt_zero _)
                | succ fu ih58 =>
                  intro j zj ezj hj hmu ls hl
                  refine lv_iload hx hb dX0_count_58 (lv_at hl 0 rfl) ?_
                  refine lv_aload_n hx hb dX0_count_60 rfl (lv_at hl 4 rfl) ?_
                  refine r_get (ci := 0) (k := 3) (v := .ref (A 36)) (C := RX0) (T := TX0) (N := 16) Z hB hx hb hts hown rfl in_X0 hW.obj (by decide) q796 rfl dX0_count_61 ?_
                  have b_355 := hF0.n 
                  refine r_getN (ci := 1) (k := 3) (v := .int (iI ((S 20) 76))) (C := RX1) (T := TX1) (N := 8) Z hB hx hb hts hown rfl in_X1 (((hW.fw (f := 0) (by omega) (F := (S 20)) rfl)).1) (by decide) q147 rfl dX0_count_64 ?_
                  refine ii_icmp_ge (tgt := 92) hx hb dX0_count_67 (by decide) (by omega) (by omega) (fun c_7 => ?_) (fun c_7 => ?_)
                  · -- 67 -> 92
                    have ex_j : (S 20 76).toNat = j := by omega
                    subst ex_j
                    refine ii_iinc (k := 1) (lv' := [(4, .int (iI (zi + 1))), (5, .int (iI zj)), (3, .int (iI (rowS (S 20) i (S 20 76).toNat (crsS (S 20) (S 20 76).toNat i)))), (2, .int (iI (lenS (S 20) (S 20 53).toNat))), (0, .ref (A 0)), (1, .int (iI what))]) hx hb dX0_count_92 hl rfl (by decide) rfl (fun ls hl => ?_)
                    refine lv_goto (tgt := 43) hx hb dX0_count_95 (by decide) ?_
                    have e_8 : (crsS (S 20) (S 20 76).toNat (i + 1)) = (rowS (S 20) i (S 20 76).toNat (crsS (S 20) (S 20 76).toNat i)) := rfl
                    exact ih43 (i + 1) (zi + 1) (by omega) (by omega) (by omega) ls (by rw [e_8]; exact lv_sub hl [0, 2, 3, 4, 5] rfl)
                  · -- 67 -> 70
                    refine lv_iload_n hx hb dX0_count_70 rfl (lv_at hl 2 rfl) ?_
                    refine lv_aload_n hx hb dX0_count_71 rfl (lv_at hl 4 rfl) ?_
                    refine r_get (ci := 0) (k := 3) (v := .ref (A 36)) (C := RX0) (T := TX0) (N := 16) Z hB hx hb hts hown rfl in_X0 hW.obj (by decide) q796 rfl dX0_count_72 ?_
                    refine r_getN (ci := 1) (k := 1) (v := .ref ((fa A 0) 7)) (C := RX1) (T := TX1) (N := 8) Z hB hx hb hts hown rfl in_X1 (((hW.fw (f := 0) (by omega) (F := (S 20)) rfl)).1) (by decide) q142 rfl dX0_count_75 ?_
                    refine lv_iload hx hb dX0_count_78 (lv_at hl 1 rfl) ?_
                    refine r_aald (t := 1) (ty := .array .int) (k := i) Z hB hx hb rfl rfl (((hW.fw (f := 0) (by omega) (F := (S 20)) rfl)).2.2.2.1) (by omega) (by omega) (by omega) rfl dX0_count_80 ?_
                    refine lv_iload hx hb dX0_count_81 (lv_at hl 0 rfl) ?_
                    have b_363 := hF0.cr i j (by omega) (by omega)
                    refine r_iald (k := j) Z hB hx hb (((hW.fw (f := 0) (by omega) (F := (S 20)) rfl)).2.2.2.2.1 i (by omega)) (by omega) (by omega) (by omega) dX0_count_83 ?_
                    refine ii_add hx hb dX0_count_84 ?_
                    refine lv_istore_n (lv' := [(3, .int (iI ((rowS (S 20) i j (crsS (S 20) (S 20 76).toNat i)) + ((S 20) (10 + 5 * i + j))))), (5, .int (iI zj)), (4, .int (iI zi)), (2, .int (iI (lenS (S 20) (S 20 53).toNat))), (0, .ref (A 0)), (1, .int (iI what))]) hx hb dX0_count_85 rfl hl (by decide) rfl (fun ls hl => ?_)
                    refine ii_iinc (k := 1) (lv' := [(5, .int (iI (zj + 1))), (3, .int (iI ((rowS (S 20) i j (crsS (S 20) (S 20 76).toNat i)) + ((S 20) (10 + 5 * i + j))))), (4, .int (iI zi)), (2, .int (iI (lenS (S 20) (S 20 53).toNat))), (0, .ref (A 0)), (1, .int (iI what))]) hx hb dX0_count_86 hl rfl (by decide) rfl (fun ls hl => ?_)
                    refine lv_goto (tgt := 58) hx hb dX0_count_89 (by decide) ?_
                    have e_9 : (rowS (S 20) i (j + 1) (crsS (S 20) (S 20 76).toNat i)) = ((rowS (S 20) i j (crsS (S 20) (S 20 76).toNat i)) + ((S 20) (10 + 5 * i + j))) := rfl
                    exact ih58 (j + 1) (zj + 1) (by omega) (by omega) (by omega) ls (by rw [e_9]; exact lv_sub hl [0, 2, 1, 3, 4, 5] rfl)
              have e_10 : (rowS (S 20) i 0 (crsS (S 20) (S 20 76).toNat i)) = (crsS (S 20) (S 20 76).toNat i) := by rfl
              exact loop_58 _ 0 0 (by omega) (by omega) (Nat.lt_succ_self _) ls (by rw [e_10]; exact lv_sub hl [0, 1, 2, 3, 4, 5] rfl)
        have e_11 : (crsS (S 20) (S 20 76).toNat 0) = 0 := by rfl
        exact loop_43 _ 0 0 (by omega) (by omega) (Nat.lt_succ_self _) ls (by rw [e_11]; exact lv_sub hl [0, 1, 2, 3, 4] rfl)
      · -- 16 -> 19
        refine lv_iload_n hx hb dX0_count_19 rfl (lv_at hl 2 rfl) ?_
        refine lv_aload_n hx hb dX0_count_20 rfl (lv_at hl 3 rfl) ?_
        refine r_get (ci := 0) (k := 3) (v := .ref (A 36)) (C := RX0) (T := TX0) (N := 16) Z hB hx hb hts hown rfl in_X0 hW.obj (by decide) q796 rfl dX0_count_21 ?_
        refine r_getN (ci := 1) (k := 2) (v := .ref ((fa A 0) 13)) (C := RX1) (T := TX1) (N := 8) Z hB hx hb hts hown rfl in_X1 (((hW.fw (f := 0) (by omega) (F := (S 20)) rfl)).1) (by decide) q144 rfl dX0_count_24 ?_
        refine lv_iload hx hb dX0_count_27 (lv_at hl 0 rfl) ?_
        refine r_aald (t := 1) (ty := .array .int) (k := k) Z hB hx hb rfl rfl (((hW.fw (f := 0) (by omega) (F := (S 20)) rfl)).2.2.2.2.2.1) (by omega) (by omega) (by omega) rfl dX0_count_29 ?_
        refine ii_const hx hb dX0_count_30 ?_
        have b_368 := hF0.r2 k (by omega)
        refine r_iald (k := 2) Z hB hx hb (((hW.fw (f := 0) (by omega) (F := (S 20)) rfl)).2.2.2.2.2.2 k (by omega)) (by omega) (by omega) (by omega) dX0_count_31 ?_
        refine ii_add hx hb dX0_count_32 ?_
        refine lv_istore_n (lv' := [(2, .int (iI ((lenS (S 20) k) + ((S 20) (35 + 3 * k + 2))))), (4, .int (iI zk)), (3, .int (iI 0)), (0, .ref (A 0)), (1, .int (iI what))]) hx hb dX0_count_33 rfl hl (by decide) rfl (fun ls hl => ?_)
        refine ii_iinc (k := 1) (lv' := [(4, .int (iI (zk + 1))), (2, .int (iI ((lenS (S 20) k) + ((S 20) (35 + 3 * k + 2))))), (3, .int (iI 0)), (0, .ref (A 0)), (1, .int (iI what))]) hx hb dX0_count_34 hl rfl (by decide) rfl (fun ls hl => ?_)
        refine lv_goto (tgt := 7) hx hb dX0_count_37 (by decide) ?_
        have e_12 : (lenS (S 20) (k + 1)) = ((lenS (S 20) k) + ((S 20) (35 + 3 * k + 2))) := rfl
        exact ih7 (k + 1) (zk + 1) (by omega) (by omega) (by omega) ls (by rw [e_12]; exact lv_sub hl [0, 2, 1, 3, 4] rfl)
  have e_13 : (lenS (S 20) 0) = 0 := by rfl
  exact loop_7 _ 0 0 (by omega) (by omega) (Nat.lt_succ_self _) ls (by rw [e_13]; exact lv_sub hl [0, 1, 2, 3, 4] rfl)
