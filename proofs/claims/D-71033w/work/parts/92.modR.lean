/-! MODEL: a text read, 2 (written by gen/mod17.py) -/
set_option maxRecDepth 100000
set_option maxHeartbeats 1000000 in
set_option maxRecDepth 100000 in
theorem mX4_is {l : Launch} {G : GG} {s0 : State} {b0 : Nat} (Z : ZZ l G s0 b0) (K : Nat → Nat) (T : Sta) (n p9 g9 : Int) (en : T 0 10 = n) (ep : T 0 11 = p9) (eg : T 0 12 = g9) (hnp : (0 ≤ n ∧ n ≤ 160) ∧ (0 ≤ p9 ∧ p9 ≤ n) ∧ (0 ≤ g9 ∧ g9 ≤ n)) (t : Nat → Int) (et : T 5 = t) (ht : TapeOK t) (k : Int) (hk : inR k) (a1 : Int) (ha1 : inR a1) (b1 : Int) (hb1 : inR b1) (c1 : Int) (hc1 : inR c1) (d1 : Int) (hd1 : inR d1) : Met l yX4_is (ws_ yX4_is cX4_is 6 (some .boolean)) ({ frames := 1, cells := 0, slots := 0, locals := 21 } : Room) (pcR s0 (MW G K T) [.ref (K 0), .int (iI k), .int (iI a1), .int (iI b1), .int (iI c1), .int (iI d1)]) (qI (b2 (isW t n p9 g9 k a1 b1 c1 d1))) 0 0 (fun _ => False) := by
  refine Met.ofW (cc := cX4_is) (maxL := 6) (ret := (some .boolean)) (by decide) rfl ?_
  intro p e s m args below meth c s₁ B hml hv
  obtain ⟨rfl, hW, hB⟩ := hv
  have hx := B.exec
  have hb := B.bytes
  have hr := B.returns
  have hts := atoms_spec (ws := (ws_ yX4_is cX4_is 6 (some .boolean))) B.pre
  have hts : ∀ w ∈ lw_all, w.before _ s = true := fun w h => hts w (List.mem_cons_of_mem _ h)
  have hown : s.vm.findClass RX4 = some m.cls := findClass_of_methodNamed B.named
  have hlocks := B.notSynchronized
  have hl := lv_entry ([.ref (K 0), .int (iI k), .int (iI a1), .int (iI b1), .int (iI c1), .int (iI d1)]) (n := 6) (Nat.le_of_ble_eq_true rfl)
  rw [lg_entry_eq]
  generalize (lg_sl ([.ref (K 0), .int (iI k), .int (iI a1), .int (iI b1), .int (iI c1), .int (iI d1)]) ++ List.replicate (6 - (lg_sl ([.ref (K 0), .int (iI k), .int (iI a1), .int (iI b1), .int (iI c1), .int (iI d1)])).length) Slot.unset).toArray = ls at hl ⊢
  have hl : lv_has ls 6 [(0, .ref (K 0)), (1, .int (iI k)), (2, .int (iI a1)), (3, .int (iI b1)), (4, .int (iI c1)), (5, .int (iI d1))] := hl
  subst en
  subst ep
  subst eg
  subst et
  refine lv_aload_n hx hb dX4_is_0 rfl (lv_at hl 0 rfl) ?_
  refine r_get (ci := 4) (k := 11) (v := .int (iI ((T 0) 11))) (C := RX4) (T := TX4) (N := 29) Z hB hx hb hts hown rfl in_X4 hW.obj (by decide) q989 rfl dX4_is_1 ?_
  refine lv_aload_n hx hb dX4_is_4 rfl (lv_at hl 0 rfl) ?_
  refine r_get (ci := 4) (k := 12) (v := .int (iI ((T 0) 12))) (C := RX4) (T := TX4) (N := 29) Z hB hx hb hts hown rfl in_X4 hW.obj (by decide) q990 rfl dX4_is_5 ?_
  refine ii_sub hx hb dX4_is_8 ?_
  refine lv_iload_n hx hb dX4_is_9 rfl (lv_at hl 1 rfl) ?_
  refine ii_icmp_ne (tgt := 73) hx hb dX4_is_10 (by decide) (by omega) (by omega) (fun c_1 => ?_) (fun c_1 => ?_)
  · -- 10 -> 73
    refine ii_const hx hb dX4_is_73 ?_
    have he9 : 0 = (b2 (isW (T 5) ((T 0) 10) ((T 0) 11) ((T 0) 12) k a1 b1 c1 d1)) := by first | exact (b2_t (by omega)).symm | exact (b2_f (by omega)).symm
    exact W.zret (ty := .boolean) hx hb hr (by first | rfl | exact b2_nar _) (fun t ht hW9 => ⟨_, rfl, congrArg iI he9, ht⟩) (fun q hq => by cases hq) dX4_is_74
  · -- 10 -> 13
    refine lv_aload_n hx hb dX4_is_13 rfl (lv_at hl 0 rfl) ?_
    refine lv_aload_n hx hb dX4_is_14 rfl (lv_at hl 0 rfl) ?_
    refine r_get (ci := 4) (k := 12) (v := .int (iI ((T 0) 12))) (C := RX4) (T := TX4) (N := 29) Z hB hx hb hts hown rfl in_X4 hW.obj (by decide) q990 rfl dX4_is_15 ?_
    refine cqI (va_runV (As := [.int (iI ((T 0) 12))]) (rest := []) ⟨hx, hb, hml, hown, hts⟩ (mX4_byteAt Z K T ((T 0) 10) rfl (by omega) (T 5) rfl ht ((T 0) 12) (by omega)) (cwV 1 hts (lw_V q1087 q1089 qs35 q83 q1090) rfl rfl rfl (by decide +kernel) ⟨Nat.le_of_ble_eq_true rfl, Nat.le_of_ble_eq_true rfl⟩) (pvR hB (OBJ.recv Z hB hW.obj (q := (RX4, TX4, 29)) rfl) hW) rfl rfl hl.1 rfl (lv_room (Nat.le_of_ble_eq_true rfl)) dX4_is_18 ⟨Nat.zero_le _, Nat.zero_le _⟩) ?_
    have hby_2 := byA_in ht ((T 0) 10) ((T 0) 12)
    refine lv_iload_n hx hb dX4_is_21 rfl (lv_at hl 2 rfl) ?_
    refine ii_icmp_ne (tgt := 73) hx hb dX4_is_22 (by decide) (by omega) (by omega) (fun c_3 => ?_) (fun c_3 => ?_)
    · -- 22 -> 73
      refine ii_const hx hb dX4_is_73 ?_
      have he9 : 0 = (b2 (isW (T 5) ((T 0) 10) ((T 0) 11) ((T 0) 12) k a1 b1 c1 d1)) := by first | exact (b2_t (by omega)).symm | exact (b2_f (by omega)).symm
      exact W.zret (ty := .boolean) hx hb hr (by first | rfl | exact b2_nar _) (fun t ht hW9 => ⟨_, rfl, congrArg iI he9, ht⟩) (fun q hq => by cases hq) dX4_is_74
    · -- 22 -> 25
      refine lv_aload_n hx hb dX4_is_25 rfl (lv_at hl 0 rfl) ?_
      refine lv_aload_n hx hb dX4_is_26 rfl (lv_at hl 0 rfl) ?_
      refine r_get (ci := 4) (k := 12) (v := .int (iI ((T 0) 12))) (C := RX4) (T := TX4) (N := 29) Z hB hx hb hts hown rfl in_X4 hW.obj (by decide) q990 rfl dX4_is_27 ?_
      refine ii_const hx hb dX4_is_30 ?_
      refine ii_add hx hb dX4_is_31 ?_
      refine cqI (va_runV (As := [.int (iI (((T 0) 12) + 1))]) (rest := []) ⟨hx, hb, hml, hown, hts⟩ (mX4_byteAt Z K T ((T 0) 10) rfl (by omega) (T 5) rfl ht (((T 0) 12) + 1) (by omega)) (cwV 1 hts (lw_V q1087 q1089 qs35 q83 q1090) rfl rfl rfl (by decide +kernel) ⟨Nat.le_of_ble_eq_true rfl, Nat.le_of_ble_eq_true rfl⟩) (pvR hB (OBJ.recv Z hB hW.obj (q := (RX4, TX4, 29)) rfl) hW) rfl rfl hl.1 rfl (lv_room (Nat.le_of_ble_eq_true rfl)) dX4_is_32 ⟨Nat.zero_le _, Nat.zero_le _⟩) ?_
      have hby_4 := byA_in ht ((T 0) 10) (((T 0) 12) + 1)
      refine lv_iload_n hx hb dX4_is_35 rfl (lv_at hl 3 rfl) ?_
      refine ii_icmp_ne (tgt := 73) hx hb dX4_is_36 (by decide) (by omega) (by omega) (fun c_5 => ?_) (fun c_5 => ?_)
      · -- 36 -> 73
        refine ii_const hx hb dX4_is_73 ?_
        have he9 : 0 = (b2 (isW (T 5) ((T 0) 10) ((T 0) 11) ((T 0) 12) k a1 b1 c1 d1)) := by first | exact (b2_t (by omega)).symm | exact (b2_f (by omega)).symm
        exact W.zret (ty := .boolean) hx hb hr (by first | rfl | exact b2_nar _) (fun t ht hW9 => ⟨_, rfl, congrArg iI he9, ht⟩) (fun q hq => by cases hq) dX4_is_74
      · -- 36 -> 39
        refine lv_aload_n hx hb dX4_is_39 rfl (lv_at hl 0 rfl) ?_
        refine lv_aload_n hx hb dX4_is_40 rfl (lv_at hl 0 rfl) ?_
        refine r_get (ci := 4) (k := 12) (v := .int (iI ((T 0) 12))) (C := RX4) (T := TX4) (N := 29) Z hB hx hb hts hown rfl in_X4 hW.obj (by decide) q990 rfl dX4_is_41 ?_
        refine ii_const hx hb dX4_is_44 ?_
        refine ii_add hx hb dX4_is_45 ?_
        refine cqI (va_runV (As := [.int (iI (((T 0) 12) + 2))]) (rest := []) ⟨hx, hb, hml, hown, hts⟩ (mX4_byteAt Z K T ((T 0) 10) rfl (by omega) (T 5) rfl ht (((T 0) 12) + 2) (by omega)) (cwV 1 hts (lw_V q1087 q1089 qs35 q83 q1090) rfl rfl rfl (by decide +kernel) ⟨Nat.le_of_ble_eq_true rfl, Nat.le_of_ble_eq_true rfl⟩) (pvR hB (OBJ.recv Z hB hW.obj (q := (RX4, TX4, 29)) rfl) hW) rfl rfl hl.1 rfl (lv_room (Nat.le_of_ble_eq_true rfl)) dX4_is_46 ⟨Nat.zero_le _, Nat.zero_le _⟩) ?_
        have hby_6 := byA_in ht ((T 0) 10) (((T 0) 12) + 2)
        refine lv_iload hx hb dX4_is_49 (lv_at hl 4 rfl) ?_
        refine ii_icmp_ne (tgt := 73) hx hb dX4_is_51 (by decide) (by omega) (by omega) (fun c_7 => ?_) (fun c_7 => ?_)
        · -- 51 -> 73
          refine ii_const hx hb dX4_is_73 ?_
          have he9 : 0 = (b2 (isW (T 5) ((T 0) 10) ((T 0) 11) ((T 0) 12) k a1 b1 c1 d1)) := by first | exact (b2_t (by omega)).symm | exact (b2_f (by omega)).symm
          exact W.zret (ty := .boolean) hx hb hr (by first | rfl | exact b2_nar _) (fun t ht hW9 => ⟨_, rfl, congrArg iI he9, ht⟩) (fun q hq => by cases hq) dX4_is_74
        · -- 51 -> 54
          refine lv_aload_n hx hb dX4_is_54 rfl (lv_at hl 0 rfl) ?_
          refine lv_aload_n hx hb dX4_is_55 rfl (lv_at hl 0 rfl) ?_
          refine r_get (ci := 4) (k := 12) (v := .int (iI ((T 0) 12))) (C := RX4) (T := TX4) (N := 29) Z hB hx hb hts hown rfl in_X4 hW.obj (by decide) q990 rfl dX4_is_56 ?_
          refine ii_const hx hb dX4_is_59 ?_
          refine ii_add hx hb dX4_is_60 ?_
          refine cqI (va_runV (As := [.int (iI (((T 0) 12) + 3))]) (rest := []) ⟨hx, hb, hml, hown, hts⟩ (mX4_byteAt Z K T ((T 0) 10) rfl (by omega) (T 5) rfl ht (((T 0) 12) + 3) (by omega)) (cwV 1 hts (lw_V q1087 q1089 qs35 q83 q1090) rfl rfl rfl (by decide +kernel) ⟨Nat.le_of_ble_eq_true rfl, Nat.le_of_ble_eq_true rfl⟩) (pvR hB (OBJ.recv Z hB hW.obj (q := (RX4, TX4, 29)) rfl) hW) rfl rfl hl.1 rfl (lv_room (Nat.le_of_ble_eq_true rfl)) dX4_is_61 ⟨Nat.zero_le _, Nat.zero_le _⟩) ?_
          have hby_8 := byA_in ht ((T 0) 10) (((T 0) 12) + 3)
          refine lv_iload hx hb dX4_is_64 (lv_at hl 5 rfl) ?_
          refine ii_icmp_ne (tgt := 73) hx hb dX4_is_66 (by decide) (by omega) (by omega) (fun c_9 => ?_) (fun c_9 => ?_)
          · -- 66 -> 73
            refine ii_const hx hb dX4_is_73 ?_
            have he9 : 0 = (b2 (isW (T 5) ((T 0) 10) ((T 0) 11) ((T 0) 12) k a1 b1 c1 d1)) := by first | exact (b2_t (by omega)).symm | exact (b2_f (by omega)).symm
            exact W.zret (ty := .boolean) hx hb hr (by first | rfl | exact b2_nar _) (fun t ht hW9 => ⟨_, rfl, congrArg iI he9, ht⟩) (fun q hq => by cases hq) dX4_is_74
          · -- 66 -> 69
            refine ii_const hx hb dX4_is_69 ?_
            refine lv_goto (tgt := 74) hx hb dX4_is_70 (by decide) ?_
            have he9 : 1 = (b2 (isW (T 5) ((T 0) 10) ((T 0) 11) ((T 0) 12) k a1 b1 c1 d1)) := by first | exact (b2_t (by omega)).symm | exact (b2_f (by omega)).symm
            exact W.zret (ty := .boolean) hx hb hr (by first | rfl | exact b2_nar _) (fun t ht hW9 => ⟨_, rfl, congrArg iI he9, ht⟩) (fun q hq => by cases hq) dX4_is_74

set_option maxHeartbeats 1000000 in
set_option maxRecDepth 100000 in
theorem mX4_endsIn {l : Launch} {G : GG} {s0 : State} {b0 : Nat} (Z : ZZ l G s0 b0) (K : Nat → Nat) (T : Sta) (n p9 g9 : Int) (en : T 0 10 = n) (ep : T 0 11 = p9) (eg : T 0 12 = g9) (hnp : (0 ≤ n ∧ n ≤ 160) ∧ (0 ≤ p9 ∧ p9 ≤ n) ∧ (0 ≤ g9 ∧ g9 ≤ n)) (t : Nat → Int) (et : T 5 = t) (ht : TapeOK t) (a1 : Int) (ha1 : inR a1) : Met l yX4_endsIn (ws_ yX4_endsIn cX4_endsIn 2 (some .boolean)) ({ frames := 1, cells := 0, slots := 0, locals := 21 } : Room) (pcR s0 (MW G K T) [.ref (K 0), .int (iI a1)]) (qI (b2 (byA t n (g9 + 4) = a1))) 0 0 (fun _ => False) := by
  refine Met.ofW (cc := cX4_endsIn) (maxL := 2) (ret := (some .boolean)) (by decide) rfl ?_
  intro p e s m args below meth c s₁ B hml hv
  obtain ⟨rfl, hW, hB⟩ := hv
  have hx := B.exec
  have hb := B.bytes
  have hr := B.returns
  have hts := atoms_spec (ws := (ws_ yX4_endsIn cX4_endsIn 2 (some .boolean))) B.pre
  have hts : ∀ w ∈ lw_all, w.before _ s = true := fun w h => hts w (List.mem_cons_of_mem _ h)
  have hown : s.vm.findClass RX4 = some m.cls := findClass_of_methodNamed B.named
  have hlocks := B.notSynchronized
  have hl := lv_entry ([.ref (K 0), .int (iI a1)]) (n := 2) (Nat.le_of_ble_eq_true rfl)
  rw [lg_entry_eq]
  generalize (lg_sl ([.ref (K 0), .int (iI a1)]) ++ List.replicate (2 - (lg_sl ([.ref (K 0), .int (iI a1)])).length) Slot.unset).toArray = ls at hl ⊢
  have hl : lv_has ls 2 [(0, .ref (K 0)), (1, .int (iI a1))] := hl
  subst en
  subst ep
  subst eg
  subst et
  refine lv_aload_n hx hb dX4_endsIn_0 rfl (lv_at hl 0 rfl) ?_
  refine lv_aload_n hx hb dX4_endsIn_1 rfl (lv_at hl 0 rfl) ?_
  refine r_get (ci := 4) (k := 12) (v := .int (iI ((T 0) 12))) (C := RX4) (T := TX4) (N := 29) Z hB hx hb hts hown rfl in_X4 hW.obj (by decide) q990 rfl dX4_endsIn_2 ?_
  refine ii_const hx hb dX4_endsIn_5 ?_
  refine ii_add hx hb dX4_endsIn_6 ?_
  refine cqI (va_runV (As := [.int (iI (((T 0) 12) + 4))]) (rest := []) ⟨hx, hb, hml, hown, hts⟩ (mX4_byteAt Z K T ((T 0) 10) rfl (by omega) (T 5) rfl ht (((T 0) 12) + 4) (by omega)) (cwV 1 hts (lw_V q1087 q1089 qs35 q83 q1090) rfl rfl rfl (by decide +kernel) ⟨Nat.le_of_ble_eq_true rfl, Nat.le_of_ble_eq_true rfl⟩) (pvR hB (OBJ.recv Z hB hW.obj (q := (RX4, TX4, 29)) rfl) hW) rfl rfl hl.1 rfl (lv_room (Nat.le_of_ble_eq_true rfl)) dX4_endsIn_7 ⟨Nat.zero_le _, Nat.zero_le _⟩) ?_
  have hby_1 := byA_in ht ((T 0) 10) (((T 0) 12) + 4)
  refine lv_iload_n hx hb dX4_endsIn_10 rfl (lv_at hl 1 rfl) ?_
  refine ii_icmp_ne (tgt := 18) hx hb dX4_endsIn_11 (by decide) (by omega) (by omega) (fun c_2 => ?_) (fun c_2 => ?_)
  · -- 11 -> 18
    refine ii_const hx hb dX4_endsIn_18 ?_
    have he9 : 0 = (b2 (byA (T 5) ((T 0) 10) (((T 0) 12) + 4) = a1)) := by first | exact (b2_t (by omega)).symm | exact (b2_f (by omega)).symm
    exact W.zret (ty := .boolean) hx hb hr (by first | rfl | exact b2_nar _) (fun t ht hW9 => ⟨_, rfl, congrArg iI he9, ht⟩) (fun q hq => by cases hq) dX4_endsIn_19
  · -- 11 -> 14
    refine ii_const hx hb dX4_endsIn_14 ?_
    refine lv_goto (tgt := 19) hx hb dX4_endsIn_15 (by decide) ?_
    have he9 : 1 = (b2 (byA (T 5) ((T 0) 10) (((T 0) 12) + 4) = a1)) := by first | exact (b2_t (by omega)).symm | exact (b2_f (by omega)).symm
    exact W.zret (ty := .boolean) hx hb hr (by first | rfl | exact b2_nar _) (fun t ht hW9 => ⟨_, rfl, congrArg iI he9, ht⟩) (fun q hq => by cases hq) dX4_endsIn_19

set_option maxHeartbeats 1000000 in
set_option maxRecDepth 100000 in
theorem mX4_lineNow {l : Launch} {G : GG} {s0 : State} {b0 : Nat} (Z : ZZ l G s0 b0) (K : Nat → Nat) (T : Sta) (n p9 g9 : Int) (en : T 0 10 = n) (ep : T 0 11 = p9) (eg : T 0 12 = g9) (hnp : (0 ≤ n ∧ n ≤ 160) ∧ (0 ≤ p9 ∧ p9 ≤ n) ∧ (0 ≤ g9 ∧ g9 ≤ n)) (t : Nat → Int) (et : T 5 = t) (ht : TapeOK t) : Met l yX4_lineNow (ws_ yX4_lineNow cX4_lineNow 1 (some .int)) ({ frames := 2, cells := 0, slots := 0, locals := 46 } : Room) (pcR s0 (MW G K T) [.ref (K 0)]) (qI (lnV t n p9 g9)) 0 0 (fun _ => False) := by
  refine Met.ofW (cc := cX4_lineNow) (maxL := 1) (ret := (some .int)) (by decide) rfl ?_
  intro p e s m args below meth c s₁ B hml hv
  obtain ⟨rfl, hW, hB⟩ := hv
  have hx := B.exec
  have hb := B.bytes
  have hr := B.returns
  have hts := atoms_spec (ws := (ws_ yX4_lineNow cX4_lineNow 1 (some .int))) B.pre
  have hts : ∀ w ∈ lw_all, w.before _ s = true := fun w h => hts w (List.mem_cons_of_mem _ h)
  have hown : s.vm.findClass RX4 = some m.cls := findClass_of_methodNamed B.named
  have hlocks := B.notSynchronized
  have hl := lv_entry ([.ref (K 0)]) (n := 1) (Nat.le_of_ble_eq_true rfl)
  rw [lg_entry_eq]
  generalize (lg_sl ([.ref (K 0)]) ++ List.replicate (1 - (lg_sl ([.ref (K 0)])).length) Slot.unset).toArray = ls at hl ⊢
  have hl : lv_has ls 1 [(0, .ref (K 0))] := hl
  subst en
  subst ep
  subst eg
  subst et
  refine lv_aload_n hx hb dX4_lineNow_0 rfl (lv_at hl 0 rfl) ?_
  refine ii_const hx hb dX4_lineNow_1 ?_
  refine ii_bipush hx hb dX4_lineNow_2 (by decide) ?_
  refine ii_bipush hx hb dX4_lineNow_4 (by decide) ?_
  refine ii_bipush hx hb dX4_lineNow_6 (by decide) ?_
  refine ii_bipush hx hb dX4_lineNow_8 (by decide) ?_
  refine cqI (va_runV (As := [.int (iI 5), .int (iI 112), .int (iI 108), .int (iI 97), .int (iI 105)]) (rest := []) ⟨hx, hb, hml, hown, hts⟩ (mX4_is Z K T ((T 0) 10) ((T 0) 11) ((T 0) 12) rfl rfl rfl (by omega) (T 5) rfl ht 5 (by omega) 112 (by omega) 108 (by omega) 97 (by omega) 105 (by omega)) (cwV 5 hts (lw_V q1107 q1109 qs39 q83 q1110) rfl rfl rfl (by decide +kernel) ⟨Nat.le_of_ble_eq_true rfl, Nat.le_of_ble_eq_true rfl⟩) (pvR hB (OBJ.recv Z hB hW.obj (q := (RX4, TX4, 29)) rfl) hW) rfl rfl hl.1 rfl (lv_room (Nat.le_of_ble_eq_true rfl)) dX4_lineNow_10 ⟨Nat.zero_le _, Nat.zero_le _⟩) ?_
  refine bb_if_eq (P := isW (T 5) ((T 0) 10) ((T 0) 11) ((T 0) 12) 5 112 108 97 105) (tgt := 27) hx hb dX4_lineNow_13 (by decide) (fun c_1 => ?_) (fun c_1 => ?_)
  · -- 13 -> 27
    refine lv_aload_n hx hb dX4_lineNow_27 rfl (lv_at hl 0 rfl) ?_
    refine ii_const hx hb dX4_lineNow_28 ?_
    refine ii_bipush hx hb dX4_lineNow_29 (by decide) ?_
    refine ii_bipush hx hb dX4_lineNow_31 (by decide) ?_
    refine ii_bipush hx hb dX4_lineNow_33 (by decide) ?_
    refine ii_bipush hx hb dX4_lineNow_35 (by decide) ?_
    refine cqI (va_runV (As := [.int (iI 5), .int (iI 112), .int (iI 114), .int (iI 111), .int (iI 117)]) (rest := []) ⟨hx, hb, hml, hown, hts⟩ (mX4_is Z K T ((T 0) 10) ((T 0) 11) ((T 0) 12) rfl rfl rfl (by omega) (T 5) rfl ht 5 (by omega) 112 (by omega) 114 (by omega) 111 (by omega) 117 (by omega)) (cwV 5 hts (lw_V q1107 q1109 qs39 q83 q1110) rfl rfl rfl (by decide +kernel) ⟨Nat.le_of_ble_eq_true rfl, Nat.le_of_ble_eq_true rfl⟩) (pvR hB (OBJ.recv Z hB hW.obj (q := (RX4, TX4, 29)) rfl) hW) rfl rfl hl.1 rfl (lv_room (Nat.le_of_ble_eq_true rfl)) dX4_lineNow_37 ⟨Nat.zero_le _, Nat.zero_le _⟩) ?_
    refine bb_if_eq (P := isW (T 5) ((T 0) 10) ((T 0) 11) ((T 0) 12) 5 112 114 111 117) (tgt := 54) hx hb dX4_lineNow_40 (by decide) (fun c_2 => ?_) (fun c_2 => ?_)
    · -- 40 -> 54
      refine lv_aload_n hx hb dX4_lineNow_54 rfl (lv_at hl 0 rfl) ?_
      refine ii_const hx hb dX4_lineNow_55 ?_
      refine ii_bipush hx hb dX4_lineNow_56 (by decide) ?_
      refine ii_bipush hx hb dX4_lineNow_58 (by decide) ?_
      refine ii_bipush hx hb dX4_lineNow_60 (by decide) ?_
      refine ii_bipush hx hb dX4_lineNow_62 (by decide) ?_
      refine cqI (va_runV (As := [.int (iI 4), .int (iI 102), .int (iI 111), .int (iI 110), .int (iI 100)]) (rest := []) ⟨hx, hb, hml, hown, hts⟩ (mX4_is Z K T ((T 0) 10) ((T 0) 11) ((T 0) 12) rfl rfl rfl (by omega) (T 5) rfl ht 4 (by omega) 102 (by omega) 111 (by omega) 110 (by omega) 100 (by omega)) (cwV 5 hts (lw_V q1107 q1109 qs39 q83 q1110) rfl rfl rfl (by decide +kernel) ⟨Nat.le_of_ble_eq_true rfl, Nat.le_of_ble_eq_true rfl⟩) (pvR hB (OBJ.recv Z hB hW.obj (q := (RX4, TX4, 29)) rfl) hW) rfl rfl hl.1 rfl (lv_room (Nat.le_of_ble_eq_true rfl)) dX4_lineNow_64 ⟨Nat.zero_le _, Nat.zero_le _⟩) ?_
      refine bb_if_eq (P := isW (T 5) ((T 0) 10) ((T 0) 11) ((T 0) 12) 4 102 111 110 100) (tgt := 72) hx hb dX4_lineNow_67 (by decide) (fun c_3 => ?_) (fun c_3 => ?_)
      · -- 67 -> 72
        refine lv_aload_n hx hb dX4_lineNow_72 rfl (lv_at hl 0 rfl) ?_
        refine ii_const hx hb dX4_lineNow_73 ?_
        refine ii_bipush hx hb dX4_lineNow_74 (by decide) ?_
        refine ii_bipush hx hb dX4_lineNow_76 (by decide) ?_
        refine ii_bipush hx hb dX4_lineNow_78 (by decide) ?_
        refine ii_bipush hx hb dX4_lineNow_80 (by decide) ?_
        refine cqI (va_runV (As := [.int (iI 5), .int (iI 119), .int (iI 105), .int (iI 100), .int (iI 111)]) (rest := []) ⟨hx, hb, hml, hown, hts⟩ (mX4_is Z K T ((T 0) 10) ((T 0) 11) ((T 0) 12) rfl rfl rfl (by omega) (T 5) rfl ht 5 (by omega) 119 (by omega) 105 (by omega) 100 (by omega) 111 (by omega)) (cwV 5 hts (lw_V q1107 q1109 qs39 q83 q1110) rfl rfl rfl (by decide +kernel) ⟨Nat.le_of_ble_eq_true rfl, Nat.le_of_ble_eq_true rfl⟩) (pvR hB (OBJ.recv Z hB hW.obj (q := (RX4, TX4, 29)) rfl) hW) rfl rfl hl.1 rfl (lv_room (Nat.le_of_ble_eq_true rfl)) dX4_lineNow_82 ⟨Nat.zero_le _, Nat.zero_le _⟩) ?_
        refine bb_if_eq (P := isW (T 5) ((T 0) 10) ((T 0) 11) ((T 0) 12) 5 119 105 100 111) (tgt := 99) hx hb dX4_lineNow_85 (by decide) (fun c_4 => ?_) (fun c_4 => ?_)
        · -- 85 -> 99
          refine lv_aload_n hx hb dX4_lineNow_99 rfl (lv_at hl 0 rfl) ?_
          refine ii_const hx hb dX4_lineNow_100 ?_
          refine ii_bipush hx hb dX4_lineNow_101 (by decide) ?_
          refine ii_bipush hx hb dX4_lineNow_103 (by decide) ?_
          refine ii_bipush hx hb dX4_lineNow_105 (by decide) ?_
          refine ii_bipush hx hb dX4_lineNow_107 (by decide) ?_
          refine cqI (va_runV (As := [.int (iI 5), .int (iI 99), .int (iI 114), .int (iI 111), .int (iI 115)]) (rest := []) ⟨hx, hb, hml, hown, hts⟩ (mX4_is Z K T ((T 0) 10) ((T 0) 11) ((T 0) 12) rfl rfl rfl (by omega) (T 5) rfl ht 5 (by omega) 99 (by omega) 114 (by omega) 111 (by omega) 115 (by omega)) (cwV 5 hts (lw_V q1107 q1109 qs39 q83 q1110) rfl rfl rfl (by decide +kernel) ⟨Nat.le_of_ble_eq_true rfl, Nat.le_of_ble_eq_true rfl⟩) (pvR hB (OBJ.recv Z hB hW.obj (q := (RX4, TX4, 29)) rfl) hW) rfl rfl hl.1 rfl (lv_room (Nat.le_of_ble_eq_true rfl)) dX4_lineNow_109 ⟨Nat.zero_le _, Nat.zero_le _⟩) ?_
          refine bb_if_eq (P := isW (T 5) ((T 0) 10) ((T 0) 11) ((T 0) 12) 5 99 114 111 115) (tgt := 126) hx hb dX4_lineNow_112 (by decide) (fun c_5 => ?_) (fun c_5 => ?_)
          · -- 112 -> 126
            refine lv_aload_n hx hb dX4_lineNow_126 rfl (lv_at hl 0 rfl) ?_
            refine ii_const hx hb dX4_lineNow_127 ?_
            refine ii_bipush hx hb dX4_lineNow_128 (by decide) ?_
            refine ii_bipush hx hb dX4_lineNow_130 (by decide) ?_
            refine ii_bipush hx hb dX4_lineNow_132 (by decide) ?_
            refine ii_bipush hx hb dX4_lineNow_134 (by decide) ?_
            refine cqI (va_runV (As := [.int (iI 4), .int (iI 114), .int (iI 111), .int (iI 112), .int (iI 101)]) (rest := []) ⟨hx, hb, hml, hown, hts⟩ (mX4_is Z K T ((T 0) 10) ((T 0) 11) ((T 0) 12) rfl rfl rfl (by omega) (T 5) rfl ht 4 (by omega) 114 (by omega) 111 (by omega) 112 (by omega) 101 (by omega)) (cwV 5 hts (lw_V q1107 q1109 qs39 q83 q1110) rfl rfl rfl (by decide +kernel) ⟨Nat.le_of_ble_eq_true rfl, Nat.le_of_ble_eq_true rfl⟩) (pvR hB (OBJ.recv Z hB hW.obj (q := (RX4, TX4, 29)) rfl) hW) rfl rfl hl.1 rfl (lv_room (Nat.le_of_ble_eq_true rfl)) dX4_lineNow_136 ⟨Nat.zero_le _, Nat.zero_le _⟩) ?_
            refine bb_if_eq (P := isW (T 5) ((T 0) 10) ((T 0) 11) ((T 0) 12) 4 114 111 112 101) (tgt := 146) hx hb dX4_lineNow_139 (by decide) (fun c_6 => ?_) (fun c_6 => ?_)
            · -- 139 -> 146
              refine lv_aload_n hx hb dX4_lineNow_146 rfl (lv_at hl 0 rfl) ?_
              refine ii_const hx hb dX4_lineNow_147 ?_
              refine ii_bipush hx hb dX4_lineNow_148 (by decide) ?_
              refine ii_bipush hx hb dX4_lineNow_150 (by decide) ?_
              refine ii_bipush hx hb dX4_lineNow_152 (by decide) ?_
              refine ii_bipush hx hb dX4_lineNow_154 (by decide) ?_
              refine cqI (va_runV (As := [.int (iI 5), .int (iI 102), .int (iI 101), .int (iI 97), .int (iI 115)]) (rest := []) ⟨hx, hb, hml, hown, hts⟩ (mX4_is Z K T ((T 0) 10) ((T 0) 11) ((T 0) 12) rfl rfl rfl (by omega) (T 5) rfl ht 5 (by omega) 102 (by omega) 101 (by omega) 97 (by omega) 115 (by omega)) (cwV 5 hts (lw_V q1107 q1109 qs39 q83 q1110) rfl rfl rfl (by decide +kernel) ⟨Nat.le_of_ble_eq_true rfl, Nat.le_of_ble_eq_true rfl⟩) (pvR hB (OBJ.recv Z hB hW.obj (q := (RX4, TX4, 29)) rfl) hW) rfl rfl hl.1 rfl (lv_room (Nat.le_of_ble_eq_true rfl)) dX4_lineNow_156 ⟨Nat.zero_le _, Nat.zero_le _⟩) ?_
              refine bb_if_eq (P := isW (T 5) ((T 0) 10) ((T 0) 11) ((T 0) 12) 5 102 101 97 115) (tgt := 176) hx hb dX4_lineNow_159 (by decide) (fun c_7 => ?_) (fun c_7 => ?_)
              · -- 159 -> 176
                refine ii_bipush hx hb dX4_lineNow_176 (by decide) ?_
                have he9 : (-4) = (lnV (T 5) ((T 0) 10) ((T 0) 11) ((T 0) 12)) := by unfold lnV; repeat (first | rw [if_pos ⟨by assumption, by assumption⟩] | rw [if_pos (by assumption)] | rw [if_neg (fun h => absurd h.1 (by assumption))] | rw [if_neg (fun h => absurd h.2 (by assumption))] | rw [if_neg (by assumption)])
                exact W.iret hx hb hr (fun t ht hW9 => ⟨_, rfl, congrArg iI he9, ht⟩) (fun q hq => by cases hq) dX4_lineNow_178
              · -- 159 -> 162
                refine lv_aload_n hx hb dX4_lineNow_162 rfl (lv_at hl 0 rfl) ?_
                refine ii_bipush hx hb dX4_lineNow_163 (by decide) ?_
                refine cqI (va_runV (As := [.int (iI 116)]) (rest := []) ⟨hx, hb, hml, hown, hts⟩ (mX4_endsIn Z K T ((T 0) 10) ((T 0) 11) ((T 0) 12) rfl rfl rfl (by omega) (T 5) rfl ht 116 (by omega)) (cwV 1 hts (lw_V q1111 q1113 qs40 q83 q1114) rfl rfl rfl (by decide +kernel) ⟨Nat.le_of_ble_eq_true rfl, Nat.le_of_ble_eq_true rfl⟩) (pvR hB (OBJ.recv Z hB hW.obj (q := (RX4, TX4, 29)) rfl) hW) rfl rfl hl.1 rfl (lv_room (Nat.le_of_ble_eq_true rfl)) dX4_lineNow_165 ⟨Nat.zero_le _, Nat.zero_le _⟩) ?_
                refine bb_if_eq (P := byA (T 5) ((T 0) 10) (((T 0) 12) + 4) = 116) (tgt := 176) hx hb dX4_lineNow_168 (by decide) (fun c_8 => ?_) (fun c_8 => ?_)
                · -- 168 -> 176
                  refine ii_bipush hx hb dX4_lineNow_176 (by decide) ?_
                  have he9 : (-4) = (lnV (T 5) ((T 0) 10) ((T 0) 11) ((T 0) 12)) := by unfold lnV; repeat (first | rw [if_pos ⟨by assumption, by assumption⟩] | rw [if_pos (by assumption)] | rw [if_neg (fun h => absurd h.1 (by assumption))] | rw [if_neg (fun h => absurd h.2 (by assumption))] | rw [if_neg (by assumption)])
                  exact W.iret hx hb hr (fun t ht hW9 => ⟨_, rfl, congrArg iI he9, ht⟩) (fun q hq => by cases hq) dX4_lineNow_178
                · -- 168 -> 171
                  refine ii_bipush hx hb dX4_lineNow_171 (by decide) ?_
                  refine lv_goto (tgt := 178) hx hb dX4_lineNow_173 (by decide) ?_
                  have he9 : 6 = (lnV (T 5) ((T 0) 10) ((T 0) 11) ((T 0) 12)) := by unfold lnV; repeat (first | rw [if_pos ⟨by assumption, by assumption⟩] | rw [if_pos (by assumption)] | rw [if_neg (fun h => absurd h.1 (by assumption))] | rw [if_neg (fun h => absurd h.2 (by assumption))] | rw [if_neg (by assumption)])
                  exact W.iret hx hb hr (fun t ht hW9 => ⟨_, rfl, congrArg iI he9, ht⟩) (fun q hq => by cases hq) dX4_lineNow_178
            · -- 139 -> 142
              refine ii_const hx hb dX4_lineNow_142 ?_
              refine lv_goto (tgt := 178) hx hb dX4_lineNow_143 (by decide) ?_
              have he9 : 5 = (lnV (T 5) ((T 0) 10) ((T 0) 11) ((T 0) 12)) := by unfold lnV; repeat (first | rw [if_pos ⟨by assumption, by assumption⟩] | rw [if_pos (by assumption)] | rw [if_neg (fun h => absurd h.1 (by assumption))] | rw [if_neg (fun h => absurd h.2 (by assumption))] | rw [if_neg (by assumption)])
              exact W.iret hx hb hr (fun t ht hW9 => ⟨_, rfl, congrArg iI he9, ht⟩) (fun q hq => by cases hq) dX4_lineNow_178
          · -- 112 -> 115
            refine lv_aload_n hx hb dX4_lineNow_115 rfl (lv_at hl 0 rfl) ?_
            refine ii_bipush hx hb dX4_lineNow_116 (by decide) ?_
            refine cqI (va_runV (As := [.int (iI 115)]) (rest := []) ⟨hx, hb, hml, hown, hts⟩ (mX4_endsIn Z K T ((T 0) 10) ((T 0) 11) ((T 0) 12) rfl rfl rfl (by omega) (T 5) rfl ht 115 (by omega)) (cwV 1 hts (lw_V q1111 q1113 qs40 q83 q1114) rfl rfl rfl (by decide +kernel) ⟨Nat.le_of_ble_eq_true rfl, Nat.le_of_ble_eq_true rfl⟩) (pvR hB (OBJ.recv Z hB hW.obj (q := (RX4, TX4, 29)) rfl) hW) rfl rfl hl.1 rfl (lv_room (Nat.le_of_ble_eq_true rfl)) dX4_lineNow_118 ⟨Nat.zero_le _, Nat.zero_le _⟩) ?_
            refine bb_if_eq (P := byA (T 5) ((T 0) 10) (((T 0) 12) + 4) = 115) (tgt := 126) hx hb dX4_lineNow_121 (by decide) (fun c_9 => ?_) (fun c_9 => ?_)
            · -- 121 -> 126
              refine lv_aload_n hx hb dX4_lineNow_126 rfl (lv_at hl 0 rfl) ?_
              refine ii_const hx hb dX4_lineNow_127 ?_
              refine ii_bipush hx hb dX4_lineNow_128 (by decide) ?_
              refine ii_bipush hx hb dX4_lineNow_130 (by decide) ?_
              refine ii_bipush hx hb dX4_lineNow_132 (by decide) ?_
              refine ii_bipush hx hb dX4_lineNow_134 (by decide) ?_
              refine cqI (va_runV (As := [.int (iI 4), .int (iI 114), .int (iI 111), .int (iI 112), .int (iI 101)]) (rest := []) ⟨hx, hb, hml, hown, hts⟩ (mX4_is Z K T ((T 0) 10) ((T 0) 11) ((T 0) 12) rfl rfl rfl (by omega) (T 5) rfl ht 4 (by omega) 114 (by omega) 111 (by omega) 112 (by omega) 101 (by omega)) (cwV 5 hts (lw_V q1107 q1109 qs39 q83 q1110) rfl rfl rfl (by decide +kernel) ⟨Nat.le_of_ble_eq_true rfl, Nat.le_of_ble_eq_true rfl⟩) (pvR hB (OBJ.recv Z hB hW.obj (q := (RX4, TX4, 29)) rfl) hW) rfl rfl hl.1 rfl (lv_room (Nat.le_of_ble_eq_true rfl)) dX4_lineNow_136 ⟨Nat.zero_le _, Nat.zero_le _⟩) ?_
              refine bb_if_eq (P := isW (T 5) ((T 0) 10) ((T 0) 11) ((T 0) 12) 4 114 111 112 101) (tgt := 146) hx hb dX4_lineNow_139 (by decide) (fun c_10 => ?_) (fun c_10 => ?_)
              · -- 139 -> 146
                refine lv_aload_n hx hb dX4_lineNow_146 rfl (lv_at hl 0 rfl) ?_
                refine ii_const hx hb dX4_lineNow_147 ?_
                refine ii_bipush hx hb dX4_lineNow_148 (by decide) ?_
                refine ii_bipush hx hb dX4_lineNow_150 (by decide) ?_
                refine ii_bipush hx hb dX4_lineNow_152 (by decide) ?_
                refine ii_bipush hx hb dX4_lineNow_154 (by decide) ?_
                refine cqI (va_runV (As := [.int (iI 5), .int (iI 102), .int (iI 101), .int (iI 97), .int (iI 115)]) (rest := []) ⟨hx, hb, hml, hown, hts⟩ (mX4_is Z K T ((T 0) 10) ((T 0) 11) ((T 0) 12) rfl rfl rfl (by omega) (T 5) rfl ht 5 (by omega) 102 (by omega) 101 (by omega) 97 (by omega) 115 (by omega)) (cwV 5 hts (lw_V q1107 q1109 qs39 q83 q1110) rfl rfl rfl (by decide +kernel) ⟨Nat.le_of_ble_eq_true rfl, Nat.le_of_ble_eq_true rfl⟩) (pvR hB (OBJ.recv Z hB hW.obj (q := (RX4, TX4, 29)) rfl) hW) rfl rfl hl.1 rfl (lv_room (Nat.le_of_ble_eq_true rfl)) dX4_lineNow_156 ⟨Nat.zero_le _, Nat.zero_le _⟩) ?_
                refine bb_if_eq (P := isW (T 5) ((T 0) 10) ((T 0) 11) ((T 0) 12) 5 102 101 97 115) (tgt := 176) hx hb dX4_lineNow_159 (by decide) (fun c_11 => ?_) (fun c_11 => ?_)
                · -- 159 -> 176
                  refine ii_bipush hx hb dX4_lineNow_176 (by decide) ?_
                  have he9 : (-4) = (lnV (T 5) ((T 0) 10) ((T 0) 11) ((T 0) 12)) := by unfold lnV; repeat (first | rw [if_pos ⟨by assumption, by assumption⟩] | rw [if_pos (by assumption)] | rw [if_neg (fun h => absurd h.1 (by assumption))] | rw [if_neg (fun h => absurd h.2 (by assumption))] | rw [if_neg (by assumption)])
                  exact W.iret hx hb hr (fun t ht hW9 => ⟨_, rfl, congrArg iI he9, ht⟩) (fun q hq => by cases hq) dX4_lineNow_178
                · -- 159 -> 162
                  refine lv_aload_n hx hb dX4_lineNow_162 rfl (lv_at hl 0 rfl) ?_
                  refine ii_bipush hx hb dX4_lineNow_163 (by decide) ?_
                  refine cqI (va_runV (As := [.int (iI 116)]) (rest := []) ⟨hx, hb, hml, hown, hts⟩ (mX4_endsIn Z K T ((T 0) 10) ((T 0) 11) ((T 0) 12) rfl rfl rfl (by omega) (T 5) rfl ht 116 (by omega)) (cwV 1 hts (lw_V q1111 q1113 qs40 q83 q1114) rfl rfl rfl (by decide +kernel) ⟨Nat.le_of_ble_eq_true rfl, Nat.le_of_ble_eq_true rfl⟩) (pvR hB (OBJ.recv Z hB hW.obj (q := (RX4, TX4, 29)) rfl) hW) rfl rfl hl.1 rfl (lv_room (Nat.le_of_ble_eq_true rfl)) dX4_lineNow_165 ⟨Nat.zero_le _, Nat.zero_le _⟩) ?_
                  refine bb_if_eq (P := byA (T 5) ((T 0) 10) (((T 0) 12) + 4) = 116) (tgt := 176) hx hb dX4_lineNow_168 (by decide) (fun c_12 => ?_) (fun c_12 => ?_)
                  · -- 168 -> 176
                    refine ii_bipush hx hb dX4_lineNow_176 (by decide) ?_
                    have he9 : (-4) = (lnV (T 5) ((T 0) 10) ((T 0) 11) ((T 0) 12)) := by unfold lnV; repeat (first | rw [if_pos ⟨by assumption, by assumption⟩] | rw [if_pos (by assumption)] | rw [if_neg (fun h => absurd h.1 (by assumption))] | rw [if_neg (fun h => absurd h.2 (by assumption))] | rw [if_neg (by assumption)])
                    exact W.iret hx hb hr (fun t ht hW9 => ⟨_, rfl, congrArg iI he9, ht⟩) (fun q hq => by cases hq) dX4_lineNow_178
                  · -- 168 -> 171
                    refine ii_bipush hx hb dX4_lineNow_171 (by decide) ?_
                    refine lv_goto (tgt := 178) hx hb dX4_lineNow_173 (by decide) ?_
                    have he9 : 6 = (lnV (T 5) ((T 0) 10) ((T 0) 11) ((T 0) 12)) := by unfold lnV; repeat (first | rw [if_pos ⟨by assumption, by assumption⟩] | rw [if_pos (by assumption)] | rw [if_neg (fun h => absurd h.1 (by assumption))] | rw [if_neg (fun h => absurd h.2 (by assumption))] | rw [if_neg (by assumption)])
                    exact W.iret hx hb hr (fun t ht hW9 => ⟨_, rfl, congrArg iI he9, ht⟩) (fun q hq => by cases hq) dX4_lineNow_178
              · -- 139 -> 142
                refine ii_const hx hb dX4_lineNow_142 ?_
                refine lv_goto (tgt := 178) hx hb dX4_lineNow_143 (by decide) ?_
                have he9 : 5 = (lnV (T 5) ((T 0) 10) ((T 0) 11) ((T 0) 12)) := by unfold lnV; repeat (first | rw [if_pos ⟨by assumption, by assumption⟩] | rw [if_pos (by assumption)] | rw [if_neg (fun h => absurd h.1 (by assumption))] | rw [if_neg (fun h => absurd h.2 (by assumption))] | rw [if_neg (by assumption)])
                exact W.iret hx hb hr (fun t ht hW9 => ⟨_, rfl, congrArg iI he9, ht⟩) (fun q hq => by cases hq) dX4_lineNow_178
            · -- 121 -> 124
              refine ii_const hx hb dX4_lineNow_124 ?_
              have he9 : 4 = (lnV (T 5) ((T 0) 10) ((T 0) 11) ((T 0) 12)) := by unfold lnV; repeat (first | rw [if_pos ⟨by assumption, by assumption⟩] | rw [if_pos (by assumption)] | rw [if_neg (fun h => absurd h.1 (by assumption))] | rw [if_neg (fun h => absurd h.2 (by assumption))] | rw [if_neg (by assumption)])
              exact W.iret hx hb hr (fun t ht hW9 => ⟨_, rfl, congrArg iI he9, ht⟩) (fun q hq => by cases hq) dX4_lineNow_125
        · -- 85 -> 88
          refine lv_aload_n hx hb dX4_lineNow_88 rfl (lv_at hl 0 rfl) ?_
          refine ii_bipush hx hb dX4_lineNow_89 (by decide) ?_
          refine cqI (va_runV (As := [.int (iI 119)]) (rest := []) ⟨hx, hb, hml, hown, hts⟩ (mX4_endsIn Z K T ((T 0) 10) ((T 0) 11) ((T 0) 12) rfl rfl rfl (by omega) (T 5) rfl ht 119 (by omega)) (cwV 1 hts (lw_V q1111 q1113 qs40 q83 q1114) rfl rfl rfl (by decide +kernel) ⟨Nat.le_of_ble_eq_true rfl, Nat.le_of_ble_eq_true rfl⟩) (pvR hB (OBJ.recv Z hB hW.obj (q := (RX4, TX4, 29)) rfl) hW) rfl rfl hl.1 rfl (lv_room (Nat.le_of_ble_eq_true rfl)) dX4_lineNow_91 ⟨Nat.zero_le _, Nat.zero_le _⟩) ?_
          refine bb_if_eq (P := byA (T 5) ((T 0) 10) (((T 0) 12) + 4) = 119) (tgt := 99) hx hb dX4_lineNow_94 (by decide) (fun c_13 => ?_) (fun c_13 => ?_)
          · -- 94 -> 99
            refine lv_aload_n hx hb dX4_lineNow_99 rfl (lv_at hl 0 rfl) ?_
            refine ii_const hx hb dX4_lineNow_100 ?_
            refine ii_bipush hx hb dX4_lineNow_101 (by decide) ?_
            refine ii_bipush hx hb dX4_lineNow_103 (by decide) ?_
            refine ii_bipush hx hb dX4_lineNow_105 (by decide) ?_
            refine ii_bipush hx hb dX4_lineNow_107 (by decide) ?_
            refine cqI (va_runV (As := [.int (iI 5), .int (iI 99), .int (iI 114), .int (iI 111), .int (iI 115)]) (rest := []) ⟨hx, hb, hml, hown, hts⟩ (mX4_is Z K T ((T 0) 10) ((T 0) 11) ((T 0) 12) rfl rfl rfl (by omega) (T 5) rfl ht 5 (by omega) 99 (by omega) 114 (by omega) 111 (by omega) 115 (by omega)) (cwV 5 hts (lw_V q1107 q1109 qs39 q83 q1110) rfl rfl rfl (by decide +kernel) ⟨Nat.le_of_ble_eq_true rfl, Nat.le_of_ble_eq_true rfl⟩) (pvR hB (OBJ.recv Z hB hW.obj (q := (RX4, TX4, 29)) rfl) hW) rfl rfl hl.1 rfl (lv_room (Nat.le_of_ble_eq_true rfl)) dX4_lineNow_109 ⟨Nat.zero_le _, Nat.zero_le _⟩) ?_
            refine bb_if_eq (P := isW (T 5) ((T 0) 10) ((T 0) 11) ((T 0) 12) 5 99 114 111 115) (tgt := 126) hx hb dX4_lineNow_112 (by decide) (fun c_14 => ?_) (fun c_14 => ?_)
            · -- 112 -> 126
              refine lv_aload_n hx hb dX4_lineNow_126 rfl (lv_at hl 0 rfl) ?_
              refine ii_const hx hb dX4_lineNow_127 ?_
              refine ii_bipush hx hb dX4_lineNow_128 (by decide) ?_
              refine ii_bipush hx hb dX4_lineNow_130 (by decide) ?_
              refine ii_bipush hx hb dX4_lineNow_132 (by decide) ?_
              refine ii_bipush hx hb dX4_lineNow_134 (by decide) ?_
              refine cqI (va_runV (As := [.int (iI 4), .int (iI 114), .int (iI 111), .int (iI 112), .int (iI 101)]) (rest := []) ⟨hx, hb, hml, hown, hts⟩ (mX4_is Z K T ((T 0) 10) ((T 0) 11) ((T 0) 12) rfl rfl rfl (by omega) (T 5) rfl ht 4 (by omega) 114 (by omega) 111 (by omega) 112 (by omega) 101 (by omega)) (cwV 5 hts (lw_V q1107 q1109 qs39 q83 q1110) rfl rfl rfl (by decide +kernel) ⟨Nat.le_of_ble_eq_true rfl, Nat.le_of_ble_eq_true rfl⟩) (pvR hB (OBJ.recv Z hB hW.obj (q := (RX4, TX4, 29)) rfl) hW) rfl rfl hl.1 rfl (lv_room (Nat.le_of_ble_eq_true rfl)) dX4_lineNow_136 ⟨Nat.zero_le _, Nat.zero_le _⟩) ?_
              refine bb_if_eq (P := isW (T 5) ((T 0) 10) ((T 0) 11) ((T 0) 12) 4 114 111 112 101) (tgt := 146) hx hb dX4_lineNow_139 (by decide) (fun c_15 => ?_) (fun c_15 => ?_)
              · -- 139 -> 146
                refine lv_aload_n hx hb dX4_lineNow_146 rfl (lv_at hl 0 rfl) ?_
                refine ii_const hx hb dX4_lineNow_147 ?_
                refine ii_bipush hx hb dX4_lineNow_148 (by decide) ?_
                refine ii_bipush hx hb dX4_lineNow_150 (by decide) ?_
                refine ii_bipush hx hb dX4_lineNow_152 (by decide) ?_
                refine ii_bipush hx hb dX4_lineNow_154 (by decide) ?_
                refine cqI (va_runV (As := [.int (iI 5), .int (iI 102), .int (iI 101), .int (iI 97), .int (iI 115)]) (rest := []) ⟨hx, hb, hml, hown, hts⟩ (mX4_is Z K T ((T 0) 10) ((T 0) 11) ((T 0) 12) rfl rfl rfl (by omega) (T 5) rfl ht 5 (by omega) 102 (by omega) 101 (by omega) 97 (by omega) 115 (by omega)) (cwV 5 hts (lw_V q1107 q1109 qs39 q83 q1110) rfl rfl rfl (by decide +kernel) ⟨Nat.le_of_ble_eq_true rfl, Nat.le_of_ble_eq_true rfl⟩) (pvR hB (OBJ.recv Z hB hW.obj (q := (RX4, TX4, 29)) rfl) hW) rfl rfl hl.1 rfl (lv_room (Nat.le_of_ble_eq_true rfl)) dX4_lineNow_156 ⟨Nat.zero_le _, Nat.zero_le _⟩) ?_
                refine bb_if_eq (P := isW (T 5) ((T 0) 10) ((T 0) 11) ((T 0) 12) 5 102 101 97 115) (tgt := 176) hx hb dX4_lineNow_159 (by decide) (fun c_16 => ?_) (fun c_16 => ?_)
                · -- 159 -> 176
                  refine ii_bipush hx hb dX4_lineNow_176 (by decide) ?_
                  have he9 : (-4) = (lnV (T 5) ((T 0) 10) ((T 0) 11) ((T 0) 12)) := by unfold lnV; repeat (first | rw [if_pos ⟨by assumption, by assumption⟩] | rw [if_pos (by assumption)] | rw [if_neg (fun h => absurd h.1 (by assumption))] | rw [if_neg (fun h => absurd h.2 (by assumption))] | rw [if_neg (by assumption)])
                  exact W.iret hx hb hr (fun t ht hW9 => ⟨_, rfl, congrArg iI he9, ht⟩) (fun q hq => by cases hq) dX4_lineNow_178
                · -- 159 -> 162
                  refine lv_aload_n hx hb dX4_lineNow_162 rfl (lv_at hl 0 rfl) ?_
                  refine ii_bipush hx hb dX4_lineNow_163 (by decide) ?_
                  refine cqI (va_runV (As := [.int (iI 116)]) (rest := []) ⟨hx, hb, hml, hown, hts⟩ (mX4_endsIn Z K T ((T 0) 10) ((T 0) 11) ((T 0) 12) rfl rfl rfl (by omega) (T 5) rfl ht 116 (by omega)) (cwV 1 hts (lw_V q1111 q1113 qs40 q83 q1114) rfl rfl rfl (by decide +kernel) ⟨Nat.le_of_ble_eq_true rfl, Nat.le_of_ble_eq_true rfl⟩) (pvR hB (OBJ.recv Z hB hW.obj (q := (RX4, TX4, 29)) rfl) hW) rfl rfl hl.1 rfl (lv_room (Nat.le_of_ble_eq_true rfl)) dX4_lineNow_165 ⟨Nat.zero_le _, Nat.zero_le _⟩) ?_
                  refine bb_if_eq (P := byA (T 5) ((T 0) 10) (((T 0) 12) + 4) = 116) (tgt := 176) hx hb dX4_lineNow_168 (by decide) (fun c_17 => ?_) (fun c_17 => ?_)
                  · -- 168 -> 176
                    refine ii_bipush hx hb dX4_lineNow_176 (by decide) ?_
                    have he9 : (-4) = (lnV (T 5) ((T 0) 10) ((T 0) 11) ((T 0) 12)) := by unfold lnV; repeat (first | rw [if_pos ⟨by assumption, by assumption⟩] | rw [if_pos (by assumption)] | rw [if_neg (fun h => absurd h.1 (by assumption))] | rw [if_neg (fun h => absurd h.2 (by assumption))] | rw [if_neg (by assumption)])
                    exact W.iret hx hb hr (fun t ht hW9 => ⟨_, rfl, congrArg iI he9, ht⟩) (fun q hq => by cases hq) dX4_lineNow_178
                  · -- 168 -> 171
                    refine ii_bipush hx hb dX4_lineNow_171 (by decide) ?_
                    refine lv_goto (tgt := 178) hx hb dX4_lineNow_173 (by decide) ?_
                    have he9 : 6 = (lnV (T 5) ((T 0) 10) ((T 0) 11) ((T 0) 12)) := by unfold lnV; repeat (first | rw [if_pos ⟨by assumption, by assumption⟩] | rw [if_pos (by assumption)] | rw [if_neg (fun h => absurd h.1 (by assumption))] | rw [if_neg (fun h => absurd h.2 (by assumption))] | rw [if_neg (by assumption)])
                    exact W.iret hx hb hr (fun t ht hW9 => ⟨_, rfl, congrArg iI he9, ht⟩) (fun q hq => by cases hq) dX4_lineNow_178
              · -- 139 -> 142
                refine ii_const hx hb dX4_lineNow_142 ?_
                refine lv_goto (tgt := 178) hx hb dX4_lineNow_143 (by decide) ?_
                have he9 : 5 = (lnV (T 5) ((T 0) 10) ((T 0) 11) ((T 0) 12)) := by unfold lnV; repeat (first | rw [if_pos ⟨by assumption, by assumption⟩] | rw [if_pos (by assumption)] | rw [if_neg (fun h => absurd h.1 (by assumption))] | rw [if_neg (fun h => absurd h.2 (by assumption))] | rw [if_neg (by assumption)])
                exact W.iret hx hb hr (fun t ht hW9 => ⟨_, rfl, congrArg iI he9, ht⟩) (fun q hq => by cases hq) dX4_lineNow_178
            · -- 112 -> 115
              refine lv_aload_n hx hb dX4_lineNow_115 rfl (lv_at hl 0 rfl) ?_
              refine ii_bipush hx hb dX4_lineNow_116 (by decide) ?_
              refine cqI (va_runV (As := [.int (iI 115)]) (rest := []) ⟨hx, hb, hml, hown, hts⟩ (mX4_endsIn Z K T ((T 0) 10) ((T 0) 11) ((T 0) 12) rfl rfl rfl (by omega) (T 5) rfl ht 115 (by omega)) (cwV 1 hts (lw_V q1111 q1113 qs40 q83 q1114) rfl rfl rfl (by decide +kernel) ⟨Nat.le_of_ble_eq_true rfl, Nat.le_of_ble_eq_true rfl⟩) (pvR hB (OBJ.recv Z hB hW.obj (q := (RX4, TX4, 29)) rfl) hW) rfl rfl hl.1 rfl (lv_room (Nat.le_of_ble_eq_true rfl)) dX4_lineNow_118 ⟨Nat.zero_le _, Nat.zero_le _⟩) ?_
              refine bb_if_eq (P := byA (T 5) ((T 0) 10) (((T 0) 12) + 4) = 115) (tgt := 126) hx hb dX4_lineNow_121 (by decide) (fun c_18 => ?_) (fun c_18 => ?_)
              · -- 121 -> 126
                refine lv_aload_n hx hb dX4_lineNow_126 rfl (lv_at hl 0 rfl) ?_
                refine ii_const hx hb dX4_lineNow_127 ?_
                refine ii_bipush hx hb dX4_lineNow_128 (by decide) ?_
                refine ii_bipush hx hb dX4_lineNow_130 (by decide) ?_
                refine ii_bipush hx hb dX4_lineNow_132 (by decide) ?_
                refine ii_bipush hx hb dX4_lineNow_134 (by decide) ?_
                refine cqI (va_runV (As := [.int (iI 4), .int (iI 114), .int (iI 111), .int (iI 112), .int (iI 101)]) (rest := []) ⟨hx, hb, hml, hown, hts⟩ (mX4_is Z K T ((T 0) 10) ((T 0) 11) ((T 0) 12) rfl rfl rfl (by omega) (T 5) rfl ht 4 (by omega) 114 (by omega) 111 (by omega) 112 (by omega) 101 (by omega)) (cwV 5 hts (lw_V q1107 q1109 qs39 q83 q1110) rfl rfl rfl (by decide +kernel) ⟨Nat.le_of_ble_eq_true rfl, Nat.le_of_ble_eq_true rfl⟩) (pvR hB (OBJ.recv Z hB hW.obj (q := (RX4, TX4, 29)) rfl) hW) rfl rfl hl.1 rfl (lv_room (Nat.le_of_ble_eq_true rfl)) dX4_lineNow_136 ⟨Nat.zero_le _, Nat.zero_le _⟩) ?_
                refine bb_if_eq (P := isW (T 5) ((T 0) 10) ((T 0) 11) ((T 0) 12) 4 114 111 112 101) (tgt := 146) hx hb dX4_lineNow_139 (by decide) (fun c_19 => ?_) (fun c_19 => ?_)
                · -- 139 -> 146
                  refine lv_aload_n hx hb dX4_lineNow_146 rfl (lv_at hl 0 rfl) ?_
                  refine ii_const hx hb dX4_lineNow_147 ?_
                  refine ii_bipush hx hb dX4_lineNow_148 (by decide) ?_
                  refine ii_bipush hx hb dX4_lineNow_150 (by decide) ?_
                  refine ii_bipush hx hb dX4_lineNow_152 (by decide) ?_
                  refine ii_bipush hx hb dX4_lineNow_154 (by decide) ?_
                  refine cqI (va_runV (As := [.int (iI 5), .int (iI 102), .int (iI 101), .int (iI 97), .int (iI 115)]) (rest := []) ⟨hx, hb, hml, hown, hts⟩ (mX4_is Z K T ((T 0) 10) ((T 0) 11) ((T 0) 12) rfl rfl rfl (by omega) (T 5) rfl ht 5 (by omega) 102 (by omega) 101 (by omega) 97 (by omega) 115 (by omega)) (cwV 5 hts (lw_V q1107 q1109 qs39 q83 q1110) rfl rfl rfl (by decide +kernel) ⟨Nat.le_of_ble_eq_true rfl, Nat.le_of_ble_eq_true rfl⟩) (pvR hB (OBJ.recv Z hB hW.obj (q := (RX4, TX4, 29)) rfl) hW) rfl rfl hl.1 rfl (lv_room (Nat.le_of_ble_eq_true rfl)) dX4_lineNow_156 ⟨Nat.zero_le _, Nat.zero_le _⟩) ?_
                  refine bb_if_eq (P := isW (T 5) ((T 0) 10) ((T 0) 11) ((T 0) 12) 5 102 101 97 115) (tgt := 176) hx hb dX4_lineNow_159 (by decide) (fun c_20 => ?_) (fun c_20 => ?_)
                  · -- 159 -> 176
                    refine ii_bipush hx hb dX4_lineNow_176 (by decide) ?_
                    have he9 : (-4) = (lnV (T 5) ((T 0) 10) ((T 0) 11) ((T 0) 12)) := by unfold lnV; repeat (first | rw [if_pos ⟨by assumption, by assumption⟩] | rw [if_pos (by assumption)] | rw [if_neg (fun h => absurd h.1 (by assumption))] | rw [if_neg (fun h => absurd h.2 (by assumption))] | rw [if_neg (by assumption)])
                    exact W.iret hx hb hr (fun t ht hW9 => ⟨_, rfl, congrArg iI he9, ht⟩) (fun q hq => by cases hq) dX4_lineNow_178
                  · -- 159 -> 162
                    refine lv_aload_n hx hb dX4_lineNow_162 rfl (lv_at hl 0 rfl) ?_
                    refine ii_bipush hx hb dX4_lineNow_163 (by decide) ?_
                    refine cqI (va_runV (As := [.int (iI 116)]) (rest := []) ⟨hx, hb, hml, hown, hts⟩ (mX4_endsIn Z K T ((T 0) 10) ((T 0) 11) ((T 0) 12) rfl rfl rfl (by omega) (T 5) rfl ht 116 (by omega)) (cwV 1 hts (lw_V q1111 q1113 qs40 q83 q1114) rfl rfl rfl (by decide +kernel) ⟨Nat.le_of_ble_eq_true rfl, Nat.le_of_ble_eq_true rfl⟩) (pvR hB (OBJ.recv Z hB hW.obj (q := (RX4, TX4, 29)) rfl) hW) rfl rfl hl.1 rfl (lv_room (Nat.le_of_ble_eq_true rfl)) dX4_lineNow_165 ⟨Nat.zero_le _, Nat.zero_le _⟩) ?_
                    refine bb_if_eq (P := byA (T 5) ((T 0) 10) (((T 0) 12) + 4) = 116) (tgt := 176) hx hb dX4_lineNow_168 (by decide) (fun c_21 => ?_) (fun c_21 => ?_)
                    · -- 168 -> 176
                      refine ii_bipush hx hb dX4_lineNow_176 (by decide) ?_
                      have he9 : (-4) = (lnV (T 5) ((T 0) 10) ((T 0) 11) ((T 0) 12)) := by unfold lnV; repeat (first | rw [if_pos ⟨by assumption, by assumption⟩] | rw [if_pos (by assumption)] | rw [if_neg (fun h => absurd h.1 (by assumption))] | rw [if_neg (fun h => absurd h.2 (by assumption))] | rw [if_neg (by assumption)])
                      exact W.iret hx hb hr (fun t ht hW9 => ⟨_, rfl, congrArg iI he9, ht⟩) (fun q hq => by cases hq) dX4_lineNow_178
                    · -- 168 -> 171
                      refine ii_bipush hx hb dX4_lineNow_171 (by decide) ?_
                      refine lv_goto (tgt := 178) hx hb dX4_lineNow_173 (by decide) ?_
                      have he9 : 6 = (lnV (T 5) ((T 0) 10) ((T 0) 11) ((T 0) 12)) := by unfold lnV; repeat (first | rw [if_pos ⟨by assumption, by assumption⟩] | rw [if_pos (by assumption)] | rw [if_neg (fun h => absurd h.1 (by assumption))] | rw [if_neg (fun h => absurd h.2 (by assumption))] | rw [if_neg (by assumption)])
                      exact W.iret hx hb hr (fun t ht hW9 => ⟨_, rfl, congrArg iI he9, ht⟩) (fun q hq => by cases hq) dX4_lineNow_178
                · -- 139 -> 142
                  refine ii_const hx hb dX4_lineNow_142 ?_
                  refine lv_goto (tgt := 178) hx hb dX4_lineNow_143 (by decide) ?_
                  have he9 : 5 = (lnV (T 5) ((T 0) 10) ((T 0) 11) ((T 0) 12)) := by unfold lnV; repeat (first | rw [if_pos ⟨by assumption, by assumption⟩] | rw [if_pos (by assumption)] | rw [if_neg (fun h => absurd h.1 (by assumption))] | rw [if_neg (fun h => absurd h.2 (by assumption))] | rw [if_neg (by assumption)])
                  exact W.iret hx hb hr (fun t ht hW9 => ⟨_, rfl, congrArg iI he9, ht⟩) (fun q hq => by cases hq) dX4_lineNow_178
              · -- 121 -> 124
                refine ii_const hx hb dX4_lineNow_124 ?_
                have he9 : 4 = (lnV (T 5) ((T 0) 10) ((T 0) 11) ((T 0) 12)) := by unfold lnV; repeat (first | rw [if_pos ⟨by assumption, by assumption⟩] | rw [if_pos (by assumption)] | rw [if_neg (fun h => absurd h.1 (by assumption))] | rw [if_neg (fun h => absurd h.2 (by assumption))] | rw [if_neg (by assumption)])
                exact W.iret hx hb hr (fun t ht hW9 => ⟨_, rfl, congrArg iI he9, ht⟩) (fun q hq => by cases hq) dX4_lineNow_125
          · -- 94 -> 97
            refine ii_const hx hb dX4_lineNow_97 ?_
            have he9 : 3 = (lnV (T 5) ((T 0) 10) ((T 0) 11) ((T 0) 12)) := by unfold lnV; repeat (first | rw [if_pos ⟨by assumption, by assumption⟩] | rw [if_pos (by assumption)] | rw [if_neg (fun h => absurd h.1 (by assumption))] | rw [if_neg (fun h => absurd h.2 (by assumption))] | rw [if_neg (by assumption)])
            exact W.iret hx hb hr (fun t ht hW9 => ⟨_, rfl, congrArg iI he9, ht⟩) (fun q hq => by cases hq) dX4_lineNow_98
      · -- 67 -> 70
        refine ii_const hx hb dX4_lineNow_70 ?_
        have he9 : 2 = (lnV (T 5) ((T 0) 10) ((T 0) 11) ((T 0) 12)) := by unfold lnV; repeat (first | rw [if_pos ⟨by assumption, by assumption⟩] | rw [if_pos (by assumption)] | rw [if_neg (fun h => absurd h.1 (by assumption))] | rw [if_neg (fun h => absurd h.2 (by assumption))] | rw [if_neg (by assumption)])
        exact W.iret hx hb hr (fun t ht hW9 => ⟨_, rfl, congrArg iI he9, ht⟩) (fun q hq => by cases hq) dX4_lineNow_71
    · -- 40 -> 43
      refine lv_aload_n hx hb dX4_lineNow_43 rfl (lv_at hl 0 rfl) ?_
      refine ii_bipush hx hb dX4_lineNow_44 (by decide) ?_
      refine cqI (va_runV (As := [.int (iI 100)]) (rest := []) ⟨hx, hb, hml, hown, hts⟩ (mX4_endsIn Z K T ((T 0) 10) ((T 0) 11) ((T 0) 12) rfl rfl rfl (by omega) (T 5) rfl ht 100 (by omega)) (cwV 1 hts (lw_V q1111 q1113 qs40 q83 q1114) rfl rfl rfl (by decide +kernel) ⟨Nat.le_of_ble_eq_true rfl, Nat.le_of_ble_eq_true rfl⟩) (pvR hB (OBJ.recv Z hB hW.obj (q := (RX4, TX4, 29)) rfl) hW) rfl rfl hl.1 rfl (lv_room (Nat.le_of_ble_eq_true rfl)) dX4_lineNow_46 ⟨Nat.zero_le _, Nat.zero_le _⟩) ?_
      refine bb_if_eq (P := byA (T 5) ((T 0) 10) (((T 0) 12) + 4) = 100) (tgt := 54) hx hb dX4_lineNow_49 (by decide) (fun c_22 => ?_) (fun c_22 => ?_)
      · -- 49 -> 54
        refine lv_aload_n hx hb dX4_lineNow_54 rfl (lv_at hl 0 rfl) ?_
        refine ii_const hx hb dX4_lineNow_55 ?_
        refine ii_bipush hx hb dX4_lineNow_56 (by decide) ?_
        refine ii_bipush hx hb dX4_lineNow_58 (by decide) ?_
        refine ii_bipush hx hb dX4_lineNow_60 (by decide) ?_
        refine ii_bipush hx hb dX4_lineNow_62 (by decide) ?_
        refine cqI (va_runV (As := [.int (iI 4), .int (iI 102), .int (iI 111), .int (iI 110), .int (iI 100)]) (rest := []) ⟨hx, hb, hml, hown, hts⟩ (mX4_is Z K T ((T 0) 10) ((T 0) 11) ((T 0) 12) rfl rfl rfl (by omega) (T 5) rfl ht 4 (by omega) 102 (by omega) 111 (by omega) 110 (by omega) 100 (by omega)) (cwV 5 hts (lw_V q1107 q1109 qs39 q83 q1110) rfl rfl rfl (by decide +kernel) ⟨Nat.le_of_ble_eq_true rfl, Nat.le_of_ble_eq_true rfl⟩) (pvR hB (OBJ.recv Z hB hW.obj (q := (RX4, TX4, 29)) rfl) hW) rfl rfl hl.1 rfl (lv_room (Nat.le_of_ble_eq_true rfl)) dX4_lineNow_64 ⟨Nat.zero_le _, Nat.zero_le _⟩) ?_
        refine bb_if_eq (P := isW (T 5) ((T 0) 10) ((T 0) 11) ((T 0) 12) 4 102 111 110 100) (tgt := 72) hx hb dX4_lineNow_67 (by decide) (fun c_23 => ?_) (fun c_23 => ?_)
        · -- 67 -> 72
          refine lv_aload_n hx hb dX4_lineNow_72 rfl (lv_at hl 0 rfl) ?_
          refine ii_const hx hb dX4_lineNow_73 ?_
          refine ii_bipush hx hb dX4_lineNow_74 (by decide) ?_
          refine ii_bipush hx hb dX4_lineNow_76 (by decide) ?_
          refine ii_bipush hx hb dX4_lineNow_78 (by decide) ?_
          refine ii_bipush hx hb dX4_lineNow_80 (by decide) ?_
          refine cqI (va_runV (As := [.int (iI 5), .int (iI 119), .int (iI 105), .int (iI 100), .int (iI 111)]) (rest := []) ⟨hx, hb, hml, hown, hts⟩ (mX4_is Z K T ((T 0) 10) ((T 0) 11) ((T 0) 12) rfl rfl rfl (by omega) (T 5) rfl ht 5 (by omega) 119 (by omega) 105 (by omega) 100 (by omega) 111 (by omega)) (cwV 5 hts (lw_V q1107 q1109 qs39 q83 q1110) rfl rfl rfl (by decide +kernel) ⟨Nat.le_of_ble_eq_true rfl, Nat.le_of_ble_eq_true rfl⟩) (pvR hB (OBJ.recv Z hB hW.obj (q := (RX4, TX4, 29)) rfl) hW) rfl rfl hl.1 rfl (lv_room (Nat.le_of_ble_eq_true rfl)) dX4_lineNow_82 ⟨Nat.zero_le _, Nat.zero_le _⟩) ?_
          refine bb_if_eq (P := isW (T 5) ((T 0) 10) ((T 0) 11) ((T 0) 12) 5 119 105 100 111) (tgt := 99) hx hb dX4_lineNow_85 (by decide) (fun c_24 => ?_) (fun c_24 => ?_)
          · -- 85 -> 99
            refine lv_aload_n hx hb dX4_lineNow_99 rfl (lv_at hl 0 rfl) ?_
            refine ii_const hx hb dX4_lineNow_100 ?_
            refine ii_bipush hx hb dX4_lineNow_101 (by decide) ?_
            refine ii_bipush hx hb dX4_lineNow_103 (by decide) ?_
            refine ii_bipush hx hb dX4_lineNow_105 (by decide) ?_
            refine ii_bipush hx hb dX4_lineNow_107 (by decide) ?_
            refine cqI (va_runV (As := [.int (iI 5), .int (iI 99), .int (iI 114), .int (iI 111), .int (iI 115)]) (rest := []) ⟨hx, hb, hml, hown, hts⟩ (mX4_is Z K T ((T 0) 10) ((T 0) 11) ((T 0) 12) rfl rfl rfl (by omega) (T 5) rfl ht 5 (by omega) 99 (by omega) 114 (by omega) 111 (by omega) 115 (by omega)) (cwV 5 hts (lw_V q1107 q1109 qs39 q83 q1110) rfl rfl rfl (by decide +kernel) ⟨Nat.le_of_ble_eq_true rfl, Nat.le_of_ble_eq_true rfl⟩) (pvR hB (OBJ.recv Z hB hW.obj (q := (RX4, TX4, 29)) rfl) hW) rfl rfl hl.1 rfl (lv_room (Nat.le_of_ble_eq_true rfl)) dX4_lineNow_109 ⟨Nat.zero_le _, Nat.zero_le _⟩) ?_
            refine bb_if_eq (P := isW (T 5) ((T 0) 10) ((T 0) 11) ((T 0) 12) 5 99 114 111 115) (tgt := 126) hx hb dX4_lineNow_112 (by decide) (fun c_25 => ?_) (fun c_25 => ?_)
            · -- 112 -> 126
              refine lv_aload_n hx hb dX4_lineNow_126 rfl (lv_at hl 0 rfl) ?_
              refine ii_const hx hb dX4_lineNow_127 ?_
              refine ii_bipush hx hb dX4_lineNow_128 (by decide) ?_
              refine ii_bipush hx hb dX4_lineNow_130 (by decide) ?_
              refine ii_bipush hx hb dX4_lineNow_132 (by decide) ?_
              refine ii_bipush hx hb dX4_lineNow_134 (by decide) ?_
              refine cqI (va_runV (As := [.int (iI 4), .int (iI 114), .int (iI 111), .int (iI 112), .int (iI 101)]) (rest := []) ⟨hx, hb, hml, hown, hts⟩ (mX4_is Z K T ((T 0) 10) ((T 0) 11) ((T 0) 12) rfl rfl rfl (by omega) (T 5) rfl ht 4 (by omega) 114 (by omega) 111 (by omega) 112 (by omega) 101 (by omega)) (cwV 5 hts (lw_V q1107 q1109 qs39 q83 q1110) rfl rfl rfl (by decide +kernel) ⟨Nat.le_of_ble_eq_true rfl, Nat.le_of_ble_eq_true rfl⟩) (pvR hB (OBJ.recv Z hB hW.obj (q := (RX4, TX4, 29)) rfl) hW) rfl rfl hl.1 rfl (lv_room (Nat.le_of_ble_eq_true rfl)) dX4_lineNow_136 ⟨Nat.zero_le _, Nat.zero_le _⟩) ?_
              refine bb_if_eq (P := isW (T 5) ((T 0) 10) ((T 0) 11) ((T 0) 12) 4 114 111 112 101) (tgt := 146) hx hb dX4_lineNow_139 (by decide) (fun c_26 => ?_) (fun c_26 => ?_)
              · -- 139 -> 146
                refine lv_aload_n hx hb dX4_lineNow_146 rfl (lv_at hl 0 rfl) ?_
                refine ii_const hx hb dX4_lineNow_147 ?_
                refine ii_bipush hx hb dX4_lineNow_148 (by decide) ?_
                refine ii_bipush hx hb dX4_lineNow_150 (by decide) ?_
                refine ii_bipush hx hb dX4_lineNow_152 (by decide) ?_
                refine ii_bipush hx hb dX4_lineNow_154 (by decide) ?_
                refine cqI (va_runV (As := [.int (iI 5), .int (iI 102), .int (iI 101), .int (iI 97), .int (iI 115)]) (rest := []) ⟨hx, hb, hml, hown, hts⟩ (mX4_is Z K T ((T 0) 10) ((T 0) 11) ((T 0) 12) rfl rfl rfl (by omega) (T 5) rfl ht 5 (by omega) 102 (by omega) 101 (by omega) 97 (by omega) 115 (by omega)) (cwV 5 hts (lw_V q1107 q1109 qs39 q83 q1110) rfl rfl rfl (by decide +kernel) ⟨Nat.le_of_ble_eq_true rfl, Nat.le_of_ble_eq_true rfl⟩) (pvR hB (OBJ.recv Z hB hW.obj (q := (RX4, TX4, 29)) rfl) hW) rfl rfl hl.1 rfl (lv_room (Nat.le_of_ble_eq_true rfl)) dX4_lineNow_156 ⟨Nat.zero_le _, Nat.zero_le _⟩) ?_
                refine bb_if_eq (P := isW (T 5) ((T 0) 10) ((T 0) 11) ((T 0) 12) 5 102 101 97 115) (tgt := 176) hx hb dX4_lineNow_159 (by decide) (fun c_27 => ?_) (fun c_27 => ?_)
                · -- 159 -> 176
                  refine ii_bipush hx hb dX4_lineNow_176 (by decide) ?_
                  have he9 : (-4) = (lnV (T 5) ((T 0) 10) ((T 0) 11) ((T 0) 12)) := by unfold lnV; repeat (first | rw [if_pos ⟨by assumption, by assumption⟩] | rw [if_pos (by assumption)] | rw [if_neg (fun h => absurd h.1 (by assumption))] | rw [if_neg (fun h => absurd h.2 (by assumption))] | rw [if_neg (by assumption)])
                  exact W.iret hx hb hr (fun t ht hW9 => ⟨_, rfl, congrArg iI he9, ht⟩) (fun q hq => by cases hq) dX4_lineNow_178
                · -- 159 -> 162
                  refine lv_aload_n hx hb dX4_lineNow_162 rfl (lv_at hl 0 rfl) ?_
                  refine ii_bipush hx hb dX4_lineNow_163 (by decide) ?_
                  refine cqI (va_runV (As := [.int (iI 116)]) (rest := []) ⟨hx, hb, hml, hown, hts⟩ (mX4_endsIn Z K T ((T 0) 10) ((T 0) 11) ((T 0) 12) rfl rfl rfl (by omega) (T 5) rfl ht 116 (by omega)) (cwV 1 hts (lw_V q1111 q1113 qs40 q83 q1114) rfl rfl rfl (by decide +kernel) ⟨Nat.le_of_ble_eq_true rfl, Nat.le_of_ble_eq_true rfl⟩) (pvR hB (OBJ.recv Z hB hW.obj (q := (RX4, TX4, 29)) rfl) hW) rfl rfl hl.1 rfl (lv_room (Nat.le_of_ble_eq_true rfl)) dX4_lineNow_165 ⟨Nat.zero_le _, Nat.zero_le _⟩) ?_
                  refine bb_if_eq (P := byA (T 5) ((T 0) 10) (((T 0) 12) + 4) = 116) (tgt := 176) hx hb dX4_lineNow_168 (by decide) (fun c_28 => ?_) (fun c_28 => ?_)
                  · -- 168 -> 176
                    refine ii_bipush hx hb dX4_lineNow_176 (by decide) ?_
                    have he9 : (-4) = (lnV (T 5) ((T 0) 10) ((T 0) 11) ((T 0) 12)) := by unfold lnV; repeat (first | rw [if_pos ⟨by assumption, by assumption⟩] | rw [if_pos (by assumption)] | rw [if_neg (fun h => absurd h.1 (by assumption))] | rw [if_neg (fun h => absurd h.2 (by assumption))] | rw [if_neg (by assumption)])
                    exact W.iret hx hb hr (fun t ht hW9 => ⟨_, rfl, congrArg iI he9, ht⟩) (fun q hq => by cases hq) dX4_lineNow_178
                  · -- 168 -> 171
                    refine ii_bipush hx hb dX4_lineNow_171 (by decide) ?_
                    refine lv_goto (tgt := 178) hx hb dX4_lineNow_173 (by decide) ?_
                    have he9 : 6 = (lnV (T 5) ((T 0) 10) ((T 0) 11) ((T 0) 12)) := by unfold lnV; repeat (first | rw [if_pos ⟨by assumption, by assumption⟩] | rw [if_pos (by assumption)] | rw [if_neg (fun h => absurd h.1 (by assumption))] | rw [if_neg (fun h => absurd h.2 (by assumption))] | rw [if_neg (by assumption)])
                    exact W.iret hx hb hr (fun t ht hW9 => ⟨_, rfl, congrArg iI he9, ht⟩) (fun q hq => by cases hq) dX4_lineNow_178
              · -- 139 -> 142
                refine ii_const hx hb dX4_lineNow_142 ?_
                refine lv_goto (tgt := 178) hx hb dX4_lineNow_143 (by decide) ?_
                have he9 : 5 = (lnV (T 5) ((T 0) 10) ((T 0) 11) ((T 0) 12)) := by unfold lnV; repeat (first | rw [if_pos ⟨by assumption, by assumption⟩] | rw [if_pos (by assumption)] | rw [if_neg (fun h => absurd h.1 (by assumption))] | rw [if_neg (fun h => absurd h.2 (by assumption))] | rw [if_neg (by assumption)])
                exact W.iret hx hb hr (fun t ht hW9 => ⟨_, rfl, congrArg iI he9, ht⟩) (fun q hq => by cases hq) dX4_lineNow_178
            · -- 112 -> 115
              refine lv_aload_n hx hb dX4_lineNow_115 rfl (lv_at hl 0 rfl) ?_
              refine ii_bipush hx hb dX4_lineNow_116 (by decide) ?_
              refine cqI (va_runV (As := [.int (iI 115)]) (rest := []) ⟨hx, hb, hml, hown, hts⟩ (mX4_endsIn Z K T ((T 0) 10) ((T 0) 11) ((T 0) 12) rfl rfl rfl (by omega) (T 5) rfl ht 115 (by omega)) (cwV 1 hts (lw_V q1111 q1113 qs40 q83 q1114) rfl rfl rfl (by decide +kernel) ⟨Nat.le_of_ble_eq_true rfl, Nat.le_of_ble_eq_true rfl⟩) (pvR hB (OBJ.recv Z hB hW.obj (q := (RX4, TX4, 29)) rfl) hW) rfl rfl hl.1 rfl (lv_room (Nat.le_of_ble_eq_true rfl)) dX4_lineNow_118 ⟨Nat.zero_le _, Nat.zero_le _⟩) ?_
              refine bb_if_eq (P := byA (T 5) ((T 0) 10) (((T 0) 12) + 4) = 115) (tgt := 126) hx hb dX4_lineNow_121 (by decide) (fun c_29 => ?_) (fun c_29 => ?_)
              · -- 121 -> 126
                refine lv_aload_n hx hb dX4_lineNow_126 rfl (lv_at hl 0 rfl) ?_
                refine ii_const hx hb dX4_lineNow_127 ?_
                refine ii_bipush hx hb dX4_lineNow_128 (by decide) ?_
                refine ii_bipush hx hb dX4_lineNow_130 (by decide) ?_
                refine ii_bipush hx hb dX4_lineNow_132 (by decide) ?_
                refine ii_bipush hx hb dX4_lineNow_134 (by decide) ?_
                refine cqI (va_runV (As := [.int (iI 4), .int (iI 114), .int (iI 111), .int (iI 112), .int (iI 101)]) (rest := []) ⟨hx, hb, hml, hown, hts⟩ (mX4_is Z K T ((T 0) 10) ((T 0) 11) ((T 0) 12) rfl rfl rfl (by omega) (T 5) rfl ht 4 (by omega) 114 (by omega) 111 (by omega) 112 (by omega) 101 (by omega)) (cwV 5 hts (lw_V q1107 q1109 qs39 q83 q1110) rfl rfl rfl (by decide +kernel) ⟨Nat.le_of_ble_eq_true rfl, Nat.le_of_ble_eq_true rfl⟩) (pvR hB (OBJ.recv Z hB hW.obj (q := (RX4, TX4, 29)) rfl) hW) rfl rfl hl.1 rfl (lv_room (Nat.le_of_ble_eq_true rfl)) dX4_lineNow_136 ⟨Nat.zero_le _, Nat.zero_le _⟩) ?_
                refine bb_if_eq (P := isW (T 5) ((T 0) 10) ((T 0) 11) ((T 0) 12) 4 114 111 112 101) (tgt := 146) hx hb dX4_lineNow_139 (by decide) (fun c_30 => ?_) (fun c_30 => ?_)
                · -- 139 -> 146
                  refine lv_aload_n hx hb dX4_lineNow_146 rfl (lv_at hl 0 rfl) ?_
                  refine ii_const hx hb dX4_lineNow_147 ?_
                  refine ii_bipush hx hb dX4_lineNow_148 (by decide) ?_
                  refine ii_bipush hx hb dX4_lineNow_150 (by decide) ?_
                  refine ii_bipush hx hb dX4_lineNow_152 (by decide) ?_
                  refine ii_bipush hx hb dX4_lineNow_154 (by decide) ?_
                  refine cqI (va_runV (As := [.int (iI 5), .int (iI 102), .int (iI 101), .int (iI 97), .int (iI 115)]) (rest := []) ⟨hx, hb, hml, hown, hts⟩ (mX4_is Z K T ((T 0) 10) ((T 0) 11) ((T 0) 12) rfl rfl rfl (by omega) (T 5) rfl ht 5 (by omega) 102 (by omega) 101 (by omega) 97 (by omega) 115 (by omega)) (cwV 5 hts (lw_V q1107 q1109 qs39 q83 q1110) rfl rfl rfl (by decide +kernel) ⟨Nat.le_of_ble_eq_true rfl, Nat.le_of_ble_eq_true rfl⟩) (pvR hB (OBJ.recv Z hB hW.obj (q := (RX4, TX4, 29)) rfl) hW) rfl rfl hl.1 rfl (lv_room (Nat.le_of_ble_eq_true rfl)) dX4_lineNow_156 ⟨Nat.zero_le _, Nat.zero_le _⟩) ?_
                  refine bb_if_eq (P := isW (T 5) ((T 0) 10) ((T 0) 11) ((T 0) 12) 5 102 101 97 115) (tgt := 176) hx hb dX4_lineNow_159 (by decide) (fun c_31 => ?_) (fun c_31 => ?_)
                  · -- 159 -> 176
                    refine ii_bipush hx hb dX4_lineNow_176 (by decide) ?_
                    have he9 : (-4) = (lnV (T 5) ((T 0) 10) ((T 0) 11) ((T 0) 12)) := by unfold lnV; repeat (first | rw [if_pos ⟨by assumption, by assumption⟩] | rw [if_pos (by assumption)] | rw [if_neg (fun h => absurd h.1 (by assumption))] | rw [if_neg (fun h => absurd h.2 (by assumption))] | rw [if_neg (by assumption)])
                    exact W.iret hx hb hr (fun t ht hW9 => ⟨_, rfl, congrArg iI he9, ht⟩) (fun q hq => by cases hq) dX4_lineNow_178
                  · -- 159 -> 162
                    refine lv_aload_n hx hb dX4_lineNow_162 rfl (lv_at hl 0 rfl) ?_
                    refine ii_bipush hx hb dX4_lineNow_163 (by decide) ?_
                    refine cqI (va_runV (As := [.int (iI 116)]) (rest := []) ⟨hx, hb, hml, hown, hts⟩ (mX4_endsIn Z K T ((T 0) 10) ((T 0) 11) ((T 0) 12) rfl rfl rfl (by omega) (T 5) rfl ht 116 (by omega)) (cwV 1 hts (lw_V q1111 q1113 qs40 q83 q1114) rfl rfl rfl (by decide +kernel) ⟨Nat.le_of_ble_eq_true rfl, Nat.le_of_ble_eq_true rfl⟩) (pvR hB (OBJ.recv Z hB hW.obj (q := (RX4, TX4, 29)) rfl) hW) rfl rfl hl.1 rfl (lv_room (Nat.le_of_ble_eq_true rfl)) dX4_lineNow_165 ⟨Nat.zero_le _, Nat.zero_le _⟩) ?_
                    refine bb_if_eq (P := byA (T 5) ((T 0) 10) (((T 0) 12) + 4) = 116) (tgt := 176) hx hb dX4_lineNow_168 (by decide) (fun c_32 => ?_) (fun c_32 => ?_)
                    · -- 168 -> 176
                      refine ii_bipush hx hb dX4_lineNow_176 (by decide) ?_
                      have he9 : (-4) = (lnV (T 5) ((T 0) 10) ((T 0) 11) ((T 0) 12)) := by unfold lnV; repeat (first | rw [if_pos ⟨by assumption, by assumption⟩] | rw [if_pos (by assumption)] | rw [if_neg (fun h => absurd h.1 (by assumption))] | rw [if_neg (fun h => absurd h.2 (by assumption))] | rw [if_neg (by assumption)])
                      exact W.iret hx hb hr (fun t ht hW9 => ⟨_, rfl, congrArg iI he9, ht⟩) (fun q hq => by cases hq) dX4_lineNow_178
                    · -- 168 -> 171
                      refine ii_bipush hx hb dX4_lineNow_171 (by decide) ?_
                      refine lv_goto (tgt := 178) hx hb dX4_lineNow_173 (by decide) ?_
                      have he9 : 6 = (lnV (T 5) ((T 0) 10) ((T 0) 11) ((T 0) 12)) := by unfold lnV; repeat (first | rw [if_pos ⟨by assumption, by assumption⟩] | rw [if_pos (by assumption)] | rw [if_neg (fun h => absurd h.1 (by assumption))] | rw [if_neg (fun h => absurd h.2 (by assumption))] | rw [if_neg (by assumption)])
                      exact W.iret hx hb hr (fun t ht hW9 => ⟨_, rfl, congrArg iI he9, ht⟩) (fun q hq => by cases hq) dX4_lineNow_178
                · -- 139 -> 142
                  refine ii_const hx hb dX4_lineNow_142 ?_
                  refine lv_goto (tgt := 178) hx hb dX4_lineNow_143 (by decide) ?_
                  have he9 : 5 = (lnV (T 5) ((T 0) 10) ((T 0) 11) ((T 0) 12)) := by unfold lnV; repeat (first | rw [if_pos ⟨by assumption, by assumption⟩] | rw [if_pos (by assumption)] | rw [if_neg (fun h => absurd h.1 (by assumption))] | rw [if_neg (fun h => absurd h.2 (by assumption))] | rw [if_neg (by assumption)])
                  exact W.iret hx hb hr (fun t ht hW9 => ⟨_, rfl, congrArg iI he9, ht⟩) (fun q hq => by cases hq) dX4_lineNow_178
              · -- 121 -> 124
                refine ii_const hx hb dX4_lineNow_124 ?_
                have he9 : 4 = (lnV (T 5) ((T 0) 10) ((T 0) 11) ((T 0) 12)) := by unfold lnV; repeat (first | rw [if_pos ⟨by assumption, by assumption⟩] | rw [if_pos (by assumption)] | rw [if_neg (fun h => absurd h.1 (by assumption))] | rw [if_neg (fun h => absurd h.2 (by assumption))] | rw [if_neg (by assumption)])
                exact W.iret hx hb hr (fun t ht hW9 => ⟨_, rfl, congrArg iI he9, ht⟩) (fun q hq => by cases hq) dX4_lineNow_125
          · -- 85 -> 88
            refine lv_aload_n hx hb dX4_lineNow_88 rfl (lv_at hl 0 rfl) ?_
            refine ii_bipush hx hb dX4_lineNow_89 (by decide) ?_
            refine cqI (va_runV (As := [.int (iI 119)]) (rest := []) ⟨hx, hb, hml, hown, hts⟩ (mX4_endsIn Z K T ((T 0) 10) ((T 0) 11) ((T 0) 12) rfl rfl rfl (by omega) (T 5) rfl ht 119 (by omega)) (cwV 1 hts (lw_V q1111 q1113 qs40 q83 q1114) rfl rfl rfl (by decide +kernel) ⟨Nat.le_of_ble_eq_true rfl, Nat.le_of_ble_eq_true rfl⟩) (pvR hB (OBJ.recv Z hB hW.obj (q := (RX4, TX4, 29)) rfl) hW) rfl rfl hl.1 rfl (lv_room (Nat.le_of_ble_eq_true rfl)) dX4_lineNow_91 ⟨Nat.zero_le _, Nat.zero_le _⟩) ?_
            refine bb_if_eq (P := byA (T 5) ((T 0) 10) (((T 0) 12) + 4) = 119) (tgt := 99) hx hb dX4_lineNow_94 (by decide) (fun c_33 => ?_) (fun c_33 => ?_)
            · -- 94 -> 99
              refine lv_aload_n hx hb dX4_lineNow_99 rfl (lv_at hl 0 rfl) ?_
              refine ii_const hx hb dX4_lineNow_100 ?_
              refine ii_bipush hx hb dX4_lineNow_101 (by decide) ?_
              refine ii_bipush hx hb dX4_lineNow_103 (by decide) ?_
              refine ii_bipush hx hb dX4_lineNow_105 (by decide) ?_
              refine ii_bipush hx hb dX4_lineNow_107 (by decide) ?_
              refine cqI (va_runV (As := [.int (iI 5), .int (iI 99), .int (iI 114), .int (iI 111), .int (iI 115)]) (rest := []) ⟨hx, hb, hml, hown, hts⟩ (mX4_is Z K T ((T 0) 10) ((T 0) 11) ((T 0) 12) rfl rfl rfl (by omega) (T 5) rfl ht 5 (by omega) 99 (by omega) 114 (by omega) 111 (by omega) 115 (by omega)) (cwV 5 hts (lw_V q1107 q1109 qs39 q83 q1110) rfl rfl rfl (by decide +kernel) ⟨Nat.le_of_ble_eq_true rfl, Nat.le_of_ble_eq_true rfl⟩) (pvR hB (OBJ.recv Z hB hW.obj (q := (RX4, TX4, 29)) rfl) hW) rfl rfl hl.1 rfl (lv_room (Nat.le_of_ble_eq_true rfl)) dX4_lineNow_109 ⟨Nat.zero_le _, Nat.zero_le _⟩) ?_
              refine bb_if_eq (P := isW (T 5) ((T 0) 10) ((T 0) 11) ((T 0) 12) 5 99 114 111 115) (tgt := 126) hx hb dX4_lineNow_112 (by decide) (fun c_34 => ?_) (fun c_34 => ?_)
              · -- 112 -> 126
                refine lv_aload_n hx hb dX4_lineNow_126 rfl (lv_at hl 0 rfl) ?_
                refine ii_const hx hb dX4_lineNow_127 ?_
                refine ii_bipush hx hb dX4_lineNow_128 (by decide) ?_
                refine ii_bipush hx hb dX4_lineNow_130 (by decide) ?_
                refine ii_bipush hx hb dX4_lineNow_132 (by decide) ?_
                refine ii_bipush hx hb dX4_lineNow_134 (by decide) ?_
                refine cqI (va_runV (As := [.int (iI 4), .int (iI 114), .int (iI 111), .int (iI 112), .int (iI 101)]) (rest := []) ⟨hx, hb, hml, hown, hts⟩ (mX4_is Z K T ((T 0) 10) ((T 0) 11) ((T 0) 12) rfl rfl rfl (by omega) (T 5) rfl ht 4 (by omega) 114 (by omega) 111 (by omega) 112 (by omega) 101 (by omega)) (cwV 5 hts (lw_V q1107 q1109 qs39 q83 q1110) rfl rfl rfl (by decide +kernel) ⟨Nat.le_of_ble_eq_true rfl, Nat.le_of_ble_eq_true rfl⟩) (pvR hB (OBJ.recv Z hB hW.obj (q := (RX4, TX4, 29)) rfl) hW) rfl rfl hl.1 rfl (lv_room (Nat.le_of_ble_eq_true rfl)) dX4_lineNow_136 ⟨Nat.zero_le _, Nat.zero_le _⟩) ?_
                refine bb_if_eq (P := isW (T 5) ((T 0) 10) ((T 0) 11) ((T 0) 12) 4 114 111 112 101) (tgt := 146) hx hb dX4_lineNow_139 (by decide) (fun c_35 => ?_) (fun c_35 => ?_)
                · -- 139 -> 146
                  refine lv_aload_n hx hb dX4_lineNow_146 rfl (lv_at hl 0 rfl) ?_
                  refine ii_const hx hb dX4_lineNow_147 ?_
                  refine ii_bipush hx hb dX4_lineNow_148 (by decide) ?_
                  refine ii_bipush hx hb dX4_lineNow_150 (by decide) ?_
                  refine ii_bipush hx hb dX4_lineNow_152 (by decide) ?_
                  refine ii_bipush hx hb dX4_lineNow_154 (by decide) ?_
                  refine cqI (va_runV (As := [.int (iI 5), .int (iI 102), .int (iI 101), .int (iI 97), .int (iI 115)]) (rest := []) ⟨hx, hb, hml, hown, hts⟩ (mX4_is Z K T ((T 0) 10) ((T 0) 11) ((T 0) 12) rfl rfl rfl (by omega) (T 5) rfl ht 5 (by omega) 102 (by omega) 101 (by omega) 97 (by omega) 115 (by omega)) (cwV 5 hts (lw_V q1107 q1109 qs39 q83 q1110) rfl rfl rfl (by decide +kernel) ⟨Nat.le_of_ble_eq_true rfl, Nat.le_of_ble_eq_true rfl⟩) (pvR hB (OBJ.recv Z hB hW.obj (q := (RX4, TX4, 29)) rfl) hW) rfl rfl hl.1 rfl (lv_room (Nat.le_of_ble_eq_true rfl)) dX4_lineNow_156 ⟨Nat.zero_le _, Nat.zero_le _⟩) ?_
                  refine bb_if_eq (P := isW (T 5) ((T 0) 10) ((T 0) 11) ((T 0) 12) 5 102 101 97 115) (tgt := 176) hx hb dX4_lineNow_159 (by decide) (fun c_36 => ?_) (fun c_36 => ?_)
                  · -- 159 -> 176
                    refine ii_bipush hx hb dX4_lineNow_176 (by decide) ?_
                    have he9 : (-4) = (lnV (T 5) ((T 0) 10) ((T 0) 11) ((T 0) 12)) := by unfold lnV; repeat (first | rw [if_pos ⟨by assumption, by assumption⟩] | rw [if_pos (by assumption)] | rw [if_neg (fun h => absurd h.1 (by assumption))] | rw [if_neg (fun h => absurd h.2 (by assumption))] | rw [if_neg (by assumption)])
                    exact W.iret hx hb hr (fun t ht hW9 => ⟨_, rfl, congrArg iI he9, ht⟩) (fun q hq => by cases hq) dX4_lineNow_178
                  · -- 159 -> 162
                    refine lv_aload_n hx hb dX4_lineNow_162 rfl (lv_at hl 0 rfl) ?_
                    refine ii_bipush hx hb dX4_lineNow_163 (by decide) ?_
                    refine cqI (va_runV (As := [.int (iI 116)]) (rest := []) ⟨hx, hb, hml, hown, hts⟩ (mX4_endsIn Z K T ((T 0) 10) ((T 0) 11) ((T 0) 12) rfl rfl rfl (by omega) (T 5) rfl ht 116 (by omega)) (cwV 1 hts (lw_V q1111 q1113 qs40 q83 q1114) rfl rfl rfl (by decide +kernel) ⟨Nat.le_of_ble_eq_true rfl, Nat.le_of_ble_eq_true rfl⟩) (pvR hB (OBJ.recv Z hB hW.obj (q := (RX4, TX4, 29)) rfl) hW) rfl rfl hl.1 rfl (lv_room (Nat.le_of_ble_eq_true rfl)) dX4_lineNow_165 ⟨Nat.zero_le _, Nat.zero_le _⟩) ?_
                    refine bb_if_eq (P := byA (T 5) ((T 0) 10) (((T 0) 12) + 4) = 116) (tgt := 176) hx hb dX4_lineNow_168 (by decide) (fun c_37 => ?_) (fun c_37 => ?_)
                    · -- 168 -> 176
                      refine ii_bipush hx hb dX4_lineNow_176 (by decide) ?_
                      have he9 : (-4) = (lnV (T 5) ((T 0) 10) ((T 0) 11) ((T 0) 12)) := by unfold lnV; repeat (first | rw [if_pos ⟨by assumption, by assumption⟩] | rw [if_pos (by assumption)] | rw [if_neg (fun h => absurd h.1 (by assumption))] | rw [if_neg (fun h => absurd h.2 (by assumption))] | rw [if_neg (by assumption)])
                      exact W.iret hx hb hr (fun t ht hW9 => ⟨_, rfl, congrArg iI he9, ht⟩) (fun q hq => by cases hq) dX4_lineNow_178
                    · -- 168 -> 171
                      refine ii_bipush hx hb dX4_lineNow_171 (by decide) ?_
                      refine lv_goto (tgt := 178) hx hb dX4_lineNow_173 (by decide) ?_
                      have he9 : 6 = (lnV (T 5) ((T 0) 10) ((T 0) 11) ((T 0) 12)) := by unfold lnV; repeat (first | rw [if_pos ⟨by assumption, by assumption⟩] | rw [if_pos (by assumption)] | rw [if_neg (fun h => absurd h.1 (by assumption))] | rw [if_neg (fun h => absurd h.2 (by assumption))] | rw [if_neg (by assumption)])
                      exact W.iret hx hb hr (fun t ht hW9 => ⟨_, rfl, congrArg iI he9, ht⟩) (fun q hq => by cases hq) dX4_lineNow_178
                · -- 139 -> 142
                  refine ii_const hx hb dX4_lineNow_142 ?_
                  refine lv_goto (tgt := 178) hx hb dX4_lineNow_143 (by decide) ?_
                  have he9 : 5 = (lnV (T 5) ((T 0) 10) ((T 0) 11) ((T 0) 12)) := by unfold lnV; repeat (first | rw [if_pos ⟨by assumption, by assumption⟩] | rw [if_pos (by assumption)] | rw [if_neg (fun h => absurd h.1 (by assumption))] | rw [if_neg (fun h => absurd h.2 (by assumption))] | rw [if_neg (by assumption)])
                  exact W.iret hx hb hr (fun t ht hW9 => ⟨_, rfl, congrArg iI he9, ht⟩) (fun q hq => by cases hq) dX4_lineNow_178
              · -- 112 -> 115
                refine lv_aload_n hx hb dX4_lineNow_115 rfl (lv_at hl 0 rfl) ?_
                refine ii_bipush hx hb dX4_lineNow_116 (by decide) ?_
                refine cqI (va_runV (As := [.int (iI 115)]) (rest := []) ⟨hx, hb, hml, hown, hts⟩ (mX4_endsIn Z K T ((T 0) 10) ((T 0) 11) ((T 0) 12) rfl rfl rfl (by omega) (T 5) rfl ht 115 (by omega)) (cwV 1 hts (lw_V q1111 q1113 qs40 q83 q1114) rfl rfl rfl (by decide +kernel) ⟨Nat.le_of_ble_eq_true rfl, Nat.le_of_ble_eq_true rfl⟩) (pvR hB (OBJ.recv Z hB hW.obj (q := (RX4, TX4, 29)) rfl) hW) rfl rfl hl.1 rfl (lv_room (Nat.le_of_ble_eq_true rfl)) dX4_lineNow_118 ⟨Nat.zero_le _, Nat.zero_le _⟩) ?_
                refine bb_if_eq (P := byA (T 5) ((T 0) 10) (((T 0) 12) + 4) = 115) (tgt := 126) hx hb dX4_lineNow_121 (by decide) (fun c_38 => ?_) (fun c_38 => ?_)
                · -- 121 -> 126
                  refine lv_aload_n hx hb dX4_lineNow_126 rfl (lv_at hl 0 rfl) ?_
                  refine ii_const hx hb dX4_lineNow_127 ?_
                  refine ii_bipush hx hb dX4_lineNow_128 (by decide) ?_
                  refine ii_bipush hx hb dX4_lineNow_130 (by decide) ?_
                  refine ii_bipush hx hb dX4_lineNow_132 (by decide) ?_
                  refine ii_bipush hx hb dX4_lineNow_134 (by decide) ?_
                  refine cqI (va_runV (As := [.int (iI 4), .int (iI 114), .int (iI 111), .int (iI 112), .int (iI 101)]) (rest := []) ⟨hx, hb, hml, hown, hts⟩ (mX4_is Z K T ((T 0) 10) ((T 0) 11) ((T 0) 12) rfl rfl rfl (by omega) (T 5) rfl ht 4 (by omega) 114 (by omega) 111 (by omega) 112 (by omega) 101 (by omega)) (cwV 5 hts (lw_V q1107 q1109 qs39 q83 q1110) rfl rfl rfl (by decide +kernel) ⟨Nat.le_of_ble_eq_true rfl, Nat.le_of_ble_eq_true rfl⟩) (pvR hB (OBJ.recv Z hB hW.obj (q := (RX4, TX4, 29)) rfl) hW) rfl rfl hl.1 rfl (lv_room (Nat.le_of_ble_eq_true rfl)) dX4_lineNow_136 ⟨Nat.zero_le _, Nat.zero_le _⟩) ?_
                  refine bb_if_eq (P := isW (T 5) ((T 0) 10) ((T 0) 11) ((T 0) 12) 4 114 111 112 101) (tgt := 146) hx hb dX4_lineNow_139 (by decide) (fun c_39 => ?_) (fun c_39 => ?_)
                  · -- 139 -> 146
                    refine lv_aload_n hx hb dX4_lineNow_146 rfl (lv_at hl 0 rfl) ?_
                    refine ii_const hx hb dX4_lineNow_147 ?_
                    refine ii_bipush hx hb dX4_lineNow_148 (by decide) ?_
                    refine ii_bipush hx hb dX4_lineNow_150 (by decide) ?_
                    refine ii_bipush hx hb dX4_lineNow_152 (by decide) ?_
                    refine ii_bipush hx hb dX4_lineNow_154 (by decide) ?_
                    refine cqI (va_runV (As := [.int (iI 5), .int (iI 102), .int (iI 101), .int (iI 97), .int (iI 115)]) (rest := []) ⟨hx, hb, hml, hown, hts⟩ (mX4_is Z K T ((T 0) 10) ((T 0) 11) ((T 0) 12) rfl rfl rfl (by omega) (T 5) rfl ht 5 (by omega) 102 (by omega) 101 (by omega) 97 (by omega) 115 (by omega)) (cwV 5 hts (lw_V q1107 q1109 qs39 q83 q1110) rfl rfl rfl (by decide +kernel) ⟨Nat.le_of_ble_eq_true rfl, Nat.le_of_ble_eq_true rfl⟩) (pvR hB (OBJ.recv Z hB hW.obj (q := (RX4, TX4, 29)) rfl) hW) rfl rfl hl.1 rfl (lv_room (Nat.le_of_ble_eq_true rfl)) dX4_lineNow_156 ⟨Nat.zero_le _, Nat.zero_le _⟩) ?_
                    refine bb_if_eq (P := isW (T 5) ((T 0) 10) ((T 0) 11) ((T 0) 12) 5 102 101 97 115) (tgt := 176) hx hb dX4_lineNow_159 (by decide) (fun c_40 => ?_) (fun c_40 => ?_)
                    · -- 159 -> 176
                      refine ii_bipush hx hb dX4_lineNow_176 (by decide) ?_
                      have he9 : (-4) = (lnV (T 5) ((T 0) 10) ((T 0) 11) ((T 0) 12)) := by unfold lnV; repeat (first | rw [if_pos ⟨by assumption, by assumption⟩] | rw [if_pos (by assumption)] | rw [if_neg (fun h => absurd h.1 (by assumption))] | rw [if_neg (fun h => absurd h.2 (by assumption))] | rw [if_neg (by assumption)])
                      exact W.iret hx hb hr (fun t ht hW9 => ⟨_, rfl, congrArg iI he9, ht⟩) (fun q hq => by cases hq) dX4_lineNow_178
                    · -- 159 -> 162
                      refine lv_aload_n hx hb dX4_lineNow_162 rfl (lv_at hl 0 rfl) ?_
                      refine ii_bipush hx hb dX4_lineNow_163 (by decide) ?_
                      refine cqI (va_runV (As := [.int (iI 116)]) (rest := []) ⟨hx, hb, hml, hown, hts⟩ (mX4_endsIn Z K T ((T 0) 10) ((T 0) 11) ((T 0) 12) rfl rfl rfl (by omega) (T 5) rfl ht 116 (by omega)) (cwV 1 hts (lw_V q1111 q1113 qs40 q83 q1114) rfl rfl rfl (by decide +kernel) ⟨Nat.le_of_ble_eq_true rfl, Nat.le_of_ble_eq_true rfl⟩) (pvR hB (OBJ.recv Z hB hW.obj (q := (RX4, TX4, 29)) rfl) hW) rfl rfl hl.1 rfl (lv_room (Nat.le_of_ble_eq_true rfl)) dX4_lineNow_165 ⟨Nat.zero_le _, Nat.zero_le _⟩) ?_
                      refine bb_if_eq (P := byA (T 5) ((T 0) 10) (((T 0) 12) + 4) = 116) (tgt := 176) hx hb dX4_lineNow_168 (by decide) (fun c_41 => ?_) (fun c_41 => ?_)
                      · -- 168 -> 176
                        refine ii_bipush hx hb dX4_lineNow_176 (by decide) ?_
                        have he9 : (-4) = (lnV (T 5) ((T 0) 10) ((T 0) 11) ((T 0) 12)) := by unfold lnV; repeat (first | rw [if_pos ⟨by assumption, by assumption⟩] | rw [if_pos (by assumption)] | rw [if_neg (fun h => absurd h.1 (by assumption))] | rw [if_neg (fun h => absurd h.2 (by assumption))] | rw [if_neg (by assumption)])
                        exact W.iret hx hb hr (fun t ht hW9 => ⟨_, rfl, congrArg iI he9, ht⟩) (fun q hq => by cases hq) dX4_lineNow_178
                      · -- 168 -> 171
                        refine ii_bipush hx hb dX4_lineNow_171 (by decide) ?_
                        refine lv_goto (tgt := 178) hx hb dX4_lineNow_173 (by decide) ?_
                        have he9 : 6 = (lnV (T 5) ((T 0) 10) ((T 0) 11) ((T 0) 12)) := by unfold lnV; repeat (first | rw [if_pos ⟨by assumption, by assumption⟩] | rw [if_pos (by assumption)] | rw [if_neg (fun h => absurd h.1 (by assumption))] | rw [if_neg (fun h => absurd h.2 (by assumption))] | rw [if_neg (by assumption)])
                        exact W.iret hx hb hr (fun t ht hW9 => ⟨_, rfl, congrArg iI he9, ht⟩) (fun q hq => by cases hq) dX4_lineNow_178
                  · -- 139 -> 142
                    refine ii_const hx hb dX4_lineNow_142 ?_
                    refine lv_goto (tgt := 178) hx hb dX4_lineNow_143 (by decide) ?_
                    have he9 : 5 = (lnV (T 5) ((T 0) 10) ((T 0) 11) ((T 0) 12)) := by unfold lnV; repeat (first | rw [if_pos ⟨by assumption, by assumption⟩] | rw [if_pos (by assumption)] | rw [if_neg (fun h => absurd h.1 (by assumption))] | rw [if_neg (fun h => absurd h.2 (by assumption))] | rw [if_neg (by assumption)])
                    exact W.iret hx hb hr (fun t ht hW9 => ⟨_, rfl, congrArg iI he9, ht⟩) (fun q hq => by cases hq) dX4_lineNow_178
                · -- 121 -> 124
                  refine ii_const hx hb dX4_lineNow_124 ?_
                  have he9 : 4 = (lnV (T 5) ((T 0) 10) ((T 0) 11) ((T 0) 12)) := by unfold lnV; repeat (first | rw [if_pos ⟨by assumption, by assumption⟩] | rw [if_pos (by assumption)] | rw [if_neg (fun h => absurd h.1 (by assumption))] | rw [if_neg (fun h => absurd h.2 (by assumption))] | rw [if_neg (by assumption)])
                  exact W.iret hx hb hr (fun t ht hW9 => ⟨_, rfl, congrArg iI he9, ht⟩) (fun q hq => by cases hq) dX4_lineNow_125
            · -- 94 -> 97
              refine ii_const hx hb dX4_lineNow_97 ?_
              have he9 : 3 = (lnV (T 5) ((T 0) 10) ((T 0) 11) ((T 0) 12)) := by unfold lnV; repeat (first | rw [if_pos ⟨by assumption, by assumption⟩] | rw [if_pos (by assumption)] | rw [if_neg (fun h => absurd h.1 (by assumption))] | rw [if_neg (fun h => absurd h.2 (by assumption))] | rw [if_neg (by assumption)])
              exact W.iret hx hb hr (fun t ht hW9 => ⟨_, rfl, congrArg iI he9, ht⟩) (fun q hq => by cases hq) dX4_lineNow_98
        · -- 67 -> 70
          refine ii_const hx hb dX4_lineNow_70 ?_
          have he9 : 2 = (lnV (T 5) ((T 0) 10) ((T 0) 11) ((T 0) 12)) := by unfold lnV; repeat (first | rw [if_pos ⟨by assumption, by assumption⟩] | rw [if_pos (by assumption)] | rw [if_neg (fun h => absurd h.1 (by assumption))] | rw [if_neg (fun h => absurd h.2 (by assumption))] | rw [if_neg (by assumption)])
          exact W.iret hx hb hr (fun t ht hW9 => ⟨_, rfl, congrArg iI he9, ht⟩) (fun q hq => by cases hq) dX4_lineNow_71
      · -- 49 -> 52
        refine ii_const hx hb dX4_lineNow_52 ?_
        have he9 : 1 = (lnV (T 5) ((T 0) 10) ((T 0) 11) ((T 0) 12)) := by unfold lnV; repeat (first | rw [if_pos ⟨by assumption, by assumption⟩] | rw [if_pos (by assumption)] | rw [if_neg (fun h => absurd h.1 (by assumption))] | rw [if_neg (fun h => absurd h.2 (by assumption))] | rw [if_neg (by assumption)])
        exact W.iret hx hb hr (fun t ht hW9 => ⟨_, rfl, congrArg iI he9, ht⟩) (fun q hq => by cases hq) dX4_lineNow_53
  · -- 13 -> 16
    refine lv_aload_n hx hb dX4_lineNow_16 rfl (lv_at hl 0 rfl) ?_
    refine ii_bipush hx hb dX4_lineNow_17 (by decide) ?_
    refine cqI (va_runV (As := [.int (iI 110)]) (rest := []) ⟨hx, hb, hml, hown, hts⟩ (mX4_endsIn Z K T ((T 0) 10) ((T 0) 11) ((T 0) 12) rfl rfl rfl (by omega) (T 5) rfl ht 110 (by omega)) (cwV 1 hts (lw_V q1111 q1113 qs40 q83 q1114) rfl rfl rfl (by decide +kernel) ⟨Nat.le_of_ble_eq_true rfl, Nat.le_of_ble_eq_true rfl⟩) (pvR hB (OBJ.recv Z hB hW.obj (q := (RX4, TX4, 29)) rfl) hW) rfl rfl hl.1 rfl (lv_room (Nat.le_of_ble_eq_true rfl)) dX4_lineNow_19 ⟨Nat.zero_le _, Nat.zero_le _⟩) ?_
    refine bb_if_eq (P := byA (T 5) ((T 0) 10) (((T 0) 12) + 4) = 110) (tgt := 27) hx hb dX4_lineNow_22 (by decide) (fun c_42 => ?_) (fun c_42 => ?_)
    · -- 22 -> 27
      refine lv_aload_n hx hb dX4_lineNow_27 rfl (lv_at hl 0 rfl) ?_
      refine ii_const hx hb dX4_lineNow_28 ?_
      refine ii_bipush hx hb dX4_lineNow_29 (by decide) ?_
      refine ii_bipush hx hb dX4_lineNow_31 (by decide) ?_
      refine ii_bipush hx hb dX4_lineNow_33 (by decide) ?_
      refine ii_bipush hx hb dX4_lineNow_35 (by decide) ?_
      refine cqI (va_runV (As := [.int (iI 5), .int (iI 112), .int (iI 114), .int (iI 111), .int (iI 117)]) (rest := []) ⟨hx, hb, hml, hown, hts⟩ (mX4_is Z K T ((T 0) 10) ((T 0) 11) ((T 0) 12) rfl rfl rfl (by omega) (T 5) rfl ht 5 (by omega) 112 (by omega) 114 (by omega) 111 (by omega) 117 (by omega)) (cwV 5 hts (lw_V q1107 q1109 qs39 q83 q1110) rfl rfl rfl (by decide +kernel) ⟨Nat.le_of_ble_eq_true rfl, Nat.le_of_ble_eq_true rfl⟩) (pvR hB (OBJ.recv Z hB hW.obj (q := (RX4, TX4, 29)) rfl) hW) rfl rfl hl.1 rfl (lv_room (Nat.le_of_ble_eq_true rfl)) dX4_lineNow_37 ⟨Nat.zero_le _, Nat.zero_le _⟩) ?_
      refine bb_if_eq (P := isW (T 5) ((T 0) 10) ((T 0) 11) ((T 0) 12) 5 112 114 111 117) (tgt := 54) hx hb dX4_lineNow_40 (by decide) (fun c_43 => ?_) (fun c_43 => ?_)
      · -- 40 -> 54
        refine lv_aload_n hx hb dX4_lineNow_54 rfl (lv_at hl 0 rfl) ?_
        refine ii_const hx hb dX4_lineNow_55 ?_
        refine ii_bipush hx hb dX4_lineNow_56 (by decide) ?_
        refine ii_bipush hx hb dX4_lineNow_58 (by decide) ?_
        refine ii_bipush hx hb dX4_lineNow_60 (by decide) ?_
        refine ii_bipush hx hb dX4_lineNow_62 (by decide) ?_
        refine cqI (va_runV (As := [.int (iI 4), .int (iI 102), .int (iI 111), .int (iI 110), .int (iI 100)]) (rest := []) ⟨hx, hb, hml, hown, hts⟩ (mX4_is Z K T ((T 0) 10) ((T 0) 11) ((T 0) 12) rfl rfl rfl (by omega) (T 5) rfl ht 4 (by omega) 102 (by omega) 111 (by omega) 110 (by omega) 100 (by omega)) (cwV 5 hts (lw_V q1107 q1109 qs39 q83 q1110) rfl rfl rfl (by decide +kernel) ⟨Nat.le_of_ble_eq_true rfl, Nat.le_of_ble_eq_true rfl⟩) (pvR hB (OBJ.recv Z hB hW.obj (q := (RX4, TX4, 29)) rfl) hW) rfl rfl hl.1 rfl (lv_room (Nat.le_of_ble_eq_true rfl)) dX4_lineNow_64 ⟨Nat.zero_le _, Nat.zero_le _⟩) ?_
        refine bb_if_eq (P := isW (T 5) ((T 0) 10) ((T 0) 11) ((T 0) 12) 4 102 111 110 100) (tgt := 72) hx hb dX4_lineNow_67 (by decide) (fun c_44 => ?_) (fun c_44 => ?_)
        · -- 67 -> 72
          refine lv_aload_n hx hb dX4_lineNow_72 rfl (lv_at hl 0 rfl) ?_
          refine ii_const hx hb dX4_lineNow_73 ?_
          refine ii_bipush hx hb dX4_lineNow_74 (by decide) ?_
          refine ii_bipush hx hb dX4_lineNow_76 (by decide) ?_
          refine ii_bipush hx hb dX4_lineNow_78 (by decide) ?_
          refine ii_bipush hx hb dX4_lineNow_80 (by decide) ?_
          refine cqI (va_runV (As := [.int (iI 5), .int (iI 119), .int (iI 105), .int (iI 100), .int (iI 111)]) (rest := []) ⟨hx, hb, hml, hown, hts⟩ (mX4_is Z K T ((T 0) 10) ((T 0) 11) ((T 0) 12) rfl rfl rfl (by omega) (T 5) rfl ht 5 (by omega) 119 (by omega) 105 (by omega) 100 (by omega) 111 (by omega)) (cwV 5 hts (lw_V q1107 q1109 qs39 q83 q1110) rfl rfl rfl (by decide +kernel) ⟨Nat.le_of_ble_eq_true rfl, Nat.le_of_ble_eq_true rfl⟩) (pvR hB (OBJ.recv Z hB hW.obj (q := (RX4, TX4, 29)) rfl) hW) rfl rfl hl.1 rfl (lv_room (Nat.le_of_ble_eq_true rfl)) dX4_lineNow_82 ⟨Nat.zero_le _, Nat.zero_le _⟩) ?_
          refine bb_if_eq (P := isW (T 5) ((T 0) 10) ((T 0) 11) ((T 0) 12) 5 119 105 100 111) (tgt := 99) hx hb dX4_lineNow_85 (by decide) (fun c_45 => ?_) (fun c_45 => ?_)
          · -- 85 -> 99
            refine lv_aload_n hx hb dX4_lineNow_99 rfl (lv_at hl 0 rfl) ?_
            refine ii_const hx hb dX4_lineNow_100 ?_
            refine ii_bipush hx hb dX4_lineNow_101 (by decide) ?_
            refine ii_bipush hx hb dX4_lineNow_103 (by decide) ?_
            refine ii_bipush hx hb dX4_lineNow_105 (by decide) ?_
            refine ii_bipush hx hb dX4_lineNow_107 (by decide) ?_
            refine cqI (va_runV (As := [.int (iI 5), .int (iI 99), .int (iI 114), .int (iI 111), .int (iI 115)]) (rest := []) ⟨hx, hb, hml, hown, hts⟩ (mX4_is Z K T ((T 0) 10) ((T 0) 11) ((T 0) 12) rfl rfl rfl (by omega) (T 5) rfl ht 5 (by omega) 99 (by omega) 114 (by omega) 111 (by omega) 115 (by omega)) (cwV 5 hts (lw_V q1107 q1109 qs39 q83 q1110) rfl rfl rfl (by decide +kernel) ⟨Nat.le_of_ble_eq_true rfl, Nat.le_of_ble_eq_true rfl⟩) (pvR hB (OBJ.recv Z hB hW.obj (q := (RX4, TX4, 29)) rfl) hW) rfl rfl hl.1 rfl (lv_room (Nat.le_of_ble_eq_true rfl)) dX4_lineNow_109 ⟨Nat.zero_le _, Nat.zero_le _⟩) ?_
            refine bb_if_eq (P := isW (T 5) ((T 0) 10) ((T 0) 11) ((T 0) 12) 5 99 114 111 115) (tgt := 126) hx hb dX4_lineNow_112 (by decide) (fun c_46 => ?_) (fun c_46 => ?_)
            · -- 112 -> 126
              refine lv_aload_n hx hb dX4_lineNow_126 rfl (lv_at hl 0 rfl) ?_
              refine ii_const hx hb dX4_lineNow_127 ?_
              refine ii_bipush hx hb dX4_lineNow_128 (by decide) ?_
              refine ii_bipush hx hb dX4_lineNow_130 (by decide) ?_
              refine ii_bipush hx hb dX4_lineNow_132 (by decide) ?_
              refine ii_bipush hx hb dX4_lineNow_134 (by decide) ?_
              refine cqI (va_runV (As := [.int (iI 4), .int (iI 114), .int (iI 111), .int (iI 112), .int (iI 101)]) (rest := []) ⟨hx, hb, hml, hown, hts⟩ (mX4_is Z K T ((T 0) 10) ((T 0) 11) ((T 0) 12) rfl rfl rfl (by omega) (T 5) rfl ht 4 (by omega) 114 (by omega) 111 (by omega) 112 (by omega) 101 (by omega)) (cwV 5 hts (lw_V q1107 q1109 qs39 q83 q1110) rfl rfl rfl (by decide +kernel) ⟨Nat.le_of_ble_eq_true rfl, Nat.le_of_ble_eq_true rfl⟩) (pvR hB (OBJ.recv Z hB hW.obj (q := (RX4, TX4, 29)) rfl) hW) rfl rfl hl.1 rfl (lv_room (Nat.le_of_ble_eq_true rfl)) dX4_lineNow_136 ⟨Nat.zero_le _, Nat.zero_le _⟩) ?_
              refine bb_if_eq (P := isW (T 5) ((T 0) 10) ((T 0) 11) ((T 0) 12) 4 114 111 112 101) (tgt := 146) hx hb dX4_lineNow_139 (by decide) (fun c_47 => ?_) (fun c_47 => ?_)
              · -- 139 -> 146
                refine lv_aload_n hx hb dX4_lineNow_146 rfl (lv_at hl 0 rfl) ?_
                refine ii_const hx hb dX4_lineNow_147 ?_
                refine ii_bipush hx hb dX4_lineNow_148 (by decide) ?_
                refine ii_bipush hx hb dX4_lineNow_150 (by decide) ?_
                refine ii_bipush hx hb dX4_lineNow_152 (by decide) ?_
                refine ii_bipush hx hb dX4_lineNow_154 (by decide) ?_
                refine cqI (va_runV (As := [.int (iI 5), .int (iI 102), .int (iI 101), .int (iI 97), .int (iI 115)]) (rest := []) ⟨hx, hb, hml, hown, hts⟩ (mX4_is Z K T ((T 0) 10) ((T 0) 11) ((T 0) 12) rfl rfl rfl (by omega) (T 5) rfl ht 5 (by omega) 102 (by omega) 101 (by omega) 97 (by omega) 115 (by omega)) (cwV 5 hts (lw_V q1107 q1109 qs39 q83 q1110) rfl rfl rfl (by decide +kernel) ⟨Nat.le_of_ble_eq_true rfl, Nat.le_of_ble_eq_true rfl⟩) (pvR hB (OBJ.recv Z hB hW.obj (q := (RX4, TX4, 29)) rfl) hW) rfl rfl hl.1 rfl (lv_room (Nat.le_of_ble_eq_true rfl)) dX4_lineNow_156 ⟨Nat.zero_le _, Nat.zero_le _⟩) ?_
                refine bb_if_eq (P := isW (T 5) ((T 0) 10) ((T 0) 11) ((T 0) 12) 5 102 101 97 115) (tgt := 176) hx hb dX4_lineNow_159 (by decide) (fun c_48 => ?_) (fun c_48 => ?_)
                · -- 159 -> 176
                  refine ii_bipush hx hb dX4_lineNow_176 (by decide) ?_
                  have he9 : (-4) = (lnV (T 5) ((T 0) 10) ((T 0) 11) ((T 0) 12)) := by unfold lnV; repeat (first | rw [if_pos ⟨by assumption, by assumption⟩] | rw [if_pos (by assumption)] | rw [if_neg (fun h => absurd h.1 (by assumption))] | rw [if_neg (fun h => absurd h.2 (by assumption))] | rw [if_neg (by assumption)])
                  exact W.iret hx hb hr (fun t ht hW9 => ⟨_, rfl, congrArg iI he9, ht⟩) (fun q hq => by cases hq) dX4_lineNow_178
                · -- 159 -> 162
                  refine lv_aload_n hx hb dX4_lineNow_162 rfl (lv_at hl 0 rfl) ?_
                  refine ii_bipush hx hb dX4_lineNow_163 (by decide) ?_
                  refine cqI (va_runV (As := [.int (iI 116)]) (rest := []) ⟨hx, hb, hml, hown, hts⟩ (mX4_endsIn Z K T ((T 0) 10) ((T 0) 11) ((T 0) 12) rfl rfl rfl (by omega) (T 5) rfl ht 116 (by omega)) (cwV 1 hts (lw_V q1111 q1113 qs40 q83 q1114) rfl rfl rfl (by decide +kernel) ⟨Nat.le_of_ble_eq_true rfl, Nat.le_of_ble_eq_true rfl⟩) (pvR hB (OBJ.recv Z hB hW.obj (q := (RX4, TX4, 29)) rfl) hW) rfl rfl hl.1 rfl (lv_room (Nat.le_of_ble_eq_true rfl)) dX4_lineNow_165 ⟨Nat.zero_le _, Nat.zero_le _⟩) ?_
                  refine bb_if_eq (P := byA (T 5) ((T 0) 10) (((T 0) 12) + 4) = 116) (tgt := 176) hx hb dX4_lineNow_168 (by decide) (fun c_49 => ?_) (fun c_49 => ?_)
                  · -- 168 -> 176
                    refine ii_bipush hx hb dX4_lineNow_176 (by decide) ?_
                    have he9 : (-4) = (lnV (T 5) ((T 0) 10) ((T 0) 11) ((T 0) 12)) := by unfold lnV; repeat (first | rw [if_pos ⟨by assumption, by assumption⟩] | rw [if_pos (by assumption)] | rw [if_neg (fun h => absurd h.1 (by assumption))] | rw [if_neg (fun h => absurd h.2 (by assumption))] | rw [if_neg (by assumption)])
                    exact W.iret hx hb hr (fun t ht hW9 => ⟨_, rfl, congrArg iI he9, ht⟩) (fun q hq => by cases hq) dX4_lineNow_178
                  · -- 168 -> 171
                    refine ii_bipush hx hb dX4_lineNow_171 (by decide) ?_
                    refine lv_goto (tgt := 178) hx hb dX4_lineNow_173 (by decide) ?_
                    have he9 : 6 = (lnV (T 5) ((T 0) 10) ((T 0) 11) ((T 0) 12)) := by unfold lnV; repeat (first | rw [if_pos ⟨by assumption, by assumption⟩] | rw [if_pos (by assumption)] | rw [if_neg (fun h => absurd h.1 (by assumption))] | rw [if_neg (fun h => absurd h.2 (by assumption))] | rw [if_neg (by assumption)])
                    exact W.iret hx hb hr (fun t ht hW9 => ⟨_, rfl, congrArg iI he9, ht⟩) (fun q hq => by cases hq) dX4_lineNow_178
              · -- 139 -> 142
                refine ii_const hx hb dX4_lineNow_142 ?_
                refine lv_goto (tgt := 178) hx hb dX4_lineNow_143 (by decide) ?_
                have he9 : 5 = (lnV (T 5) ((T 0) 10) ((T 0) 11) ((T 0) 12)) := by unfold lnV; repeat (first | rw [if_pos ⟨by assumption, by assumption⟩] | rw [if_pos (by assumption)] | rw [if_neg (fun h => absurd h.1 (by assumption))] | rw [if_neg (fun h => absurd h.2 (by assumption))] | rw [if_neg (by assumption)])
                exact W.iret hx hb hr (fun t ht hW9 => ⟨_, rfl, congrArg iI he9, ht⟩) (fun q hq => by cases hq) dX4_lineNow_178
            · -- 112 -> 115
              refine lv_aload_n hx hb dX4_lineNow_115 rfl (lv_at hl 0 rfl) ?_
              refine ii_bipush hx hb dX4_lineNow_116 (by decide) ?_
              refine cqI (va_runV (As := [.int (iI 115)]) (rest := []) ⟨hx, hb, hml, hown, hts⟩ (mX4_endsIn Z K T ((T 0) 10) ((T 0) 11) ((T 0) 12) rfl rfl rfl (by omega) (T 5) rfl ht 115 (by omega)) (cwV 1 hts (lw_V q1111 q1113 qs40 q83 q1114) rfl rfl rfl (by decide +kernel) ⟨Nat.le_of_ble_eq_true rfl, Nat.le_of_ble_eq_true rfl⟩) (pvR hB (OBJ.recv Z hB hW.obj (q := (RX4, TX4, 29)) rfl) hW) rfl rfl hl.1 rfl (lv_room (Nat.le_of_ble_eq_true rfl)) dX4_lineNow_118 ⟨Nat.zero_le _, Nat.zero_le _⟩) ?_
              refine bb_if_eq (P := byA (T 5) ((T 0) 10) (((T 0) 12) + 4) = 115) (tgt := 126) hx hb dX4_lineNow_121 (by decide) (fun c_50 => ?_) (fun c_50 => ?_)
              · -- 121 -> 126
                refine lv_aload_n hx hb dX4_lineNow_126 rfl (lv_at hl 0 rfl) ?_
                refine ii_const hx hb dX4_lineNow_127 ?_
                refine ii_bipush hx hb dX4_lineNow_128 (by decide) ?_
                refine ii_bipush hx hb dX4_lineNow_130 (by decide) ?_
                refine ii_bipush hx hb dX4_lineNow_132 (by decide) ?_
                refine ii_bipush hx hb dX4_lineNow_134 (by decide) ?_
                refine cqI (va_runV (As := [.int (iI 4), .int (iI 114), .int (iI 111), .int (iI 112), .int (iI 101)]) (rest := []) ⟨hx, hb, hml, hown, hts⟩ (mX4_is Z K T ((T 0) 10) ((T 0) 11) ((T 0) 12) rfl rfl rfl (by omega) (T 5) rfl ht 4 (by omega) 114 (by omega) 111 (by omega) 112 (by omega) 101 (by omega)) (cwV 5 hts (lw_V q1107 q1109 qs39 q83 q1110) rfl rfl rfl (by decide +kernel) ⟨Nat.le_of_ble_eq_true rfl, Nat.le_of_ble_eq_true rfl⟩) (pvR hB (OBJ.recv Z hB hW.obj (q := (RX4, TX4, 29)) rfl) hW) rfl rfl hl.1 rfl (lv_room (Nat.le_of_ble_eq_true rfl)) dX4_lineNow_136 ⟨Nat.zero_le _, Nat.zero_le _⟩) ?_
                refine bb_if_eq (P := isW (T 5) ((T 0) 10) ((T 0) 11) ((T 0) 12) 4 114 111 112 101) (tgt := 146) hx hb dX4_lineNow_139 (by decide) (fun c_51 => ?_) (fun c_51 => ?_)
                · -- 139 -> 146
                  refine lv_aload_n hx hb dX4_lineNow_146 rfl (lv_at hl 0 rfl) ?_
                  refine ii_const hx hb dX4_lineNow_147 ?_
                  refine ii_bipush hx hb dX4_lineNow_148 (by decide) ?_
                  refine ii_bipush hx hb dX4_lineNow_150 (by decide) ?_
                  refine ii_bipush hx hb dX4_lineNow_152 (by decide) ?_
                  refine ii_bipush hx hb dX4_lineNow_154 (by decide) ?_
                  refine cqI (va_runV (As := [.int (iI 5), .int (iI 102), .int (iI 101), .int (iI 97), .int (iI 115)]) (rest := []) ⟨hx, hb, hml, hown, hts⟩ (mX4_is Z K T ((T 0) 10) ((T 0) 11) ((T 0) 12) rfl rfl rfl (by omega) (T 5) rfl ht 5 (by omega) 102 (by omega) 101 (by omega) 97 (by omega) 115 (by omega)) (cwV 5 hts (lw_V q1107 q1109 qs39 q83 q1110) rfl rfl rfl (by decide +kernel) ⟨Nat.le_of_ble_eq_true rfl, Nat.le_of_ble_eq_true rfl⟩) (pvR hB (OBJ.recv Z hB hW.obj (q := (RX4, TX4, 29)) rfl) hW) rfl rfl hl.1 rfl (lv_room (Nat.le_of_ble_eq_true rfl)) dX4_lineNow_156 ⟨Nat.zero_le _, Nat.zero_le _⟩) ?_
                  refine bb_if_eq (P := isW (T 5) ((T 0) 10) ((T 0) 11) ((T 0) 12) 5 102 101 97 115) (tgt := 176) hx hb dX4_lineNow_159 (by decide) (fun c_52 => ?_) (fun c_52 => ?_)
                  · -- 159 -> 176
                    refine ii_bipush hx hb dX4_lineNow_176 (by decide) ?_
                    have he9 : (-4) = (lnV (T 5) ((T 0) 10) ((T 0) 11) ((T 0) 12)) := by unfold lnV; repeat (first | rw [if_pos ⟨by assumption, by assumption⟩] | rw [if_pos (by assumption)] | rw [if_neg (fun h => absurd h.1 (by assumption))] | rw [if_neg (fun h => absurd h.2 (by assumption))] | rw [if_neg (by assumption)])
                    exact W.iret hx hb hr (fun t ht hW9 => ⟨_, rfl, congrArg iI he9, ht⟩) (fun q hq => by cases hq) dX4_lineNow_178
                  · -- 159 -> 162
                    refine lv_aload_n hx hb dX4_lineNow_162 rfl (lv_at hl 0 rfl) ?_
                    refine ii_bipush hx hb dX4_lineNow_163 (by decide) ?_
                    refine cqI (va_runV (As := [.int (iI 116)]) (rest := []) ⟨hx, hb, hml, hown, hts⟩ (mX4_endsIn Z K T ((T 0) 10) ((T 0) 11) ((T 0) 12) rfl rfl rfl (by omega) (T 5) rfl ht 116 (by omega)) (cwV 1 hts (lw_V q1111 q1113 qs40 q83 q1114) rfl rfl rfl (by decide +kernel) ⟨Nat.le_of_ble_eq_true rfl, Nat.le_of_ble_eq_true rfl⟩) (pvR hB (OBJ.recv Z hB hW.obj (q := (RX4, TX4, 29)) rfl) hW) rfl rfl hl.1 rfl (lv_room (Nat.le_of_ble_eq_true rfl)) dX4_lineNow_165 ⟨Nat.zero_le _, Nat.zero_le _⟩) ?_
                    refine bb_if_eq (P := byA (T 5) ((T 0) 10) (((T 0) 12) + 4) = 116) (tgt := 176) hx hb dX4_lineNow_168 (by decide) (fun c_53 => ?_) (fun c_53 => ?_)
                    · -- 168 -> 176
                      refine ii_bipush hx hb dX4_lineNow_176 (by decide) ?_
                      have he9 : (-4) = (lnV (T 5) ((T 0) 10) ((T 0) 11) ((T 0) 12)) := by unfold lnV; repeat (first | rw [if_pos ⟨by assumption, by assumption⟩] | rw [if_pos (by assumption)] | rw [if_neg (fun h => absurd h.1 (by assumption))] | rw [if_neg (fun h => absurd h.2 (by assumption))] | rw [if_neg (by assumption)])
                      exact W.iret hx hb hr (fun t ht hW9 => ⟨_, rfl, congrArg iI he9, ht⟩) (fun q hq => by cases hq) dX4_lineNow_178
                    · -- 168 -> 171
                      refine ii_bipush hx hb dX4_lineNow_171 (by decide) ?_
                      refine lv_goto (tgt := 178) hx hb dX4_lineNow_173 (by decide) ?_
                      have he9 : 6 = (lnV (T 5) ((T 0) 10) ((T 0) 11) ((T 0) 12)) := by unfold lnV; repeat (first | rw [if_pos ⟨by assumption, by assumption⟩] | rw [if_pos (by assumption)] | rw [if_neg (fun h => absurd h.1 (by assumption))] | rw [if_neg (fun h => absurd h.2 (by assumption))] | rw [if_neg (by assumption)])
                      exact W.iret hx hb hr (fun t ht hW9 => ⟨_, rfl, congrArg iI he9, ht⟩) (fun q hq => by cases hq) dX4_lineNow_178
                · -- 139 -> 142
                  refine ii_const hx hb dX4_lineNow_142 ?_
                  refine lv_goto (tgt := 178) hx hb dX4_lineNow_143 (by decide) ?_
                  have he9 : 5 = (lnV (T 5) ((T 0) 10) ((T 0) 11) ((T 0) 12)) := by unfold lnV; repeat (first | rw [if_pos ⟨by assumption, by assumption⟩] | rw [if_pos (by assumption)] | rw [if_neg (fun h => absurd h.1 (by assumption))] | rw [if_neg (fun h => absurd h.2 (by assumption))] | rw [if_neg (by assumption)])
                  exact W.iret hx hb hr (fun t ht hW9 => ⟨_, rfl, congrArg iI he9, ht⟩) (fun q hq => by cases hq) dX4_lineNow_178
              · -- 121 -> 124
                refine ii_const hx hb dX4_lineNow_124 ?_
                have he9 : 4 = (lnV (T 5) ((T 0) 10) ((T 0) 11) ((T 0) 12)) := by unfold lnV; repeat (first | rw [if_pos ⟨by assumption, by assumption⟩] | rw [if_pos (by assumption)] | rw [if_neg (fun h => absurd h.1 (by assumption))] | rw [if_neg (fun h => absurd h.2 (by assumption))] | rw [if_neg (by assumption)])
                exact W.iret hx hb hr (fun t ht hW9 => ⟨_, rfl, congrArg iI he9, ht⟩) (fun q hq => by cases hq) dX4_lineNow_125
          · -- 85 -> 88
            refine lv_aload_n hx hb dX4_lineNow_88 rfl (lv_at hl 0 rfl) ?_
            refine ii_bipush hx hb dX4_lineNow_89 (by decide) ?_
            refine cqI (va_runV (As := [.int (iI 119)]) (rest := []) ⟨hx, hb, hml, hown, hts⟩ (mX4_endsIn Z K T ((T 0) 10) ((T 0) 11) ((T 0) 12) rfl rfl rfl (by omega) (T 5) rfl ht 119 (by omega)) (cwV 1 hts (lw_V q1111 q1113 qs40 q83 q1114) rfl rfl rfl (by decide +kernel) ⟨Nat.le_of_ble_eq_true rfl, Nat.le_of_ble_eq_true rfl⟩) (pvR hB (OBJ.recv Z hB hW.obj (q := (RX4, TX4, 29)) rfl) hW) rfl rfl hl.1 rfl (lv_room (Nat.le_of_ble_eq_true rfl)) dX4_lineNow_91 ⟨Nat.zero_le _, Nat.zero_le _⟩) ?_
            refine bb_if_eq (P := byA (T 5) ((T 0) 10) (((T 0) 12) + 4) = 119) (tgt := 99) hx hb dX4_lineNow_94 (by decide) (fun c_54 => ?_) (fun c_54 => ?_)
            · -- 94 -> 99
              refine lv_aload_n hx hb dX4_lineNow_99 rfl (lv_at hl 0 rfl) ?_
              refine ii_const hx hb dX4_lineNow_100 ?_
              refine ii_bipush hx hb dX4_lineNow_101 (by decide) ?_
              refine ii_bipush hx hb dX4_lineNow_103 (by decide) ?_
              refine ii_bipush hx hb dX4_lineNow_105 (by decide) ?_
              refine ii_bipush hx hb dX4_lineNow_107 (by decide) ?_
              refine cqI (va_runV (As := [.int (iI 5), .int (iI 99), .int (iI 114), .int (iI 111), .int (iI 115)]) (rest := []) ⟨hx, hb, hml, hown, hts⟩ (mX4_is Z K T ((T 0) 10) ((T 0) 11) ((T 0) 12) rfl rfl rfl (by omega) (T 5) rfl ht 5 (by omega) 99 (by omega) 114 (by omega) 111 (by omega) 115 (by omega)) (cwV 5 hts (lw_V q1107 q1109 qs39 q83 q1110) rfl rfl rfl (by decide +kernel) ⟨Nat.le_of_ble_eq_true rfl, Nat.le_of_ble_eq_true rfl⟩) (pvR hB (OBJ.recv Z hB hW.obj (q := (RX4, TX4, 29)) rfl) hW) rfl rfl hl.1 rfl (lv_room (Nat.le_of_ble_eq_true rfl)) dX4_lineNow_109 ⟨Nat.zero_le _, Nat.zero_le _⟩) ?_
              refine bb_if_eq (P := isW (T 5) ((T 0) 10) ((T 0) 11) ((T 0) 12) 5 99 114 111 115) (tgt := 126) hx hb dX4_lineNow_112 (by decide) (fun c_55 => ?_) (fun c_55 => ?_)
              · -- 112 -> 126
                refine lv_aload_n hx hb dX4_lineNow_126 rfl (lv_at hl 0 rfl) ?_
                refine ii_const hx hb dX4_lineNow_127 ?_
                refine ii_bipush hx hb dX4_lineNow_128 (by decide) ?_
                refine ii_bipush hx hb dX4_lineNow_130 (by decide) ?_
                refine ii_bipush hx hb dX4_lineNow_132 (by decide) ?_
                refine ii_bipush hx hb dX4_lineNow_134 (by decide) ?_
                refine cqI (va_runV (As := [.int (iI 4), .int (iI 114), .int (iI 111), .int (iI 112), .int (iI 101)]) (rest := []) ⟨hx, hb, hml, hown, hts⟩ (mX4_is Z K T ((T 0) 10) ((T 0) 11) ((T 0) 12) rfl rfl rfl (by omega) (T 5) rfl ht 4 (by omega) 114 (by omega) 111 (by omega) 112 (by omega) 101 (by omega)) (cwV 5 hts (lw_V q1107 q1109 qs39 q83 q1110) rfl rfl rfl (by decide +kernel) ⟨Nat.le_of_ble_eq_true rfl, Nat.le_of_ble_eq_true rfl⟩) (pvR hB (OBJ.recv Z hB hW.obj (q := (RX4, TX4, 29)) rfl) hW) rfl rfl hl.1 rfl (lv_room (Nat.le_of_ble_eq_true rfl)) dX4_lineNow_136 ⟨Nat.zero_le _, Nat.zero_le _⟩) ?_
                refine bb_if_eq (P := isW (T 5) ((T 0) 10) ((T 0) 11) ((T 0) 12) 4 114 111 112 101) (tgt := 146) hx hb dX4_lineNow_139 (by decide) (fun c_56 => ?_) (fun c_56 => ?_)
                · -- 139 -> 146
                  refine lv_aload_n hx hb dX4_lineNow_146 rfl (lv_at hl 0 rfl) ?_
                  refine ii_const hx hb dX4_lineNow_147 ?_
                  refine ii_bipush hx hb dX4_lineNow_148 (by decide) ?_
                  refine ii_bipush hx hb dX4_lineNow_150 (by decide) ?_
                  refine ii_bipush hx hb dX4_lineNow_152 (by decide) ?_
                  refine ii_bipush hx hb dX4_lineNow_154 (by decide) ?_
                  refine cqI (va_runV (As := [.int (iI 5), .int (iI 102), .int (iI 101), .int (iI 97), .int (iI 115)]) (rest := []) ⟨hx, hb, hml, hown, hts⟩ (mX4_is Z K T ((T 0) 10) ((T 0) 11) ((T 0) 12) rfl rfl rfl (by omega) (T 5) rfl ht 5 (by omega) 102 (by omega) 101 (by omega) 97 (by omega) 115 (by omega)) (cwV 5 hts (lw_V q1107 q1109 qs39 q83 q1110) rfl rfl rfl (by decide +kernel) ⟨Nat.le_of_ble_eq_true rfl, Nat.le_of_ble_eq_true rfl⟩) (pvR hB (OBJ.recv Z hB hW.obj (q := (RX4, TX4, 29)) rfl) hW) rfl rfl hl.1 rfl (lv_room (Nat.le_of_ble_eq_true rfl)) dX4_lineNow_156 ⟨Nat.zero_le _, Nat.zero_le _⟩) ?_
                  refine bb_if_eq (P := isW (T 5) ((T 0) 10) ((T 0) 11) ((T 0) 12) 5 102 101 97 115) (tgt := 176) hx hb dX4_lineNow_159 (by decide) (fun c_57 => ?_) (fun c_57 => ?_)
                  · -- 159 -> 176
                    refine ii_bipush hx hb dX4_lineNow_176 (by decide) ?_
                    have he9 : (-4) = (lnV (T 5) ((T 0) 10) ((T 0) 11) ((T 0) 12)) := by unfold lnV; repeat (first | rw [if_pos ⟨by assumption, by assumption⟩] | rw [if_pos (by assumption)] | rw [if_neg (fun h => absurd h.1 (by assumption))] | rw [if_neg (fun h => absurd h.2 (by assumption))] | rw [if_neg (by assumption)])
                    exact W.iret hx hb hr (fun t ht hW9 => ⟨_, rfl, congrArg iI he9, ht⟩) (fun q hq => by cases hq) dX4_lineNow_178
                  · -- 159 -> 162
                    refine lv_aload_n hx hb dX4_lineNow_162 rfl (lv_at hl 0 rfl) ?_
                    refine ii_bipush hx hb dX4_lineNow_163 (by decide) ?_
                    refine cqI (va_runV (As := [.int (iI 116)]) (rest := []) ⟨hx, hb, hml, hown, hts⟩ (mX4_endsIn Z K T ((T 0) 10) ((T 0) 11) ((T 0) 12) rfl rfl rfl (by omega) (T 5) rfl ht 116 (by omega)) (cwV 1 hts (lw_V q1111 q1113 qs40 q83 q1114) rfl rfl rfl (by decide +kernel) ⟨Nat.le_of_ble_eq_true rfl, Nat.le_of_ble_eq_true rfl⟩) (pvR hB (OBJ.recv Z hB hW.obj (q := (RX4, TX4, 29)) rfl) hW) rfl rfl hl.1 rfl (lv_room (Nat.le_of_ble_eq_true rfl)) dX4_lineNow_165 ⟨Nat.zero_le _, Nat.zero_le _⟩) ?_
                    refine bb_if_eq (P := byA (T 5) ((T 0) 10) (((T 0) 12) + 4) = 116) (tgt := 176) hx hb dX4_lineNow_168 (by decide) (fun c_58 => ?_) (fun c_58 => ?_)
                    · -- 168 -> 176
                      refine ii_bipush hx hb dX4_lineNow_176 (by decide) ?_
                      have he9 : (-4) = (lnV (T 5) ((T 0) 10) ((T 0) 11) ((T 0) 12)) := by unfold lnV; repeat (first | rw [if_pos ⟨by assumption, by assumption⟩] | rw [if_pos (by assumption)] | rw [if_neg (fun h => absurd h.1 (by assumption))] | rw [if_neg (fun h => absurd h.2 (by assumption))] | rw [if_neg (by assumption)])
                      exact W.iret hx hb hr (fun t ht hW9 => ⟨_, rfl, congrArg iI he9, ht⟩) (fun q hq => by cases hq) dX4_lineNow_178
                    · -- 168 -> 171
                      refine ii_bipush hx hb dX4_lineNow_171 (by decide) ?_
                      refine lv_goto (tgt := 178) hx hb dX4_lineNow_173 (by decide) ?_
                      have he9 : 6 = (lnV (T 5) ((T 0) 10) ((T 0) 11) ((T 0) 12)) := by unfold lnV; repeat (first | rw [if_pos ⟨by assumption, by assumption⟩] | rw [if_pos (by assumption)] | rw [if_neg (fun h => absurd h.1 (by assumption))] | rw [if_neg (fun h => absurd h.2 (by assumption))] | rw [if_neg (by assumption)])
                      exact W.iret hx hb hr (fun t ht hW9 => ⟨_, rfl, congrArg iI he9, ht⟩) (fun q hq => by cases hq) dX4_lineNow_178
                · -- 139 -> 142
                  refine ii_const hx hb dX4_lineNow_142 ?_
                  refine lv_goto (tgt := 178) hx hb dX4_lineNow_143 (by decide) ?_
                  have he9 : 5 = (lnV (T 5) ((T 0) 10) ((T 0) 11) ((T 0) 12)) := by unfold lnV; repeat (first | rw [if_pos ⟨by assumption, by assumption⟩] | rw [if_pos (by assumption)] | rw [if_neg (fun h => absurd h.1 (by assumption))] | rw [if_neg (fun h => absurd h.2 (by assumption))] | rw [if_neg (by assumption)])
                  exact W.iret hx hb hr (fun t ht hW9 => ⟨_, rfl, congrArg iI he9, ht⟩) (fun q hq => by cases hq) dX4_lineNow_178
              · -- 112 -> 115
                refine lv_aload_n hx hb dX4_lineNow_115 rfl (lv_at hl 0 rfl) ?_
                refine ii_bipush hx hb dX4_lineNow_116 (by decide) ?_
                refine cqI (va_runV (As := [.int (iI 115)]) (rest := []) ⟨hx, hb, hml, hown, hts⟩ (mX4_endsIn Z K T ((T 0) 10) ((T 0) 11) ((T 0) 12) rfl rfl rfl (by omega) (T 5) rfl ht 115 (by omega)) (cwV 1 hts (lw_V q1111 q1113 qs40 q83 q1114) rfl rfl rfl (by decide +kernel) ⟨Nat.le_of_ble_eq_true rfl, Nat.le_of_ble_eq_true rfl⟩) (pvR hB (OBJ.recv Z hB hW.obj (q := (RX4, TX4, 29)) rfl) hW) rfl rfl hl.1 rfl (lv_room (Nat.le_of_ble_eq_true rfl)) dX4_lineNow_118 ⟨Nat.zero_le _, Nat.zero_le _⟩) ?_
                refine bb_if_eq (P := byA (T 5) ((T 0) 10) (((T 0) 12) + 4) = 115) (tgt := 126) hx hb dX4_lineNow_121 (by decide) (fun c_59 => ?_) (fun c_59 => ?_)
                · -- 121 -> 126
                  refine lv_aload_n hx hb dX4_lineNow_126 rfl (lv_at hl 0 rfl) ?_
                  refine ii_const hx hb dX4_lineNow_127 ?_
                  refine ii_bipush hx hb dX4_lineNow_128 (by decide) ?_
                  refine ii_bipush hx hb dX4_lineNow_130 (by decide) ?_
                  refine ii_bipush hx hb dX4_lineNow_132 (by decide) ?_
                  refine ii_bipush hx hb dX4_lineNow_134 (by decide) ?_
                  refine cqI (va_runV (As := [.int (iI 4), .int (iI 114), .int (iI 111), .int (iI 112), .int (iI 101)]) (rest := []) ⟨hx, hb, hml, hown, hts⟩ (mX4_is Z K T ((T 0) 10) ((T 0) 11) ((T 0) 12) rfl rfl rfl (by omega) (T 5) rfl ht 4 (by omega) 114 (by omega) 111 (by omega) 112 (by omega) 101 (by omega)) (cwV 5 hts (lw_V q1107 q1109 qs39 q83 q1110) rfl rfl rfl (by decide +kernel) ⟨Nat.le_of_ble_eq_true rfl, Nat.le_of_ble_eq_true rfl⟩) (pvR hB (OBJ.recv Z hB hW.obj (q := (RX4, TX4, 29)) rfl) hW) rfl rfl hl.1 rfl (lv_room (Nat.le_of_ble_eq_true rfl)) dX4_lineNow_136 ⟨Nat.zero_le _, Nat.zero_le _⟩) ?_
                  refine bb_if_eq (P := isW (T 5) ((T 0) 10) ((T 0) 11) ((T 0) 12) 4 114 111 112 101) (tgt := 146) hx hb dX4_lineNow_139 (by decide) (fun c_60 => ?_) (fun c_60 => ?_)
                  · -- 139 -> 146
                    refine lv_aload_n hx hb dX4_lineNow_146 rfl (lv_at hl 0 rfl) ?_
                    refine ii_const hx hb dX4_lineNow_147 ?_
                    refine ii_bipush hx hb dX4_lineNow_148 (by decide) ?_
                    refine ii_bipush hx hb dX4_lineNow_150 (by decide) ?_
                    refine ii_bipush hx hb dX4_lineNow_152 (by decide) ?_
                    refine ii_bipush hx hb dX4_lineNow_154 (by decide) ?_
                    refine cqI (va_runV (As := [.int (iI 5), .int (iI 102), .int (iI 101), .int (iI 97), .int (iI 115)]) (rest := []) ⟨hx, hb, hml, hown, hts⟩ (mX4_is Z K T ((T 0) 10) ((T 0) 11) ((T 0) 12) rfl rfl rfl (by omega) (T 5) rfl ht 5 (by omega) 102 (by omega) 101 (by omega) 97 (by omega) 115 (by omega)) (cwV 5 hts (lw_V q1107 q1109 qs39 q83 q1110) rfl rfl rfl (by decide +kernel) ⟨Nat.le_of_ble_eq_true rfl, Nat.le_of_ble_eq_true rfl⟩) (pvR hB (OBJ.recv Z hB hW.obj (q := (RX4, TX4, 29)) rfl) hW) rfl rfl hl.1 rfl (lv_room (Nat.le_of_ble_eq_true rfl)) dX4_lineNow_156 ⟨Nat.zero_le _, Nat.zero_le _⟩) ?_
                    refine bb_if_eq (P := isW (T 5) ((T 0) 10) ((T 0) 11) ((T 0) 12) 5 102 101 97 115) (tgt := 176) hx hb dX4_lineNow_159 (by decide) (fun c_61 => ?_) (fun c_61 => ?_)
                    · -- 159 -> 176
                      refine ii_bipush hx hb dX4_lineNow_176 (by decide) ?_
                      have he9 : (-4) = (lnV (T 5) ((T 0) 10) ((T 0) 11) ((T 0) 12)) := by unfold lnV; repeat (first | rw [if_pos ⟨by assumption, by assumption⟩] | rw [if_pos (by assumption)] | rw [if_neg (fun h => absurd h.1 (by assumption))] | rw [if_neg (fun h => absurd h.2 (by assumption))] | rw [if_neg (by assumption)])
                      exact W.iret hx hb hr (fun t ht hW9 => ⟨_, rfl, congrArg iI he9, ht⟩) (fun q hq => by cases hq) dX4_lineNow_178
                    · -- 159 -> 162
                      refine lv_aload_n hx hb dX4_lineNow_162 rfl (lv_at hl 0 rfl) ?_
                      refine ii_bipush hx hb dX4_lineNow_163 (by decide) ?_
                      refine cqI (va_runV (As := [.int (iI 116)]) (rest := []) ⟨hx, hb, hml, hown, hts⟩ (mX4_endsIn Z K T ((T 0) 10) ((T 0) 11) ((T 0) 12) rfl rfl rfl (by omega) (T 5) rfl ht 116 (by omega)) (cwV 1 hts (lw_V q1111 q1113 qs40 q83 q1114) rfl rfl rfl (by decide +kernel) ⟨Nat.le_of_ble_eq_true rfl, Nat.le_of_ble_eq_true rfl⟩) (pvR hB (OBJ.recv Z hB hW.obj (q := (RX4, TX4, 29)) rfl) hW) rfl rfl hl.1 rfl (lv_room (Nat.le_of_ble_eq_true rfl)) dX4_lineNow_165 ⟨Nat.zero_le _, Nat.zero_le _⟩) ?_
                      refine bb_if_eq (P := byA (T 5) ((T 0) 10) (((T 0) 12) + 4) = 116) (tgt := 176) hx hb dX4_lineNow_168 (by decide) (fun c_62 => ?_) (fun c_62 => ?_)
                      · -- 168 -> 176
                        refine ii_bipush hx hb dX4_lineNow_176 (by decide) ?_
                        have he9 : (-4) = (lnV (T 5) ((T 0) 10) ((T 0) 11) ((T 0) 12)) := by unfold lnV; repeat (first | rw [if_pos ⟨by assumption, by assumption⟩] | rw [if_pos (by assumption)] | rw [if_neg (fun h => absurd h.1 (by assumption))] | rw [if_neg (fun h => absurd h.2 (by assumption))] | rw [if_neg (by assumption)])
                        exact W.iret hx hb hr (fun t ht hW9 => ⟨_, rfl, congrArg iI he9, ht⟩) (fun q hq => by cases hq) dX4_lineNow_178
                      · -- 168 -> 171
                        refine ii_bipush hx hb dX4_lineNow_171 (by decide) ?_
                        refine lv_goto (tgt := 178) hx hb dX4_lineNow_173 (by decide) ?_
                        have he9 : 6 = (lnV (T 5) ((T 0) 10) ((T 0) 11) ((T 0) 12)) := by unfold lnV; repeat (first | rw [if_pos ⟨by assumption, by assumption⟩] | rw [if_pos (by assumption)] | rw [if_neg (fun h => absurd h.1 (by assumption))] | rw [if_neg (fun h => absurd h.2 (by assumption))] | rw [if_neg (by assumption)])
                        exact W.iret hx hb hr (fun t ht hW9 => ⟨_, rfl, congrArg iI he9, ht⟩) (fun q hq => by cases hq) dX4_lineNow_178
                  · -- 139 -> 142
                    refine ii_const hx hb dX4_lineNow_142 ?_
                    refine lv_goto (tgt := 178) hx hb dX4_lineNow_143 (by decide) ?_
                    have he9 : 5 = (lnV (T 5) ((T 0) 10) ((T 0) 11) ((T 0) 12)) := by unfold lnV; repeat (first | rw [if_pos ⟨by assumption, by assumption⟩] | rw [if_pos (by assumption)] | rw [if_neg (fun h => absurd h.1 (by assumption))] | rw [if_neg (fun h => absurd h.2 (by assumption))] | rw [if_neg (by assumption)])
                    exact W.iret hx hb hr (fun t ht hW9 => ⟨_, rfl, congrArg iI he9, ht⟩) (fun q hq => by cases hq) dX4_lineNow_178
                · -- 121 -> 124
                  refine ii_const hx hb dX4_lineNow_124 ?_
                  have he9 : 4 = (lnV (T 5) ((T 0) 10) ((T 0) 11) ((T 0) 12)) := by unfold lnV; repeat (first | rw [if_pos ⟨by assumption, by assumption⟩] | rw [if_pos (by assumption)] | rw [if_neg (fun h => absurd h.1 (by assumption))] | rw [if_neg (fun h => absurd h.2 (by assumption))] | rw [if_neg (by assumption)])
                  exact W.iret hx hb hr (fun t ht hW9 => ⟨_, rfl, congrArg iI he9, ht⟩) (fun q hq => by cases hq) dX4_lineNow_125
            · -- 94 -> 97
              refine ii_const hx hb dX4_lineNow_97 ?_
              have he9 : 3 = (lnV (T 5) ((T 0) 10) ((T 0) 11) ((T 0) 12)) := by unfold lnV; repeat (first | rw [if_pos ⟨by assumption, by assumption⟩] | rw [if_pos (by assumption)] | rw [if_neg (fun h => absurd h.1 (by assumption))] | rw [if_neg (fun h => absurd h.2 (by assumption))] | rw [if_neg (by assumption)])
              exact W.iret hx hb hr (fun t ht hW9 => ⟨_, rfl, congrArg iI he9, ht⟩) (fun q hq => by cases hq) dX4_lineNow_98
        · -- 67 -> 70
          refine ii_const hx hb dX4_lineNow_70 ?_
          have he9 : 2 = (lnV (T 5) ((T 0) 10) ((T 0) 11) ((T 0) 12)) := by unfold lnV; repeat (first | rw [if_pos ⟨by assumption, by assumption⟩] | rw [if_pos (by assumption)] | rw [if_neg (fun h => absurd h.1 (by assumption))] | rw [if_neg (fun h => absurd h.2 (by assumption))] | rw [if_neg (by assumption)])
          exact W.iret hx hb hr (fun t ht hW9 => ⟨_, rfl, congrArg iI he9, ht⟩) (fun q hq => by cases hq) dX4_lineNow_71
      · -- 40 -> 43
        refine lv_aload_n hx hb dX4_lineNow_43 rfl (lv_at hl 0 rfl) ?_
        refine ii_bipush hx hb dX4_lineNow_44 (by decide) ?_
        refine cqI (va_runV (As := [.int (iI 100)]) (rest := []) ⟨hx, hb, hml, hown, hts⟩ (mX4_endsIn Z K T ((T 0) 10) ((T 0) 11) ((T 0) 12) rfl rfl rfl (by omega) (T 5) rfl ht 100 (by omega)) (cwV 1 hts (lw_V q1111 q1113 qs40 q83 q1114) rfl rfl rfl (by decide +kernel) ⟨Nat.le_of_ble_eq_true rfl, Nat.le_of_ble_eq_true rfl⟩) (pvR hB (OBJ.recv Z hB hW.obj (q := (RX4, TX4, 29)) rfl) hW) rfl rfl hl.1 rfl (lv_room (Nat.le_of_ble_eq_true rfl)) dX4_lineNow_46 ⟨Nat.zero_le _, Nat.zero_le _⟩) ?_
        refine bb_if_eq (P := byA (T 5) ((T 0) 10) (((T 0) 12) + 4) = 100) (tgt := 54) hx hb dX4_lineNow_49 (by decide) (fun c_63 => ?_) (fun c_63 => ?_)
        · -- 49 -> 54
          refine lv_aload_n hx hb dX4_lineNow_54 rfl (lv_at hl 0 rfl) ?_
          refine ii_const hx hb dX4_lineNow_55 ?_
          refine ii_bipush hx hb dX4_lineNow_56 (by decide) ?_
          refine ii_bipush hx hb dX4_lineNow_58 (by decide) ?_
          refine ii_bipush hx hb dX4_lineNow_60 (by decide) ?_
          refine ii_bipush hx hb dX4_lineNow_62 (by decide) ?_
          refine cqI (va_runV (As := [.int (iI 4), .int (iI 102), .int (iI 111), .int (iI 110), .int (iI 100)]) (rest := []) ⟨hx, hb, hml, hown, hts⟩ (mX4_is Z K T ((T 0) 10) ((T 0) 11) ((T 0) 12) rfl rfl rfl (by omega) (T 5) rfl ht 4 (by omega) 102 (by omega) 111 (by omega) 110 (by omega) 100 (by omega)) (cwV 5 hts (lw_V q1107 q1109 qs39 q83 q1110) rfl rfl rfl (by decide +kernel) ⟨Nat.le_of_ble_eq_true rfl, Nat.le_of_ble_eq_true rfl⟩) (pvR hB (OBJ.recv Z hB hW.obj (q := (RX4, TX4, 29)) rfl) hW) rfl rfl hl.1 rfl (lv_room (Nat.le_of_ble_eq_true rfl)) dX4_lineNow_64 ⟨Nat.zero_le _, Nat.zero_le _⟩) ?_
          refine bb_if_eq (P := isW (T 5) ((T 0) 10) ((T 0) 11) ((T 0) 12) 4 102 111 110 100) (tgt := 72) hx hb dX4_lineNow_67 (by decide) (fun c_64 => ?_) (fun c_64 => ?_)
          · -- 67 -> 72
            refine lv_aload_n hx hb dX4_lineNow_72 rfl (lv_at hl 0 rfl) ?_
            refine ii_const hx hb dX4_lineNow_73 ?_
            refine ii_bipush hx hb dX4_lineNow_74 (by decide) ?_
            refine ii_bipush hx hb dX4_lineNow_76 (by decide) ?_
            refine ii_bipush hx hb dX4_lineNow_78 (by decide) ?_
            refine ii_bipush hx hb dX4_lineNow_80 (by decide) ?_
            refine cqI (va_runV (As := [.int (iI 5), .int (iI 119), .int (iI 105), .int (iI 100), .int (iI 111)]) (rest := []) ⟨hx, hb, hml, hown, hts⟩ (mX4_is Z K T ((T 0) 10) ((T 0) 11) ((T 0) 12) rfl rfl rfl (by omega) (T 5) rfl ht 5 (by omega) 119 (by omega) 105 (by omega) 100 (by omega) 111 (by omega)) (cwV 5 hts (lw_V q1107 q1109 qs39 q83 q1110) rfl rfl rfl (by decide +kernel) ⟨Nat.le_of_ble_eq_true rfl, Nat.le_of_ble_eq_true rfl⟩) (pvR hB (OBJ.recv Z hB hW.obj (q := (RX4, TX4, 29)) rfl) hW) rfl rfl hl.1 rfl (lv_room (Nat.le_of_ble_eq_true rfl)) dX4_lineNow_82 ⟨Nat.zero_le _, Nat.zero_le _⟩) ?_
            refine bb_if_eq (P := isW (T 5) ((T 0) 10) ((T 0) 11) ((T 0) 12) 5 119 105 100 111) (tgt := 99) hx hb dX4_lineNow_85 (by decide) (fun c_65 => ?_) (fun c_65 => ?_)
            · -- 85 -> 99
              refine lv_aload_n hx hb dX4_lineNow_99 rfl (lv_at hl 0 rfl) ?_
              refine ii_const hx hb dX4_lineNow_100 ?_
              refine ii_bipush hx hb dX4_lineNow_101 (by decide) ?_
              refine ii_bipush hx hb dX4_lineNow_103 (by decide) ?_
              refine ii_bipush hx hb dX4_lineNow_105 (by decide) ?_
              refine ii_bipush hx hb dX4_lineNow_107 (by decide) ?_
              refine cqI (va_runV (As := [.int (iI 5), .int (iI 99), .int (iI 114), .int (iI 111), .int (iI 115)]) (rest := []) ⟨hx, hb, hml, hown, hts⟩ (mX4_is Z K T ((T 0) 10) ((T 0) 11) ((T 0) 12) rfl rfl rfl (by omega) (T 5) rfl ht 5 (by omega) 99 (by omega) 114 (by omega) 111 (by omega) 115 (by omega)) (cwV 5 hts (lw_V q1107 q1109 qs39 q83 q1110) rfl rfl rfl (by decide +kernel) ⟨Nat.le_of_ble_eq_true rfl, Nat.le_of_ble_eq_true rfl⟩) (pvR hB (OBJ.recv Z hB hW.obj (q := (RX4, TX4, 29)) rfl) hW) rfl rfl hl.1 rfl (lv_room (Nat.le_of_ble_eq_true rfl)) dX4_lineNow_109 ⟨Nat.zero_le _, Nat.zero_le _⟩) ?_
              refine bb_if_eq (P := isW (T 5) ((T 0) 10) ((T 0) 11) ((T 0) 12) 5 99 114 111 115) (tgt := 126) hx hb dX4_lineNow_112 (by decide) (fun c_66 => ?_) (fun c_66 => ?_)
              · -- 112 -> 126
                refine lv_aload_n hx hb dX4_lineNow_126 rfl (lv_at hl 0 rfl) ?_
                refine ii_const hx hb dX4_lineNow_127 ?_
                refine ii_bipush hx hb dX4_lineNow_128 (by decide) ?_
                refine ii_bipush hx hb dX4_lineNow_130 (by decide) ?_
                refine ii_bipush hx hb dX4_lineNow_132 (by decide) ?_
                refine ii_bipush hx hb dX4_lineNow_134 (by decide) ?_
                refine cqI (va_runV (As := [.int (iI 4), .int (iI 114), .int (iI 111), .int (iI 112), .int (iI 101)]) (rest := []) ⟨hx, hb, hml, hown, hts⟩ (mX4_is Z K T ((T 0) 10) ((T 0) 11) ((T 0) 12) rfl rfl rfl (by omega) (T 5) rfl ht 4 (by omega) 114 (by omega) 111 (by omega) 112 (by omega) 101 (by omega)) (cwV 5 hts (lw_V q1107 q1109 qs39 q83 q1110) rfl rfl rfl (by decide +kernel) ⟨Nat.le_of_ble_eq_true rfl, Nat.le_of_ble_eq_true rfl⟩) (pvR hB (OBJ.recv Z hB hW.obj (q := (RX4, TX4, 29)) rfl) hW) rfl rfl hl.1 rfl (lv_room (Nat.le_of_ble_eq_true rfl)) dX4_lineNow_136 ⟨Nat.zero_le _, Nat.zero_le _⟩) ?_
                refine bb_if_eq (P := isW (T 5) ((T 0) 10) ((T 0) 11) ((T 0) 12) 4 114 111 112 101) (tgt := 146) hx hb dX4_lineNow_139 (by decide) (fun c_67 => ?_) (fun c_67 => ?_)
                · -- 139 -> 146
                  refine lv_aload_n hx hb dX4_lineNow_146 rfl (lv_at hl 0 rfl) ?_
                  refine ii_const hx hb dX4_lineNow_147 ?_
                  refine ii_bipush hx hb dX4_lineNow_148 (by decide) ?_
                  refine ii_bipush hx hb dX4_lineNow_150 (by decide) ?_
                  refine ii_bipush hx hb dX4_lineNow_152 (by decide) ?_
                  refine ii_bipush hx hb dX4_lineNow_154 (by decide) ?_
                  refine cqI (va_runV (As := [.int (iI 5), .int (iI 102), .int (iI 101), .int (iI 97), .int (iI 115)]) (rest := []) ⟨hx, hb, hml, hown, hts⟩ (mX4_is Z K T ((T 0) 10) ((T 0) 11) ((T 0) 12) rfl rfl rfl (by omega) (T 5) rfl ht 5 (by omega) 102 (by omega) 101 (by omega) 97 (by omega) 115 (by omega)) (cwV 5 hts (lw_V q1107 q1109 qs39 q83 q1110) rfl rfl rfl (by decide +kernel) ⟨Nat.le_of_ble_eq_true rfl, Nat.le_of_ble_eq_true rfl⟩) (pvR hB (OBJ.recv Z hB hW.obj (q := (RX4, TX4, 29)) rfl) hW) rfl rfl hl.1 rfl (lv_room (Nat.le_of_ble_eq_true rfl)) dX4_lineNow_156 ⟨Nat.zero_le _, Nat.zero_le _⟩) ?_
                  refine bb_if_eq (P := isW (T 5) ((T 0) 10) ((T 0) 11) ((T 0) 12) 5 102 101 97 115) (tgt := 176) hx hb dX4_lineNow_159 (by decide) (fun c_68 => ?_) (fun c_68 => ?_)
                  · -- 159 -> 176
                    refine ii_bipush hx hb dX4_lineNow_176 (by decide) ?_
                    have he9 : (-4) = (lnV (T 5) ((T 0) 10) ((T 0) 11) ((T 0) 12)) := by unfold lnV; repeat (first | rw [if_pos ⟨by assumption, by assumption⟩] | rw [if_pos (by assumption)] | rw [if_neg (fun h => absurd h.1 (by assumption))] | rw [if_neg (fun h => absurd h.2 (by assumption))] | rw [if_neg (by assumption)])
                    exact W.iret hx hb hr (fun t ht hW9 => ⟨_, rfl, congrArg iI he9, ht⟩) (fun q hq => by cases hq) dX4_lineNow_178
                  · -- 159 -> 162
                    refine lv_aload_n hx hb dX4_lineNow_162 rfl (lv_at hl 0 rfl) ?_
                    refine ii_bipush hx hb dX4_lineNow_163 (by decide) ?_
                    refine cqI (va_runV (As := [.int (iI 116)]) (rest := []) ⟨hx, hb, hml, hown, hts⟩ (mX4_endsIn Z K T ((T 0) 10) ((T 0) 11) ((T 0) 12) rfl rfl rfl (by omega) (T 5) rfl ht 116 (by omega)) (cwV 1 hts (lw_V q1111 q1113 qs40 q83 q1114) rfl rfl rfl (by decide +kernel) ⟨Nat.le_of_ble_eq_true rfl, Nat.le_of_ble_eq_true rfl⟩) (pvR hB (OBJ.recv Z hB hW.obj (q := (RX4, TX4, 29)) rfl) hW) rfl rfl hl.1 rfl (lv_room (Nat.le_of_ble_eq_true rfl)) dX4_lineNow_165 ⟨Nat.zero_le _, Nat.zero_le _⟩) ?_
                    refine bb_if_eq (P := byA (T 5) ((T 0) 10) (((T 0) 12) + 4) = 116) (tgt := 176) hx hb dX4_lineNow_168 (by decide) (fun c_69 => ?_) (fun c_69 => ?_)
                    · -- 168 -> 176
                      refine ii_bipush hx hb dX4_lineNow_176 (by decide) ?_
                      have he9 : (-4) = (lnV (T 5) ((T 0) 10) ((T 0) 11) ((T 0) 12)) := by unfold lnV; repeat (first | rw [if_pos ⟨by assumption, by assumption⟩] | rw [if_pos (by assumption)] | rw [if_neg (fun h => absurd h.1 (by assumption))] | rw [if_neg (fun h => absurd h.2 (by assumption))] | rw [if_neg (by assumption)])
                      exact W.iret hx hb hr (fun t ht hW9 => ⟨_, rfl, congrArg iI he9, ht⟩) (fun q hq => by cases hq) dX4_lineNow_178
                    · -- 168 -> 171
                      refine ii_bipush hx hb dX4_lineNow_171 (by decide) ?_
                      refine lv_goto (tgt := 178) hx hb dX4_lineNow_173 (by decide) ?_
                      have he9 : 6 = (lnV (T 5) ((T 0) 10) ((T 0) 11) ((T 0) 12)) := by unfold lnV; repeat (first | rw [if_pos ⟨by assumption, by assumption⟩] | rw [if_pos (by assumption)] | rw [if_neg (fun h => absurd h.1 (by assumption))] | rw [if_neg (fun h => absurd h.2 (by assumption))] | rw [if_neg (by assumption)])
                      exact W.iret hx hb hr (fun t ht hW9 => ⟨_, rfl, congrArg iI he9, ht⟩) (fun q hq => by cases hq) dX4_lineNow_178
                · -- 139 -> 142
                  refine ii_const hx hb dX4_lineNow_142 ?_
                  refine lv_goto (tgt := 178) hx hb dX4_lineNow_143 (by decide) ?_
                  have he9 : 5 = (lnV (T 5) ((T 0) 10) ((T 0) 11) ((T 0) 12)) := by unfold lnV; repeat (first | rw [if_pos ⟨by assumption, by assumption⟩] | rw [if_pos (by assumption)] | rw [if_neg (fun h => absurd h.1 (by assumption))] | rw [if_neg (fun h => absurd h.2 (by assumption))] | rw [if_neg (by assumption)])
                  exact W.iret hx hb hr (fun t ht hW9 => ⟨_, rfl, congrArg iI he9, ht⟩) (fun q hq => by cases hq) dX4_lineNow_178
              · -- 112 -> 115
                refine lv_aload_n hx hb dX4_lineNow_115 rfl (lv_at hl 0 rfl) ?_
                refine ii_bipush hx hb dX4_lineNow_116 (by decide) ?_
                refine cqI (va_runV (As := [.int (iI 115)]) (rest := []) ⟨hx, hb, hml, hown, hts⟩ (mX4_endsIn Z K T ((T 0) 10) ((T 0) 11) ((T 0) 12) rfl rfl rfl (by omega) (T 5) rfl ht 115 (by omega)) (cwV 1 hts (lw_V q1111 q1113 qs40 q83 q1114) rfl rfl rfl (by decide +kernel) ⟨Nat.le_of_ble_eq_true rfl, Nat.le_of_ble_eq_true rfl⟩) (pvR hB (OBJ.recv Z hB hW.obj (q := (RX4, TX4, 29)) rfl) hW) rfl rfl hl.1 rfl (lv_room (Nat.le_of_ble_eq_true rfl)) dX4_lineNow_118 ⟨Nat.zero_le _, Nat.zero_le _⟩) ?_
                refine bb_if_eq (P := byA (T 5) ((T 0) 10) (((T 0) 12) + 4) = 115) (tgt := 126) hx hb dX4_lineNow_121 (by decide) (fun c_70 => ?_) (fun c_70 => ?_)
                · -- 121 -> 126
                  refine lv_aload_n hx hb dX4_lineNow_126 rfl (lv_at hl 0 rfl) ?_
                  refine ii_const hx hb dX4_lineNow_127 ?_
                  refine ii_bipush hx hb dX4_lineNow_128 (by decide) ?_
                  refine ii_bipush hx hb dX4_lineNow_130 (by decide) ?_
                  refine ii_bipush hx hb dX4_lineNow_132 (by decide) ?_
                  refine ii_bipush hx hb dX4_lineNow_134 (by decide) ?_
                  refine cqI (va_runV (As := [.int (iI 4), .int (iI 114), .int (iI 111), .int (iI 112), .int (iI 101)]) (rest := []) ⟨hx, hb, hml, hown, hts⟩ (mX4_is Z K T ((T 0) 10) ((T 0) 11) ((T 0) 12) rfl rfl rfl (by omega) (T 5) rfl ht 4 (by omega) 114 (by omega) 111 (by omega) 112 (by omega) 101 (by omega)) (cwV 5 hts (lw_V q1107 q1109 qs39 q83 q1110) rfl rfl rfl (by decide +kernel) ⟨Nat.le_of_ble_eq_true rfl, Nat.le_of_ble_eq_true rfl⟩) (pvR hB (OBJ.recv Z hB hW.obj (q := (RX4, TX4, 29)) rfl) hW) rfl rfl hl.1 rfl (lv_room (Nat.le_of_ble_eq_true rfl)) dX4_lineNow_136 ⟨Nat.zero_le _, Nat.zero_le _⟩) ?_
                  refine bb_if_eq (P := isW (T 5) ((T 0) 10) ((T 0) 11) ((T 0) 12) 4 114 111 112 101) (tgt := 146) hx hb dX4_lineNow_139 (by decide) (fun c_71 => ?_) (fun c_71 => ?_)
                  · -- 139 -> 146
                    refine lv_aload_n hx hb dX4_lineNow_146 rfl (lv_at hl 0 rfl) ?_
                    refine ii_const hx hb dX4_lineNow_147 ?_
                    refine ii_bipush hx hb dX4_lineNow_148 (by decide) ?_
                    refine ii_bipush hx hb dX4_lineNow_150 (by decide) ?_
                    refine ii_bipush hx hb dX4_lineNow_152 (by decide) ?_
                    refine ii_bipush hx hb dX4_lineNow_154 (by decide) ?_
                    refine cqI (va_runV (As := [.int (iI 5), .int (iI 102), .int (iI 101), .int (iI 97), .int (iI 115)]) (rest := []) ⟨hx, hb, hml, hown, hts⟩ (mX4_is Z K T ((T 0) 10) ((T 0) 11) ((T 0) 12) rfl rfl rfl (by omega) (T 5) rfl ht 5 (by omega) 102 (by omega) 101 (by omega) 97 (by omega) 115 (by omega)) (cwV 5 hts (lw_V q1107 q1109 qs39 q83 q1110) rfl rfl rfl (by decide +kernel) ⟨Nat.le_of_ble_eq_true rfl, Nat.le_of_ble_eq_true rfl⟩) (pvR hB (OBJ.recv Z hB hW.obj (q := (RX4, TX4, 29)) rfl) hW) rfl rfl hl.1 rfl (lv_room (Nat.le_of_ble_eq_true rfl)) dX4_lineNow_156 ⟨Nat.zero_le _, Nat.zero_le _⟩) ?_
                    refine bb_if_eq (P := isW (T 5) ((T 0) 10) ((T 0) 11) ((T 0) 12) 5 102 101 97 115) (tgt := 176) hx hb dX4_lineNow_159 (by decide) (fun c_72 => ?_) (fun c_72 => ?_)
                    · -- 159 -> 176
                      refine ii_bipush hx hb dX4_lineNow_176 (by decide) ?_
                      have he9 : (-4) = (lnV (T 5) ((T 0) 10) ((T 0) 11) ((T 0) 12)) := by unfold lnV; repeat (first | rw [if_pos ⟨by assumption, by assumption⟩] | rw [if_pos (by assumption)] | rw [if_neg (fun h => absurd h.1 (by assumption))] | rw [if_neg (fun h => absurd h.2 (by assumption))] | rw [if_neg (by assumption)])
                      exact W.iret hx hb hr (fun t ht hW9 => ⟨_, rfl, congrArg iI he9, ht⟩) (fun q hq => by cases hq) dX4_lineNow_178
                    · -- 159 -> 162
                      refine lv_aload_n hx hb dX4_lineNow_162 rfl (lv_at hl 0 rfl) ?_
                      refine ii_bipush hx hb dX4_lineNow_163 (by decide) ?_
                      refine cqI (va_runV (As := [.int (iI 116)]) (rest := []) ⟨hx, hb, hml, hown, hts⟩ (mX4_endsIn Z K T ((T 0) 10) ((T 0) 11) ((T 0) 12) rfl rfl rfl (by omega) (T 5) rfl ht 116 (by omega)) (cwV 1 hts (lw_V q1111 q1113 qs40 q83 q1114) rfl rfl rfl (by decide +kernel) ⟨Nat.le_of_ble_eq_true rfl, Nat.le_of_ble_eq_true rfl⟩) (pvR hB (OBJ.recv Z hB hW.obj (q := (RX4, TX4, 29)) rfl) hW) rfl rfl hl.1 rfl (lv_room (Nat.le_of_ble_eq_true rfl)) dX4_lineNow_165 ⟨Nat.zero_le _, Nat.zero_le _⟩) ?_
                      refine bb_if_eq (P := byA (T 5) ((T 0) 10) (((T 0) 12) + 4) = 116) (tgt := 176) hx hb dX4_lineNow_168 (by decide) (fun c_73 => ?_) (fun c_73 => ?_)
                      · -- 168 -> 176
                        refine ii_bipush hx hb dX4_lineNow_176 (by decide) ?_
                        have he9 : (-4) = (lnV (T 5) ((T 0) 10) ((T 0) 11) ((T 0) 12)) := by unfold lnV; repeat (first | rw [if_pos ⟨by assumption, by assumption⟩] | rw [if_pos (by assumption)] | rw [if_neg (fun h => absurd h.1 (by assumption))] | rw [if_neg (fun h => absurd h.2 (by assumption))] | rw [if_neg (by assumption)])
                        exact W.iret hx hb hr (fun t ht hW9 => ⟨_, rfl, congrArg iI he9, ht⟩) (fun q hq => by cases hq) dX4_lineNow_178
                      · -- 168 -> 171
                        refine ii_bipush hx hb dX4_lineNow_171 (by decide) ?_
                        refine lv_goto (tgt := 178) hx hb dX4_lineNow_173 (by decide) ?_
                        have he9 : 6 = (lnV (T 5) ((T 0) 10) ((T 0) 11) ((T 0) 12)) := by unfold lnV; repeat (first | rw [if_pos ⟨by assumption, by assumption⟩] | rw [if_pos (by assumption)] | rw [if_neg (fun h => absurd h.1 (by assumption))] | rw [if_neg (fun h => absurd h.2 (by assumption))] | rw [if_neg (by assumption)])
                        exact W.iret hx hb hr (fun t ht hW9 => ⟨_, rfl, congrArg iI he9, ht⟩) (fun q hq => by cases hq) dX4_lineNow_178
                  · -- 139 -> 142
                    refine ii_const hx hb dX4_lineNow_142 ?_
                    refine lv_goto (tgt := 178) hx hb dX4_lineNow_143 (by decide) ?_
                    have he9 : 5 = (lnV (T 5) ((T 0) 10) ((T 0) 11) ((T 0) 12)) := by unfold lnV; repeat (first | rw [if_pos ⟨by assumption, by assumption⟩] | rw [if_pos (by assumption)] | rw [if_neg (fun h => absurd h.1 (by assumption))] | rw [if_neg (fun h => absurd h.2 (by assumption))] | rw [if_neg (by assumption)])
                    exact W.iret hx hb hr (fun t ht hW9 => ⟨_, rfl, congrArg iI he9, ht⟩) (fun q hq => by cases hq) dX4_lineNow_178
                · -- 121 -> 124
                  refine ii_const hx hb dX4_lineNow_124 ?_
                  have he9 : 4 = (lnV (T 5) ((T 0) 10) ((T 0) 11) ((T 0) 12)) := by unfold lnV; repeat (first | rw [if_pos ⟨by assumption, by assumption⟩] | rw [if_pos (by assumption)] | rw [if_neg (fun h => absurd h.1 (by assumption))] | rw [if_neg (fun h => absurd h.2 (by assumption))] | rw [if_neg (by assumption)])
                  exact W.iret hx hb hr (fun t ht hW9 => ⟨_, rfl, congrArg iI he9, ht⟩) (fun q hq => by cases hq) dX4_lineNow_125
            · -- 85 -> 88
              refine lv_aload_n hx hb dX4_lineNow_88 rfl (lv_at hl 0 rfl) ?_
              refine ii_bipush hx hb dX4_lineNow_89 (by decide) ?_
              refine cqI (va_runV (As := [.int (iI 119)]) (rest := []) ⟨hx, hb, hml, hown, hts⟩ (mX4_endsIn Z K T ((T 0) 10) ((T 0) 11) ((T 0) 12) rfl rfl rfl (by omega) (T 5) rfl ht 119 (by omega)) (cwV 1 hts (lw_V q1111 q1113 qs40 q83 q1114) rfl rfl rfl (by decide +kernel) ⟨Nat.le_of_ble_eq_true rfl, Nat.le_of_ble_eq_true rfl⟩) (pvR hB (OBJ.recv Z hB hW.obj (q := (RX4, TX4, 29)) rfl) hW) rfl rfl hl.1 rfl (lv_room (Nat.le_of_ble_eq_true rfl)) dX4_lineNow_91 ⟨Nat.zero_le _, Nat.zero_le _⟩) ?_
              refine bb_if_eq (P := byA (T 5) ((T 0) 10) (((T 0) 12) + 4) = 119) (tgt := 99) hx hb dX4_lineNow_94 (by decide) (fun c_74 => ?_) (fun c_74 => ?_)
              · -- 94 -> 99
                refine lv_aload_n hx hb dX4_lineNow_99 rfl (lv_at hl 0 rfl) ?_
                refine ii_const hx hb dX4_lineNow_100 ?_
                refine ii_bipush hx hb dX4_lineNow_101 (by decide) ?_
                refine ii_bipush hx hb dX4_lineNow_103 (by decide) ?_
                refine ii_bipush hx hb dX4_lineNow_105 (by decide) ?_
                refine ii_bipush hx hb dX4_lineNow_107 (by decide) ?_
                refine cqI (va_runV (As := [.int (iI 5), .int (iI 99), .int (iI 114), .int (iI 111), .int (iI 115)]) (rest := []) ⟨hx, hb, hml, hown, hts⟩ (mX4_is Z K T ((T 0) 10) ((T 0) 11) ((T 0) 12) rfl rfl rfl (by omega) (T 5) rfl ht 5 (by omega) 99 (by omega) 114 (by omega) 111 (by omega) 115 (by omega)) (cwV 5 hts (lw_V q1107 q1109 qs39 q83 q1110) rfl rfl rfl (by decide +kernel) ⟨Nat.le_of_ble_eq_true rfl, Nat.le_of_ble_eq_true rfl⟩) (pvR hB (OBJ.recv Z hB hW.obj (q := (RX4, TX4, 29)) rfl) hW) rfl rfl hl.1 rfl (lv_room (Nat.le_of_ble_eq_true rfl)) dX4_lineNow_109 ⟨Nat.zero_le _, Nat.zero_le _⟩) ?_
                refine bb_if_eq (P := isW (T 5) ((T 0) 10) ((T 0) 11) ((T 0) 12) 5 99 114 111 115) (tgt := 126) hx hb dX4_lineNow_112 (by decide) (fun c_75 => ?_) (fun c_75 => ?_)
                · -- 112 -> 126
                  refine lv_aload_n hx hb dX4_lineNow_126 rfl (lv_at hl 0 rfl) ?_
                  refine ii_const hx hb dX4_lineNow_127 ?_
                  refine ii_bipush hx hb dX4_lineNow_128 (by decide) ?_
                  refine ii_bipush hx hb dX4_lineNow_130 (by decide) ?_
                  refine ii_bipush hx hb dX4_lineNow_132 (by decide) ?_
                  refine ii_bipush hx hb dX4_lineNow_134 (by decide) ?_
                  refine cqI (va_runV (As := [.int (iI 4), .int (iI 114), .int (iI 111), .int (iI 112), .int (iI 101)]) (rest := []) ⟨hx, hb, hml, hown, hts⟩ (mX4_is Z K T ((T 0) 10) ((T 0) 11) ((T 0) 12) rfl rfl rfl (by omega) (T 5) rfl ht 4 (by omega) 114 (by omega) 111 (by omega) 112 (by omega) 101 (by omega)) (cwV 5 hts (lw_V q1107 q1109 qs39 q83 q1110) rfl rfl rfl (by decide +kernel) ⟨Nat.le_of_ble_eq_true rfl, Nat.le_of_ble_eq_true rfl⟩) (pvR hB (OBJ.recv Z hB hW.obj (q := (RX4, TX4, 29)) rfl) hW) rfl rfl hl.1 rfl (lv_room (Nat.le_of_ble_eq_true rfl)) dX4_lineNow_136 ⟨Nat.zero_le _, Nat.zero_le _⟩) ?_
                  refine bb_if_eq (P := isW (T 5) ((T 0) 10) ((T 0) 11) ((T 0) 12) 4 114 111 112 101) (tgt := 146) hx hb dX4_lineNow_139 (by decide) (fun c_76 => ?_) (fun c_76 => ?_)
                  · -- 139 -> 146
                    refine lv_aload_n hx hb dX4_lineNow_146 rfl (lv_at hl 0 rfl) ?_
                    refine ii_const hx hb dX4_lineNow_147 ?_
                    refine ii_bipush hx hb dX4_lineNow_148 (by decide) ?_
                    refine ii_bipush hx hb dX4_lineNow_150 (by decide) ?_
                    refine ii_bipush hx hb dX4_lineNow_152 (by decide) ?_
                    refine ii_bipush hx hb dX4_lineNow_154 (by decide) ?_
                    refine cqI (va_runV (As := [.int (iI 5), .int (iI 102), .int (iI 101), .int (iI 97), .int (iI 115)]) (rest := []) ⟨hx, hb, hml, hown, hts⟩ (mX4_is Z K T ((T 0) 10) ((T 0) 11) ((T 0) 12) rfl rfl rfl (by omega) (T 5) rfl ht 5 (by omega) 102 (by omega) 101 (by omega) 97 (by omega) 115 (by omega)) (cwV 5 hts (lw_V q1107 q1109 qs39 q83 q1110) rfl rfl rfl (by decide +kernel) ⟨Nat.le_of_ble_eq_true rfl, Nat.le_of_ble_eq_true rfl⟩) (pvR hB (OBJ.recv Z hB hW.obj (q := (RX4, TX4, 29)) rfl) hW) rfl rfl hl.1 rfl (lv_room (Nat.le_of_ble_eq_true rfl)) dX4_lineNow_156 ⟨Nat.zero_le _, Nat.zero_le _⟩) ?_
                    refine bb_if_eq (P := isW (T 5) ((T 0) 10) ((T 0) 11) ((T 0) 12) 5 102 101 97 115) (tgt := 176) hx hb dX4_lineNow_159 (by decide) (fun c_77 => ?_) (fun c_77 => ?_)
                    · -- 159 -> 176
                      refine ii_bipush hx hb dX4_lineNow_176 (by decide) ?_
                      have he9 : (-4) = (lnV (T 5) ((T 0) 10) ((T 0) 11) ((T 0) 12)) := by unfold lnV; repeat (first | rw [if_pos ⟨by assumption, by assumption⟩] | rw [if_pos (by assumption)] | rw [if_neg (fun h => absurd h.1 (by assumption))] | rw [if_neg (fun h => absurd h.2 (by assumption))] | rw [if_neg (by assumption)])
                      exact W.iret hx hb hr (fun t ht hW9 => ⟨_, rfl, congrArg iI he9, ht⟩) (fun q hq => by cases hq) dX4_lineNow_178
                    · -- 159 -> 162
                      refine lv_aload_n hx hb dX4_lineNow_162 rfl (lv_at hl 0 rfl) ?_
                      refine ii_bipush hx hb dX4_lineNow_163 (by decide) ?_
                      refine cqI (va_runV (As := [.int (iI 116)]) (rest := []) ⟨hx, hb, hml, hown, hts⟩ (mX4_endsIn Z K T ((T 0) 10) ((T 0) 11) ((T 0) 12) rfl rfl rfl (by omega) (T 5) rfl ht 116 (by omega)) (cwV 1 hts (lw_V q1111 q1113 qs40 q83 q1114) rfl rfl rfl (by decide +kernel) ⟨Nat.le_of_ble_eq_true rfl, Nat.le_of_ble_eq_true rfl⟩) (pvR hB (OBJ.recv Z hB hW.obj (q := (RX4, TX4, 29)) rfl) hW) rfl rfl hl.1 rfl (lv_room (Nat.le_of_ble_eq_true rfl)) dX4_lineNow_165 ⟨Nat.zero_le _, Nat.zero_le _⟩) ?_
                      refine bb_if_eq (P := byA (T 5) ((T 0) 10) (((T 0) 12) + 4) = 116) (tgt := 176) hx hb dX4_lineNow_168 (by decide) (fun c_78 => ?_) (fun c_78 => ?_)
                      · -- 168 -> 176
                        refine ii_bipush hx hb dX4_lineNow_176 (by decide) ?_
                        have he9 : (-4) = (lnV (T 5) ((T 0) 10) ((T 0) 11) ((T 0) 12)) := by unfold lnV; repeat (first | rw [if_pos ⟨by assumption, by assumption⟩] | rw [if_pos (by assumption)] | rw [if_neg (fun h => absurd h.1 (by assumption))] | rw [if_neg (fun h => absurd h.2 (by assumption))] | rw [if_neg (by assumption)])
                        exact W.iret hx hb hr (fun t ht hW9 => ⟨_, rfl, congrArg iI he9, ht⟩) (fun q hq => by cases hq) dX4_lineNow_178
                      · -- 168 -> 171
                        refine ii_bipush hx hb dX4_lineNow_171 (by decide) ?_
                        refine lv_goto (tgt := 178) hx hb dX4_lineNow_173 (by decide) ?_
                        have he9 : 6 = (lnV (T 5) ((T 0) 10) ((T 0) 11) ((T 0) 12)) := by unfold lnV; repeat (first | rw [if_pos ⟨by assumption, by assumption⟩] | rw [if_pos (by assumption)] | rw [if_neg (fun h => absurd h.1 (by assumption))] | rw [if_neg (fun h => absurd h.2 (by assumption))] | rw [if_neg (by assumption)])
                        exact W.iret hx hb hr (fun t ht hW9 => ⟨_, rfl, congrArg iI he9, ht⟩) (fun q hq => by cases hq) dX4_lineNow_178
                  · -- 139 -> 142
                    refine ii_const hx hb dX4_lineNow_142 ?_
                    refine lv_goto (tgt := 178) hx hb dX4_lineNow_143 (by decide) ?_
                    have he9 : 5 = (lnV (T 5) ((T 0) 10) ((T 0) 11) ((T 0) 12)) := by unfold lnV; repeat (first | rw [if_pos ⟨by assumption, by assumption⟩] | rw [if_pos (by assumption)] | rw [if_neg (fun h => absurd h.1 (by assumption))] | rw [if_neg (fun h => absurd h.2 (by assumption))] | rw [if_neg (by assumption)])
                    exact W.iret hx hb hr (fun t ht hW9 => ⟨_, rfl, congrArg iI he9, ht⟩) (fun q hq => by cases hq) dX4_lineNow_178
                · -- 112 -> 115
                  refine lv_aload_n hx hb dX4_lineNow_115 rfl (lv_at hl 0 rfl) ?_
                  refine ii_bipush hx hb dX4_lineNow_116 (by decide) ?_
                  refine cqI (va_runV (As := [.int (iI 115)]) (rest := []) ⟨hx, hb, hml, hown, hts⟩ (mX4_endsIn Z K T ((T 0) 10) ((T 0) 11) ((T 0) 12) rfl rfl rfl (by omega) (T 5) rfl ht 115 (by omega)) (cwV 1 hts (lw_V q1111 q1113 qs40 q83 q1114) rfl rfl rfl (by decide +kernel) ⟨Nat.le_of_ble_eq_true rfl, Nat.le_of_ble_eq_true rfl⟩) (pvR hB (OBJ.recv Z hB hW.obj (q := (RX4, TX4, 29)) rfl) hW) rfl rfl hl.1 rfl (lv_room (Nat.le_of_ble_eq_true rfl)) dX4_lineNow_118 ⟨Nat.zero_le _, Nat.zero_le _⟩) ?_
                  refine bb_if_eq (P := byA (T 5) ((T 0) 10) (((T 0) 12) + 4) = 115) (tgt := 126) hx hb dX4_lineNow_121 (by decide) (fun c_79 => ?_) (fun c_79 => ?_)
                  · -- 121 -> 126
                    refine lv_aload_n hx hb dX4_lineNow_126 rfl (lv_at hl 0 rfl) ?_
                    refine ii_const hx hb dX4_lineNow_127 ?_
                    refine ii_bipush hx hb dX4_lineNow_128 (by decide) ?_
                    refine ii_bipush hx hb dX4_lineNow_130 (by decide) ?_
                    refine ii_bipush hx hb dX4_lineNow_132 (by decide) ?_
                    refine ii_bipush hx hb dX4_lineNow_134 (by decide) ?_
                    refine cqI (va_runV (As := [.int (iI 4), .int (iI 114), .int (iI 111), .int (iI 112), .int (iI 101)]) (rest := []) ⟨hx, hb, hml, hown, hts⟩ (mX4_is Z K T ((T 0) 10) ((T 0) 11) ((T 0) 12) rfl rfl rfl (by omega) (T 5) rfl ht 4 (by omega) 114 (by omega) 111 (by omega) 112 (by omega) 101 (by omega)) (cwV 5 hts (lw_V q1107 q1109 qs39 q83 q1110) rfl rfl rfl (by decide +kernel) ⟨Nat.le_of_ble_eq_true rfl, Nat.le_of_ble_eq_true rfl⟩) (pvR hB (OBJ.recv Z hB hW.obj (q := (RX4, TX4, 29)) rfl) hW) rfl rfl hl.1 rfl (lv_room (Nat.le_of_ble_eq_true rfl)) dX4_lineNow_136 ⟨Nat.zero_le _, Nat.zero_le _⟩) ?_
                    refine bb_if_eq (P := isW (T 5) ((T 0) 10) ((T 0) 11) ((T 0) 12) 4 114 111 112 101) (tgt := 146) hx hb dX4_lineNow_139 (by decide) (fun c_80 => ?_) (fun c_80 => ?_)
                    · -- 139 -> 146
                      refine lv_aload_n hx hb dX4_lineNow_146 rfl (lv_at hl 0 rfl) ?_
                      refine ii_const hx hb dX4_lineNow_147 ?_
                      refine ii_bipush hx hb dX4_lineNow_148 (by decide) ?_
                      refine ii_bipush hx hb dX4_lineNow_150 (by decide) ?_
                      refine ii_bipush hx hb dX4_lineNow_152 (by decide) ?_
                      refine ii_bipush hx hb dX4_lineNow_154 (by decide) ?_
                      refine cqI (va_runV (As := [.int (iI 5), .int (iI 102), .int (iI 101), .int (iI 97), .int (iI 115)]) (rest := []) ⟨hx, hb, hml, hown, hts⟩ (mX4_is Z K T ((T 0) 10) ((T 0) 11) ((T 0) 12) rfl rfl rfl (by omega) (T 5) rfl ht 5 (by omega) 102 (by omega) 101 (by omega) 97 (by omega) 115 (by omega)) (cwV 5 hts (lw_V q1107 q1109 qs39 q83 q1110) rfl rfl rfl (by decide +kernel) ⟨Nat.le_of_ble_eq_true rfl, Nat.le_of_ble_eq_true rfl⟩) (pvR hB (OBJ.recv Z hB hW.obj (q := (RX4, TX4, 29)) rfl) hW) rfl rfl hl.1 rfl (lv_room (Nat.le_of_ble_eq_true rfl)) dX4_lineNow_156 ⟨Nat.zero_le _, Nat.zero_le _⟩) ?_
                      refine bb_if_eq (P := isW (T 5) ((T 0) 10) ((T 0) 11) ((T 0) 12) 5 102 101 97 115) (tgt := 176) hx hb dX4_lineNow_159 (by decide) (fun c_81 => ?_) (fun c_81 => ?_)
                      · -- 159 -> 176
                        refine ii_bipush hx hb dX4_lineNow_176 (by decide) ?_
                        have he9 : (-4) = (lnV (T 5) ((T 0) 10) ((T 0) 11) ((T 0) 12)) := by unfold lnV; repeat (first | rw [if_pos ⟨by assumption, by assumption⟩] | rw [if_pos (by assumption)] | rw [if_neg (fun h => absurd h.1 (by assumption))] | rw [if_neg (fun h => absurd h.2 (by assumption))] | rw [if_neg (by assumption)])
                        exact W.iret hx hb hr (fun t ht hW9 => ⟨_, rfl, congrArg iI he9, ht⟩) (fun q hq => by cases hq) dX4_lineNow_178
                      · -- 159 -> 162
                        refine lv_aload_n hx hb dX4_lineNow_162 rfl (lv_at hl 0 rfl) ?_
                        refine ii_bipush hx hb dX4_lineNow_163 (by decide) ?_
                        refine cqI (va_runV (As := [.int (iI 116)]) (rest := []) ⟨hx, hb, hml, hown, hts⟩ (mX4_endsIn Z K T ((T 0) 10) ((T 0) 11) ((T 0) 12) rfl rfl rfl (by omega) (T 5) rfl ht 116 (by omega)) (cwV 1 hts (lw_V q1111 q1113 qs40 q83 q1114) rfl rfl rfl (by decide +kernel) ⟨Nat.le_of_ble_eq_true rfl, Nat.le_of_ble_eq_true rfl⟩) (pvR hB (OBJ.recv Z hB hW.obj (q := (RX4, TX4, 29)) rfl) hW) rfl rfl hl.1 rfl (lv_room (Nat.le_of_ble_eq_true rfl)) dX4_lineNow_165 ⟨Nat.zero_le _, Nat.zero_le _⟩) ?_
                        refine bb_if_eq (P := byA (T 5) ((T 0) 10) (((T 0) 12) + 4) = 116) (tgt := 176) hx hb dX4_lineNow_168 (by decide) (fun c_82 => ?_) (fun c_82 => ?_)
                        · -- 168 -> 176
                          refine ii_bipush hx hb dX4_lineNow_176 (by decide) ?_
                          have he9 : (-4) = (lnV (T 5) ((T 0) 10) ((T 0) 11) ((T 0) 12)) := by unfold lnV; repeat (first | rw [if_pos ⟨by assumption, by assumption⟩] | rw [if_pos (by assumption)] | rw [if_neg (fun h => absurd h.1 (by assumption))] | rw [if_neg (fun h => absurd h.2 (by assumption))] | rw [if_neg (by assumption)])
                          exact W.iret hx hb hr (fun t ht hW9 => ⟨_, rfl, congrArg iI he9, ht⟩) (fun q hq => by cases hq) dX4_lineNow_178
                        · -- 168 -> 171
                          refine ii_bipush hx hb dX4_lineNow_171 (by decide) ?_
                          refine lv_goto (tgt := 178) hx hb dX4_lineNow_173 (by decide) ?_
                          have he9 : 6 = (lnV (T 5) ((T 0) 10) ((T 0) 11) ((T 0) 12)) := by unfold lnV; repeat (first | rw [if_pos ⟨by assumption, by assumption⟩] | rw [if_pos (by assumption)] | rw [if_neg (fun h => absurd h.1 (by assumption))] | rw [if_neg (fun h => absurd h.2 (by assumption))] | rw [if_neg (by assumption)])
                          exact W.iret hx hb hr (fun t ht hW9 => ⟨_, rfl, congrArg iI he9, ht⟩) (fun q hq => by cases hq) dX4_lineNow_178
                    · -- 139 -> 142
                      refine ii_const hx hb dX4_lineNow_142 ?_
                      refine lv_goto (tgt := 178) hx hb dX4_lineNow_143 (by decide) ?_
                      have he9 : 5 = (lnV (T 5) ((T 0) 10) ((T 0) 11) ((T 0) 12)) := by unfold lnV; repeat (first | rw [if_pos ⟨by assumption, by assumption⟩] | rw [if_pos (by assumption)] | rw [if_neg (fun h => absurd h.1 (by assumption))] | rw [if_neg (fun h => absurd h.2 (by assumption))] | rw [if_neg (by assumption)])
                      exact W.iret hx hb hr (fun t ht hW9 => ⟨_, rfl, congrArg iI he9, ht⟩) (fun q hq => by cases hq) dX4_lineNow_178
                  · -- 121 -> 124
                    refine ii_const hx hb dX4_lineNow_124 ?_
                    have he9 : 4 = (lnV (T 5) ((T 0) 10) ((T 0) 11) ((T 0) 12)) := by unfold lnV; repeat (first | rw [if_pos ⟨by assumption, by assumption⟩] | rw [if_pos (by assumption)] | rw [if_neg (fun h => absurd h.1 (by assumption))] | rw [if_neg (fun h => absurd h.2 (by assumption))] | rw [if_neg (by assumption)])
                    exact W.iret hx hb hr (fun t ht hW9 => ⟨_, rfl, congrArg iI he9, ht⟩) (fun q hq => by cases hq) dX4_lineNow_125
              · -- 94 -> 97
                refine ii_const hx hb dX4_lineNow_97 ?_
                have he9 : 3 = (lnV (T 5) ((T 0) 10) ((T 0) 11) ((T 0) 12)) := by unfold lnV; repeat (first | rw [if_pos ⟨by assumption, by assumption⟩] | rw [if_pos (by assumption)] | rw [if_neg (fun h => absurd h.1 (by assumption))] | rw [if_neg (fun h => absurd h.2 (by assumption))] | rw [if_neg (by assumption)])
                exact W.iret hx hb hr (fun t ht hW9 => ⟨_, rfl, congrArg iI he9, ht⟩) (fun q hq => by cases hq) dX4_lineNow_98
          · -- 67 -> 70
            refine ii_const hx hb dX4_lineNow_70 ?_
            have he9 : 2 = (lnV (T 5) ((T 0) 10) ((T 0) 11) ((T 0) 12)) := by unfold lnV; repeat (first | rw [if_pos ⟨by assumption, by assumption⟩] | rw [if_pos (by assumption)] | rw [if_neg (fun h => absurd h.1 (by assumption))] | rw [if_neg (fun h => absurd h.2 (by assumption))] | rw [if_neg (by assumption)])
            exact W.iret hx hb hr (fun t ht hW9 => ⟨_, rfl, congrArg iI he9, ht⟩) (fun q hq => by cases hq) dX4_lineNow_71
        · -- 49 -> 52
          refine ii_const hx hb dX4_lineNow_52 ?_
          have he9 : 1 = (lnV (T 5) ((T 0) 10) ((T 0) 11) ((T 0) 12)) := by unfold lnV; repeat (first | rw [if_pos ⟨by assumption, by assumption⟩] | rw [if_pos (by assumption)] | rw [if_neg (fun h => absurd h.1 (by assumption))] | rw [if_neg (fun h => absurd h.2 (by assumption))] | rw [if_neg (by assumption)])
          exact W.iret hx hb hr (fun t ht hW9 => ⟨_, rfl, congrArg iI he9, ht⟩) (fun q hq => by cases hq) dX4_lineNow_53
    · -- 22 -> 25
      refine ii_const hx hb dX4_lineNow_25 ?_
      have he9 : 0 = (lnV (T 5) ((T 0) 10) ((T 0) 11) ((T 0) 12)) := by unfold lnV; repeat (first | rw [if_pos ⟨by assumption, by assumption⟩] | rw [if_pos (by assumption)] | rw [if_neg (fun h => absurd h.1 (by assumption))] | rw [if_neg (fun h => absurd h.2 (by assumption))] | rw [if_neg (by assumption)])
      exact W.iret hx hb hr (fun t ht hW9 => ⟨_, rfl, congrArg iI he9, ht⟩) (fun q hq => by cases hq) dX4_lineNow_26

set_option maxHeartbeats 1000000 in
set_option maxRecDepth 100000 in
theorem mX4_looked {l : Launch} {G : GG} {s0 : State} {b0 : Nat} (Z : ZZ l G s0 b0) (K : Nat → Nat) (hI : Own s0 K 12) (T : Sta) (P : Nat → Int) (eP : T 0 = P) (hP : PI P) (lo : Int) (hlo : inR lo) (hi : Int) (hhi : inR hi) (sz : Nat) : Met l yX4_looked (ws_ yX4_looked cX4_looked 3 (some .int)) ({ frames := 1, cells := 0, slots := 0, locals := 25 } : Room) (pcM s0 sz (MW G K T) [.ref (K 0), .int (iI lo), .int (iI hi)]) (mI (lkV P lo hi) (MW G K (up T 0 (lkP P lo hi))) (AA K 12 sz)) 0 0 (AA K 12 sz) := by
  refine Met.ofW (cc := cX4_looked) (maxL := 3) (ret := (some .int)) (by decide) rfl ?_
  intro p e s m args below meth c s₁ B hml hv
  obtain ⟨rfl, hsz, hW, hB⟩ := hv
  subst hsz
  have hx := B.exec
  have hb := B.bytes
  have hr := B.returns
  have hts := atoms_spec (ws := (ws_ yX4_looked cX4_looked 3 (some .int))) B.pre
  have hts : ∀ w ∈ lw_all, w.before _ s = true := fun w h => hts w (List.mem_cons_of_mem _ h)
  have hown : s.vm.findClass RX4 = some m.cls := findClass_of_methodNamed B.named
  have hlocks := B.notSynchronized
  have hN := AA.old hI hB
  have hS : va_S (AA K 12 s.heap.size) s.heap s.heap [] := va_S.rf
  have hl := lv_entry ([.ref (K 0), .int (iI lo), .int (iI hi)]) (n := 3) (Nat.le_of_ble_eq_true rfl)
  rw [lg_entry_eq]
  generalize (lg_sl ([.ref (K 0), .int (iI lo), .int (iI hi)]) ++ List.replicate (3 - (lg_sl ([.ref (K 0), .int (iI lo), .int (iI hi)])).length) Slot.unset).toArray = ls at hl ⊢
  have hl : lv_has ls 3 [(0, .ref (K 0)), (1, .int (iI lo)), (2, .int (iI hi))] := hl
  subst eP
  refine lv_aload_n hx hb dX4_looked_0 rfl (lv_at hl 0 rfl) ?_
  refine r_get (ci := 4) (k := 15) (v := .int (iI ((T 0) 15))) (C := RX4) (T := TX4) (N := 29) Z hB hx hb hts hown rfl in_X4 hW.obj (by decide) q993 rfl dX4_looked_1 ?_
  refine ii_if_ne (tgt := 25) hx hb dX4_looked_4 (by decide) (by omega) (fun c_1 => ?_) (fun c_1 => ?_)
  · -- 4 -> 25
    refine lv_aload_n hx hb dX4_looked_25 rfl (lv_at hl 0 rfl) ?_
    refine r_get (ci := 4) (k := 15) (v := .int (iI ((T 0) 15))) (C := RX4) (T := TX4) (N := 29) Z hB hx hb hts hown rfl in_X4 hW.obj (by decide) q993 rfl dX4_looked_26 ?_
    refine ii_if_ne (tgt := 49) hx hb dX4_looked_29 (by decide) (by omega) (fun c_2 => ?_) (fun c_2 => ?_)
    · -- 29 -> 49
      refine lv_aload_n hx hb dX4_looked_49 rfl (lv_at hl 0 rfl) ?_
      refine r_get (ci := 4) (k := 15) (v := .int (iI ((T 0) 15))) (C := RX4) (T := TX4) (N := 29) Z hB hx hb hts hown rfl in_X4 hW.obj (by decide) q993 rfl dX4_looked_50 ?_
      refine ii_if_ne (tgt := 63) hx hb dX4_looked_53 (by decide) (by omega) (fun c_3 => ?_) (fun c_3 => ?_)
      · -- 53 -> 63
        refine ii_const hx hb dX4_looked_63 ?_
        have hlk : lkP (T 0) lo hi = (T 0) := by unfold lkP; rw [ndS_st (P := T 0) (by omega), ndS_st (P := T 0) (by omega)]
        have hpw9 : (MW G K (up T 0 (lkP (T 0) lo hi))) s.heap := (by rw [hlk]; first | exact hW | (rw [show up T 0 (T 0) = T from up_id T 0]; exact hW))
        have he9 : 0 = (lkV (T 0) lo hi) := by unfold lkV; rw [hlk]; exact (if_neg (by omega)).symm
        exact W.iret hx hb hr (fun t ht hW9 => ⟨⟨_, (), rfl, congrArg iI he9, by show (MW G K (up T 0 (lkP (T 0) lo hi))) t.heap; rw [ht]; exact hpw9⟩, hS.F ht⟩) hS.2.2 dX4_looked_64
      · -- 53 -> 56
        refine lv_aload_n hx hb dX4_looked_56 rfl (lv_at hl 0 rfl) ?_
        refine r_get (ci := 4) (k := 14) (v := .int (iI ((T 0) 14))) (C := RX4) (T := TX4) (N := 29) Z hB hx hb hts hown rfl in_X4 hW.obj (by decide) q992 rfl dX4_looked_57 ?_
        refine lv_goto (tgt := 64) hx hb dX4_looked_60 (by decide) ?_
        have hlk : lkP (T 0) lo hi = (T 0) := by unfold lkP; rw [ndS_st (P := T 0) (by omega), ndS_st (P := T 0) (by omega)]
        have hpw9 : (MW G K (up T 0 (lkP (T 0) lo hi))) s.heap := (by rw [hlk]; first | exact hW | (rw [show up T 0 (T 0) = T from up_id T 0]; exact hW))
        have he9 : ((T 0) 14) = (lkV (T 0) lo hi) := by first | (rw [ndS_o (by omega) (by omega)]; unfold lkV; rw [hlk]; exact (if_pos (by omega)).symm) | (exfalso; omega)
        exact W.iret hx hb hr (fun t ht hW9 => ⟨⟨_, (), rfl, congrArg iI he9, by show (MW G K (up T 0 (lkP (T 0) lo hi))) t.heap; rw [ht]; exact hpw9⟩, hS.F ht⟩) hS.2.2 dX4_looked_64
    · -- 29 -> 32
      refine lv_aload_n hx hb dX4_looked_32 rfl (lv_at hl 0 rfl) ?_
      refine lv_aload_n hx hb dX4_looked_33 rfl (lv_at hl 0 rfl) ?_
      refine r_get (ci := 4) (k := 14) (v := .int (iI ((T 0) 14))) (C := RX4) (T := TX4) (N := 29) Z hB hx hb hts hown rfl in_X4 hW.obj (by decide) q992 rfl dX4_looked_34 ?_
      refine ii_i2l hx hb (by omega) dX4_looked_37 ?_
      refine lv_iload_n hx hb dX4_looked_38 rfl (lv_at hl 1 rfl) ?_
      refine ii_i2l hx hb (by omega) dX4_looked_39 ?_
      refine lv_iload_n hx hb dX4_looked_40 rfl (lv_at hl 2 rfl) ?_
      refine ii_i2l hx hb (by omega) dX4_looked_41 ?_
      refine cqI (va_runS (As := [.long (lI ((T 0) 14)), .long (lI lo), .long (lI hi)]) (rest := [.ref (K 0)]) ⟨hx, hb, hml, hown, hts⟩ (mX4_in Z ((T 0) 14) (by omega) lo (by omega) hi (by omega)) (va_cwS 3 hts (lw_S q1072 q1073 q83 q1074) rfl rfl rfl (by decide +kernel) ⟨Nat.le_of_ble_eq_true rfl, Nat.le_of_ble_eq_true rfl⟩) (psR (BornH.S hB hN hS) trivial) rfl rfl hl.1 rfl (lv_room (Nat.le_of_ble_eq_true rfl)) dX4_looked_42 ⟨Nat.zero_le _, Nat.zero_le _⟩) ?_
      refine ii_const hx hb dX4_looked_45 ?_
      have h15_4 : inR ((T 0) 15) := by have h9 := hP; omega
      refine cmV (va_runV (As := [.int (iI (b2 (lo ≤ ((T 0) 14) ∧ ((T 0) 14) ≤ hi))), .int (iI 3)]) (rest := []) ⟨hx, hb, hml, hown, hts⟩ (mX4_needs Z K hI T (T 0) rfl h15_4 (b2 (lo ≤ ((T 0) 14) ∧ ((T 0) 14) ≤ hi)) 3 (b2_01 _) s.heap.size) (cwV 2 hts (lw_V q1095 q1097 qs36 q83 q1098) rfl rfl rfl (by decide +kernel) ⟨Nat.le_of_ble_eq_true rfl, Nat.le_of_ble_eq_true rfl⟩) (pvM (BornH.S hB hN hS) (OBJ.recv Z hB hW.obj (q := (RX4, TX4, 29)) rfl) hW) rfl rfl hl.1 rfl (lv_room (Nat.le_of_ble_eq_true rfl)) dX4_looked_46 ⟨Nat.zero_le _, Nat.zero_le _⟩) hS (AA.le hS.1) (fun H1 locs hW1 hz1 hk1 hS => ?_)
      have hW := hW1
      clear hW1 hk1 hz1
      generalize H1 = H at hW hS ⊢
      have hf_5 := ndS_f (T 0) (b2 (lo ≤ ((T 0) 14) ∧ ((T 0) 14) ≤ hi)) 3
      have hp_6 : PI (ndS (T 0) (b2 (lo ≤ ((T 0) 14) ∧ ((T 0) 14) ≤ hi)) 3) := ndS_pi hP (by omega)
      refine lv_aload_n hx hb dX4_looked_49 rfl (lv_at hl 0 rfl) ?_
      refine r_get (ci := 4) (k := 15) (v := .int (iI ((ndS (T 0) (b2 (lo ≤ ((T 0) 14) ∧ ((T 0) 14) ≤ hi)) 3) 15))) (C := RX4) (T := TX4) (N := 29) Z hB hx hb hts hown rfl in_X4 hW.obj (by decide) q993 rfl dX4_looked_50 ?_
      refine ii_if_ne (tgt := 63) hx hb dX4_looked_53 (by decide) (by omega) (fun c_8 => ?_) (fun c_8 => ?_)
      · -- 53 -> 63
        refine ii_const hx hb dX4_looked_63 ?_
        have hlk : lkP (T 0) lo hi = (ndS (T 0) (b2 (lo ≤ ((T 0) 14) ∧ ((T 0) 14) ≤ hi)) 3) := by unfold lkP; rw [show b2 ((T 0) 13 = 2) = 1 from b2_t (by omega), ndS_1 (T 0) (by omega)]
        have hpw9 : (MW G K (up T 0 (lkP (T 0) lo hi))) H := (by rw [hlk]; first | exact hW | (rw [show up T 0 (T 0) = T from up_id T 0]; exact hW))
        have he9 : 0 = (lkV (T 0) lo hi) := by unfold lkV; rw [hlk]; exact (if_neg (by omega)).symm
        exact W.iret hx hb hr (fun t ht hW9 => ⟨⟨_, (), rfl, congrArg iI he9, by show (MW G K (up T 0 (lkP (T 0) lo hi))) t.heap; rw [ht]; exact hpw9⟩, hS.F ht⟩) hS.2.2 dX4_looked_64
      · -- 53 -> 56
        refine lv_aload_n hx hb dX4_looked_56 rfl (lv_at hl 0 rfl) ?_
        refine r_get (ci := 4) (k := 14) (v := .int (iI ((ndS (T 0) (b2 (lo ≤ ((T 0) 14) ∧ ((T 0) 14) ≤ hi)) 3) 14))) (C := RX4) (T := TX4) (N := 29) Z hB hx hb hts hown rfl in_X4 hW.obj (by decide) q992 rfl dX4_looked_57 ?_
        refine lv_goto (tgt := 64) hx hb dX4_looked_60 (by decide) ?_
        have hlk : lkP (T 0) lo hi = (ndS (T 0) (b2 (lo ≤ ((T 0) 14) ∧ ((T 0) 14) ≤ hi)) 3) := by unfold lkP; rw [show b2 ((T 0) 13 = 2) = 1 from b2_t (by omega), ndS_1 (T 0) (by omega)]
        have hpw9 : (MW G K (up T 0 (lkP (T 0) lo hi))) H := (by rw [hlk]; first | exact hW | (rw [show up T 0 (T 0) = T from up_id T 0]; exact hW))
        have he9 : ((ndS (T 0) (b2 (lo ≤ ((T 0) 14) ∧ ((T 0) 14) ≤ hi)) 3) 14) = (lkV (T 0) lo hi) := by first | (rw [ndS_o (by omega) (by omega)]; unfold lkV; rw [hlk]; exact (if_pos (by omega)).symm) | (exfalso; omega)
        exact W.iret hx hb hr (fun t ht hW9 => ⟨⟨_, (), rfl, congrArg iI he9, by show (MW G K (up T 0 (lkP (T 0) lo hi))) t.heap; rw [ht]; exact hpw9⟩, hS.F ht⟩) hS.2.2 dX4_looked_64
  · -- 4 -> 7
    refine lv_aload_n hx hb dX4_looked_7 rfl (lv_at hl 0 rfl) ?_
    refine lv_aload_n hx hb dX4_looked_8 rfl (lv_at hl 0 rfl) ?_
    refine r_get (ci := 4) (k := 13) (v := .int (iI ((T 0) 13))) (C := RX4) (T := TX4) (N := 29) Z hB hx hb hts hown rfl in_X4 hW.obj (by decide) q991 rfl dX4_looked_9 ?_
    refine ii_const hx hb dX4_looked_12 ?_
    refine ii_icmp_ne (tgt := 20) hx hb dX4_looked_13 (by decide) (by omega) (by omega) (fun c_9 => ?_) (fun c_9 => ?_)
    · -- 13 -> 20
      refine ii_const hx hb dX4_looked_20 ?_
      refine ii_const hx hb dX4_looked_21 ?_
      have h15_10 : inR ((T 0) 15) := by have h9 := hP; omega
      refine cmV (va_runV (As := [.int (iI 0), .int (iI 2)]) (rest := []) ⟨hx, hb, hml, hown, hts⟩ (mX4_needs Z K hI T (T 0) rfl h15_10 0 2 (by omega) s.heap.size) (cwV 2 hts (lw_V q1095 q1097 qs36 q83 q1098) rfl rfl rfl (by decide +kernel) ⟨Nat.le_of_ble_eq_true rfl, Nat.le_of_ble_eq_true rfl⟩) (pvM (BornH.S hB hN hS) (OBJ.recv Z hB hW.obj (q := (RX4, TX4, 29)) rfl) hW) rfl rfl hl.1 rfl (lv_room (Nat.le_of_ble_eq_true rfl)) dX4_looked_22 ⟨Nat.zero_le _, Nat.zero_le _⟩) hS (AA.le hS.1) (fun H1 locs hW1 hz1 hk1 hS => ?_)
      have hW := hW1
      clear hW1 hk1 hz1
      generalize H1 = H at hW hS ⊢
      have hf_11 := ndS_f (T 0) 0 2
      have hp_12 : PI (ndS (T 0) 0 2) := ndS_pi hP (by omega)
      refine lv_aload_n hx hb dX4_looked_25 rfl (lv_at hl 0 rfl) ?_
      refine r_get (ci := 4) (k := 15) (v := .int (iI ((ndS (T 0) 0 2) 15))) (C := RX4) (T := TX4) (N := 29) Z hB hx hb hts hown rfl in_X4 hW.obj (by decide) q993 rfl dX4_looked_26 ?_
      refine ii_if_ne (tgt := 49) hx hb dX4_looked_29 (by decide) (by omega) (fun c_14 => ?_) (fun c_14 => ?_)
      · -- 29 -> 49
        refine lv_aload_n hx hb dX4_looked_49 rfl (lv_at hl 0 rfl) ?_
        refine r_get (ci := 4) (k := 15) (v := .int (iI ((ndS (T 0) 0 2) 15))) (C := RX4) (T := TX4) (N := 29) Z hB hx hb hts hown rfl in_X4 hW.obj (by decide) q993 rfl dX4_looked_50 ?_
        refine ii_if_ne (tgt := 63) hx hb dX4_looked_53 (by decide) (by omega) (fun c_15 => ?_) (fun c_15 => ?_)
        · -- 53 -> 63
          refine ii_const hx hb dX4_looked_63 ?_
          have hlk : lkP (T 0) lo hi = (ndS (T 0) 0 2) := by unfold lkP; rw [show b2 ((T 0) 13 = 2) = 0 from b2_f (by omega), ndS_st (P := ndS (T 0) 0 2) (by omega)]
          have hpw9 : (MW G K (up T 0 (lkP (T 0) lo hi))) H := (by rw [hlk]; first | exact hW | (rw [show up T 0 (T 0) = T from up_id T 0]; exact hW))
          have he9 : 0 = (lkV (T 0) lo hi) := by unfold lkV; rw [hlk]; exact (if_neg (by omega)).symm
          exact W.iret hx hb hr (fun t ht hW9 => ⟨⟨_, (), rfl, congrArg iI he9, by show (MW G K (up T 0 (lkP (T 0) lo hi))) t.heap; rw [ht]; exact hpw9⟩, hS.F ht⟩) hS.2.2 dX4_looked_64
        · -- 53 -> 56
          refine lv_aload_n hx hb dX4_looked_56 rfl (lv_at hl 0 rfl) ?_
          refine r_get (ci := 4) (k := 14) (v := .int (iI ((ndS (T 0) 0 2) 14))) (C := RX4) (T := TX4) (N := 29) Z hB hx hb hts hown rfl in_X4 hW.obj (by decide) q992 rfl dX4_looked_57 ?_
          refine lv_goto (tgt := 64) hx hb dX4_looked_60 (by decide) ?_
          have hlk : lkP (T 0) lo hi = (ndS (T 0) 0 2) := by unfold lkP; rw [show b2 ((T 0) 13 = 2) = 0 from b2_f (by omega), ndS_st (P := ndS (T 0) 0 2) (by omega)]
          have hpw9 : (MW G K (up T 0 (lkP (T 0) lo hi))) H := (by rw [hlk]; first | exact hW | (rw [show up T 0 (T 0) = T from up_id T 0]; exact hW))
          have he9 : ((ndS (T 0) 0 2) 14) = (lkV (T 0) lo hi) := by first | (rw [ndS_o (by omega) (by omega)]; unfold lkV; rw [hlk]; exact (if_pos (by omega)).symm) | (exfalso; omega)
          exact W.iret hx hb hr (fun t ht hW9 => ⟨⟨_, (), rfl, congrArg iI he9, by show (MW G K (up T 0 (lkP (T 0) lo hi))) t.heap; rw [ht]; exact hpw9⟩, hS.F ht⟩) hS.2.2 dX4_looked_64
      · -- 29 -> 32
        refine lv_aload_n hx hb dX4_looked_32 rfl (lv_at hl 0 rfl) ?_
        refine lv_aload_n hx hb dX4_looked_33 rfl (lv_at hl 0 rfl) ?_
        refine r_get (ci := 4) (k := 14) (v := .int (iI ((ndS (T 0) 0 2) 14))) (C := RX4) (T := TX4) (N := 29) Z hB hx hb hts hown rfl in_X4 hW.obj (by decide) q992 rfl dX4_looked_34 ?_
        refine ii_i2l hx hb (by omega) dX4_looked_37 ?_
        refine lv_iload_n hx hb dX4_looked_38 rfl (lv_at hl 1 rfl) ?_
        refine ii_i2l hx hb (by omega) dX4_looked_39 ?_
        refine lv_iload_n hx hb dX4_looked_40 rfl (lv_at hl 2 rfl) ?_
        refine ii_i2l hx hb (by omega) dX4_looked_41 ?_
        refine cqI (va_runS (As := [.long (lI ((ndS (T 0) 0 2) 14)), .long (lI lo), .long (lI hi)]) (rest := [.ref (K 0)]) ⟨hx, hb, hml, hown, hts⟩ (mX4_in Z ((ndS (T 0) 0 2) 14) (by omega) lo (by omega) hi (by omega)) (va_cwS 3 hts (lw_S q1072 q1073 q83 q1074) rfl rfl rfl (by decide +kernel) ⟨Nat.le_of_ble_eq_true rfl, Nat.le_of_ble_eq_true rfl⟩) (psR (BornH.S hB hN hS) trivial) rfl rfl hl.1 rfl (lv_room (Nat.le_of_ble_eq_true rfl)) dX4_looked_42 ⟨Nat.zero_le _, Nat.zero_le _⟩) ?_
        refine ii_const hx hb dX4_looked_45 ?_
        have h15_16 : inR ((ndS (T 0) 0 2) 15) := by have h9 := hp_12; omega
        refine cmV (va_runV (As := [.int (iI (b2 (lo ≤ ((ndS (T 0) 0 2) 14) ∧ ((ndS (T 0) 0 2) 14) ≤ hi))), .int (iI 3)]) (rest := []) ⟨hx, hb, hml, hown, hts⟩ (mX4_needs Z K hI (up T 0 (ndS (T 0) 0 2)) (ndS (T 0) 0 2) rfl h15_16 (b2 (lo ≤ ((ndS (T 0) 0 2) 14) ∧ ((ndS (T 0) 0 2) 14) ≤ hi)) 3 (b2_01 _) H.size) (cwV 2 hts (lw_V q1095 q1097 qs36 q83 q1098) rfl rfl rfl (by decide +kernel) ⟨Nat.le_of_ble_eq_true rfl, Nat.le_of_ble_eq_true rfl⟩) (pvM (BornH.S hB hN hS) (OBJ.recv Z hB hW.obj (q := (RX4, TX4, 29)) rfl) hW) rfl rfl hl.1 rfl (lv_room (Nat.le_of_ble_eq_true rfl)) dX4_looked_46 ⟨Nat.zero_le _, Nat.zero_le _⟩) hS (AA.le hS.1) (fun H1 locs hW1 hz1 hk1 hS => ?_)
        have hW := hW1
        clear hW1 hk1 hz1
        generalize H1 = H at hW hS ⊢
        have hW := hW.eqS (S' := (up T 0 (ndS (ndS (T 0) 0 2) (b2 (lo ≤ ((ndS (T 0) 0 2) 14) ∧ ((ndS (T 0) 0 2) 14) ≤ hi)) 3))) (by
            funext a
            by_cases h0 : a = 0
            · subst h0; rfl
            simp only [up, if_neg h0])
        have hf_17 := ndS_f (ndS (T 0) 0 2) (b2 (lo ≤ ((ndS (T 0) 0 2) 14) ∧ ((ndS (T 0) 0 2) 14) ≤ hi)) 3
        have hp_18 : PI (ndS (ndS (T 0) 0 2) (b2 (lo ≤ ((ndS (T 0) 0 2) 14) ∧ ((ndS (T 0) 0 2) 14) ≤ hi)) 3) := ndS_pi hp_12 (by omega)
        refine lv_aload_n hx hb dX4_looked_49 rfl (lv_at hl 0 rfl) ?_
        refine r_get (ci := 4) (k := 15) (v := .int (iI ((ndS (ndS (T 0) 0 2) (b2 (lo ≤ ((ndS (T 0) 0 2) 14) ∧ ((ndS (T 0) 0 2) 14) ≤ hi)) 3) 15))) (C := RX4) (T := TX4) (N := 29) Z hB hx hb hts hown rfl in_X4 hW.obj (by decide) q993 rfl dX4_looked_50 ?_
        refine ii_if_ne (tgt := 63) hx hb dX4_looked_53 (by decide) (by omega) (fun c_20 => ?_) (fun c_20 => ?_)
        · -- 53 -> 63
          refine ii_const hx hb dX4_looked_63 ?_
          have hlk : lkP (T 0) lo hi = (ndS (ndS (T 0) 0 2) (b2 (lo ≤ ((ndS (T 0) 0 2) 14) ∧ ((ndS (T 0) 0 2) 14) ≤ hi)) 3) := by exfalso; omega
          have hpw9 : (MW G K (up T 0 (lkP (T 0) lo hi))) H := (by rw [hlk]; first | exact hW | (rw [show up T 0 (T 0) = T from up_id T 0]; exact hW))
          have he9 : 0 = (lkV (T 0) lo hi) := by unfold lkV; rw [hlk]; exact (if_neg (by omega)).symm
          exact W.iret hx hb hr (fun t ht hW9 => ⟨⟨_, (), rfl, congrArg iI he9, by show (MW G K (up T 0 (lkP (T 0) lo hi))) t.heap; rw [ht]; exact hpw9⟩, hS.F ht⟩) hS.2.2 dX4_looked_64
        · -- 53 -> 56
          refine lv_aload_n hx hb dX4_looked_56 rfl (lv_at hl 0 rfl) ?_
          refine r_get (ci := 4) (k := 14) (v := .int (iI ((ndS (ndS (T 0) 0 2) (b2 (lo ≤ ((ndS (T 0) 0 2) 14) ∧ ((ndS (T 0) 0 2) 14) ≤ hi)) 3) 14))) (C := RX4) (T := TX4) (N := 29) Z hB hx hb hts hown rfl in_X4 hW.obj (by decide) q992 rfl dX4_looked_57 ?_
          refine lv_goto (tgt := 64) hx hb dX4_looked_60 (by decide) ?_
          have hlk : lkP (T 0) lo hi = (ndS (ndS (T 0) 0 2) (b2 (lo ≤ ((ndS (T 0) 0 2) 14) ∧ ((ndS (T 0) 0 2) 14) ≤ hi)) 3) := by exfalso; omega
          have hpw9 : (MW G K (up T 0 (lkP (T 0) lo hi))) H := (by rw [hlk]; first | exact hW | (rw [show up T 0 (T 0) = T from up_id T 0]; exact hW))
          have he9 : ((ndS (ndS (T 0) 0 2) (b2 (lo ≤ ((ndS (T 0) 0 2) 14) ∧ ((ndS (T 0) 0 2) 14) ≤ hi)) 3) 14) = (lkV (T 0) lo hi) := by first | (rw [ndS_o (by omega) (by omega)]; unfold lkV; rw [hlk]; exact (if_pos (by omega)).symm) | (exfalso; omega)
          exact W.iret hx hb hr (fun t ht hW9 => ⟨⟨_, (), rfl, congrArg iI he9, by show (MW G K (up T 0 (lkP (T 0) lo hi))) t.heap; rw [ht]; exact hpw9⟩, hS.F ht⟩) hS.2.2 dX4_looked_64
    · -- 13 -> 16
      refine ii_const hx hb dX4_looked_16 ?_
      refine lv_goto (tgt := 21) hx hb dX4_looked_17 (by decide) ?_
      refine ii_const hx hb dX4_looked_21 ?_
      have h15_21 : inR ((T 0) 15) := by have h9 := hP; omega
      refine cmV (va_runV (As := [.int (iI 1), .int (iI 2)]) (rest := []) ⟨hx, hb, hml, hown, hts⟩ (mX4_needs Z K hI T (T 0) rfl h15_21 1 2 (by omega) s.heap.size) (cwV 2 hts (lw_V q1095 q1097 qs36 q83 q1098) rfl rfl rfl (by decide +kernel) ⟨Nat.le_of_ble_eq_true rfl, Nat.le_of_ble_eq_true rfl⟩) (pvM (BornH.S hB hN hS) (OBJ.recv Z hB hW.obj (q := (RX4, TX4, 29)) rfl) hW) rfl rfl hl.1 rfl (lv_room (Nat.le_of_ble_eq_true rfl)) dX4_looked_22 ⟨Nat.zero_le _, Nat.zero_le _⟩) hS (AA.le hS.1) (fun H1 locs hW1 hz1 hk1 hS => ?_)
      have hW := hW1
      clear hW1 hk1 hz1
      generalize H1 = H at hW hS ⊢
      have hW := hW.eqS (S' := T) (by rw [show ndS (T 0) 1 2 = (T 0) from ndS_1 _ (by omega)]; first | exact up_id _ 0 | rfl | (exact up_id T 0))
      refine lv_aload_n hx hb dX4_looked_25 rfl (lv_at hl 0 rfl) ?_
      refine r_get (ci := 4) (k := 15) (v := .int (iI ((T 0) 15))) (C := RX4) (T := TX4) (N := 29) Z hB hx hb hts hown rfl in_X4 hW.obj (by decide) q993 rfl dX4_looked_26 ?_
      refine ii_if_ne (tgt := 49) hx hb dX4_looked_29 (by decide) (by omega) (fun c_22 => ?_) (fun c_22 => ?_)
      · -- 29 -> 49
        refine lv_aload_n hx hb dX4_looked_49 rfl (lv_at hl 0 rfl) ?_
        refine r_get (ci := 4) (k := 15) (v := .int (iI ((T 0) 15))) (C := RX4) (T := TX4) (N := 29) Z hB hx hb hts hown rfl in_X4 hW.obj (by decide) q993 rfl dX4_looked_50 ?_
        refine ii_if_ne (tgt := 63) hx hb dX4_looked_53 (by decide) (by omega) (fun c_23 => ?_) (fun c_23 => ?_)
        · -- 53 -> 63
          refine ii_const hx hb dX4_looked_63 ?_
          have hlk : lkP (T 0) lo hi = (T 0) := by unfold lkP; rw [ndS_st (P := T 0) (by omega), ndS_st (P := T 0) (by omega)]
          have hpw9 : (MW G K (up T 0 (lkP (T 0) lo hi))) H := (by rw [hlk]; first | exact hW | (rw [show up T 0 (T 0) = T from up_id T 0]; exact hW))
          have he9 : 0 = (lkV (T 0) lo hi) := by unfold lkV; rw [hlk]; exact (if_neg (by omega)).symm
          exact W.iret hx hb hr (fun t ht hW9 => ⟨⟨_, (), rfl, congrArg iI he9, by show (MW G K (up T 0 (lkP (T 0) lo hi))) t.heap; rw [ht]; exact hpw9⟩, hS.F ht⟩) hS.2.2 dX4_looked_64
        · -- 53 -> 56
          refine lv_aload_n hx hb dX4_looked_56 rfl (lv_at hl 0 rfl) ?_
          refine r_get (ci := 4) (k := 14) (v := .int (iI ((T 0) 14))) (C := RX4) (T := TX4) (N := 29) Z hB hx hb hts hown rfl in_X4 hW.obj (by decide) q992 rfl dX4_looked_57 ?_
          refine lv_goto (tgt := 64) hx hb dX4_looked_60 (by decide) ?_
          have hlk : lkP (T 0) lo hi = (T 0) := by unfold lkP; rw [ndS_st (P := T 0) (by omega), ndS_st (P := T 0) (by omega)]
          have hpw9 : (MW G K (up T 0 (lkP (T 0) lo hi))) H := (by rw [hlk]; first | exact hW | (rw [show up T 0 (T 0) = T from up_id T 0]; exact hW))
          have he9 : ((T 0) 14) = (lkV (T 0) lo hi) := by first | (rw [ndS_o (by omega) (by omega)]; unfold lkV; rw [hlk]; exact (if_pos (by omega)).symm) | (exfalso; omega)
          exact W.iret hx hb hr (fun t ht hW9 => ⟨⟨_, (), rfl, congrArg iI he9, by show (MW G K (up T 0 (lkP (T 0) lo hi))) t.heap; rw [ht]; exact hpw9⟩, hS.F ht⟩) hS.2.2 dX4_looked_64
      · -- 29 -> 32
        refine lv_aload_n hx hb dX4_looked_32 rfl (lv_at hl 0 rfl) ?_
        refine lv_aload_n hx hb dX4_looked_33 rfl (lv_at hl 0 rfl) ?_
        refine r_get (ci := 4) (k := 14) (v := .int (iI ((T 0) 14))) (C := RX4) (T := TX4) (N := 29) Z hB hx hb hts hown rfl in_X4 hW.obj (by decide) q992 rfl dX4_looked_34 ?_
        refine ii_i2l hx hb (by omega) dX4_looked_37 ?_
        refine lv_iload_n hx hb dX4_looked_38 rfl (lv_at hl 1 rfl) ?_
        refine ii_i2l hx hb (by omega) dX4_looked_39 ?_
        refine lv_iload_n hx hb dX4_looked_40 rfl (lv_at hl 2 rfl) ?_
        refine ii_i2l hx hb (by omega) dX4_looked_41 ?_
        refine cqI (va_runS (As := [.long (lI ((T 0) 14)), .long (lI lo), .long (lI hi)]) (rest := [.ref (K 0)]) ⟨hx, hb, hml, hown, hts⟩ (mX4_in Z ((T 0) 14) (by omega) lo (by omega) hi (by omega)) (va_cwS 3 hts (lw_S q1072 q1073 q83 q1074) rfl rfl rfl (by decide +kernel) ⟨Nat.le_of_ble_eq_true rfl, Nat.le_of_ble_eq_true rfl⟩) (psR (BornH.S hB hN hS) trivial) rfl rfl hl.1 rfl (lv_room (Nat.le_of_ble_eq_true rfl)) dX4_looked_42 ⟨Nat.zero_le _, Nat.zero_le _⟩) ?_
        refine ii_const hx hb dX4_looked_45 ?_
        have h15_24 : inR ((T 0) 15) := by have h9 := hP; omega
        refine cmV (va_runV (As := [.int (iI (b2 (lo ≤ ((T 0) 14) ∧ ((T 0) 14) ≤ hi))), .int (iI 3)]) (rest := []) ⟨hx, hb, hml, hown, hts⟩ (mX4_needs Z K hI T (T 0) rfl h15_24 (b2 (lo ≤ ((T 0) 14) ∧ ((T 0) 14) ≤ hi)) 3 (b2_01 _) H.size) (cwV 2 hts (lw_V q1095 q1097 qs36 q83 q1098) rfl rfl rfl (by decide +kernel) ⟨Nat.le_of_ble_eq_true rfl, Nat.le_of_ble_eq_true rfl⟩) (pvM (BornH.S hB hN hS) (OBJ.recv Z hB hW.obj (q := (RX4, TX4, 29)) rfl) hW) rfl rfl hl.1 rfl (lv_room (Nat.le_of_ble_eq_true rfl)) dX4_looked_46 ⟨Nat.zero_le _, Nat.zero_le _⟩) hS (AA.le hS.1) (fun H1 locs hW1 hz1 hk1 hS => ?_)
        have hW := hW1
        clear hW1 hk1 hz1
        generalize H1 = H at hW hS ⊢
        have hf_25 := ndS_f (T 0) (b2 (lo ≤ ((T 0) 14) ∧ ((T 0) 14) ≤ hi)) 3
        have hp_26 : PI (ndS (T 0) (b2 (lo ≤ ((T 0) 14) ∧ ((T 0) 14) ≤ hi)) 3) := ndS_pi hP (by omega)
        refine lv_aload_n hx hb dX4_looked_49 rfl (lv_at hl 0 rfl) ?_
        refine r_get (ci := 4) (k := 15) (v := .int (iI ((ndS (T 0) (b2 (lo ≤ ((T 0) 14) ∧ ((T 0) 14) ≤ hi)) 3) 15))) (C := RX4) (T := TX4) (N := 29) Z hB hx hb hts hown rfl in_X4 hW.obj (by decide) q993 rfl dX4_looked_50 ?_
        refine ii_if_ne (tgt := 63) hx hb dX4_looked_53 (by decide) (by omega) (fun c_28 => ?_) (fun c_28 => ?_)
        · -- 53 -> 63
          refine ii_const hx hb dX4_looked_63 ?_
          have hlk : lkP (T 0) lo hi = (ndS (T 0) (b2 (lo ≤ ((T 0) 14) ∧ ((T 0) 14) ≤ hi)) 3) := by unfold lkP; rw [show b2 ((T 0) 13 = 2) = 1 from b2_t (by omega), ndS_1 (T 0) (by omega)]
          have hpw9 : (MW G K (up T 0 (lkP (T 0) lo hi))) H := (by rw [hlk]; first | exact hW | (rw [show up T 0 (T 0) = T from up_id T 0]; exact hW))
          have he9 : 0 = (lkV (T 0) lo hi) := by unfold lkV; rw [hlk]; exact (if_neg (by omega)).symm
          exact W.iret hx hb hr (fun t ht hW9 => ⟨⟨_, (), rfl, congrArg iI he9, by show (MW G K (up T 0 (lkP (T 0) lo hi))) t.heap; rw [ht]; exact hpw9⟩, hS.F ht⟩) hS.2.2 dX4_looked_64
        · -- 53 -> 56
          refine lv_aload_n hx hb dX4_looked_56 rfl (lv_at hl 0 rfl) ?_
          refine r_get (ci := 4) (k := 14) (v := .int (iI ((ndS (T 0) (b2 (lo ≤ ((T 0) 14) ∧ ((T 0) 14) ≤ hi)) 3) 14))) (C := RX4) (T := TX4) (N := 29) Z hB hx hb hts hown rfl in_X4 hW.obj (by decide) q992 rfl dX4_looked_57 ?_
          refine lv_goto (tgt := 64) hx hb dX4_looked_60 (by decide) ?_
          have hlk : lkP (T 0) lo hi = (ndS (T 0) (b2 (lo ≤ ((T 0) 14) ∧ ((T 0) 14) ≤ hi)) 3) := by unfold lkP; rw [show b2 ((T 0) 13 = 2) = 1 from b2_t (by omega), ndS_1 (T 0) (by omega)]
          have hpw9 : (MW G K (up T 0 (lkP (T 0) lo hi))) H := (by rw [hlk]; first | exact hW | (rw [show up T 0 (T 0) = T from up_id T 0]; exact hW))
          have he9 : ((ndS (T 0) (b2 (lo ≤ ((T 0) 14) ∧ ((T 0) 14) ≤ hi)) 3) 14) = (lkV (T 0) lo hi) := by first | (rw [ndS_o (by omega) (by omega)]; unfold lkV; rw [hlk]; exact (if_pos (by omega)).symm) | (exfalso; omega)
          exact W.iret hx hb hr (fun t ht hW9 => ⟨⟨_, (), rfl, congrArg iI he9, by show (MW G K (up T 0 (lkP (T 0) lo hi))) t.heap; rw [ht]; exact hpw9⟩, hS.F ht⟩) hS.2.2 dX4_looked_64

set_option maxHeartbeats 1000000 in
set_option maxRecDepth 100000 in
theorem mX4_readNumber {l : Launch} {G : GG} {s0 : State} {b0 : Nat} (Z : ZZ l G s0 b0) (K : Nat → Nat) (hI : Own s0 K 12) (T : Sta) (P : Nat → Int) (eP : T 0 = P) (hP : PI P) (t : Nat → Int) (et : T 5 = t) (ht : TapeOK t) (lo : Int) (hlo : inR lo) (hi : Int) (hhi : inR hi) (hlh : (0 ≤ lo ∧ lo ≤ hi) ∧ hi ≤ 99) (sz : Nat) : Met l yX4_readNumber (ws_ yX4_readNumber cX4_readNumber 4 (some .int)) ({ frames := 2, cells := 0, slots := 0, locals := 47 } : Room) (pcM s0 sz (MW G K T) [.ref (K 0), .int (iI lo), .int (iI hi)]) (mI (lkV P lo hi) (MW G K (up T 0 (rnP t P lo hi))) (AA K 12 sz)) 0 0 (AA K 12 sz) := by
  refine Met.ofW (cc := cX4_readNumber) (maxL := 4) (ret := (some .int)) (by decide) rfl ?_
  intro p e s m args below meth c s₁ B hml hv
  obtain ⟨rfl, hsz, hW, hB⟩ := hv
  subst hsz
  have hx := B.exec
  have hb := B.bytes
  have hr := B.returns
  have hts := atoms_spec (ws := (ws_ yX4_readNumber cX4_readNumber 4 (some .int))) B.pre
  have hts : ∀ w ∈ lw_all, w.before _ s = true := fun w h => hts w (List.mem_cons_of_mem _ h)
  have hown : s.vm.findClass RX4 = some m.cls := findClass_of_methodNamed B.named
  have hlocks := B.notSynchronized
  have hN := AA.old hI hB
  have hS : va_S (AA K 12 s.heap.size) s.heap s.heap [] := va_S.rf
  have hl := lv_entry ([.ref (K 0), .int (iI lo), .int (iI hi)]) (n := 4) (Nat.le_of_ble_eq_true rfl)
  rw [lg_entry_eq]
  generalize (lg_sl ([.ref (K 0), .int (iI lo), .int (iI hi)]) ++ List.replicate (4 - (lg_sl ([.ref (K 0), .int (iI lo), .int (iI hi)])).length) Slot.unset).toArray = ls at hl ⊢
  have hl : lv_has ls 4 [(0, .ref (K 0)), (1, .int (iI lo)), (2, .int (iI hi))] := hl
  subst eP
  subst et
  refine lv_aload_n hx hb dX4_readNumber_0 rfl (lv_at hl 0 rfl) ?_
  refine lv_iload_n hx hb dX4_readNumber_1 rfl (lv_at hl 1 rfl) ?_
  refine lv_iload_n hx hb dX4_readNumber_2 rfl (lv_at hl 2 rfl) ?_
  refine cmI (va_runV (As := [.int (iI lo), .int (iI hi)]) (rest := []) ⟨hx, hb, hml, hown, hts⟩ (mX4_looked Z K hI T (T 0) rfl hP lo (by omega) hi (by omega) s.heap.size) (cwV 2 hts (lw_V q1127 q1129 qs44 q83 q1130) rfl rfl rfl (by decide +kernel) ⟨Nat.le_of_ble_eq_true rfl, Nat.le_of_ble_eq_true rfl⟩) (pvM (BornH.S hB hN hS) (OBJ.recv Z hB hW.obj (q := (RX4, TX4, 29)) rfl) hW) rfl rfl hl.1 rfl (lv_room (Nat.le_of_ble_eq_true rfl)) dX4_readNumber_3 ⟨Nat.zero_le _, Nat.zero_le _⟩) hS (AA.le hS.1) (fun H1 locs hW1 hz1 hk1 hS => ?_)
  have hW := hW1
  clear hW1 hk1 hz1
  generalize H1 = H at hW hS ⊢
  have b_1 := lk_in (P := (T 0)) (lo := lo) (hi := hi) (by omega)
  have hp_4 : PI (lkP (T 0) lo hi) := lkP_pi hP _ _
  have ho_5 : (lkP (T 0) lo hi) 6 = ((T 0) 6) := (lkP_o _ _ _ (by omega) (by omega)).trans (by rfl)
  have ho_6 : (lkP (T 0) lo hi) 7 = ((T 0) 7) := (lkP_o _ _ _ (by omega) (by omega)).trans (by rfl)
  have ho_7 : (lkP (T 0) lo hi) 8 = ((T 0) 8) := (lkP_o _ _ _ (by omega) (by omega)).trans (by rfl)
  have ho_8 : (lkP (T 0) lo hi) 10 = ((T 0) 10) := (lkP_o _ _ _ (by omega) (by omega)).trans (by rfl)
  generalize eX_3 : (lkP (T 0) lo hi) = X_2 at hp_4 ho_5 ho_6 ho_7 ho_8 hW
  refine lv_istore_n (lv' := [(3, .int (iI (lkV (T 0) lo hi))), (0, .ref (K 0)), (1, .int (iI lo)), (2, .int (iI hi))]) hx hb dX4_readNumber_6 rfl hl (by decide) rfl (fun ls hl => ?_)
  refine lv_aload_n hx hb dX4_readNumber_7 rfl (lv_at hl 1 rfl) ?_
  refine cmV (va_runV (As := []) (rest := []) ⟨hx, hb, hml, hown, hts⟩ (mX4_takes Z K hI (up T 0 X_2) X_2 rfl hp_4 ht H.size) (cwV 0 hts (lw_V q1083 q1085 qs34 q83 q1086) rfl rfl rfl (by decide +kernel) ⟨Nat.le_of_ble_eq_true rfl, Nat.le_of_ble_eq_true rfl⟩) (pvM (BornH.S hB hN hS) (OBJ.recv Z hB hW.obj (q := (RX4, TX4, 29)) rfl) hW) rfl rfl hl.1 rfl (lv_room (Nat.le_of_ble_eq_true rfl)) dX4_readNumber_8 ⟨Nat.zero_le _, Nat.zero_le _⟩) hS (AA.le hS.1) (fun H1 locs hW1 hz1 hk1 hS => ?_)
  have hW := hW1
  clear hW1 hk1 hz1
  generalize H1 = H at hW hS ⊢
  have hW := hW.eqS (S' := (up T 0 (tkP (T 5) X_2))) (by
      funext a
      by_cases h0 : a = 0
      · subst h0; rfl
      simp only [up, if_neg h0])
  have hp_11 : PI (tkP (T 5) X_2) := tkP_pi ht hp_4
  have ho_12 : (tkP (T 5) X_2) 6 = (X_2 6) := (tkP_o _ _ (by omega)).trans (by rfl)
  have ho_13 : (tkP (T 5) X_2) 7 = (X_2 7) := (tkP_o _ _ (by omega)).trans (by rfl)
  have ho_14 : (tkP (T 5) X_2) 8 = (X_2 8) := (tkP_o _ _ (by omega)).trans (by rfl)
  have ho_15 : (tkP (T 5) X_2) 10 = (X_2 10) := (tkP_o _ _ (by omega)).trans (by rfl)
  generalize eX_10 : (tkP (T 5) X_2) = X_9 at hp_11 ho_12 ho_13 ho_14 ho_15 hW
  refine lv_iload_n hx hb dX4_readNumber_11 rfl (lv_at hl 0 rfl) ?_
  have hpw9 : (MW G K (up T 0 (rnP (T 5) (T 0) lo hi))) H := (by rw [show rnP (T 5) (T 0) lo hi = X_9 by unfold rnP; rw [eX_3, eX_10]]; exact hW)
  have he9 : (lkV (T 0) lo hi) = (lkV (T 0) lo hi) := rfl
  exact W.iret hx hb hr (fun t ht hW9 => ⟨⟨_, (), rfl, congrArg iI he9, by show (MW G K (up T 0 (rnP (T 5) (T 0) lo hi))) t.heap; rw [ht]; exact hpw9⟩, hS.F ht⟩) hS.2.2 dX4_readNumber_12
