/-! constructors of Firth, Image, Sheet (written by gen/ctor.py) -/
set_option maxRecDepth 100000
set_option maxHeartbeats 4000000 in
set_option maxRecDepth 100000 in
theorem mX1_init {l : Launch} {G : GG} {s0 : State} {b0 : Nat} (Z : ZZ l G s0 b0) (a0 : Nat) (hI : Own s0 (fun _ => a0) 1) (sz : Nat) : Met l yX1_init (ws_ yX1_init cX1_init 1 none) ({ frames := 1, cells := 19, slots := 69, locals := 40 } : Room) (pcM s0 sz (OBJ G 1 a0 [.null, .null, .null, .int (iI 0), .int (iI 0), .int (iI 0), .int (iI 0), .int (iI 0)]) [.ref a0]) (mV (fun H => H.size = sz + 19 ∧ FW G (adN a0 sz) (fun _ => 0) H) (AA (fun _ => a0) 1 sz)) 19 69 (AA (fun _ => a0) 1 sz) := by
  refine Met.ofW (cc := cX1_init) (maxL := 1) (ret := none) (by decide) rfl ?_
  intro p e s m args below meth c s₁ B hml hv
  obtain ⟨rfl, hsz, hW, hB⟩ := hv
  subst hsz
  have hx := B.exec
  have hb := B.bytes
  have hr := B.returns
  have hts := atoms_spec (ws := (ws_ yX1_init cX1_init 1 none)) B.pre
  have hts : ∀ w ∈ lw_all, w.before _ s = true := fun w h => hts w (List.mem_cons_of_mem _ h)
  have hown : s.vm.findClass RX1 = some m.cls := findClass_of_methodNamed B.named
  have hlocks := B.notSynchronized
  have hN := AA.old hI hB
  have hS : va_S (AA (fun _ => a0) 1 s.heap.size) s.heap s.heap [] := va_S.rf
  have hl := lv_entry ([.ref a0]) (n := 1) (Nat.le_of_ble_eq_true rfl)
  rw [lg_entry_eq]
  generalize (lg_sl ([.ref a0]) ++ List.replicate (1 - (lg_sl ([.ref a0])).length) Slot.unset).toArray = ls at hl ⊢
  have hl : lv_has ls 1 [(0, .ref a0)] := hl
  have hin9 : meth.name = "<init>" := (name_of_methodNamed B.named B.method).1
  have ha0 : a0 < s.heap.size := hW.lt
  have hs00 : s0.heap.size ≤ s.heap.size := hB.2.1
  have hO : OBJ G 1 a0 [.null, .null, .null, .int (iI 0), .int (iI 0), .int (iI 0), .int (iI 0), .int (iI 0)] s.heap := hW
  have hz : s.heap.size = s.heap.size + 0 := rfl
  have hP : (fun _ : Heap => True) s.heap := trivial
  have hL : Lc s.heap.size (s.heap.size + 0) (fun _ : Heap => True) := Lc.true _ _
  refine lv_aload_n hx hb dX1_init_0 rfl (lv_at hl 0 rfl) ?_
  refine W.objInit hx hb hown (hts _ q134) (hts _ q127) (hts _ q128) rfl (by rw [hml]; exact hl.1) rfl dX1_init_1 (Nat.le_of_ble_eq_true rfl) (Nat.le_of_ble_eq_true rfl) ?_
  refine W.eq (g2 := F0 m 4 ls []) rfl ?_
  refine lv_aload_n hx hb dX1_init_4 rfl (lv_at hl 0 rfl) ?_
  refine ii_const hx hb dX1_init_5 ?_
  refine ii_const hx hb dX1_init_6 ?_
  refine r_multi (n := 5) (k := 2) Z hB hx hb hts hown q135 rfl rfl (by omega) (by omega) (Nat.le_of_ble_eq_true rfl) (Nat.le_of_ble_eq_true rfl) dX1_init_7 (fun H1 hz1 ho1 hq1 hi1 => ?_)
  have hS := va_S.grow hS (by omega) ho1
  rw [hz] at hq1 hi1 ⊢
  have hO := hO.kept (ho1 _ (by omega))
  have hP := hL.at hP (fun q h1 h2 => ho1 q (by omega))
  have hz : H1.size = s.heap.size + 6 := by omega
  have hL := hL.and (Lc.gr G (s.heap.size + 0) 5 2) (lo := s.heap.size) (hi := s.heap.size + 6) (by omega)
  have hP := And.intro hP (show GR G (s.heap.size + 0) 5 2 H1 from ⟨hq1, hi1⟩)
  refine r_putF (ci := 1) (k := 0) (C := RX1) (T := TX1) (N := 8) Z hB hx hb hts hown rfl in_X1 tyX1 tyX1_ok nmX1 hO hS (Or.inl ⟨0, by omega, rfl⟩) (by decide) q137 rfl hin9 rfl rfl rfl rfl (Nat.le_of_ble_eq_true rfl) dX1_init_11 (fun Hx => Hx.size = H1.size ∧ (∀ q : Nat, q ≠ a0 → Hx[q]? = H1[q]?) ∧ OBJ G 1 a0 [.ref (s.heap.size + 0), .null, .null, .int (iI 0), .int (iI 0), .int (iI 0), .int (iI 0), .int (iI 0)] Hx) (fun Hx hz9 oq ho => ⟨hz9, oq, ho⟩) (fun H2 locs hw1 hS => ?_)
  obtain ⟨hz1, oq1, hO⟩ := hw1
  have hP := hL.at hP (fun q h1 h2 => oq1 q (by omega))
  have hz : H2.size = s.heap.size + 6 := by omega
  refine lv_aload_n hx hb dX1_init_14 rfl (lv_at hl 0 rfl) ?_
  refine ii_const hx hb dX1_init_15 ?_
  refine ii_const hx hb dX1_init_16 ?_
  refine r_multi (n := 5) (k := 5) Z hB hx hb hts hown q135 rfl rfl (by omega) (by omega) (Nat.le_of_ble_eq_true rfl) (Nat.le_of_ble_eq_true rfl) dX1_init_17 (fun H3 hz1 ho1 hq1 hi1 => ?_)
  have hS := va_S.grow hS (by omega) ho1
  rw [hz] at hq1 hi1 ⊢
  have hO := hO.kept (ho1 _ (by omega))
  have hP := hL.at hP (fun q h1 h2 => ho1 q (by omega))
  have hz : H3.size = s.heap.size + 12 := by omega
  have hL := hL.and (Lc.gr G (s.heap.size + 6) 5 5) (lo := s.heap.size) (hi := s.heap.size + 12) (by omega)
  have hP := And.intro hP (show GR G (s.heap.size + 6) 5 5 H3 from ⟨hq1, hi1⟩)
  refine r_putF (ci := 1) (k := 1) (C := RX1) (T := TX1) (N := 8) Z hB hx hb hts hown rfl in_X1 tyX1 tyX1_ok nmX1 hO hS (Or.inl ⟨0, by omega, rfl⟩) (by decide) q140 rfl hin9 rfl rfl rfl rfl (Nat.le_of_ble_eq_true rfl) dX1_init_21 (fun Hx => Hx.size = H3.size ∧ (∀ q : Nat, q ≠ a0 → Hx[q]? = H3[q]?) ∧ OBJ G 1 a0 [.ref (s.heap.size + 0), .ref (s.heap.size + 6), .null, .int (iI 0), .int (iI 0), .int (iI 0), .int (iI 0), .int (iI 0)] Hx) (fun Hx hz9 oq ho => ⟨hz9, oq, ho⟩) (fun H4 locs hw1 hS => ?_)
  obtain ⟨hz1, oq1, hO⟩ := hw1
  have hP := hL.at hP (fun q h1 h2 => oq1 q (by omega))
  have hz : H4.size = s.heap.size + 12 := by omega
  refine lv_aload_n hx hb dX1_init_24 rfl (lv_at hl 0 rfl) ?_
  refine ii_bipush hx hb dX1_init_25 (by decide) ?_
  refine ii_const hx hb dX1_init_27 ?_
  refine r_multi (n := 6) (k := 3) Z hB hx hb hts hown q135 rfl rfl (by omega) (by omega) (Nat.le_of_ble_eq_true rfl) (Nat.le_of_ble_eq_true rfl) dX1_init_28 (fun H5 hz1 ho1 hq1 hi1 => ?_)
  have hS := va_S.grow hS (by omega) ho1
  rw [hz] at hq1 hi1 ⊢
  have hO := hO.kept (ho1 _ (by omega))
  have hP := hL.at hP (fun q h1 h2 => ho1 q (by omega))
  have hz : H5.size = s.heap.size + 19 := by omega
  have hL := hL.and (Lc.gr G (s.heap.size + 12) 6 3) (lo := s.heap.size) (hi := s.heap.size + 19) (by omega)
  have hP := And.intro hP (show GR G (s.heap.size + 12) 6 3 H5 from ⟨hq1, hi1⟩)
  refine r_putF (ci := 1) (k := 2) (C := RX1) (T := TX1) (N := 8) Z hB hx hb hts hown rfl in_X1 tyX1 tyX1_ok nmX1 hO hS (Or.inl ⟨0, by omega, rfl⟩) (by decide) q143 rfl hin9 rfl rfl rfl rfl (Nat.le_of_ble_eq_true rfl) dX1_init_32 (fun Hx => Hx.size = H5.size ∧ (∀ q : Nat, q ≠ a0 → Hx[q]? = H5[q]?) ∧ OBJ G 1 a0 [.ref (s.heap.size + 0), .ref (s.heap.size + 6), .ref (s.heap.size + 12), .int (iI 0), .int (iI 0), .int (iI 0), .int (iI 0), .int (iI 0)] Hx) (fun Hx hz9 oq ho => ⟨hz9, oq, ho⟩) (fun H6 locs hw1 hS => ?_)
  obtain ⟨hz1, oq1, hO⟩ := hw1
  have hP := hL.at hP (fun q h1 h2 => oq1 q (by omega))
  have hz : H6.size = s.heap.size + 19 := by omega
  have hpw9 : (fun H => H.size = s.heap.size + 19 ∧ FW G (adN a0 s.heap.size) (fun _ => 0) H) H6 := ⟨by omega, FW.born hO hP.1.1.2 hP.1.2 hP.2⟩
  refine W.eq (g2 := F0 m 35 ls []) rfl ?_
  exact W.vret (cells := 19) (slots := 69) hx hb hr (fun t ht hW9 => ⟨⟨(), rfl, trivial, by show (fun H => H.size = s.heap.size + 19 ∧ FW G (adN a0 s.heap.size) (fun _ => 0) H) t.heap; rw [ht]; exact hpw9⟩, hS.F ht⟩) hS.2.2 dX1_init_35

set_option maxHeartbeats 4000000 in
set_option maxRecDepth 100000 in
theorem mX2_init {l : Launch} {G : GG} {s0 : State} {b0 : Nat} (Z : ZZ l G s0 b0) (a0 : Nat) (hI : Own s0 (fun _ => a0) 1) (x : Nat) (sz : Nat) : Met l yX2_init (ws_ yX2_init cX2_init 2 none) ({ frames := 2, cells := 27, slots := 101, locals := 60 } : Room) (pcM s0 sz (OBJ G 2 a0 [.null, .null, .int (iI 0), .int (iI 0), .null]) [.ref a0, .ref x]) (mV (fun H => H.size = sz + 27 ∧ OBJ G 2 a0 [.ref sz, .ref (sz + 20), .int (iI 0), .int (iI 0), .ref x] H ∧ FW G (adN sz (sz + 1)) (fun _ => 0) H ∧ GR G (sz + 20) 6 3 H) (AA (fun _ => a0) 1 sz)) 27 101 (AA (fun _ => a0) 1 sz) := by
  refine Met.ofW (cc := cX2_init) (maxL := 2) (ret := none) (by decide) rfl ?_
  intro p e s m args below meth c s₁ B hml hv
  obtain ⟨rfl, hsz, hW, hB⟩ := hv
  subst hsz
  have hx := B.exec
  have hb := B.bytes
  have hr := B.returns
  have hts := atoms_spec (ws := (ws_ yX2_init cX2_init 2 none)) B.pre
  have hts : ∀ w ∈ lw_all, w.before _ s = true := fun w h => hts w (List.mem_cons_of_mem _ h)
  have hown : s.vm.findClass RX2 = some m.cls := findClass_of_methodNamed B.named
  have hlocks := B.notSynchronized
  have hN := AA.old hI hB
  have hS : va_S (AA (fun _ => a0) 1 s.heap.size) s.heap s.heap [] := va_S.rf
  have hl := lv_entry ([.ref a0, .ref x]) (n := 2) (Nat.le_of_ble_eq_true rfl)
  rw [lg_entry_eq]
  generalize (lg_sl ([.ref a0, .ref x]) ++ List.replicate (2 - (lg_sl ([.ref a0, .ref x])).length) Slot.unset).toArray = ls at hl ⊢
  have hl : lv_has ls 2 [(0, .ref a0), (1, .ref x)] := hl
  have hin9 : meth.name = "<init>" := (name_of_methodNamed B.named B.method).1
  have ha0 : a0 < s.heap.size := hW.lt
  have hs00 : s0.heap.size ≤ s.heap.size := hB.2.1
  have hO : OBJ G 2 a0 [.null, .null, .int (iI 0), .int (iI 0), .null] s.heap := hW
  have hz : s.heap.size = s.heap.size + 0 := rfl
  have hP : (fun _ : Heap => True) s.heap := trivial
  have hL : Lc s.heap.size (s.heap.size + 0) (fun _ : Heap => True) := Lc.true _ _
  refine lv_aload_n hx hb dX2_init_0 rfl (lv_at hl 0 rfl) ?_
  refine lv_aload_n hx hb dX2_init_1 rfl (lv_at hl 1 rfl) ?_
  refine r_putF (ci := 2) (k := 4) (C := RX2) (T := TX2) (N := 5) Z hB hx hb hts hown rfl in_X2 tyX2 tyX2_ok nmX2 hO hS (Or.inl ⟨0, by omega, rfl⟩) (by decide) q766 rfl hin9 rfl rfl rfl rfl (Nat.le_of_ble_eq_true rfl) dX2_init_2 (fun Hx => Hx.size = s.heap.size ∧ (∀ q : Nat, q ≠ a0 → Hx[q]? = s.heap[q]?) ∧ OBJ G 2 a0 [.null, .null, .int (iI 0), .int (iI 0), .ref x] Hx) (fun Hx hz9 oq ho => ⟨hz9, oq, ho⟩) (fun H7 locs hw1 hS => ?_)
  obtain ⟨hz1, oq1, hO⟩ := hw1
  have hP := hL.at hP (fun q h1 h2 => oq1 q (by omega))
  have hz : H7.size = s.heap.size + 0 := by omega
  refine lv_aload_n hx hb dX2_init_5 rfl (lv_at hl 0 rfl) ?_
  refine W.objInit hx hb hown (hts _ q758) (hts _ q127) (hts _ q128) rfl (by rw [hml]; exact hl.1) rfl dX2_init_6 (Nat.le_of_ble_eq_true rfl) (Nat.le_of_ble_eq_true rfl) ?_
  refine W.eq (g2 := F0 m 9 ls []) rfl ?_
  refine lv_aload_n hx hb dX2_init_9 rfl (lv_at hl 0 rfl) ?_
  refine r_new (ci := 1) (fs := [.null, .null, .null, .int (iI 0), .int (iI 0), .int (iI 0), .int (iI 0), .int (iI 0)]) (C := RX1) (T := TX1) (N := 8) Z hB hx hb hts hown rfl in_X1 tyX1 tyX1_ok q759 q130 q80 (fun j hj => by rcases (show j = 0 ∨ j = 1 ∨ j = 2 ∨ j = 3 ∨ j = 4 ∨ j = 5 ∨ j = 6 ∨ j = 7 by omega) with rfl | rfl | rfl | rfl | rfl | rfl | rfl | rfl <;> rfl) (Nat.le_of_ble_eq_true rfl) (Nat.le_of_ble_eq_true rfl) dX2_init_10 (fun H8 hz1 ho1 hn => ?_)
  have hS := va_S.grow hS (by omega) ho1
  rw [hz] at hn ⊢
  have hO := hO.kept (ho1 _ (by omega))
  have hP := hL.at hP (fun q h1 h2 => ho1 q (by omega))
  have hz : H8.size = s.heap.size + 1 := by omega
  refine lv_dup hx hb dX2_init_13 rfl ?_
  refine cmV (va_runIN (As := []) (rest := [.ref (s.heap.size + 0), .ref a0]) ⟨hx, hb, hml, hown, hts⟩ (mX1_init Z (s.heap.size + 0) (Own.one (by omega)) H8.size) ⟨va_cnB 0 hts (lw_meth q133) rfl rfl rfl (nwM Z hB q760) (hts _ q80) (by decide +kernel) ⟨Nat.le_of_ble_eq_true rfl, Nat.le_of_ble_eq_true rfl⟩, rfl, hts _ q132⟩ (psM (BornH.S hB hN hS) hn) rfl rfl hl.1 rfl (lv_room (Nat.le_of_ble_eq_true rfl)) dX2_init_14 ⟨Nat.le_of_ble_eq_true rfl, Nat.le_of_ble_eq_true rfl⟩) hS (AA1.le (by omega) (by omega)) (fun H9 locs hw1 hz1 hk1 hS => ?_)
  rw [hz] at hw1
  have ho1 : ∀ q : Nat, q < s.heap.size + 0 → H9[q]? = H8[q]? := fun q hq => hk1 q (by omega) (AA1 (by omega) (by omega))
  have hO := hO.kept (ho1 _ (by omega))
  have hP := hL.at hP (fun q h1 h2 => ho1 q (by omega))
  obtain ⟨hz2, hp1⟩ := hw1
  have hz : H9.size = s.heap.size + 20 := by omega
  have hL := hL.and (Lc.fw G (s.heap.size + 0) (fun _ => 0)) (lo := s.heap.size) (hi := s.heap.size + 20) (by omega)
  have hP := And.intro hP hp1
  refine r_putF (ci := 2) (k := 0) (C := RX2) (T := TX2) (N := 5) Z hB hx hb hts hown rfl in_X2 tyX2 tyX2_ok nmX2 hO hS (Or.inl ⟨0, by omega, rfl⟩) (by decide) q762 rfl hin9 rfl rfl rfl rfl (Nat.le_of_ble_eq_true rfl) dX2_init_17 (fun Hx => Hx.size = H9.size ∧ (∀ q : Nat, q ≠ a0 → Hx[q]? = H9[q]?) ∧ OBJ G 2 a0 [.ref (s.heap.size + 0), .null, .int (iI 0), .int (iI 0), .ref x] Hx) (fun Hx hz9 oq ho => ⟨hz9, oq, ho⟩) (fun H10 locs hw1 hS => ?_)
  obtain ⟨hz1, oq1, hO⟩ := hw1
  have hP := hL.at hP (fun q h1 h2 => oq1 q (by omega))
  have hz : H10.size = s.heap.size + 20 := by omega
  refine lv_aload_n hx hb dX2_init_20 rfl (lv_at hl 0 rfl) ?_
  refine ii_bipush hx hb dX2_init_21 (by decide) ?_
  refine ii_const hx hb dX2_init_23 ?_
  refine r_multi (n := 6) (k := 3) Z hB hx hb hts hown q761 rfl rfl (by omega) (by omega) (Nat.le_of_ble_eq_true rfl) (Nat.le_of_ble_eq_true rfl) dX2_init_24 (fun H11 hz1 ho1 hq1 hi1 => ?_)
  have hS := va_S.grow hS (by omega) ho1
  rw [hz] at hq1 hi1 ⊢
  have hO := hO.kept (ho1 _ (by omega))
  have hP := hL.at hP (fun q h1 h2 => ho1 q (by omega))
  have hz : H11.size = s.heap.size + 27 := by omega
  have hL := hL.and (Lc.gr G (s.heap.size + 20) 6 3) (lo := s.heap.size) (hi := s.heap.size + 27) (by omega)
  have hP := And.intro hP (show GR G (s.heap.size + 20) 6 3 H11 from ⟨hq1, hi1⟩)
  refine r_putF (ci := 2) (k := 1) (C := RX2) (T := TX2) (N := 5) Z hB hx hb hts hown rfl in_X2 tyX2 tyX2_ok nmX2 hO hS (Or.inl ⟨0, by omega, rfl⟩) (by decide) q763 rfl hin9 rfl rfl rfl rfl (Nat.le_of_ble_eq_true rfl) dX2_init_28 (fun Hx => Hx.size = H11.size ∧ (∀ q : Nat, q ≠ a0 → Hx[q]? = H11[q]?) ∧ OBJ G 2 a0 [.ref (s.heap.size + 0), .ref (s.heap.size + 20), .int (iI 0), .int (iI 0), .ref x] Hx) (fun Hx hz9 oq ho => ⟨hz9, oq, ho⟩) (fun H12 locs hw1 hS => ?_)
  obtain ⟨hz1, oq1, hO⟩ := hw1
  have hP := hL.at hP (fun q h1 h2 => oq1 q (by omega))
  have hz : H12.size = s.heap.size + 27 := by omega
  have hpw9 : (fun H => H.size = s.heap.size + 27 ∧ OBJ G 2 a0 [.ref s.heap.size, .ref (s.heap.size + 20), .int (iI 0), .int (iI 0), .ref x] H ∧ FW G (adN s.heap.size (s.heap.size + 1)) (fun _ => 0) H ∧ GR G (s.heap.size + 20) 6 3 H) H12 := ⟨by omega, hO, hP.1.2, hP.2⟩
  refine W.eq (g2 := F0 m 31 ls []) rfl ?_
  exact W.vret (cells := 27) (slots := 101) hx hb hr (fun t ht hW9 => ⟨⟨(), rfl, trivial, by show (fun H => H.size = s.heap.size + 27 ∧ OBJ G 2 a0 [.ref s.heap.size, .ref (s.heap.size + 20), .int (iI 0), .int (iI 0), .ref x] H ∧ FW G (adN s.heap.size (s.heap.size + 1)) (fun _ => 0) H ∧ GR G (s.heap.size + 20) 6 3 H) t.heap; rw [ht]; exact hpw9⟩, hS.F ht⟩) hS.2.2 dX2_init_31

set_option maxHeartbeats 4000000 in
set_option maxRecDepth 100000 in
theorem mX3_init {l : Launch} {G : GG} {s0 : State} {b0 : Nat} (Z : ZZ l G s0 b0) (a0 : Nat) (hI : Own s0 (fun _ => a0) 1) (sz : Nat) : Met l yX3_init (ws_ yX3_init cX3_init 1 none) ({ frames := 1, cells := 0, slots := 0, locals := 40 } : Room) (pcM s0 sz (OBJ G 3 a0 [.null, .int (iI 0)]) [.ref a0]) (mV (fun H => H.size = sz ∧ OBJ G 3 a0 [.null, .int (iI 0)] H) (AA (fun _ => a0) 1 sz)) 0 0 (AA (fun _ => a0) 1 sz) := by
  refine Met.ofW (cc := cX3_init) (maxL := 1) (ret := none) (by decide) rfl ?_
  intro p e s m args below meth c s₁ B hml hv
  obtain ⟨rfl, hsz, hW, hB⟩ := hv
  subst hsz
  have hx := B.exec
  have hb := B.bytes
  have hr := B.returns
  have hts := atoms_spec (ws := (ws_ yX3_init cX3_init 1 none)) B.pre
  have hts : ∀ w ∈ lw_all, w.before _ s = true := fun w h => hts w (List.mem_cons_of_mem _ h)
  have hown : s.vm.findClass RX3 = some m.cls := findClass_of_methodNamed B.named
  have hlocks := B.notSynchronized
  have hN := AA.old hI hB
  have hS : va_S (AA (fun _ => a0) 1 s.heap.size) s.heap s.heap [] := va_S.rf
  have hl := lv_entry ([.ref a0]) (n := 1) (Nat.le_of_ble_eq_true rfl)
  rw [lg_entry_eq]
  generalize (lg_sl ([.ref a0]) ++ List.replicate (1 - (lg_sl ([.ref a0])).length) Slot.unset).toArray = ls at hl ⊢
  have hl : lv_has ls 1 [(0, .ref a0)] := hl
  have hin9 : meth.name = "<init>" := (name_of_methodNamed B.named B.method).1
  have ha0 : a0 < s.heap.size := hW.lt
  have hs00 : s0.heap.size ≤ s.heap.size := hB.2.1
  have hO : OBJ G 3 a0 [.null, .int (iI 0)] s.heap := hW
  have hz : s.heap.size = s.heap.size + 0 := rfl
  have hP : (fun _ : Heap => True) s.heap := trivial
  have hL : Lc s.heap.size (s.heap.size + 0) (fun _ : Heap => True) := Lc.true _ _
  refine lv_aload_n hx hb dX3_init_0 rfl (lv_at hl 0 rfl) ?_
  refine W.objInit hx hb hown (hts _ q784) (hts _ q127) (hts _ q128) rfl (by rw [hml]; exact hl.1) rfl dX3_init_1 (Nat.le_of_ble_eq_true rfl) (Nat.le_of_ble_eq_true rfl) ?_
  refine W.eq (g2 := F0 m 4 ls []) rfl ?_
  have hpw9 : (fun H => H.size = s.heap.size ∧ OBJ G 3 a0 [.null, .int (iI 0)] H) s.heap := ⟨by omega, hO⟩
  refine W.eq (g2 := F0 m 4 ls []) rfl ?_
  exact W.vret (cells := 0) (slots := 0) hx hb hr (fun t ht hW9 => ⟨⟨(), rfl, trivial, by show (fun H => H.size = s.heap.size ∧ OBJ G 3 a0 [.null, .int (iI 0)] H) t.heap; rw [ht]; exact hpw9⟩, hS.F ht⟩) hS.2.2 dX3_init_4
