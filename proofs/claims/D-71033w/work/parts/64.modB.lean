/-! MODEL: what writes now and st (written by gen/mod2.py) -/
set_option maxRecDepth 100000
set_option maxHeartbeats 1000000 in
set_option maxRecDepth 100000 in
theorem mX4_starts {l : Launch} {G : GG} {s0 : State} {b0 : Nat} (Z : ZZ l G s0 b0) (K : Nat → Nat) (hI : Own s0 K 12) (T : Sta) (F : Nat → Int) (eF : T 1 = F) (sz : Nat) : Met l yX4_starts (ws_ yX4_starts cX4_starts 2 none) ({ frames := 0, cells := 0, slots := 0, locals := 0 } : Room) (pcM s0 sz (MW G K T) [.ref (K 0)]) (mV (MW G K (up T 2 F)) (AA K 12 sz)) 0 0 (AA K 12 sz) := by
  refine Met.ofW (cc := cX4_starts) (maxL := 2) (ret := none) (by decide) rfl ?_
  intro p e s m args below meth c s₁ B hml hv
  obtain ⟨rfl, hsz, hW, hB⟩ := hv
  subst hsz
  have hx := B.exec
  have hb := B.bytes
  have hr := B.returns
  have hts := atoms_spec (ws := (ws_ yX4_starts cX4_starts 2 none)) B.pre
  have hts : ∀ w ∈ lw_all, w.before _ s = true := fun w h => hts w (List.mem_cons_of_mem _ h)
  have hown : s.vm.findClass RX4 = some m.cls := findClass_of_methodNamed B.named
  have hlocks := B.notSynchronized
  have hN := AA.old hI hB
  have hS : va_S (AA K 12 s.heap.size) s.heap s.heap [] := va_S.rf
  have hl := lv_entry ([.ref (K 0)]) (n := 2) (Nat.le_of_ble_eq_true rfl)
  rw [lg_entry_eq]
  generalize (lg_sl ([.ref (K 0)]) ++ List.replicate (2 - (lg_sl ([.ref (K 0)])).length) Slot.unset).toArray = ls at hl ⊢
  have hl : lv_has ls 2 [(0, .ref (K 0))] := hl
  subst eF
  refine ii_const hx hb dX4_starts_0 ?_
  refine lv_istore_n (lv' := [(1, .int (iI 0)), (0, .ref (K 0))]) hx hb dX4_starts_1 rfl hl (by decide) rfl (fun ls hl => ?_)
  have loop_2 : ∀ (fu : Nat) (i : Nat) (zi : Int), (zi = (i : Int)) → (i ≤ 76) → (77 - i) < fu → ∀ (H : Heap) (locs : List Loc), (MW G K (up T 2 (cpS (T 1) (T 2) i))) H → va_S (AA K 12 s.heap.size) s.heap H locs → ∀ (ls : Array Slot), lv_has ls 2 [(1, .int (iI zi)), (0, .ref (K 0))] → W p l e (headSpec (ws_ yX4_starts cX4_starts 2 none) ({ frames := 0, cells := 0, slots := 0, locals := 0 } : Room)).room s m ([.ref (K 0)] : List Value).toArray below meth c H locs 0 0 (MQ below (mV (MW G K (up T 2 (T 1))) (AA K 12 s.heap.size)) ([.ref (K 0)] : List Value).toArray s 0 0 (AA K 12 s.heap.size)) (F0 m 2 ls []) := by
    intro fu
    induction fu with
    | zero => intro i zi ezi hi hmu; exact absurd hmu (Nat.not_lt_zero _)
    | succ fu ih2 =>
      intro i zi ezi hi hmu H locs hW hS ls hl
      refine lv_iload_n hx hb dX4_starts_2 rfl (lv_at hl 0 rfl) ?_
      refine ii_bipush hx hb dX4_starts_3 (by decide) ?_
      refine ii_icmp_ge (tgt := 26) hx hb dX4_starts_5 (by decide) (by omega) (by omega) (fun c_1 => ?_) (fun c_1 => ?_)
      · -- 5 -> 26
        have ex_i : 76 = i := by omega
        subst ex_i
        have hpw9 : (MW G K (up T 2 (T 1))) H := hW.re2 cpS_76
        exact W.vret hx hb hr (fun t ht hW9 => ⟨⟨(), rfl, trivial, by show (MW G K (up T 2 (T 1))) t.heap; rw [ht]; exact hpw9⟩, hS.F ht⟩) hS.2.2 dX4_starts_26
      · -- 5 -> 8
        refine lv_aload_n hx hb dX4_starts_8 rfl (lv_at hl 1 rfl) ?_
        refine r_get (ci := 4) (k := 1) (v := .ref (K 2)) (C := RX4) (T := TX4) (N := 29) Z hB hx hb hts hown rfl in_X4 hW.obj (by decide) q979 rfl dX4_starts_9 ?_
        refine lv_iload_n hx hb dX4_starts_12 rfl (lv_at hl 0 rfl) ?_
        refine lv_aload_n hx hb dX4_starts_13 rfl (lv_at hl 1 rfl) ?_
        refine r_get (ci := 4) (k := 0) (v := .ref (K 1)) (C := RX4) (T := TX4) (N := 29) Z hB hx hb hts hown rfl in_X4 hW.obj (by decide) q978 rfl dX4_starts_14 ?_
        refine lv_iload_n hx hb dX4_starts_17 rfl (lv_at hl 0 rfl) ?_
        refine r_iald (k := i) (f := (stF (up T 2 (cpS (T 1) (T 2) i)))) Z hB hx hb hW.st (by omega) (by omega) (by omega) dX4_starts_18 ?_
        rw [show stF (up T 2 (cpS (T 1) (T 2) i)) i = (T 1) i from stF_lo _ (by omega)]
        refine r_iast (k := i) Z hB hx hb hW.now hS (AA.me (by omega)) (by omega) (by omega) (by omega) dX4_starts_19 (MW G K (up (up T 2 (cpS (T 1) (T 2) i)) 2 (up (cpS (T 1) (T 2) i) i ((T 1) i)))) (fun H1 hz oq ha => hW.setA hI (j := 2) (by omega) (by omega) (fun h => absurd h (by omega)) oq ha) (fun H locs hW hS => ?_)
        have hW := hW.eqS (S' := (up T 2 (up (cpS (T 1) (T 2) i) i ((T 1) i)))) (by
            funext a
            by_cases h2 : a = 2
            · subst h2; rfl
            simp only [up, if_neg h2])
        refine ii_iinc (k := 0) (lv' := [(1, .int (iI (zi + 1))), (0, .ref (K 0))]) hx hb dX4_starts_20 hl rfl (by decide) rfl (fun ls hl => ?_)
        refine lv_goto (tgt := 2) hx hb dX4_starts_23 (by decide) ?_
        exact ih2 (i + 1) (zi + 1) (by omega) (by omega) (by omega) _ _ (by rw [← cpS_s]; exact hW) hS ls (lv_sub hl [0, 1] rfl)
  exact loop_2 _ 0 0 (by omega) (by omega) (Nat.lt_succ_self _) _ _ (by rw [cpS_z, show up T 2 (T 2) = T from up_id T 2]; exact hW) hS ls (lv_sub hl [0, 1] rfl)

set_option maxHeartbeats 1000000 in
set_option maxRecDepth 100000 in
theorem mX4_settles {l : Launch} {G : GG} {s0 : State} {b0 : Nat} (Z : ZZ l G s0 b0) (K : Nat → Nat) (hI : Own s0 K 12) (T : Sta) (F : Nat → Int) (eF : T 2 = F) (eN : T 1 76 = F 76) (sz : Nat) : Met l yX4_settles (ws_ yX4_settles cX4_settles 2 none) ({ frames := 0, cells := 0, slots := 0, locals := 0 } : Room) (pcM s0 sz (MW G K T) [.ref (K 0)]) (mV (MW G K (up T 1 F)) (AA K 12 sz)) 0 0 (AA K 12 sz) := by
  refine Met.ofW (cc := cX4_settles) (maxL := 2) (ret := none) (by decide) rfl ?_
  intro p e s m args below meth c s₁ B hml hv
  obtain ⟨rfl, hsz, hW, hB⟩ := hv
  subst hsz
  have hx := B.exec
  have hb := B.bytes
  have hr := B.returns
  have hts := atoms_spec (ws := (ws_ yX4_settles cX4_settles 2 none)) B.pre
  have hts : ∀ w ∈ lw_all, w.before _ s = true := fun w h => hts w (List.mem_cons_of_mem _ h)
  have hown : s.vm.findClass RX4 = some m.cls := findClass_of_methodNamed B.named
  have hlocks := B.notSynchronized
  have hN := AA.old hI hB
  have hS : va_S (AA K 12 s.heap.size) s.heap s.heap [] := va_S.rf
  have hl := lv_entry ([.ref (K 0)]) (n := 2) (Nat.le_of_ble_eq_true rfl)
  rw [lg_entry_eq]
  generalize (lg_sl ([.ref (K 0)]) ++ List.replicate (2 - (lg_sl ([.ref (K 0)])).length) Slot.unset).toArray = ls at hl ⊢
  have hl : lv_has ls 2 [(0, .ref (K 0))] := hl
  subst eF
  refine ii_const hx hb dX4_settles_0 ?_
  refine lv_istore_n (lv' := [(1, .int (iI 0)), (0, .ref (K 0))]) hx hb dX4_settles_1 rfl hl (by decide) rfl (fun ls hl => ?_)
  have loop_2 : ∀ (fu : Nat) (i : Nat) (zi : Int), (zi = (i : Int)) → (i ≤ 76) → (77 - i) < fu → ∀ (H : Heap) (locs : List Loc), (MW G K (up T 1 (cpS (T 2) (T 1) i))) H → va_S (AA K 12 s.heap.size) s.heap H locs → ∀ (ls : Array Slot), lv_has ls 2 [(1, .int (iI zi)), (0, .ref (K 0))] → W p l e (headSpec (ws_ yX4_settles cX4_settles 2 none) ({ frames := 0, cells := 0, slots := 0, locals := 0 } : Room)).room s m ([.ref (K 0)] : List Value).toArray below meth c H locs 0 0 (MQ below (mV (MW G K (up T 1 (T 2))) (AA K 12 s.heap.size)) ([.ref (K 0)] : List Value).toArray s 0 0 (AA K 12 s.heap.size)) (F0 m 2 ls []) := by
    intro fu
    induction fu with
    | zero => intro i zi ezi hi hmu; exact absurd hmu (Nat.not_lt_zero _)
    | succ fu ih2 =>
      intro i zi ezi hi hmu H locs hW hS ls hl
      refine lv_iload_n hx hb dX4_settles_2 rfl (lv_at hl 0 rfl) ?_
      refine ii_bipush hx hb dX4_settles_3 (by decide) ?_
      refine ii_icmp_ge (tgt := 26) hx hb dX4_settles_5 (by decide) (by omega) (by omega) (fun c_1 => ?_) (fun c_1 => ?_)
      · -- 5 -> 26
        have ex_i : 76 = i := by omega
        subst ex_i
        have hpw9 : (MW G K (up T 1 (T 2))) H := hW.re1 (cpS_77 eN)
        exact W.vret hx hb hr (fun t ht hW9 => ⟨⟨(), rfl, trivial, by show (MW G K (up T 1 (T 2))) t.heap; rw [ht]; exact hpw9⟩, hS.F ht⟩) hS.2.2 dX4_settles_26
      · -- 5 -> 8
        refine lv_aload_n hx hb dX4_settles_8 rfl (lv_at hl 1 rfl) ?_
        refine r_get (ci := 4) (k := 0) (v := .ref (K 1)) (C := RX4) (T := TX4) (N := 29) Z hB hx hb hts hown rfl in_X4 hW.obj (by decide) q978 rfl dX4_settles_9 ?_
        refine lv_iload_n hx hb dX4_settles_12 rfl (lv_at hl 0 rfl) ?_
        refine lv_aload_n hx hb dX4_settles_13 rfl (lv_at hl 1 rfl) ?_
        refine r_get (ci := 4) (k := 1) (v := .ref (K 2)) (C := RX4) (T := TX4) (N := 29) Z hB hx hb hts hown rfl in_X4 hW.obj (by decide) q979 rfl dX4_settles_14 ?_
        refine lv_iload_n hx hb dX4_settles_17 rfl (lv_at hl 0 rfl) ?_
        refine r_iald (k := i) (f := (T 2)) Z hB hx hb hW.now (by omega) (by omega) (by omega) dX4_settles_18 ?_
        refine r_iast (k := i) Z hB hx hb hW.st hS (AA.me (by omega)) (by omega) (by omega) (by omega) dX4_settles_19 (MW G K (up (up T 1 (cpS (T 2) (T 1) i)) 1 (up (cpS (T 2) (T 1) i) i ((T 2) i)))) (fun H1 hz oq ha => hW.setS hI (by omega) oq ha) (fun H locs hW hS => ?_)
        have hW := hW.eqS (S' := (up T 1 (up (cpS (T 2) (T 1) i) i ((T 2) i)))) (by
            funext a
            by_cases h1 : a = 1
            · subst h1; rfl
            simp only [up, if_neg h1])
        refine ii_iinc (k := 0) (lv' := [(1, .int (iI (zi + 1))), (0, .ref (K 0))]) hx hb dX4_settles_20 hl rfl (by decide) rfl (fun ls hl => ?_)
        refine lv_goto (tgt := 2) hx hb dX4_settles_23 (by decide) ?_
        exact ih2 (i + 1) (zi + 1) (by omega) (by omega) (by omega) _ _ (by rw [← cpS_s]; exact hW) hS ls (lv_sub hl [0, 1] rfl)
  exact loop_2 _ 0 0 (by omega) (by omega) (Nat.lt_succ_self _) _ _ (by rw [cpS_z, show up T 1 (T 1) = T from up_id T 1]; exact hW) hS ls (lv_sub hl [0, 1] rfl)

set_option maxHeartbeats 1000000 in
set_option maxRecDepth 100000 in
theorem mX4_becomes {l : Launch} {G : GG} {s0 : State} {b0 : Nat} (Z : ZZ l G s0 b0) (K : Nat → Nat) (hI : Own s0 K 12) (T : Sta) (F : Nat → Int) (eF : T 1 = F) (i : Nat) (zi : Int) (hzi : zi = (i : Int)) (hi76 : i < 76) (v : Int) (sz : Nat) : Met l yX4_becomes (ws_ yX4_becomes cX4_becomes 4 (some .int)) ({ frames := 0, cells := 0, slots := 0, locals := 0 } : Room) (pcM s0 sz (MW G K T) [.ref (K 0), .int (iI zi), .int (iI v)]) (mI (F i) (MW G K (up T 1 (up F i v))) (AA K 12 sz)) 0 0 (AA K 12 sz) := by
  refine Met.ofW (cc := cX4_becomes) (maxL := 4) (ret := (some .int)) (by decide) rfl ?_
  intro p e s m args below meth c s₁ B hml hv
  obtain ⟨rfl, hsz, hW, hB⟩ := hv
  subst hsz
  have hx := B.exec
  have hb := B.bytes
  have hr := B.returns
  have hts := atoms_spec (ws := (ws_ yX4_becomes cX4_becomes 4 (some .int))) B.pre
  have hts : ∀ w ∈ lw_all, w.before _ s = true := fun w h => hts w (List.mem_cons_of_mem _ h)
  have hown : s.vm.findClass RX4 = some m.cls := findClass_of_methodNamed B.named
  have hlocks := B.notSynchronized
  have hN := AA.old hI hB
  have hS : va_S (AA K 12 s.heap.size) s.heap s.heap [] := va_S.rf
  have hl := lv_entry ([.ref (K 0), .int (iI zi), .int (iI v)]) (n := 4) (Nat.le_of_ble_eq_true rfl)
  rw [lg_entry_eq]
  generalize (lg_sl ([.ref (K 0), .int (iI zi), .int (iI v)]) ++ List.replicate (4 - (lg_sl ([.ref (K 0), .int (iI zi), .int (iI v)])).length) Slot.unset).toArray = ls at hl ⊢
  have hl : lv_has ls 4 [(0, .ref (K 0)), (1, .int (iI zi)), (2, .int (iI v))] := hl
  subst eF
  refine lv_aload_n hx hb dX4_becomes_0 rfl (lv_at hl 0 rfl) ?_
  refine r_get (ci := 4) (k := 0) (v := .ref (K 1)) (C := RX4) (T := TX4) (N := 29) Z hB hx hb hts hown rfl in_X4 hW.obj (by decide) q978 rfl dX4_becomes_1 ?_
  refine lv_iload_n hx hb dX4_becomes_4 rfl (lv_at hl 1 rfl) ?_
  refine r_iald (k := i) (f := (stF T)) Z hB hx hb hW.st (by omega) (by omega) (by omega) dX4_becomes_5 ?_
  rw [show stF T i = (T 1) i from stF_lo _ (by omega)]
  refine lv_istore_n (lv' := [(3, .int (iI ((T 1) i))), (0, .ref (K 0)), (1, .int (iI zi)), (2, .int (iI v))]) hx hb dX4_becomes_6 rfl hl (by decide) rfl (fun ls hl => ?_)
  refine lv_aload_n hx hb dX4_becomes_7 rfl (lv_at hl 1 rfl) ?_
  refine r_get (ci := 4) (k := 0) (v := .ref (K 1)) (C := RX4) (T := TX4) (N := 29) Z hB hx hb hts hown rfl in_X4 hW.obj (by decide) q978 rfl dX4_becomes_8 ?_
  refine lv_iload_n hx hb dX4_becomes_11 rfl (lv_at hl 2 rfl) ?_
  refine lv_iload_n hx hb dX4_becomes_12 rfl (lv_at hl 3 rfl) ?_
  refine r_iast (k := i) Z hB hx hb hW.st hS (AA.me (by omega)) (by omega) (by omega) (by omega) dX4_becomes_13 (MW G K (up T 1 (up (T 1) i v))) (fun H1 hz oq ha => hW.setS hI (by omega) oq ha) (fun H locs hW hS => ?_)
  refine lv_iload_n hx hb dX4_becomes_14 rfl (lv_at hl 0 rfl) ?_
  have hpw9 : (MW G K (up T 1 (up (T 1) i v))) H := hW
  have he9 : ((T 1) i) = ((T 1) i) := rfl
  exact W.iret hx hb hr (fun t ht hW9 => ⟨⟨_, (), rfl, congrArg iI he9, by show (MW G K (up T 1 (up (T 1) i v))) t.heap; rw [ht]; exact hpw9⟩, hS.F ht⟩) hS.2.2 dX4_becomes_15

set_option maxHeartbeats 1000000 in
set_option maxRecDepth 100000 in
theorem mX4_ties {l : Launch} {G : GG} {s0 : State} {b0 : Nat} (Z : ZZ l G s0 b0) (K : Nat → Nat) (hI : Own s0 K 12) (T : Sta) (F : Nat → Int) (eF : T 2 = F) (hF : WF F) (zi zj zn : Int) (hr6 : F 53 < 6) (sz : Nat) : Met l yX4_ties (ws_ yX4_ties cX4_ties 5 none) ({ frames := 0, cells := 0, slots := 0, locals := 0 } : Room) (pcM s0 sz (MW G K T) [.ref (K 0), .int (iI zi), .int (iI zj), .int (iI zn)]) (mV (MW G K (up T 2 (wedS F zi zj zn))) (AA K 12 sz)) 0 0 (AA K 12 sz) := by
  refine Met.ofW (cc := cX4_ties) (maxL := 5) (ret := none) (by decide) rfl ?_
  intro p e s m args below meth c s₁ B hml hv
  obtain ⟨rfl, hsz, hW, hB⟩ := hv
  subst hsz
  have hx := B.exec
  have hb := B.bytes
  have hr := B.returns
  have hts := atoms_spec (ws := (ws_ yX4_ties cX4_ties 5 none)) B.pre
  have hts : ∀ w ∈ lw_all, w.before _ s = true := fun w h => hts w (List.mem_cons_of_mem _ h)
  have hown : s.vm.findClass RX4 = some m.cls := findClass_of_methodNamed B.named
  have hlocks := B.notSynchronized
  have hN := AA.old hI hB
  have hS : va_S (AA K 12 s.heap.size) s.heap s.heap [] := va_S.rf
  have hl := lv_entry ([.ref (K 0), .int (iI zi), .int (iI zj), .int (iI zn)]) (n := 5) (Nat.le_of_ble_eq_true rfl)
  rw [lg_entry_eq]
  generalize (lg_sl ([.ref (K 0), .int (iI zi), .int (iI zj), .int (iI zn)]) ++ List.replicate (5 - (lg_sl ([.ref (K 0), .int (iI zi), .int (iI zj), .int (iI zn)])).length) Slot.unset).toArray = ls at hl ⊢
  have hl : lv_has ls 5 [(0, .ref (K 0)), (1, .int (iI zi)), (2, .int (iI zj)), (3, .int (iI zn))] := hl
  subst eF
  have hrm := hF.rm
  refine ii_bipush hx hb dX4_ties_0 (by decide) ?_
  refine ii_const hx hb dX4_ties_2 ?_
  refine lv_aload_n hx hb dX4_ties_3 rfl (lv_at hl 0 rfl) ?_
  refine r_get (ci := 4) (k := 1) (v := .ref (K 2)) (C := RX4) (T := TX4) (N := 29) Z hB hx hb hts hown rfl in_X4 hW.obj (by decide) q979 rfl dX4_ties_4 ?_
  refine ii_bipush hx hb dX4_ties_7 (by decide) ?_
  have b_704 := hF.rm
  refine r_iald (k := 53) (f := (T 2)) Z hB hx hb hW.now (by omega) (by omega) (by omega) dX4_ties_9 ?_
  refine ii_mul hx hb dX4_ties_10 ?_
  refine ii_add hx hb dX4_ties_11 ?_
  refine lv_istore (lv' := [(4, .int (iI (35 + (3 * ((T 2) 53))))), (0, .ref (K 0)), (1, .int (iI zi)), (2, .int (iI zj)), (3, .int (iI zn))]) hx hb dX4_ties_12 hl (by decide) rfl (fun ls hl => ?_)
  refine lv_aload_n hx hb dX4_ties_14 rfl (lv_at hl 1 rfl) ?_
  refine r_get (ci := 4) (k := 1) (v := .ref (K 2)) (C := RX4) (T := TX4) (N := 29) Z hB hx hb hts hown rfl in_X4 hW.obj (by decide) q979 rfl dX4_ties_15 ?_
  refine lv_iload hx hb dX4_ties_18 (lv_at hl 0 rfl) ?_
  refine lv_iload_n hx hb dX4_ties_20 rfl (lv_at hl 2 rfl) ?_
  refine r_iast (k := (35 + (3 * ((T 2) 53))).toNat) Z hB hx hb hW.now hS (AA.me (by omega)) (by omega) (by omega) (by omega) dX4_ties_21 (MW G K (up T 2 (up (T 2) (35 + (3 * ((T 2) 53))).toNat zi))) (fun H1 hz oq ha => hW.setA hI (j := 2) (by omega) (by omega) (fun h => absurd h (by omega)) oq ha) (fun H locs hW hS => ?_)
  refine lv_aload_n hx hb dX4_ties_22 rfl (lv_at hl 1 rfl) ?_
  refine r_get (ci := 4) (k := 1) (v := .ref (K 2)) (C := RX4) (T := TX4) (N := 29) Z hB hx hb hts hown rfl in_X4 hW.obj (by decide) q979 rfl dX4_ties_23 ?_
  refine lv_iload hx hb dX4_ties_26 (lv_at hl 0 rfl) ?_
  refine ii_const hx hb dX4_ties_28 ?_
  refine ii_add hx hb dX4_ties_29 ?_
  refine lv_iload_n hx hb dX4_ties_30 rfl (lv_at hl 3 rfl) ?_
  refine r_iast (k := ((35 + (3 * ((T 2) 53))) + 1).toNat) Z hB hx hb hW.now hS (AA.me (by omega)) (by omega) (by omega) (by omega) dX4_ties_31 (MW G K (up (up T 2 (up (T 2) (35 + (3 * ((T 2) 53))).toNat zi)) 2 (up (up (T 2) (35 + (3 * ((T 2) 53))).toNat zi) ((35 + (3 * ((T 2) 53))) + 1).toNat zj))) (fun H1 hz oq ha => hW.setA hI (j := 2) (by omega) (by omega) (fun h => absurd h (by omega)) oq ha) (fun H locs hW hS => ?_)
  have hW := hW.eqS (S' := (up T 2 (up (up (T 2) (35 + (3 * ((T 2) 53))).toNat zi) ((35 + (3 * ((T 2) 53))) + 1).toNat zj))) (by
      funext a
      by_cases h2 : a = 2
      · subst h2; rfl
      simp only [up, if_neg h2])
  refine lv_aload_n hx hb dX4_ties_32 rfl (lv_at hl 1 rfl) ?_
  refine r_get (ci := 4) (k := 1) (v := .ref (K 2)) (C := RX4) (T := TX4) (N := 29) Z hB hx hb hts hown rfl in_X4 hW.obj (by decide) q979 rfl dX4_ties_33 ?_
  refine lv_iload hx hb dX4_ties_36 (lv_at hl 0 rfl) ?_
  refine ii_const hx hb dX4_ties_38 ?_
  refine ii_add hx hb dX4_ties_39 ?_
  refine lv_iload_n hx hb dX4_ties_40 rfl (lv_at hl 4 rfl) ?_
  refine r_iast (k := ((35 + (3 * ((T 2) 53))) + 2).toNat) Z hB hx hb hW.now hS (AA.me (by omega)) (by omega) (by omega) (by omega) dX4_ties_41 (MW G K (up (up T 2 (up (up (T 2) (35 + (3 * ((T 2) 53))).toNat zi) ((35 + (3 * ((T 2) 53))) + 1).toNat zj)) 2 (up (up (up (T 2) (35 + (3 * ((T 2) 53))).toNat zi) ((35 + (3 * ((T 2) 53))) + 1).toNat zj) ((35 + (3 * ((T 2) 53))) + 2).toNat zn))) (fun H1 hz oq ha => hW.setA hI (j := 2) (by omega) (by omega) (fun h => absurd h (by omega)) oq ha) (fun H locs hW hS => ?_)
  have hW := hW.eqS (S' := (up T 2 (up (up (up (T 2) (35 + (3 * ((T 2) 53))).toNat zi) ((35 + (3 * ((T 2) 53))) + 1).toNat zj) ((35 + (3 * ((T 2) 53))) + 2).toNat zn))) (by
      funext a
      by_cases h2 : a = 2
      · subst h2; rfl
      simp only [up, if_neg h2])
  refine lv_aload_n hx hb dX4_ties_42 rfl (lv_at hl 1 rfl) ?_
  refine r_get (ci := 4) (k := 1) (v := .ref (K 2)) (C := RX4) (T := TX4) (N := 29) Z hB hx hb hts hown rfl in_X4 hW.obj (by decide) q979 rfl dX4_ties_43 ?_
  refine ii_bipush hx hb dX4_ties_46 (by decide) ?_
  refine lv_dup2_11 hx hb dX4_ties_48 rfl rfl ?_
  refine r_iald (k := 53) (f := (up (up (up (T 2) (35 + (3 * ((T 2) 53))).toNat zi) ((35 + (3 * ((T 2) 53))) + 1).toNat zj) ((35 + (3 * ((T 2) 53))) + 2).toNat zn)) Z hB hx hb hW.now (by omega) (by omega) (by omega) dX4_ties_49 ?_
  refine ii_const hx hb dX4_ties_50 ?_
  refine ii_add hx hb dX4_ties_51 ?_
  refine r_iast (k := 53) Z hB hx hb hW.now hS (AA.me (by omega)) (by omega) (by omega) (by omega) dX4_ties_52 (MW G K (up (up T 2 (up (up (up (T 2) (35 + (3 * ((T 2) 53))).toNat zi) ((35 + (3 * ((T 2) 53))) + 1).toNat zj) ((35 + (3 * ((T 2) 53))) + 2).toNat zn)) 2 (up (up (up (up (T 2) (35 + (3 * ((T 2) 53))).toNat zi) ((35 + (3 * ((T 2) 53))) + 1).toNat zj) ((35 + (3 * ((T 2) 53))) + 2).toNat zn) 53 (((up (up (up (T 2) (35 + (3 * ((T 2) 53))).toNat zi) ((35 + (3 * ((T 2) 53))) + 1).toNat zj) ((35 + (3 * ((T 2) 53))) + 2).toNat zn) 53) + 1)))) (fun H1 hz oq ha => hW.setA hI (j := 2) (by omega) (by omega) (fun h => absurd h (by omega)) oq ha) (fun H locs hW hS => ?_)
  have hW := hW.eqS (S' := (up T 2 (up (up (up (up (T 2) (35 + (3 * ((T 2) 53))).toNat zi) ((35 + (3 * ((T 2) 53))) + 1).toNat zj) ((35 + (3 * ((T 2) 53))) + 2).toNat zn) 53 (((up (up (up (T 2) (35 + (3 * ((T 2) 53))).toNat zi) ((35 + (3 * ((T 2) 53))) + 1).toNat zj) ((35 + (3 * ((T 2) 53))) + 2).toNat zn) 53) + 1)))) (by
      funext a
      by_cases h2 : a = 2
      · subst h2; rfl
      simp only [up, if_neg h2])
  rw [show (35 + (3 * ((T 2) 53))).toNat = 35 + 3 * (T 2 53).toNat + 0 by omega, show ((35 + (3 * ((T 2) 53))) + 1).toNat = 35 + 3 * (T 2 53).toNat + 1 by omega, show ((35 + (3 * ((T 2) 53))) + 2).toNat = 35 + 3 * (T 2 53).toNat + 2 by omega] at hW
  have hpw9 : (MW G K (up T 2 (wedS (T 2) zi zj zn))) H := (by rw [show wedS (T 2) zi zj zn = (up (up (up (up (T 2) (35 + 3 * (T 2 53).toNat + 0) zi) (35 + 3 * (T 2 53).toNat + 1) zj) (35 + 3 * (T 2 53).toNat + 2) zn) 53 (((up (up (up (T 2) (35 + 3 * (T 2 53).toNat + 0) zi) (35 + 3 * (T 2 53).toNat + 1) zj) (35 + 3 * (T 2 53).toNat + 2) zn) 53) + 1)) by unfold wedS; rw [up_n _ _ (by omega), up_n _ _ (by omega), up_n _ _ (by omega)]]; exact hW)
  exact W.vret hx hb hr (fun t ht hW9 => ⟨⟨(), rfl, trivial, by show (MW G K (up T 2 (wedS (T 2) zi zj zn))) t.heap; rw [ht]; exact hpw9⟩, hS.F ht⟩) hS.2.2 dX4_ties_53

set_option maxHeartbeats 1000000 in
set_option maxRecDepth 100000 in
theorem mX4_feasts {l : Launch} {G : GG} {s0 : State} {b0 : Nat} (Z : ZZ l G s0 b0) (K : Nat → Nat) (hI : Own s0 K 12) (T : Sta) (F : Nat → Int) (eF : T 2 = F) (hF : WF F) (eN : T 1 76 = F 76) (i : Nat) (zi : Int) (hzi : zi = (i : Int)) (h5i : i < 5) (sz : Nat) : Met l yX4_feasts (ws_ yX4_feasts cX4_feasts 4 none) ({ frames := 3, cells := 0, slots := 0, locals := 70 } : Room) (pcM s0 sz (MW G K T) [.ref (K 0), .int (iI zi)]) (mV (MW G K (up T 2 (comeS F i))) (AA K 12 sz)) 0 0 (AA K 12 sz) := by
  refine Met.ofW (cc := cX4_feasts) (maxL := 4) (ret := none) (by decide) rfl ?_
  intro p e s m args below meth c s₁ B hml hv
  obtain ⟨rfl, hsz, hW, hB⟩ := hv
  subst hsz
  have hx := B.exec
  have hb := B.bytes
  have hr := B.returns
  have hts := atoms_spec (ws := (ws_ yX4_feasts cX4_feasts 4 none)) B.pre
  have hts : ∀ w ∈ lw_all, w.before _ s = true := fun w h => hts w (List.mem_cons_of_mem _ h)
  have hown : s.vm.findClass RX4 = some m.cls := findClass_of_methodNamed B.named
  have hlocks := B.notSynchronized
  have hN := AA.old hI hB
  have hS : va_S (AA K 12 s.heap.size) s.heap s.heap [] := va_S.rf
  have hl := lv_entry ([.ref (K 0), .int (iI zi)]) (n := 4) (Nat.le_of_ble_eq_true rfl)
  rw [lg_entry_eq]
  generalize (lg_sl ([.ref (K 0), .int (iI zi)]) ++ List.replicate (4 - (lg_sl ([.ref (K 0), .int (iI zi)])).length) Slot.unset).toArray = ls at hl ⊢
  have hl : lv_has ls 4 [(0, .ref (K 0)), (1, .int (iI zi))] := hl
  subst eF
  have hn5 := hF.n
  have hrm := hF.rm
  refine lv_aload_n hx hb dX4_feasts_0 rfl (lv_at hl 0 rfl) ?_
  refine lv_iload_n hx hb dX4_feasts_1 rfl (lv_at hl 1 rfl) ?_
  have hn_1 : (T 1) 76 = (T 2) 76 := by first | rfl | omega
  refine cqI (va_runV (As := [.int (iI zi)]) (rest := []) ⟨hx, hb, hml, hown, hts⟩ (mX4_nearest Z K T (T 2) rfl hF hn_1 i zi (by omega) (by omega)) (cwV 1 hts (lw_V q1193 q1195 qs56 q83 q1196) rfl rfl rfl (by decide +kernel) ⟨Nat.le_of_ble_eq_true rfl, Nat.le_of_ble_eq_true rfl⟩) (pvR (BornH.S hB hN hS) (OBJ.recv Z hB hW.obj (q := (RX4, TX4, 29)) rfl) hW) rfl rfl hl.1 rfl (lv_room (Nat.le_of_ble_eq_true rfl)) dX4_feasts_2 ⟨Nat.zero_le _, Nat.zero_le _⟩) ?_
  have b_705 := nearS_in (T 2) i ((T 2) 76).toNat
  refine lv_istore_n (lv' := [(2, .int (iI (nearS (T 2) i ((T 2) 76).toNat))), (0, .ref (K 0)), (1, .int (iI zi))]) hx hb dX4_feasts_5 rfl hl (by decide) rfl (fun ls hl => ?_)
  refine lv_iload_n hx hb dX4_feasts_6 rfl (lv_at hl 0 rfl) ?_
  refine ii_bipush hx hb dX4_feasts_7 (by decide) ?_
  refine ii_icmp_eq (tgt := 75) hx hb dX4_feasts_9 (by decide) (by omega) (by omega) (fun c_2 => ?_) (fun c_2 => ?_)
  · -- 9 -> 75
    have hpw9 : (MW G K (up T 2 (comeS (T 2) i))) s.heap := (by rw [show comeS (T 2) i = T 2 by unfold comeS; exact if_pos (by omega), show up T 2 (T 2) = T from up_id T 2]; exact hW)
    exact W.vret hx hb hr (fun t ht hW9 => ⟨⟨(), rfl, trivial, by show (MW G K (up T 2 (comeS (T 2) i))) t.heap; rw [ht]; exact hpw9⟩, hS.F ht⟩) hS.2.2 dX4_feasts_75
  · -- 9 -> 12
    refine lv_aload_n hx hb dX4_feasts_12 rfl (lv_at hl 1 rfl) ?_
    refine lv_iload_n hx hb dX4_feasts_13 rfl (lv_at hl 2 rfl) ?_
    refine lv_iload_n hx hb dX4_feasts_14 rfl (lv_at hl 0 rfl) ?_
    have hn_3 : (T 1) 76 = (T 2) 76 := by first | rfl | omega
    refine cqI (va_runV (As := [.int (iI zi), .int (iI (nearS (T 2) i ((T 2) 76).toNat))]) (rest := []) ⟨hx, hb, hml, hown, hts⟩ (mX4_apart Z K T (T 2) rfl hF hn_3 i zi (by omega) (by omega) (nearS (T 2) i ((T 2) 76).toNat).toNat (nearS (T 2) i ((T 2) 76).toNat) (by omega) (by omega)) (cwV 2 hts (lw_V q1159 q1161 qs50 q83 q1162) rfl rfl rfl (by decide +kernel) ⟨Nat.le_of_ble_eq_true rfl, Nat.le_of_ble_eq_true rfl⟩) (pvR (BornH.S hB hN hS) (OBJ.recv Z hB hW.obj (q := (RX4, TX4, 29)) rfl) hW) rfl rfl hl.1 rfl (lv_room (Nat.le_of_ble_eq_true rfl)) dX4_feasts_15 ⟨Nat.zero_le _, Nat.zero_le _⟩) ?_
    have b_706 := apS_in hF i (nearS (T 2) i ((T 2) 76).toNat).toNat (by omega) (by omega)
    refine ii_const hx hb dX4_feasts_18 ?_
    refine ii_icmp_le (tgt := 75) hx hb dX4_feasts_19 (by decide) (by omega) (by omega) (fun c_4 => ?_) (fun c_4 => ?_)
    · -- 19 -> 75
      have hpw9 : (MW G K (up T 2 (comeS (T 2) i))) s.heap := (by rw [show comeS (T 2) i = T 2 by unfold comeS; exact if_pos (by omega), show up T 2 (T 2) = T from up_id T 2]; exact hW)
      exact W.vret hx hb hr (fun t ht hW9 => ⟨⟨(), rfl, trivial, by show (MW G K (up T 2 (comeS (T 2) i))) t.heap; rw [ht]; exact hpw9⟩, hS.F ht⟩) hS.2.2 dX4_feasts_75
    · -- 19 -> 22
      have hne := ap_ne (F := T 2) (i := i) (n := (nearS (T 2) i ((T 2) 76).toNat).toNat) (by omega)
      refine lv_aload_n hx hb dX4_feasts_22 rfl (lv_at hl 1 rfl) ?_
      refine lv_iload_n hx hb dX4_feasts_23 rfl (lv_at hl 2 rfl) ?_
      have hn_5 : (T 1) 76 = (T 2) 76 := by first | rfl | omega
      refine cqI (va_runV (As := [.int (iI zi)]) (rest := []) ⟨hx, hb, hml, hown, hts⟩ (mX4_place Z K T (T 2) rfl hF hn_5 i zi (by omega) (by omega)) (cwV 1 hts (lw_V q1163 q1165 qs51 q83 q1166) rfl rfl rfl (by decide +kernel) ⟨Nat.le_of_ble_eq_true rfl, Nat.le_of_ble_eq_true rfl⟩) (pvR (BornH.S hB hN hS) (OBJ.recv Z hB hW.obj (q := (RX4, TX4, 29)) rfl) hW) rfl rfl hl.1 rfl (lv_room (Nat.le_of_ble_eq_true rfl)) dX4_feasts_24 ⟨Nat.zero_le _, Nat.zero_le _⟩) ?_
      have b_707 := hF.pl i (by omega)
      refine lv_aload_n hx hb dX4_feasts_27 rfl (lv_at hl 1 rfl) ?_
      refine lv_iload_n hx hb dX4_feasts_28 rfl (lv_at hl 0 rfl) ?_
      have hn_6 : (T 1) 76 = (T 2) 76 := by first | rfl | omega
      refine cqI (va_runV (As := [.int (iI (nearS (T 2) i ((T 2) 76).toNat))]) (rest := [.int (iI ((T 2) (2 * i + 1)))]) ⟨hx, hb, hml, hown, hts⟩ (mX4_place Z K T (T 2) rfl hF hn_6 (nearS (T 2) i ((T 2) 76).toNat).toNat (nearS (T 2) i ((T 2) 76).toNat) (by omega) (by omega)) (cwV 1 hts (lw_V q1163 q1165 qs51 q83 q1166) rfl rfl rfl (by decide +kernel) ⟨Nat.le_of_ble_eq_true rfl, Nat.le_of_ble_eq_true rfl⟩) (pvR (BornH.S hB hN hS) (OBJ.recv Z hB hW.obj (q := (RX4, TX4, 29)) rfl) hW) rfl rfl hl.1 rfl (lv_room (Nat.le_of_ble_eq_true rfl)) dX4_feasts_29 ⟨Nat.zero_le _, Nat.zero_le _⟩) ?_
      have b_708 := hF.pl (nearS (T 2) i ((T 2) 76).toNat).toNat (by omega)
      refine lv_aload_n hx hb dX4_feasts_32 rfl (lv_at hl 1 rfl) ?_
      refine lv_iload_n hx hb dX4_feasts_33 rfl (lv_at hl 2 rfl) ?_
      have hn_7 : (T 1) 76 = (T 2) 76 := by first | rfl | omega
      refine cqI (va_runV (As := [.int (iI zi)]) (rest := [.int (iI ((T 2) (2 * (nearS (T 2) i ((T 2) 76).toNat).toNat + 1))), .int (iI ((T 2) (2 * i + 1)))]) ⟨hx, hb, hml, hown, hts⟩ (mX4_place Z K T (T 2) rfl hF hn_7 i zi (by omega) (by omega)) (cwV 1 hts (lw_V q1163 q1165 qs51 q83 q1166) rfl rfl rfl (by decide +kernel) ⟨Nat.le_of_ble_eq_true rfl, Nat.le_of_ble_eq_true rfl⟩) (pvR (BornH.S hB hN hS) (OBJ.recv Z hB hW.obj (q := (RX4, TX4, 29)) rfl) hW) rfl rfl hl.1 rfl (lv_room (Nat.le_of_ble_eq_true rfl)) dX4_feasts_34 ⟨Nat.zero_le _, Nat.zero_le _⟩) ?_
      have b_709 := hF.pl i (by omega)
      refine ii_icmp_le (tgt := 44) hx hb dX4_feasts_37 (by decide) (by omega) (by omega) (fun c_8 => ?_) (fun c_8 => ?_)
      · -- 37 -> 44
        refine ii_const hx hb dX4_feasts_44 ?_
        refine ii_add hx hb dX4_feasts_45 ?_
        have hft : feastTo (T 2) i = (((T 2) (2 * i + 1)) + (-1)) := by unfold feastTo sgS; (repeat' split) <;> omega
        have hfb : -1 ≤ feastTo (T 2) i ∧ feastTo (T 2) i ≤ 100 := by omega
        rw [← hft]
        refine lv_istore_n (lv' := [(3, .int (iI (feastTo (T 2) i))), (2, .int (iI (nearS (T 2) i ((T 2) 76).toNat))), (0, .ref (K 0)), (1, .int (iI zi))]) hx hb dX4_feasts_46 rfl hl (by decide) rfl (fun ls hl => ?_)
        refine lv_aload_n hx hb dX4_feasts_47 rfl (lv_at hl 2 rfl) ?_
        refine r_get (ci := 4) (k := 1) (v := .ref (K 2)) (C := RX4) (T := TX4) (N := 29) Z hB hx hb hts hown rfl in_X4 hW.obj (by decide) q979 rfl dX4_feasts_48 ?_
        refine ii_const hx hb dX4_feasts_51 ?_
        refine lv_iload_n hx hb dX4_feasts_52 rfl (lv_at hl 3 rfl) ?_
        refine ii_mul hx hb dX4_feasts_53 ?_
        refine ii_const hx hb dX4_feasts_54 ?_
        refine ii_add hx hb dX4_feasts_55 ?_
        refine lv_aload_n hx hb dX4_feasts_56 rfl (lv_at hl 2 rfl) ?_
        refine lv_iload_n hx hb dX4_feasts_57 rfl (lv_at hl 3 rfl) ?_
        refine lv_iload_n hx hb dX4_feasts_58 rfl (lv_at hl 0 rfl) ?_
        have hn_9 : (T 1) 76 = (T 2) 76 := by first | rfl | omega
        refine cqI (va_runV (As := [.int (iI zi), .int (iI (feastTo (T 2) i))]) (rest := [.int (iI ((2 * zi) + 1)), .ref (K 2)]) ⟨hx, hb, hml, hown, hts⟩ (mX4_isHeld Z K T (T 2) rfl hF hn_9 i zi (by omega) (by omega) (feastTo (T 2) i) (by omega)) (cwV 2 hts (lw_V q1281 q1283 qs66 q83 q1284) rfl rfl rfl (by decide +kernel) ⟨Nat.le_of_ble_eq_true rfl, Nat.le_of_ble_eq_true rfl⟩) (pvR (BornH.S hB hN hS) (OBJ.recv Z hB hW.obj (q := (RX4, TX4, 29)) rfl) hW) rfl rfl hl.1 rfl (lv_room (Nat.le_of_ble_eq_true rfl)) dX4_feasts_59 ⟨Nat.zero_le _, Nat.zero_le _⟩) ?_
        refine bb_if_eq (P := heldS (T 2) i (feastTo (T 2) i) ((T 2) 53).toNat = true) (tgt := 73) hx hb dX4_feasts_62 (by decide) (fun c_10 => ?_) (fun c_10 => ?_)
        · -- 62 -> 73
          refine lv_iload_n hx hb dX4_feasts_73 rfl (lv_at hl 0 rfl) ?_
          refine r_iast (k := (2 * i + 1)) Z hB hx hb hW.now hS (AA.me (by omega)) (by omega) (by omega) (by omega) dX4_feasts_74 (MW G K (up T 2 (up (T 2) (2 * i + 1) (feastTo (T 2) i)))) (fun H1 hz oq ha => hW.setA hI (j := 2) (by omega) (by omega) (fun h => absurd h (by omega)) oq ha) (fun H locs hW hS => ?_)
          have hpw9 : (MW G K (up T 2 (comeS (T 2) i))) H := (by rw [show comeS (T 2) i = (up (T 2) (2 * i + 1) (feastTo (T 2) i)) by unfold comeS; rw [if_neg (by omega)]; first | exact if_pos (by assumption) | exact if_neg (by assumption)]; exact hW)
          exact W.vret hx hb hr (fun t ht hW9 => ⟨⟨(), rfl, trivial, by show (MW G K (up T 2 (comeS (T 2) i))) t.heap; rw [ht]; exact hpw9⟩, hS.F ht⟩) hS.2.2 dX4_feasts_75
        · -- 62 -> 65
          refine lv_aload_n hx hb dX4_feasts_65 rfl (lv_at hl 2 rfl) ?_
          refine lv_iload_n hx hb dX4_feasts_66 rfl (lv_at hl 3 rfl) ?_
          have hn_11 : (T 1) 76 = (T 2) 76 := by first | rfl | omega
          refine cqI (va_runV (As := [.int (iI zi)]) (rest := [.int (iI ((2 * zi) + 1)), .ref (K 2)]) ⟨hx, hb, hml, hown, hts⟩ (mX4_place Z K T (T 2) rfl hF hn_11 i zi (by omega) (by omega)) (cwV 1 hts (lw_V q1163 q1165 qs51 q83 q1166) rfl rfl rfl (by decide +kernel) ⟨Nat.le_of_ble_eq_true rfl, Nat.le_of_ble_eq_true rfl⟩) (pvR (BornH.S hB hN hS) (OBJ.recv Z hB hW.obj (q := (RX4, TX4, 29)) rfl) hW) rfl rfl hl.1 rfl (lv_room (Nat.le_of_ble_eq_true rfl)) dX4_feasts_67 ⟨Nat.zero_le _, Nat.zero_le _⟩) ?_
          have b_710 := hF.pl i (by omega)
          refine lv_goto (tgt := 74) hx hb dX4_feasts_70 (by decide) ?_
          refine r_iast (k := (2 * i + 1)) Z hB hx hb hW.now hS (AA.me (by omega)) (by omega) (by omega) (by omega) dX4_feasts_74 (MW G K (up T 2 (up (T 2) (2 * i + 1) ((T 2) (2 * i + 1))))) (fun H1 hz oq ha => hW.setA hI (j := 2) (by omega) (by omega) (fun h => absurd h (by omega)) oq ha) (fun H locs hW hS => ?_)
          have hpw9 : (MW G K (up T 2 (comeS (T 2) i))) H := (by rw [show comeS (T 2) i = (up (T 2) (2 * i + 1) ((T 2) (2 * i + 1))) by unfold comeS; rw [if_neg (by omega)]; first | exact if_pos (by assumption) | exact if_neg (by assumption)]; exact hW)
          exact W.vret hx hb hr (fun t ht hW9 => ⟨⟨(), rfl, trivial, by show (MW G K (up T 2 (comeS (T 2) i))) t.heap; rw [ht]; exact hpw9⟩, hS.F ht⟩) hS.2.2 dX4_feasts_75
      · -- 37 -> 40
        refine ii_const hx hb dX4_feasts_40 ?_
        refine lv_goto (tgt := 45) hx hb dX4_feasts_41 (by decide) ?_
        refine ii_add hx hb dX4_feasts_45 ?_
        have hft : feastTo (T 2) i = (((T 2) (2 * i + 1)) + 1) := by unfold feastTo sgS; (repeat' split) <;> omega
        have hfb : -1 ≤ feastTo (T 2) i ∧ feastTo (T 2) i ≤ 100 := by omega
        rw [← hft]
        refine lv_istore_n (lv' := [(3, .int (iI (feastTo (T 2) i))), (2, .int (iI (nearS (T 2) i ((T 2) 76).toNat))), (0, .ref (K 0)), (1, .int (iI zi))]) hx hb dX4_feasts_46 rfl hl (by decide) rfl (fun ls hl => ?_)
        refine lv_aload_n hx hb dX4_feasts_47 rfl (lv_at hl 2 rfl) ?_
        refine r_get (ci := 4) (k := 1) (v := .ref (K 2)) (C := RX4) (T := TX4) (N := 29) Z hB hx hb hts hown rfl in_X4 hW.obj (by decide) q979 rfl dX4_feasts_48 ?_
        refine ii_const hx hb dX4_feasts_51 ?_
        refine lv_iload_n hx hb dX4_feasts_52 rfl (lv_at hl 3 rfl) ?_
        refine ii_mul hx hb dX4_feasts_53 ?_
        refine ii_const hx hb dX4_feasts_54 ?_
        refine ii_add hx hb dX4_feasts_55 ?_
        refine lv_aload_n hx hb dX4_feasts_56 rfl (lv_at hl 2 rfl) ?_
        refine lv_iload_n hx hb dX4_feasts_57 rfl (lv_at hl 3 rfl) ?_
        refine lv_iload_n hx hb dX4_feasts_58 rfl (lv_at hl 0 rfl) ?_
        have hn_12 : (T 1) 76 = (T 2) 76 := by first | rfl | omega
        refine cqI (va_runV (As := [.int (iI zi), .int (iI (feastTo (T 2) i))]) (rest := [.int (iI ((2 * zi) + 1)), .ref (K 2)]) ⟨hx, hb, hml, hown, hts⟩ (mX4_isHeld Z K T (T 2) rfl hF hn_12 i zi (by omega) (by omega) (feastTo (T 2) i) (by omega)) (cwV 2 hts (lw_V q1281 q1283 qs66 q83 q1284) rfl rfl rfl (by decide +kernel) ⟨Nat.le_of_ble_eq_true rfl, Nat.le_of_ble_eq_true rfl⟩) (pvR (BornH.S hB hN hS) (OBJ.recv Z hB hW.obj (q := (RX4, TX4, 29)) rfl) hW) rfl rfl hl.1 rfl (lv_room (Nat.le_of_ble_eq_true rfl)) dX4_feasts_59 ⟨Nat.zero_le _, Nat.zero_le _⟩) ?_
        refine bb_if_eq (P := heldS (T 2) i (feastTo (T 2) i) ((T 2) 53).toNat = true) (tgt := 73) hx hb dX4_feasts_62 (by decide) (fun c_13 => ?_) (fun c_13 => ?_)
        · -- 62 -> 73
          refine lv_iload_n hx hb dX4_feasts_73 rfl (lv_at hl 0 rfl) ?_
          refine r_iast (k := (2 * i + 1)) Z hB hx hb hW.now hS (AA.me (by omega)) (by omega) (by omega) (by omega) dX4_feasts_74 (MW G K (up T 2 (up (T 2) (2 * i + 1) (feastTo (T 2) i)))) (fun H1 hz oq ha => hW.setA hI (j := 2) (by omega) (by omega) (fun h => absurd h (by omega)) oq ha) (fun H locs hW hS => ?_)
          have hpw9 : (MW G K (up T 2 (comeS (T 2) i))) H := (by rw [show comeS (T 2) i = (up (T 2) (2 * i + 1) (feastTo (T 2) i)) by unfold comeS; rw [if_neg (by omega)]; first | exact if_pos (by assumption) | exact if_neg (by assumption)]; exact hW)
          exact W.vret hx hb hr (fun t ht hW9 => ⟨⟨(), rfl, trivial, by show (MW G K (up T 2 (comeS (T 2) i))) t.heap; rw [ht]; exact hpw9⟩, hS.F ht⟩) hS.2.2 dX4_feasts_75
        · -- 62 -> 65
          refine lv_aload_n hx hb dX4_feasts_65 rfl (lv_at hl 2 rfl) ?_
          refine lv_iload_n hx hb dX4_feasts_66 rfl (lv_at hl 3 rfl) ?_
          have hn_14 : (T 1) 76 = (T 2) 76 := by first | rfl | omega
          refine cqI (va_runV (As := [.int (iI zi)]) (rest := [.int (iI ((2 * zi) + 1)), .ref (K 2)]) ⟨hx, hb, hml, hown, hts⟩ (mX4_place Z K T (T 2) rfl hF hn_14 i zi (by omega) (by omega)) (cwV 1 hts (lw_V q1163 q1165 qs51 q83 q1166) rfl rfl rfl (by decide +kernel) ⟨Nat.le_of_ble_eq_true rfl, Nat.le_of_ble_eq_true rfl⟩) (pvR (BornH.S hB hN hS) (OBJ.recv Z hB hW.obj (q := (RX4, TX4, 29)) rfl) hW) rfl rfl hl.1 rfl (lv_room (Nat.le_of_ble_eq_true rfl)) dX4_feasts_67 ⟨Nat.zero_le _, Nat.zero_le _⟩) ?_
          have b_711 := hF.pl i (by omega)
          refine lv_goto (tgt := 74) hx hb dX4_feasts_70 (by decide) ?_
          refine r_iast (k := (2 * i + 1)) Z hB hx hb hW.now hS (AA.me (by omega)) (by omega) (by omega) (by omega) dX4_feasts_74 (MW G K (up T 2 (up (T 2) (2 * i + 1) ((T 2) (2 * i + 1))))) (fun H1 hz oq ha => hW.setA hI (j := 2) (by omega) (by omega) (fun h => absurd h (by omega)) oq ha) (fun H locs hW hS => ?_)
          have hpw9 : (MW G K (up T 2 (comeS (T 2) i))) H := (by rw [show comeS (T 2) i = (up (T 2) (2 * i + 1) ((T 2) (2 * i + 1))) by unfold comeS; rw [if_neg (by omega)]; first | exact if_pos (by assumption) | exact if_neg (by assumption)]; exact hW)
          exact W.vret hx hb hr (fun t ht hW9 => ⟨⟨(), rfl, trivial, by show (MW G K (up T 2 (comeS (T 2) i))) t.heap; rw [ht]; exact hpw9⟩, hS.F ht⟩) hS.2.2 dX4_feasts_75
