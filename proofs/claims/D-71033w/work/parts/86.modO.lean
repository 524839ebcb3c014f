/-! MODEL: sulks read from a sheet (written by gen/mod14.py) -/
set_option maxRecDepth 100000
set_option maxHeartbeats 1000000 in
set_option maxRecDepth 100000 in
theorem mX4_read {l : Launch} {G : GG} {s0 : State} {b0 : Nat} (Z : ZZ l G s0 b0) (K : Nat → Nat) (hI : Own s0 K 12) (T : Sta) (F : Nat → Int) (eF : T 1 = F) (hF : WF F) (hsh : SheetOK T) (hcl : ∀ x : Nat, inR (T 10 x)) (k : Int) (hk : inR k) (lane : Int) (hlane : inR lane) (f : Int) (hf : inR f) (n : Int) (hn : inR n) (sz : Nat) : Met l yX4_read (ws_ yX4_read cX4_read 11 (some .int)) ({ frames := 4, cells := 0, slots := 0, locals := 91 } : Room) (pcM s0 sz (MW G K T) [.ref (K 0), .int (iI k), .int (iI lane), .int (iI f), .int (iI n)]) (mI (mreadA T k lane f n) (MWx G K (mreadT T k lane f n)) (AA K 12 sz)) 0 0 (AA K 12 sz) := by
  refine Met.ofW (cc := cX4_read) (maxL := 11) (ret := (some .int)) (by decide) rfl ?_
  intro p e s m args below meth c s₁ B hml hv
  obtain ⟨rfl, hsz, hW, hB⟩ := hv
  subst hsz
  have hx := B.exec
  have hb := B.bytes
  have hr := B.returns
  have hts := atoms_spec (ws := (ws_ yX4_read cX4_read 11 (some .int))) B.pre
  have hts : ∀ w ∈ lw_all, w.before _ s = true := fun w h => hts w (List.mem_cons_of_mem _ h)
  have hown : s.vm.findClass RX4 = some m.cls := findClass_of_methodNamed B.named
  have hlocks := B.notSynchronized
  have hN := AA.old hI hB
  have hS : va_S (AA K 12 s.heap.size) s.heap s.heap [] := va_S.rf
  have hl := lv_entry ([.ref (K 0), .int (iI k), .int (iI lane), .int (iI f), .int (iI n)]) (n := 11) (Nat.le_of_ble_eq_true rfl)
  rw [lg_entry_eq]
  generalize (lg_sl ([.ref (K 0), .int (iI k), .int (iI lane), .int (iI f), .int (iI n)]) ++ List.replicate (11 - (lg_sl ([.ref (K 0), .int (iI k), .int (iI lane), .int (iI f), .int (iI n)])).length) Slot.unset).toArray = ls at hl ⊢
  have hl : lv_has ls 11 [(0, .ref (K 0)), (1, .int (iI k)), (2, .int (iI lane)), (3, .int (iI f)), (4, .int (iI n))] := hl
  subst eF
  have hn5 := hF.n
  refine lv_iload_n hx hb dX4_read_0 rfl (lv_at hl 1 rfl) ?_
  refine lv_iload_n hx hb dX4_read_1 rfl (lv_at hl 2 rfl) ?_
  refine cqI (va_runS (As := [.int (iI k), .int (iI lane)]) (rest := []) ⟨hx, hb, hml, hown, hts⟩ (mX4_isSheet Z k (by omega) lane (by omega)) (va_cwS 2 hts (lw_S q1431 q1432 q83 q1433) rfl rfl rfl (by decide +kernel) ⟨Nat.le_of_ble_eq_true rfl, Nat.le_of_ble_eq_true rfl⟩) (psR (BornH.S hB hN hS) trivial) rfl rfl hl.1 rfl (lv_room (Nat.le_of_ble_eq_true rfl)) dX4_read_2 ⟨Nat.zero_le _, Nat.zero_le _⟩) ?_
  refine bb_if_eq (P := okSh k lane) (tgt := 21) hx hb dX4_read_5 (by decide) (fun c_1 => ?_) (fun c_1 => ?_)
  · -- 5 -> 21
    refine ii_const hx hb dX4_read_21 ?_
    have hpw9 : (MWx G K (mreadT T k lane f n)) s.heap := (by rw [show mreadT T k lane f n = T by unfold mreadT; exact if_pos (Or.inl (by omega))]; exact ⟨T, ⟨fun _ _ _ _ _ _ => rfl, fun _ _ _ _ _ _ => rfl⟩, hW⟩)
    have he9 : (-1) = (mreadA T k lane f n) := by unfold mreadA; exact (if_pos (by omega)).symm
    exact W.iret hx hb hr (fun t ht hW9 => ⟨⟨_, (), rfl, congrArg iI he9, by show (MWx G K (mreadT T k lane f n)) t.heap; rw [ht]; exact hpw9⟩, hS.F ht⟩) hS.2.2 dX4_read_22
  · -- 5 -> 8
    refine lv_iload hx hb dX4_read_8 (lv_at hl 4 rfl) ?_
    refine ii_i2l hx hb (by omega) dX4_read_10 ?_
    refine ii_lconst (z := 0) hx hb dX4_read_11 rfl ?_
    refine ii_ldc2 (z := 13) hx hb hts hown q1442 dX4_read_12 (by decide) ?_
    refine cqI (va_runS (As := [.long (lI n), .long (lI 0), .long (lI 13)]) (rest := []) ⟨hx, hb, hml, hown, hts⟩ (mX4_in Z n (by omega) 0 (by omega) 13 (by omega)) (va_cwS 3 hts (lw_S q1072 q1073 q83 q1074) rfl rfl rfl (by decide +kernel) ⟨Nat.le_of_ble_eq_true rfl, Nat.le_of_ble_eq_true rfl⟩) (psR (BornH.S hB hN hS) trivial) rfl rfl hl.1 rfl (lv_room (Nat.le_of_ble_eq_true rfl)) dX4_read_15 ⟨Nat.zero_le _, Nat.zero_le _⟩) ?_
    refine bb_if_ne (P := 0 ≤ n ∧ n ≤ 13) (tgt := 23) hx hb dX4_read_18 (by decide) (fun c_2 => ?_) (fun c_2 => ?_)
    · -- 18 -> 23
      have hs4 := hsh k.toNat (by omega)
      refine ii_const hx hb dX4_read_23 ?_
      refine lv_istore (lv' := [(5, .int (iI 0)), (0, .ref (K 0)), (1, .int (iI k)), (2, .int (iI lane)), (3, .int (iI f)), (4, .int (iI n))]) hx hb dX4_read_24 hl (by decide) rfl (fun ls hl => ?_)
      have loop_26 : ∀ (fu : Nat) (x : Nat) (zx : Int), (zx = (x : Int)) → (x ≤ 76) → (77 - x) < fu → ∀ (H : Heap) (locs : List Loc), (MW G K (up T 11 (cpS (T 1) (T 11) x))) H → va_S (AA K 12 s.heap.size) s.heap H locs → ∀ (ls : Array Slot), lv_has ls 11 [(5, .int (iI zx)), (0, .ref (K 0)), (1, .int (iI k)), (2, .int (iI lane)), (3, .int (iI f)), (4, .int (iI n))] → W p l e (headSpec (ws_ yX4_read cX4_read 11 (some .int)) ({ frames := 4, cells := 0, slots := 0, locals := 91 } : Room)).room s m ([.ref (K 0), .int (iI k), .int (iI lane), .int (iI f), .int (iI n)] : List Value).toArray below meth c H locs 0 0 (MQ below (mI (mreadA T k lane f n) (MWx G K (mreadT T k lane f n)) (AA K 12 s.heap.size)) ([.ref (K 0), .int (iI k), .int (iI lane), .int (iI f), .int (iI n)] : List Value).toArray s 0 0 (AA K 12 s.heap.size)) (F0 m 26 ls []) := by
        intro fu
        induction fu with
        | zero => intro x zx ezx hx9 hmu; exact absurd hmu (Nat.not_lt_zero _)
        | succ fu ih26 =>
          intro x zx ezx hx9 hmu H locs hW hS ls hl
          refine lv_iload hx hb dX4_read_26 (lv_at hl 0 rfl) ?_
          refine ii_bipush hx hb dX4_read_28 (by decide) ?_
          refine ii_icmp_ge (tgt := 53) hx hb dX4_read_30 (by decide) (by omega) (by omega) (fun c_3 => ?_) (fun c_3 => ?_)
          · -- 30 -> 53
            have ex_x : 76 = x := by omega
            subst ex_x
            refine ii_const hx hb dX4_read_53 ?_
            refine lv_istore (lv' := [(5, .int (iI 0)), (0, .ref (K 0)), (1, .int (iI k)), (2, .int (iI lane)), (3, .int (iI f)), (4, .int (iI n))]) hx hb dX4_read_54 hl (by decide) rfl (fun ls hl => ?_)
            refine ii_const hx hb dX4_read_56 ?_
            refine lv_istore (lv' := [(6, .int (iI 0)), (5, .int (iI 0)), (0, .ref (K 0)), (1, .int (iI k)), (2, .int (iI lane)), (3, .int (iI f)), (4, .int (iI n))]) hx hb dX4_read_57 hl (by decide) rfl (fun ls hl => ?_)
            refine ii_const hx hb dX4_read_59 ?_
            refine lv_istore (lv' := [(7, .int (iI 0)), (6, .int (iI 0)), (5, .int (iI 0)), (0, .ref (K 0)), (1, .int (iI k)), (2, .int (iI lane)), (3, .int (iI f)), (4, .int (iI n))]) hx hb dX4_read_60 hl (by decide) rfl (fun ls hl => ?_)
            have loop_62 : ∀ (fu : Nat) (i : Nat) (zi : Int) (rs : Int) (wh : Int) (F1 : Nat → Int), (zi = (i : Int)) → (i ≤ n.toNat) → (0 ≤ rs ∧ rs ≤ 3) → (RdSt (T 10) (T 1) (40 * k.toNat + f.toNat) (T 8 k.toNat) (T 9 k.toNat) lane f n.toNat i rs wh F1) → (WF F1) → (F1 76 = T 1 76) → (0 < i → rs = 0 → 0 ≤ f) → (14 - i) < fu → ∀ (H : Heap) (locs : List Loc), (MW G K (up (up T 1 F1) 11 (cpS (T 1) (T 11) 76))) H → va_S (AA K 12 s.heap.size) s.heap H locs → ∀ (ls : Array Slot), lv_has ls 11 [(7, .int (iI zi)), (6, .int (iI wh)), (5, .int (iI rs)), (0, .ref (K 0)), (1, .int (iI k)), (2, .int (iI lane)), (3, .int (iI f)), (4, .int (iI n))] → W p l e (headSpec (ws_ yX4_read cX4_read 11 (some .int)) ({ frames := 4, cells := 0, slots := 0, locals := 91 } : Room)).room s m ([.ref (K 0), .int (iI k), .int (iI lane), .int (iI f), .int (iI n)] : List Value).toArray below meth c H locs 0 0 (MQ below (mI (mreadA T k lane f n) (MWx G K (mreadT T k lane f n)) (AA K 12 s.heap.size)) ([.ref (K 0), .int (iI k), .int (iI lane), .int (iI f), .int (iI n)] : List Value).toArray s 0 0 (AA K 12 s.heap.size)) (F0 m 62 ls []) := by
              intro fu
              induction fu with
              | zero => intro i zi rs wh F1 ezi hi hrs hst hF1 hf76 hf0 hmu; exact absurd hmu (Nat.not_lt_zero _)
              | succ fu ih62 =>
                intro i zi rs wh F1 ezi hi hrs hst hF1 hf76 hf0 hmu H locs hW hS ls hl
                refine lv_iload hx hb dX4_read_62 (lv_at hl 0 rfl) ?_
                refine lv_iload hx hb dX4_read_64 (lv_at hl 7 rfl) ?_
                refine ii_icmp_ge (tgt := 259) hx hb dX4_read_66 (by decide) (by omega) (by omega) (fun c_4 => ?_) (fun c_4 => ?_)
                · -- 66 -> 259
                  obtain ⟨j9, hj1, hj2, hj3, hj4⟩ := hst.fin (by omega) (by omega)
                  refine lv_aload_n hx hb dX4_read_259 rfl (lv_at hl 3 rfl) ?_
                  refine lv_iload hx hb dX4_read_260 (lv_at hl 2 rfl) ?_
                  refine r_put (ci := 4) (k := 27) (C := RX4) (T := TX4) (N := 29) Z hB hx hb hts hown rfl in_X4 tyX4 tyX4_ok nmX4 hW.obj hS (AA.me (by omega)) (by decide) q1005 rfl rfl rfl rfl (Nat.le_of_ble_eq_true rfl) dX4_read_262 (MW G K (up (up (up T 1 F1) 11 (cpS (T 1) (T 11) 76)) 0 (up (T 0) 27 rs))) (fun H1 hz oq ho => hW.setO hI (k := 27) oq ho) (fun H locs hW hS => ?_)
                  have hW := hW.eqS (S' := (up (up (up T 0 (up (T 0) 27 rs)) 1 F1) 11 (cpS (T 1) (T 11) 76))) (by
                      funext a
                      by_cases h0 : a = 0
                      · subst h0
                        funext j
                        by_cases k0 : j = 27
                        · subst k0; rfl
                        simp only [up, if_neg k0, if_true, if_false, Nat.reduceEqDiff, reduceIte]
                      by_cases h1 : a = 1
                      · subst h1; rfl
                      by_cases h11 : a = 11
                      · subst h11; rfl
                      simp only [up, if_neg h0, if_neg h1, if_neg h11])
                  refine lv_iload hx hb dX4_read_265 (lv_at hl 1 rfl) ?_
                  have hpw9 : (MWx G K (mreadT T k lane f n)) H := (by rw [show mreadT T k lane f n = up (up T 0 (up (T 0) 27 rs)) 1 F1 by unfold mreadT rdM; rw [hj3, hj2]; exact if_neg (by omega)]; exact hW.x (fun a h0 h2 h6 h7 h11 => by first | rfl | simp only [up, if_neg h0, if_neg h11]) (fun j h1 h2 h3 h4 h5 => by first | rfl | simp [up]))
                  have he9 : wh = (mreadA T k lane f n) := by unfold mreadA rdM; rw [if_neg (by omega), hj3]; dsimp only; rw [if_neg (by omega)]; exact hj1
                  exact W.iret hx hb hr (fun t ht hW9 => ⟨⟨_, (), rfl, congrArg iI he9, by show (MWx G K (mreadT T k lane f n)) t.heap; rw [ht]; exact hpw9⟩, hS.F ht⟩) hS.2.2 dX4_read_267
                · -- 66 -> 69
                  refine lv_iload hx hb dX4_read_69 (lv_at hl 2 rfl) ?_
                  refine ii_if_ne (tgt := 259) hx hb dX4_read_71 (by decide) (by omega) (fun c_5 => ?_) (fun c_5 => ?_)
                  · -- 71 -> 259
                    obtain ⟨j9, hj1, hj2, hj3, hj4⟩ := hst.fin (by omega) (by omega)
                    refine lv_aload_n hx hb dX4_read_259 rfl (lv_at hl 3 rfl) ?_
                    refine lv_iload hx hb dX4_read_260 (lv_at hl 2 rfl) ?_
                    refine r_put (ci := 4) (k := 27) (C := RX4) (T := TX4) (N := 29) Z hB hx hb hts hown rfl in_X4 tyX4 tyX4_ok nmX4 hW.obj hS (AA.me (by omega)) (by decide) q1005 rfl rfl rfl rfl (Nat.le_of_ble_eq_true rfl) dX4_read_262 (MW G K (up (up (up T 1 F1) 11 (cpS (T 1) (T 11) 76)) 0 (up (T 0) 27 rs))) (fun H1 hz oq ho => hW.setO hI (k := 27) oq ho) (fun H locs hW hS => ?_)
                    have hW := hW.eqS (S' := (up (up (up T 0 (up (T 0) 27 rs)) 1 F1) 11 (cpS (T 1) (T 11) 76))) (by
                        funext a
                        by_cases h0 : a = 0
                        · subst h0
                          funext j
                          by_cases k0 : j = 27
                          · subst k0; rfl
                          simp only [up, if_neg k0, if_true, if_false, Nat.reduceEqDiff, reduceIte]
                        by_cases h1 : a = 1
                        · subst h1; rfl
                        by_cases h11 : a = 11
                        · subst h11; rfl
                        simp only [up, if_neg h0, if_neg h1, if_neg h11])
                    refine lv_iload hx hb dX4_read_265 (lv_at hl 1 rfl) ?_
                    have hpw9 : (MWx G K (mreadT T k lane f n)) H := (by rw [show mreadT T k lane f n = up (up T 0 (up (T 0) 27 rs)) 1 F1 by unfold mreadT rdM; rw [hj3, hj2]; exact if_neg (by omega)]; exact hW.x (fun a h0 h2 h6 h7 h11 => by first | rfl | simp only [up, if_neg h0, if_neg h11]) (fun j h1 h2 h3 h4 h5 => by first | rfl | simp [up]))
                    have he9 : wh = (mreadA T k lane f n) := by unfold mreadA rdM; rw [if_neg (by omega), hj3]; dsimp only; rw [if_neg (by omega)]; exact hj1
                    exact W.iret hx hb hr (fun t ht hW9 => ⟨⟨_, (), rfl, congrArg iI he9, by show (MWx G K (mreadT T k lane f n)) t.heap; rw [ht]; exact hpw9⟩, hS.F ht⟩) hS.2.2 dX4_read_267
                  · -- 71 -> 74
                    have c_rs := c_5
                    have hst0 : RdSt (T 10) (T 1) (40 * k.toNat + f.toNat) (T 8 k.toNat) (T 9 k.toNat) lane f n.toNat i 0 wh F1 := c_rs ▸ hst
                    refine ii_const hx hb dX4_read_74 ?_
                    refine lv_istore (lv' := [(8, .int (iI 0)), (7, .int (iI zi)), (6, .int (iI wh)), (5, .int (iI rs)), (0, .ref (K 0)), (1, .int (iI k)), (2, .int (iI lane)), (3, .int (iI f)), (4, .int (iI n))]) hx hb dX4_read_75 hl (by decide) rfl (fun ls hl => ?_)
                    have loop_77 : ∀ (fu : Nat) (a : Nat) (za : Int), (za = (a : Int)) → (a ≤ 3) → (4 - a) < fu → ∀ (H : Heap) (locs : List Loc), (MW G K (up (up T 1 F1) 11 (cpS (T 1) (T 11) 76))) H → va_S (AA K 12 s.heap.size) s.heap H locs → ∀ (ls : Array Slot), lv_has ls 11 [(8, .int (iI za)), (7, .int (iI zi)), (6, .int (iI wh)), (5, .int (iI (rsC (T 8 k.toNat) (T 9 k.toNat) lane f i a))), (0, .ref (K 0)), (1, .int (iI k)), (2, .int (iI lane)), (3, .int (iI f)), (4, .int (iI n))] → W p l e (headSpec (ws_ yX4_read cX4_read 11 (some .int)) ({ frames := 4, cells := 0, slots := 0, locals := 91 } : Room)).room s m ([.ref (K 0), .int (iI k), .int (iI lane), .int (iI f), .int (iI n)] : List Value).toArray below meth c H locs 0 0 (MQ below (mI (mreadA T k lane f n) (MWx G K (mreadT T k lane f n)) (AA K 12 s.heap.size)) ([.ref (K 0), .int (iI k), .int (iI lane), .int (iI f), .int (iI n)] : List Value).toArray s 0 0 (AA K 12 s.heap.size)) (F0 m 77 ls []) := by
                      intro fu
                      induction fu with
                      | zero => intro a za eza ha3 hmu; exact absurd hmu (Nat.not_lt_zero _)
                      | succ fu ih77 =>
                        intro a za eza ha3 hmu H locs hW hS ls hl
                        have hra := rsC_in (T 8 k.toNat) (T 9 k.toNat) lane f i a
                        refine lv_iload hx hb dX4_read_77 (lv_at hl 0 rfl) ?_
                        refine ii_const hx hb dX4_read_79 ?_
                        refine ii_icmp_ge (tgt := 164) hx hb dX4_read_80 (by decide) (by omega) (by omega) (fun c_6 => ?_) (fun c_6 => ?_)
                        · -- 80 -> 164
                          have ex_a : 3 = a := by omega
                          subst ex_a
                          refine lv_iload hx hb dX4_read_164 (lv_at hl 3 rfl) ?_
                          refine ii_if_ne (tgt := 253) hx hb dX4_read_166 (by decide) (by omega) (fun c_7 => ?_) (fun c_7 => ?_)
                          · -- 166 -> 253
                            refine ii_iinc (k := 1) (lv' := [(7, .int (iI (zi + 1))), (8, .int (iI za)), (6, .int (iI wh)), (5, .int (iI (rsC (T 8 k.toNat) (T 9 k.toNat) lane f i 3))), (0, .ref (K 0)), (1, .int (iI k)), (2, .int (iI lane)), (3, .int (iI f)), (4, .int (iI n))]) hx hb dX4_read_253 hl rfl (by decide) rfl (fun ls hl => ?_)
                            refine lv_goto (tgt := 62) hx hb dX4_read_256 (by decide) ?_
                            exact ih62 (i + 1) (zi + 1) (rsC (T 8 k.toNat) (T 9 k.toNat) lane f i 3) wh F1 (by omega) (by omega) (by first | omega | (have := rsC_in (T 8 k.toNat) (T 9 k.toNat) lane f i 3; omega)) (by first | exact hst0.stop (by omega) (by omega) (by omega) | exact hst0.go2 (by omega) (by omega) hsn) (by first | exact hF1 | exact sulkF_wf hF1 _ _ _) (by first | exact hf76 | exact (sulkF_same hF1 _ _ _ (by omega)).trans hf76) (by omega) (by omega) _ _ hW hS ls (lv_sub hl [0, 2, 3, 4, 5, 6, 7, 8] rfl)
                          · -- 166 -> 169
                            have hok := rsC_ok c_7
                            refine ii_bipush hx hb dX4_read_169 (by decide) ?_
                            refine lv_iload_n hx hb dX4_read_171 rfl (lv_at hl 5 rfl) ?_
                            refine ii_mul hx hb dX4_read_172 ?_
                            refine lv_iload_n hx hb dX4_read_173 rfl (lv_at hl 7 rfl) ?_
                            refine ii_add hx hb dX4_read_174 ?_
                            refine ii_const hx hb dX4_read_175 ?_
                            refine lv_iload hx hb dX4_read_176 (lv_at hl 1 rfl) ?_
                            refine ii_mul hx hb dX4_read_178 ?_
                            refine ii_add hx hb dX4_read_179 ?_
                            refine lv_istore (lv' := [(8, .int (iI (((40 * k) + f) + (3 * zi)))), (7, .int (iI zi)), (6, .int (iI wh)), (5, .int (iI (rsC (T 8 k.toNat) (T 9 k.toNat) lane f i 3))), (0, .ref (K 0)), (1, .int (iI k)), (2, .int (iI lane)), (3, .int (iI f)), (4, .int (iI n))]) hx hb dX4_read_180 hl (by decide) rfl (fun ls hl => ?_)
                            refine lv_aload_n hx hb dX4_read_182 rfl (lv_at hl 4 rfl) ?_
                            refine lv_aload_n hx hb dX4_read_183 rfl (lv_at hl 4 rfl) ?_
                            refine r_get (ci := 4) (k := 26) (v := .ref (K 10)) (C := RX4) (T := TX4) (N := 29) Z hB hx hb hts hown rfl in_X4 hW.obj (by decide) q1004 rfl dX4_read_184 ?_
                            refine lv_iload hx hb dX4_read_187 (lv_at hl 0 rfl) ?_
                            refine r_iald (k := (((40 * k.toNat) + f.toNat) + (3 * i))) (f := (T 10)) Z hB hx hb hW.cells (by omega) (by omega) (by omega) dX4_read_189 ?_
                            refine lv_aload_n hx hb dX4_read_190 rfl (lv_at hl 4 rfl) ?_
                            refine r_get (ci := 4) (k := 26) (v := .ref (K 10)) (C := RX4) (T := TX4) (N := 29) Z hB hx hb hts hown rfl in_X4 hW.obj (by decide) q1004 rfl dX4_read_191 ?_
                            refine lv_iload hx hb dX4_read_194 (lv_at hl 0 rfl) ?_
                            refine ii_const hx hb dX4_read_196 ?_
                            refine ii_add hx hb dX4_read_197 ?_
                            refine r_iald (k := ((((40 * k.toNat) + f.toNat) + (3 * i)) + 1)) (f := (T 10)) Z hB hx hb hW.cells (by omega) (by omega) (by omega) dX4_read_198 ?_
                            refine lv_aload_n hx hb dX4_read_199 rfl (lv_at hl 4 rfl) ?_
                            refine r_get (ci := 4) (k := 26) (v := .ref (K 10)) (C := RX4) (T := TX4) (N := 29) Z hB hx hb hts hown rfl in_X4 hW.obj (by decide) q1004 rfl dX4_read_200 ?_
                            refine lv_iload hx hb dX4_read_203 (lv_at hl 0 rfl) ?_
                            refine ii_const hx hb dX4_read_205 ?_
                            refine ii_add hx hb dX4_read_206 ?_
                            refine r_iald (k := ((((40 * k.toNat) + f.toNat) + (3 * i)) + 2)) (f := (T 10)) Z hB hx hb hW.cells (by omega) (by omega) (by omega) dX4_read_207 ?_
                            have hc_8 := hcl ((((40 * k.toNat) + f.toNat) + (3 * i)) + 2)
                            have hc_9 := hcl ((((40 * k.toNat) + f.toNat) + (3 * i)) + 1)
                            have hc_10 := hcl (((40 * k.toNat) + f.toNat) + (3 * i))
                            refine cmI (va_runV (As := [.int (iI ((T 10) (((40 * k.toNat) + f.toNat) + (3 * i)))), .int (iI ((T 10) ((((40 * k.toNat) + f.toNat) + (3 * i)) + 1))), .int (iI ((T 10) ((((40 * k.toNat) + f.toNat) + (3 * i)) + 2)))]) (rest := []) ⟨hx, hb, hml, hown, hts⟩ (mX4_sulk Z K hI (up (up T 1 F1) 11 (cpS (T 1) (T 11) 76)) F1 rfl hF1 ((T 10) (((40 * k.toNat) + f.toNat) + (3 * i))) (by omega) ((T 10) ((((40 * k.toNat) + f.toNat) + (3 * i)) + 1)) (by omega) ((T 10) ((((40 * k.toNat) + f.toNat) + (3 * i)) + 2)) (by omega) H.size) (cwV 3 hts (lw_V q1443 q1236 q1237 q83 q1238) rfl rfl rfl (by decide +kernel) ⟨Nat.le_of_ble_eq_true rfl, Nat.le_of_ble_eq_true rfl⟩) (pvM (BornH.S hB hN hS) (OBJ.recv Z hB hW.obj (q := (RX4, TX4, 29)) rfl) hW) rfl rfl hl.1 rfl (lv_room (Nat.le_of_ble_eq_true rfl)) dX4_read_208 ⟨Nat.zero_le _, Nat.zero_le _⟩) hS (AA.le hS.1) (fun H1 locs hW1 hz1 hk1 hS => ?_)
                            have hW := hW1
                            clear hW1 hk1 hz1
                            generalize H1 = H at hW hS ⊢
                            have hW := hW.eqS (S' := (up (up T 1 (sulkF F1 ((T 10) (((40 * k.toNat) + f.toNat) + (3 * i))) ((T 10) ((((40 * k.toNat) + f.toNat) + (3 * i)) + 1)) ((T 10) ((((40 * k.toNat) + f.toNat) + (3 * i)) + 2)))) 11 (cpS (T 1) (T 11) 76))) (by
                                funext a
                                by_cases h1 : a = 1
                                · subst h1; rfl
                                by_cases h11 : a = 11
                                · subst h11; rfl
                                simp only [up, if_neg h1, if_neg h11])
                            have hsv : rdN1 (T 10) (T 1) (40 * k.toNat + f.toNat) i = (sulkA F1 ((T 10) (((40 * k.toNat) + f.toNat) + (3 * i))) ((T 10) ((((40 * k.toNat) + f.toNat) + (3 * i)) + 1)) ((T 10) ((((40 * k.toNat) + f.toNat) + (3 * i)) + 2))) := by unfold rdN1; rw [← (hst0.at0).2.1]
                            have hsr := sulkA_in hF1 ((T 10) (((40 * k.toNat) + f.toNat) + (3 * i))) ((T 10) ((((40 * k.toNat) + f.toNat) + (3 * i)) + 1)) ((T 10) ((((40 * k.toNat) + f.toNat) + (3 * i)) + 2))
                            refine ii_if_ge (tgt := 250) hx hb dX4_read_211 (by decide) (by omega) (fun c_11 => ?_) (fun c_11 => ?_)
                            · -- 211 -> 250
                              have hsn : 0 ≤ rdN1 (T 10) (T 1) (40 * k.toNat + f.toNat) i := by rw [hsv]; exact c_11
                              refine ii_iinc (k := 2) (lv' := [(6, .int (iI (wh + 1))), (8, .int (iI (((40 * k) + f) + (3 * zi)))), (7, .int (iI zi)), (5, .int (iI (rsC (T 8 k.toNat) (T 9 k.toNat) lane f i 3))), (0, .ref (K 0)), (1, .int (iI k)), (2, .int (iI lane)), (3, .int (iI f)), (4, .int (iI n))]) hx hb dX4_read_250 hl rfl (by decide) rfl (fun ls hl => ?_)
                              refine ii_iinc (k := 2) (lv' := [(7, .int (iI (zi + 1))), (6, .int (iI (wh + 1))), (8, .int (iI (((40 * k) + f) + (3 * zi)))), (5, .int (iI (rsC (T 8 k.toNat) (T 9 k.toNat) lane f i 3))), (0, .ref (K 0)), (1, .int (iI k)), (2, .int (iI lane)), (3, .int (iI f)), (4, .int (iI n))]) hx hb dX4_read_253 hl rfl (by decide) rfl (fun ls hl => ?_)
                              refine lv_goto (tgt := 62) hx hb dX4_read_256 (by decide) ?_
                              exact ih62 (i + 1) (zi + 1) (rsC (T 8 k.toNat) (T 9 k.toNat) lane f i 3) (wh + 1) (sulkF F1 ((T 10) (((40 * k.toNat) + f.toNat) + (3 * i))) ((T 10) ((((40 * k.toNat) + f.toNat) + (3 * i)) + 1)) ((T 10) ((((40 * k.toNat) + f.toNat) + (3 * i)) + 2))) (by omega) (by omega) (by first | omega | (have := rsC_in (T 8 k.toNat) (T 9 k.toNat) lane f i 3; omega)) (by first | exact hst0.stop (by omega) (by omega) (by omega) | exact hst0.go2 (by omega) (by omega) hsn) (by first | exact hF1 | exact sulkF_wf hF1 _ _ _) (by first | exact hf76 | exact (sulkF_same hF1 _ _ _ (by omega)).trans hf76) (by omega) (by omega) _ _ hW hS ls (lv_sub hl [0, 1, 3, 4, 5, 6, 7, 8] rfl)
                            · -- 211 -> 214
                              have hsn0 : rdN1 (T 10) (T 1) (40 * k.toNat + f.toNat) i < 0 := by rw [hsv]; exact c_11
                              have hno := hst0.no (by omega) (by omega) hsn0
                              have hkp : (sulkF F1 ((T 10) (((40 * k.toNat) + f.toNat) + (3 * i))) ((T 10) ((((40 * k.toNat) + f.toNat) + (3 * i)) + 1)) ((T 10) ((((40 * k.toNat) + f.toNat) + (3 * i)) + 2))) = F1 := by unfold sulkF; exact if_neg (fun q => by have e9 : (sulkA F1 ((T 10) (((40 * k.toNat) + f.toNat) + (3 * i))) ((T 10) ((((40 * k.toNat) + f.toNat) + (3 * i)) + 1)) ((T 10) ((((40 * k.toNat) + f.toNat) + (3 * i)) + 2))) = F1 (10 + 5 * ((T 10) (((40 * k.toNat) + f.toNat) + (3 * i))).toNat + ((T 10) ((((40 * k.toNat) + f.toNat) + (3 * i)) + 1)).toNat) := if_pos q; have h9 : (0 ≤ ((T 10) (((40 * k.toNat) + f.toNat) + (3 * i))) ∧ ((T 10) (((40 * k.toNat) + f.toNat) + (3 * i))) ≤ F1 76 - 1) ∧ (0 ≤ ((T 10) ((((40 * k.toNat) + f.toNat) + (3 * i)) + 1)) ∧ ((T 10) ((((40 * k.toNat) + f.toNat) + (3 * i)) + 1)) ≤ F1 76 - 1) ∧ ((T 10) (((40 * k.toNat) + f.toNat) + (3 * i))) ≠ ((T 10) ((((40 * k.toNat) + f.toNat) + (3 * i)) + 1)) := q.1; have := hF1.n; have := hF1.cr ((T 10) (((40 * k.toNat) + f.toNat) + (3 * i))).toNat ((T 10) ((((40 * k.toNat) + f.toNat) + (3 * i)) + 1)).toNat (by omega) (by omega); omega)
                              refine ii_const hx hb dX4_read_214 ?_
                              refine lv_istore (lv' := [(9, .int (iI 0)), (8, .int (iI (((40 * k) + f) + (3 * zi)))), (7, .int (iI zi)), (6, .int (iI wh)), (5, .int (iI (rsC (T 8 k.toNat) (T 9 k.toNat) lane f i 3))), (0, .ref (K 0)), (1, .int (iI k)), (2, .int (iI lane)), (3, .int (iI f)), (4, .int (iI n))]) hx hb dX4_read_215 hl (by decide) rfl (fun ls hl => ?_)
                              have loop_217 : ∀ (fu : Nat) (x : Nat) (zx : Int), (zx = (x : Int)) → (x ≤ 76) → (77 - x) < fu → ∀ (H : Heap) (locs : List Loc), (MW G K (up (up T 1 (cpS (cpS (T 1) (T 11) 76) F1 x)) 11 (cpS (T 1) (T 11) 76))) H → va_S (AA K 12 s.heap.size) s.heap H locs → ∀ (ls : Array Slot), lv_has ls 11 [(9, .int (iI zx)), (8, .int (iI (((40 * k) + f) + (3 * zi)))), (7, .int (iI zi)), (6, .int (iI wh)), (5, .int (iI (rsC (T 8 k.toNat) (T 9 k.toNat) lane f i 3))), (0, .ref (K 0)), (1, .int (iI k)), (2, .int (iI lane)), (3, .int (iI f)), (4, .int (iI n))] → W p l e (headSpec (ws_ yX4_read cX4_read 11 (some .int)) ({ frames := 4, cells := 0, slots := 0, locals := 91 } : Room)).room s m ([.ref (K 0), .int (iI k), .int (iI lane), .int (iI f), .int (iI n)] : List Value).toArray below meth c H locs 0 0 (MQ below (mI (mreadA T k lane f n) (MWx G K (mreadT T k lane f n)) (AA K 12 s.heap.size)) ([.ref (K 0), .int (iI k), .int (iI lane), .int (iI f), .int (iI n)] : List Value).toArray s 0 0 (AA K 12 s.heap.size)) (F0 m 217 ls []) := by
                                intro fu
                                induction fu with
                                | zero => intro x zx ezx hx9 hmu; exact absurd hmu (Nat.not_lt_zero _)
                                | succ fu ih217 =>
                                  intro x zx ezx hx9 hmu H locs hW hS ls hl
                                  refine lv_iload hx hb dX4_read_217 (lv_at hl 0 rfl) ?_
                                  refine ii_bipush hx hb dX4_read_219 (by decide) ?_
                                  refine ii_icmp_ge (tgt := 244) hx hb dX4_read_221 (by decide) (by omega) (by omega) (fun c_12 => ?_) (fun c_12 => ?_)
                                  · -- 221 -> 244
                                    have ex_x : 76 = x := by omega
                                    subst ex_x
                                    refine ii_bipush hx hb dX4_read_244 (by decide) ?_
                                    refine lv_iload hx hb dX4_read_246 (lv_at hl 2 rfl) ?_
                                    refine ii_sub hx hb dX4_read_248 ?_
                                    have hpw9 : (MWx G K (mreadT T k lane f n)) H := (by rw [show mreadT T k lane f n = T by unfold mreadT rdM; rw [hno]; exact if_pos (Or.inr rfl)]; exact hW.back1 (kp_eq hf76))
                                    have he9 : ((-20) - zi) = (mreadA T k lane f n) := by unfold mreadA rdM; rw [if_neg (by omega), hno]; dsimp only; rw [if_pos rfl, ← ezi]
                                    exact W.iret hx hb hr (fun t ht hW9 => ⟨⟨_, (), rfl, congrArg iI he9, by show (MWx G K (mreadT T k lane f n)) t.heap; rw [ht]; exact hpw9⟩, hS.F ht⟩) hS.2.2 dX4_read_249
                                  · -- 221 -> 224
                                    refine lv_aload_n hx hb dX4_read_224 rfl (lv_at hl 5 rfl) ?_
                                    refine r_get (ci := 4) (k := 0) (v := .ref (K 1)) (C := RX4) (T := TX4) (N := 29) Z hB hx hb hts hown rfl in_X4 hW.obj (by decide) q978 rfl dX4_read_225 ?_
                                    refine lv_iload hx hb dX4_read_228 (lv_at hl 0 rfl) ?_
                                    refine lv_aload_n hx hb dX4_read_230 rfl (lv_at hl 5 rfl) ?_
                                    refine r_get (ci := 4) (k := 28) (v := .ref (K 11)) (C := RX4) (T := TX4) (N := 29) Z hB hx hb hts hown rfl in_X4 hW.obj (by decide) q1006 rfl dX4_read_231 ?_
                                    refine lv_iload hx hb dX4_read_234 (lv_at hl 0 rfl) ?_
                                    refine r_iald (k := x) (f := (cpS (T 1) (T 11) 76)) Z hB hx hb hW.before (by omega) (by omega) (by omega) dX4_read_236 ?_
                                    refine r_iast (k := x) Z hB hx hb hW.st hS (AA.me (by omega)) (by omega) (by omega) (by omega) dX4_read_237 (MW G K (up (up (up T 1 (cpS (cpS (T 1) (T 11) 76) F1 x)) 11 (cpS (T 1) (T 11) 76)) 1 (up (cpS (cpS (T 1) (T 11) 76) F1 x) x ((cpS (T 1) (T 11) 76) x)))) (fun H1 hz oq ha => hW.setS hI (by omega) oq ha) (fun H locs hW hS => ?_)
                                    have hW := hW.eqS (S' := (up (up T 1 (up (cpS (cpS (T 1) (T 11) 76) F1 x) x ((cpS (T 1) (T 11) 76) x))) 11 (cpS (T 1) (T 11) 76))) (by
                                        funext a
                                        by_cases h1 : a = 1
                                        · subst h1; rfl
                                        by_cases h11 : a = 11
                                        · subst h11; rfl
                                        simp only [up, if_neg h1, if_neg h11])
                                    refine ii_iinc (k := 0) (lv' := [(9, .int (iI (zx + 1))), (8, .int (iI (((40 * k) + f) + (3 * zi)))), (7, .int (iI zi)), (6, .int (iI wh)), (5, .int (iI (rsC (T 8 k.toNat) (T 9 k.toNat) lane f i 3))), (0, .ref (K 0)), (1, .int (iI k)), (2, .int (iI lane)), (3, .int (iI f)), (4, .int (iI n))]) hx hb dX4_read_238 hl rfl (by decide) rfl (fun ls hl => ?_)
                                    refine lv_goto (tgt := 217) hx hb dX4_read_241 (by decide) ?_
                                    exact ih217 (x + 1) (zx + 1) (by omega) (by omega) (by omega) _ _ (by rw [← cpS_s]; exact hW) hS ls (lv_sub hl [0, 1, 2, 3, 4, 5, 6, 7, 8, 9] rfl)
                              exact loop_217 _ 0 0 (by omega) (by omega) (Nat.lt_succ_self _) _ _ (by rw [cpS_z, ← hkp]; exact hW) hS ls (lv_sub hl [0, 1, 2, 3, 4, 5, 6, 7, 8, 9] rfl)
                        · -- 80 -> 83
                          refine lv_iload hx hb dX4_read_83 (lv_at hl 3 rfl) ?_
                          refine ii_if_ne (tgt := 164) hx hb dX4_read_85 (by decide) (by omega) (fun c_13 => ?_) (fun c_13 => ?_)
                          · -- 85 -> 164
                            refine lv_iload hx hb dX4_read_164 (lv_at hl 3 rfl) ?_
                            refine ii_if_ne (tgt := 253) hx hb dX4_read_166 (by decide) (by omega) (fun c_14 => ?_) (fun c_14 => ?_)
                            · -- 166 -> 253
                              refine ii_iinc (k := 1) (lv' := [(7, .int (iI (zi + 1))), (8, .int (iI za)), (6, .int (iI wh)), (5, .int (iI (rsC (T 8 k.toNat) (T 9 k.toNat) lane f i a))), (0, .ref (K 0)), (1, .int (iI k)), (2, .int (iI lane)), (3, .int (iI f)), (4, .int (iI n))]) hx hb dX4_read_253 hl rfl (by decide) rfl (fun ls hl => ?_)
                              refine lv_goto (tgt := 62) hx hb dX4_read_256 (by decide) ?_
                              exact ih62 (i + 1) (zi + 1) (rsC (T 8 k.toNat) (T 9 k.toNat) lane f i a) wh F1 (by omega) (by omega) (by first | omega | (have := rsC_in (T 8 k.toNat) (T 9 k.toNat) lane f i 3; omega)) (by first | exact hst0.stop (by omega) (by omega) (by omega) | exact hst0.go2 (by omega) (by omega) hsn) (by first | exact hF1 | exact sulkF_wf hF1 _ _ _) (by first | exact hf76 | exact (sulkF_same hF1 _ _ _ (by omega)).trans hf76) (by omega) (by omega) _ _ hW hS ls (lv_sub hl [0, 2, 3, 4, 5, 6, 7, 8] rfl)
                            · -- 166 -> 169
                              exact absurd c_14 (by omega)
                          · -- 85 -> 88
                            refine lv_iload_n hx hb dX4_read_88 rfl (lv_at hl 7 rfl) ?_
                            refine ii_i2l hx hb (by omega) dX4_read_89 ?_
                            refine ii_const hx hb dX4_read_90 ?_
                            refine lv_iload hx hb dX4_read_91 (lv_at hl 1 rfl) ?_
                            refine ii_mul hx hb dX4_read_93 ?_
                            refine ii_i2l hx hb (by omega) dX4_read_94 ?_
                            refine ll_add hx hb dX4_read_95 ?_
                            refine lv_iload hx hb dX4_read_96 (lv_at hl 0 rfl) ?_
                            refine ii_i2l hx hb (by omega) dX4_read_98 ?_
                            refine ll_add hx hb dX4_read_99 ?_
                            refine lv_lstore (lv' := [(9, .long (lI ((f + (3 * zi)) + za))), (8, .int (iI za)), (7, .int (iI zi)), (6, .int (iI wh)), (5, .int (iI (rsC (T 8 k.toNat) (T 9 k.toNat) lane f i a))), (0, .ref (K 0)), (1, .int (iI k)), (2, .int (iI lane)), (3, .int (iI f)), (4, .int (iI n))]) hx hb dX4_read_100 hl (by decide) rfl (fun ls hl => ?_)
                            refine lv_aload_n hx hb dX4_read_102 rfl (lv_at hl 5 rfl) ?_
                            refine r_get (ci := 4) (k := 24) (v := .ref (K 8)) (C := RX4) (T := TX4) (N := 29) Z hB hx hb hts hown rfl in_X4 hW.obj (by decide) q1002 rfl dX4_read_103 ?_
                            refine lv_iload_n hx hb dX4_read_106 rfl (lv_at hl 6 rfl) ?_
                            refine r_iald (k := k.toNat) (f := (T 8)) Z hB hx hb hW.lanes (by omega) (by omega) (by omega) dX4_read_107 ?_
                            refine ii_bipush hx hb dX4_read_108 (by decide) ?_
                            refine ii_icmp_ne (tgt := 117) hx hb dX4_read_110 (by decide) (by omega) (by omega) (fun c_15 => ?_) (fun c_15 => ?_)
                            · -- 110 -> 117
                              refine lv_aload_n hx hb dX4_read_117 rfl (lv_at hl 5 rfl) ?_
                              refine r_get (ci := 4) (k := 24) (v := .ref (K 8)) (C := RX4) (T := TX4) (N := 29) Z hB hx hb hts hown rfl in_X4 hW.obj (by decide) q1002 rfl dX4_read_118 ?_
                              refine lv_iload_n hx hb dX4_read_121 rfl (lv_at hl 6 rfl) ?_
                              refine r_iald (k := k.toNat) (f := (T 8)) Z hB hx hb hW.lanes (by omega) (by omega) (by omega) dX4_read_122 ?_
                              refine lv_iload_n hx hb dX4_read_123 rfl (lv_at hl 7 rfl) ?_
                              refine ii_icmp_eq (tgt := 131) hx hb dX4_read_124 (by decide) (by omega) (by omega) (fun c_16 => ?_) (fun c_16 => ?_)
                              · -- 124 -> 131
                                refine lv_lload hx hb dX4_read_131 (lv_at hl 0 rfl) ?_
                                refine ii_lconst (z := 0) hx hb dX4_read_133 rfl ?_
                                refine ll_cmp hx hb (by omega) (by omega) dX4_read_134 ?_
                                refine ii_if_lt (tgt := 151) hx hb dX4_read_135 (by decide) (by have := cmpZ_in ((f + (3 * zi)) + za) 0; omega) (fun c_17 => ?_) (fun c_17 => ?_)
                                · -- 135 -> 151
                                  have c_17 := cmpZ_lt.mp c_17
                                  refine ii_const hx hb dX4_read_151 ?_
                                  refine lv_goto (tgt := 156) hx hb dX4_read_152 (by decide) ?_
                                  refine lv_istore (lv' := [(5, .int (iI 2)), (9, .long (lI ((f + (3 * zi)) + za))), (8, .int (iI za)), (7, .int (iI zi)), (6, .int (iI wh)), (0, .ref (K 0)), (1, .int (iI k)), (2, .int (iI lane)), (3, .int (iI f)), (4, .int (iI n))]) hx hb dX4_read_156 hl (by decide) rfl (fun ls hl => ?_)
                                  refine ii_iinc (k := 2) (lv' := [(8, .int (iI (za + 1))), (5, .int (iI 2)), (9, .long (lI ((f + (3 * zi)) + za))), (7, .int (iI zi)), (6, .int (iI wh)), (0, .ref (K 0)), (1, .int (iI k)), (2, .int (iI lane)), (3, .int (iI f)), (4, .int (iI n))]) hx hb dX4_read_158 hl rfl (by decide) rfl (fun ls hl => ?_)
                                  refine lv_goto (tgt := 77) hx hb dX4_read_161 (by decide) ?_
                                  have e_18 : (rsC (T 8 k.toNat) (T 9 k.toNat) lane f i (a + 1)) = 2 := by simp only [rsC]; rw [if_pos (by omega)]; unfold rs1; (repeat' split) <;> omega
                                  exact ih77 (a + 1) (za + 1) (by omega) (by omega) (by omega) _ _ hW hS ls (by rw [e_18]; exact lv_sub hl [0, 3, 4, 1, 5, 6, 7, 8, 9] rfl)
                                · -- 135 -> 138
                                  have c_17 := cmpZ_ge.mp c_17
                                  refine lv_lload hx hb dX4_read_138 (lv_at hl 0 rfl) ?_
                                  refine lv_aload_n hx hb dX4_read_140 rfl (lv_at hl 5 rfl) ?_
                                  refine r_get (ci := 4) (k := 25) (v := .ref (K 9)) (C := RX4) (T := TX4) (N := 29) Z hB hx hb hts hown rfl in_X4 hW.obj (by decide) q1003 rfl dX4_read_141 ?_
                                  refine lv_iload_n hx hb dX4_read_144 rfl (lv_at hl 6 rfl) ?_
                                  refine r_iald (k := k.toNat) (f := (T 9)) Z hB hx hb hW.sizes (by omega) (by omega) (by omega) dX4_read_145 ?_
                                  refine ii_i2l hx hb (by omega) dX4_read_146 ?_
                                  refine ll_cmp hx hb (by omega) (by omega) dX4_read_147 ?_
                                  refine ii_if_lt (tgt := 155) hx hb dX4_read_148 (by decide) (by have := cmpZ_in ((f + (3 * zi)) + za) ((T 9) k.toNat); omega) (fun c_19 => ?_) (fun c_19 => ?_)
                                  · -- 148 -> 155
                                    have c_19 := cmpZ_lt.mp c_19
                                    refine ii_const hx hb dX4_read_155 ?_
                                    refine lv_istore (lv' := [(5, .int (iI 0)), (9, .long (lI ((f + (3 * zi)) + za))), (8, .int (iI za)), (7, .int (iI zi)), (6, .int (iI wh)), (0, .ref (K 0)), (1, .int (iI k)), (2, .int (iI lane)), (3, .int (iI f)), (4, .int (iI n))]) hx hb dX4_read_156 hl (by decide) rfl (fun ls hl => ?_)
                                    refine ii_iinc (k := 2) (lv' := [(8, .int (iI (za + 1))), (5, .int (iI 0)), (9, .long (lI ((f + (3 * zi)) + za))), (7, .int (iI zi)), (6, .int (iI wh)), (0, .ref (K 0)), (1, .int (iI k)), (2, .int (iI lane)), (3, .int (iI f)), (4, .int (iI n))]) hx hb dX4_read_158 hl rfl (by decide) rfl (fun ls hl => ?_)
                                    refine lv_goto (tgt := 77) hx hb dX4_read_161 (by decide) ?_
                                    have e_20 : (rsC (T 8 k.toNat) (T 9 k.toNat) lane f i (a + 1)) = 0 := by simp only [rsC]; rw [if_pos (by omega)]; unfold rs1; (repeat' split) <;> omega
                                    exact ih77 (a + 1) (za + 1) (by omega) (by omega) (by omega) _ _ hW hS ls (by rw [e_20]; exact lv_sub hl [0, 3, 4, 1, 5, 6, 7, 8, 9] rfl)
                                  · -- 148 -> 151
                                    have c_19 := cmpZ_ge.mp c_19
                                    refine ii_const hx hb dX4_read_151 ?_
                                    refine lv_goto (tgt := 156) hx hb dX4_read_152 (by decide) ?_
                                    refine lv_istore (lv' := [(5, .int (iI 2)), (9, .long (lI ((f + (3 * zi)) + za))), (8, .int (iI za)), (7, .int (iI zi)), (6, .int (iI wh)), (0, .ref (K 0)), (1, .int (iI k)), (2, .int (iI lane)), (3, .int (iI f)), (4, .int (iI n))]) hx hb dX4_read_156 hl (by decide) rfl (fun ls hl => ?_)
                                    refine ii_iinc (k := 2) (lv' := [(8, .int (iI (za + 1))), (5, .int (iI 2)), (9, .long (lI ((f + (3 * zi)) + za))), (7, .int (iI zi)), (6, .int (iI wh)), (0, .ref (K 0)), (1, .int (iI k)), (2, .int (iI lane)), (3, .int (iI f)), (4, .int (iI n))]) hx hb dX4_read_158 hl rfl (by decide) rfl (fun ls hl => ?_)
                                    refine lv_goto (tgt := 77) hx hb dX4_read_161 (by decide) ?_
                                    have e_21 : (rsC (T 8 k.toNat) (T 9 k.toNat) lane f i (a + 1)) = 2 := by simp only [rsC]; rw [if_pos (by omega)]; unfold rs1; (repeat' split) <;> omega
                                    exact ih77 (a + 1) (za + 1) (by omega) (by omega) (by omega) _ _ hW hS ls (by rw [e_21]; exact lv_sub hl [0, 3, 4, 1, 5, 6, 7, 8, 9] rfl)
                              · -- 124 -> 127
                                refine ii_const hx hb dX4_read_127 ?_
                                refine lv_goto (tgt := 156) hx hb dX4_read_128 (by decide) ?_
                                refine lv_istore (lv' := [(5, .int (iI 3)), (9, .long (lI ((f + (3 * zi)) + za))), (8, .int (iI za)), (7, .int (iI zi)), (6, .int (iI wh)), (0, .ref (K 0)), (1, .int (iI k)), (2, .int (iI lane)), (3, .int (iI f)), (4, .int (iI n))]) hx hb dX4_read_156 hl (by decide) rfl (fun ls hl => ?_)
                                refine ii_iinc (k := 2) (lv' := [(8, .int (iI (za + 1))), (5, .int (iI 3)), (9, .long (lI ((f + (3 * zi)) + za))), (7, .int (iI zi)), (6, .int (iI wh)), (0, .ref (K 0)), (1, .int (iI k)), (2, .int (iI lane)), (3, .int (iI f)), (4, .int (iI n))]) hx hb dX4_read_158 hl rfl (by decide) rfl (fun ls hl => ?_)
                                refine lv_goto (tgt := 77) hx hb dX4_read_161 (by decide) ?_
                                have e_22 : (rsC (T 8 k.toNat) (T 9 k.toNat) lane f i (a + 1)) = 3 := by simp only [rsC]; rw [if_pos (by omega)]; unfold rs1; (repeat' split) <;> omega
                                exact ih77 (a + 1) (za + 1) (by omega) (by omega) (by omega) _ _ hW hS ls (by rw [e_22]; exact lv_sub hl [0, 3, 4, 1, 5, 6, 7, 8, 9] rfl)
                            · -- 110 -> 113
                              refine ii_const hx hb dX4_read_113 ?_
                              refine lv_goto (tgt := 156) hx hb dX4_read_114 (by decide) ?_
                              refine lv_istore (lv' := [(5, .int (iI 1)), (9, .long (lI ((f + (3 * zi)) + za))), (8, .int (iI za)), (7, .int (iI zi)), (6, .int (iI wh)), (0, .ref (K 0)), (1, .int (iI k)), (2, .int (iI lane)), (3, .int (iI f)), (4, .int (iI n))]) hx hb dX4_read_156 hl (by decide) rfl (fun ls hl => ?_)
                              refine ii_iinc (k := 2) (lv' := [(8, .int (iI (za + 1))), (5, .int (iI 1)), (9, .long (lI ((f + (3 * zi)) + za))), (7, .int (iI zi)), (6, .int (iI wh)), (0, .ref (K 0)), (1, .int (iI k)), (2, .int (iI lane)), (3, .int (iI f)), (4, .int (iI n))]) hx hb dX4_read_158 hl rfl (by decide) rfl (fun ls hl => ?_)
                              refine lv_goto (tgt := 77) hx hb dX4_read_161 (by decide) ?_
                              have e_23 : (rsC (T 8 k.toNat) (T 9 k.toNat) lane f i (a + 1)) = 1 := by simp only [rsC]; rw [if_pos (by omega)]; unfold rs1; (repeat' split) <;> omega
                              exact ih77 (a + 1) (za + 1) (by omega) (by omega) (by omega) _ _ hW hS ls (by rw [e_23]; exact lv_sub hl [0, 3, 4, 1, 5, 6, 7, 8, 9] rfl)
                    have e_24 : (rsC (T 8 k.toNat) (T 9 k.toNat) lane f i 0) = rs := by rw [c_rs]; rfl
                    exact loop_77 _ 0 0 (by omega) (by omega) (Nat.lt_succ_self _) _ _ hW hS ls (by rw [e_24]; exact lv_sub hl [0, 1, 2, 3, 4, 5, 6, 7, 8] rfl)
            exact loop_62 _ 0 0 0 0 (T 1) (by omega) (by omega) (by omega) (RdSt.z _ _ _ _ _ _ _ _) (hF) (rfl) (fun h => absurd h (by omega)) (Nat.lt_succ_self _) _ _ (hW.eqS (rd_62 T _)) hS ls (lv_sub hl [0, 1, 2, 3, 4, 5, 6, 7] rfl)
          · -- 30 -> 33
            refine lv_aload_n hx hb dX4_read_33 rfl (lv_at hl 1 rfl) ?_
            refine r_get (ci := 4) (k := 28) (v := .ref (K 11)) (C := RX4) (T := TX4) (N := 29) Z hB hx hb hts hown rfl in_X4 hW.obj (by decide) q1006 rfl dX4_read_34 ?_
            refine lv_iload hx hb dX4_read_37 (lv_at hl 0 rfl) ?_
            refine lv_aload_n hx hb dX4_read_39 rfl (lv_at hl 1 rfl) ?_
            refine r_get (ci := 4) (k := 0) (v := .ref (K 1)) (C := RX4) (T := TX4) (N := 29) Z hB hx hb hts hown rfl in_X4 hW.obj (by decide) q978 rfl dX4_read_40 ?_
            refine lv_iload hx hb dX4_read_43 (lv_at hl 0 rfl) ?_
            refine r_iald (k := x) (f := (stF (up T 11 (cpS (T 1) (T 11) x)))) Z hB hx hb hW.st (by omega) (by omega) (by omega) dX4_read_45 ?_
            rw [show stF (up T 11 (cpS (T 1) (T 11) x)) x = (T 1) x from stF_lo _ (by omega)]
            refine r_iast (k := x) Z hB hx hb hW.before hS (AA.me (by omega)) (by omega) (by omega) (by omega) dX4_read_46 (MW G K (up (up T 11 (cpS (T 1) (T 11) x)) 11 (up (cpS (T 1) (T 11) x) x ((T 1) x)))) (fun H1 hz oq ha => hW.setA hI (j := 11) (by omega) (by omega) (fun h => absurd h (by omega)) oq ha) (fun H locs hW hS => ?_)
            have hW := hW.eqS (S' := (up T 11 (up (cpS (T 1) (T 11) x) x ((T 1) x)))) (by
                funext a
                by_cases h11 : a = 11
                · subst h11; rfl
                simp only [up, if_neg h11])
            refine ii_iinc (k := 0) (lv' := [(5, .int (iI (zx + 1))), (0, .ref (K 0)), (1, .int (iI k)), (2, .int (iI lane)), (3, .int (iI f)), (4, .int (iI n))]) hx hb dX4_read_47 hl rfl (by decide) rfl (fun ls hl => ?_)
            refine lv_goto (tgt := 26) hx hb dX4_read_50 (by decide) ?_
            exact ih26 (x + 1) (zx + 1) (by omega) (by omega) (by omega) _ _ (by rw [← cpS_s]; exact hW) hS ls (lv_sub hl [0, 1, 2, 3, 4, 5] rfl)
      exact loop_26 _ 0 0 (by omega) (by omega) (Nat.lt_succ_self _) _ _ (by rw [cpS_z, show up T 11 (T 11) = T from up_id T 11]; exact hW) hS ls (lv_sub hl [0, 1, 2, 3, 4, 5] rfl)
    · -- 18 -> 21
      refine ii_const hx hb dX4_read_21 ?_
      have hpw9 : (MWx G K (mreadT T k lane f n)) s.heap := (by rw [show mreadT T k lane f n = T by unfold mreadT; exact if_pos (Or.inl (by omega))]; exact ⟨T, ⟨fun _ _ _ _ _ _ => rfl, fun _ _ _ _ _ _ => rfl⟩, hW⟩)
      have he9 : (-1) = (mreadA T k lane f n) := by unfold mreadA; exact (if_pos (by omega)).symm
      exact W.iret hx hb hr (fun t ht hW9 => ⟨⟨_, (), rfl, congrArg iI he9, by show (MWx G K (mreadT T k lane f n)) t.heap; rw [ht]; exact hpw9⟩, hS.F ht⟩) hS.2.2 dX4_read_22
