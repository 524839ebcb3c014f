/-! MODEL: asked (written by gen/mod11.py) -/
set_option maxRecDepth 100000
set_option maxHeartbeats 1000000 in
set_option maxRecDepth 100000 in
theorem mX4_ask {l : Launch} {G : GG} {s0 : State} {b0 : Nat} (Z : ZZ l G s0 b0) (K : Nat → Nat) (hI : Own s0 K 12) (T : Sta) (F : Nat → Int) (eF : T 1 = F) (hF : WF F) (hD : Dia F) (hd : F 54 ≤ 2000) (hsm : SeenM F) (i : Int) (hi : inR i) (what : Int) (hwhat : inR what) (sz : Nat) : Met l yX4_ask (ws_ yX4_ask cX4_ask 9 (some .int)) ({ frames := 6, cells := 0, slots := 0, locals := 144 } : Room) (pcM s0 sz (MW G K T) [.ref (K 0), .int (iI i), .int (iI what)]) (mI (askM F i what) (MWx G K T) (AA K 12 sz)) 0 0 (AA K 12 sz) := by
  refine Met.ofW (cc := cX4_ask) (maxL := 9) (ret := (some .int)) (by decide) rfl ?_
  intro p e s m args below meth c s₁ B hml hv
  obtain ⟨rfl, hsz, hW, hB⟩ := hv
  subst hsz
  have hx := B.exec
  have hb := B.bytes
  have hr := B.returns
  have hts := atoms_spec (ws := (ws_ yX4_ask cX4_ask 9 (some .int))) B.pre
  have hts : ∀ w ∈ lw_all, w.before _ s = true := fun w h => hts w (List.mem_cons_of_mem _ h)
  have hown : s.vm.findClass RX4 = some m.cls := findClass_of_methodNamed B.named
  have hlocks := B.notSynchronized
  have hN := AA.old hI hB
  have hS : va_S (AA K 12 s.heap.size) s.heap s.heap [] := va_S.rf
  have hl := lv_entry ([.ref (K 0), .int (iI i), .int (iI what)]) (n := 9) (Nat.le_of_ble_eq_true rfl)
  rw [lg_entry_eq]
  generalize (lg_sl ([.ref (K 0), .int (iI i), .int (iI what)]) ++ List.replicate (9 - (lg_sl ([.ref (K 0), .int (iI i), .int (iI what)])).length) Slot.unset).toArray = ls at hl ⊢
  have hl : lv_has ls 9 [(0, .ref (K 0)), (1, .int (iI i)), (2, .int (iI what))] := hl
  subst eF
  have hn5 := hF.n
  refine lv_aload_n hx hb dX4_ask_0 rfl (lv_at hl 0 rfl) ?_
  refine lv_iload_n hx hb dX4_ask_1 rfl (lv_at hl 1 rfl) ?_
  refine cqI (va_runV (As := [.int (iI i)]) (rest := []) ⟨hx, hb, hml, hown, hts⟩ (mX4_isIsle Z K T (T 1) rfl hF i (by omega)) (cwV 1 hts (lw_V q1174 q1176 qs52 q83 q1177) rfl rfl rfl (by decide +kernel) ⟨Nat.le_of_ble_eq_true rfl, Nat.le_of_ble_eq_true rfl⟩) (pvR (BornH.S hB hN hS) (OBJ.recv Z hB hW.obj (q := (RX4, TX4, 29)) rfl) hW) rfl rfl hl.1 rfl (lv_room (Nat.le_of_ble_eq_true rfl)) dX4_ask_2 ⟨Nat.zero_le _, Nat.zero_le _⟩) ?_
  refine bb_if_eq (P := okI (T 1) i) (tgt := 15) hx hb dX4_ask_5 (by decide) (fun c_1 => ?_) (fun c_1 => ?_)
  · -- 5 -> 15
    refine ii_const hx hb dX4_ask_15 ?_
    have hpw9 : (MWx G K T) s.heap := ⟨T, ⟨fun _ _ _ _ _ _ => rfl, fun _ _ _ _ _ _ => rfl⟩, hW⟩
    have he9 : (-1) = (askM (T 1) i what) := by unfold askM; exact (if_pos (by omega)).symm
    exact W.iret hx hb hr (fun t ht hW9 => ⟨⟨_, (), rfl, congrArg iI he9, by show (MWx G K T) t.heap; rw [ht]; exact hpw9⟩, hS.F ht⟩) hS.2.2 dX4_ask_16
  · -- 5 -> 8
    refine lv_iload_n hx hb dX4_ask_8 rfl (lv_at hl 2 rfl) ?_
    refine cqI (va_runS (As := [.int (iI what)]) (rest := []) ⟨hx, hb, hml, hown, hts⟩ (mX4_isPart Z what (by omega)) (va_cwS 1 hts (lw_S q1316 q1317 q83 q1318) rfl rfl rfl (by decide +kernel) ⟨Nat.le_of_ble_eq_true rfl, Nat.le_of_ble_eq_true rfl⟩) (psR (BornH.S hB hN hS) trivial) rfl rfl hl.1 rfl (lv_room (Nat.le_of_ble_eq_true rfl)) dX4_ask_9 ⟨Nat.zero_le _, Nat.zero_le _⟩) ?_
    refine bb_if_ne (P := 0 ≤ what ∧ what ≤ 1) (tgt := 17) hx hb dX4_ask_12 (by decide) (fun c_2 => ?_) (fun c_2 => ?_)
    · -- 12 -> 17
      refine ii_const hx hb dX4_ask_17 ?_
      refine lv_istore_n (lv' := [(3, .int (iI 0)), (0, .ref (K 0)), (1, .int (iI i)), (2, .int (iI what))]) hx hb dX4_ask_18 rfl hl (by decide) rfl (fun ls hl => ?_)
      refine ii_const hx hb dX4_ask_19 ?_
      refine lv_istore (lv' := [(4, .int (iI 0)), (3, .int (iI 0)), (0, .ref (K 0)), (1, .int (iI i)), (2, .int (iI what))]) hx hb dX4_ask_20 hl (by decide) rfl (fun ls hl => ?_)
      have loop_22 : ∀ (fu : Nat) (k : Nat) (zk : Int) (a9 : Nat) (za : Int) (F2 : Nat → Int) (W2 : Nat → Int) (B1 : Nat → Int), (zk = (k : Int)) → (k ≤ 4) → (za = (a9 : Int)) → (a9 = mnS (T 1) i.toNat k) → (BkOK (T 1) i.toNat k B1) → (5 - k) < fu → ∀ (H : Heap) (locs : List Loc), (MW G K (up (up (up T 2 F2) 6 W2) 7 B1)) H → va_S (AA K 12 s.heap.size) s.heap H locs → ∀ (ls : Array Slot), lv_has ls 9 [(4, .int (iI zk)), (3, .int (iI za)), (0, .ref (K 0)), (1, .int (iI i)), (2, .int (iI what))] → W p l e (headSpec (ws_ yX4_ask cX4_ask 9 (some .int)) ({ frames := 6, cells := 0, slots := 0, locals := 144 } : Room)).room s m ([.ref (K 0), .int (iI i), .int (iI what)] : List Value).toArray below meth c H locs 0 0 (MQ below (mI (askM (T 1) i what) (MWx G K T) (AA K 12 s.heap.size)) ([.ref (K 0), .int (iI i), .int (iI what)] : List Value).toArray s 0 0 (AA K 12 s.heap.size)) (F0 m 22 ls []) := by
        intro fu
        induction fu with
        | zero => intro k zk a9 za F2 W2 B1 ezk hk4 eza haa hBk hmu; exact absurd hmu (Nat.not_lt_zero _)
        | succ fu ih22 =>
          intro k zk a9 za F2 W2 B1 ezk hk4 eza haa hBk hmu H locs hW hS ls hl
          have hma := mnS_in (T 1) i.toNat k
          refine lv_iload hx hb dX4_ask_22 (lv_at hl 0 rfl) ?_
          refine ii_const hx hb dX4_ask_24 ?_
          refine ii_icmp_ge (tgt := 86) hx hb dX4_ask_25 (by decide) (by omega) (by omega) (fun c_3 => ?_) (fun c_3 => ?_)
          · -- 25 -> 86
            have ex_k : 4 = k := by omega
            subst ex_k
            refine lv_aload_n hx hb dX4_ask_86 rfl (lv_at hl 2 rfl) ?_
            refine lv_iload_n hx hb dX4_ask_87 rfl (lv_at hl 1 rfl) ?_
            refine cmV (va_runV (As := [.int (iI za)]) (rest := []) ⟨hx, hb, hml, hown, hts⟩ (mX4_startsJudging Z K hI (up (up (up T 2 F2) 6 W2) 7 B1) za H.size) (cwV 1 hts (lw_V q1323 q1325 qs70 q83 q1326) rfl rfl rfl (by decide +kernel) ⟨Nat.le_of_ble_eq_true rfl, Nat.le_of_ble_eq_true rfl⟩) (pvM (BornH.S hB hN hS) (OBJ.recv Z hB hW.obj (q := (RX4, TX4, 29)) rfl) hW) rfl rfl hl.1 rfl (lv_room (Nat.le_of_ble_eq_true rfl)) dX4_ask_88 ⟨Nat.zero_le _, Nat.zero_le _⟩) hS (AA.le hS.1) (fun H1 locs hW1 hz1 hk1 hS => ?_)
            have hW := hW1
            clear hW1 hk1 hz1
            generalize H1 = H at hW hS ⊢
            have hW := hW.eqS (S' := (up (up (up (up T 0 (up (up (T 0) 17 (-4)) 18 za)) 2 F2) 6 W2) 7 B1)) (by
                funext a
                by_cases h0 : a = 0
                · subst h0
                  funext j
                  by_cases k0 : j = 17
                  · subst k0; rfl
                  by_cases k1 : j = 18
                  · subst k1; rfl
                  simp only [up, if_neg k0, if_neg k1, if_true, if_false, Nat.reduceEqDiff, reduceIte]
                by_cases h2 : a = 2
                · subst h2; rfl
                by_cases h6 : a = 6
                · subst h6; rfl
                by_cases h7 : a = 7
                · subst h7; rfl
                simp only [up, if_neg h0, if_neg h2, if_neg h6, if_neg h7])
            refine ii_const hx hb dX4_ask_91 ?_
            refine lv_istore (lv' := [(4, .int (iI 0)), (3, .int (iI za)), (0, .ref (K 0)), (1, .int (iI i)), (2, .int (iI what))]) hx hb dX4_ask_92 hl (by decide) rfl (fun ls hl => ?_)
            have loop_94 : ∀ (fu : Nat) (c9 : Nat) (zc : Int) (best : Int) (least : Int), (zc = (c9 : Int)) → (c9 ≤ 105) → (mjO B1 a9 ((T 1) 76) c9 = (best, least)) → ((-4 ≤ best ∧ best ≤ 1000) ∧ 0 ≤ least ∧ least ≤ 1000000) → (106 - c9) < fu → ∀ (H : Heap) (locs : List Loc), (MW G K (up (up (up (up T 0 (up (up (T 0) 17 best) 18 least)) 2 F2) 6 W2) 7 B1)) H → va_S (AA K 12 s.heap.size) s.heap H locs → ∀ (ls : Array Slot), lv_has ls 9 [(4, .int (iI zc)), (3, .int (iI za)), (0, .ref (K 0)), (1, .int (iI i)), (2, .int (iI what))] → W p l e (headSpec (ws_ yX4_ask cX4_ask 9 (some .int)) ({ frames := 6, cells := 0, slots := 0, locals := 144 } : Room)).room s m ([.ref (K 0), .int (iI i), .int (iI what)] : List Value).toArray below meth c H locs 0 0 (MQ below (mI (askM (T 1) i what) (MWx G K T) (AA K 12 s.heap.size)) ([.ref (K 0), .int (iI i), .int (iI what)] : List Value).toArray s 0 0 (AA K 12 s.heap.size)) (F0 m 94 ls []) := by
              intro fu
              induction fu with
              | zero => intro c9 zc best least ezc hc9 hp hbl hmu; exact absurd hmu (Nat.not_lt_zero _)
              | succ fu ih94 =>
                intro c9 zc best least ezc hc9 hp hbl hmu H locs hW hS ls hl
                refine lv_iload hx hb dX4_ask_94 (lv_at hl 0 rfl) ?_
                refine ii_bipush hx hb dX4_ask_96 (by decide) ?_
                refine ii_icmp_ge (tgt := 230) hx hb dX4_ask_98 (by decide) (by omega) (by omega) (fun c_4 => ?_) (fun c_4 => ?_)
                · -- 98 -> 230
                  have ex_c9 : 105 = c9 := by omega
                  subst ex_c9
                  refine lv_aload_n hx hb dX4_ask_230 rfl (lv_at hl 2 rfl) ?_
                  refine lv_iload_n hx hb dX4_ask_231 rfl (lv_at hl 4 rfl) ?_
                  have hb_5 : inR best := by omega
                  refine cqI (va_runV (As := [.int (iI what)]) (rest := []) ⟨hx, hb, hml, hown, hts⟩ (mX4_judged Z K (up (up (up (up T 0 (up (up (T 0) 17 best) 18 least)) 2 F2) 6 W2) 7 B1) what (by omega) hb_5) (cwV 1 hts (lw_V q1331 q1333 qs72 q83 q1334) rfl rfl rfl (by decide +kernel) ⟨Nat.le_of_ble_eq_true rfl, Nat.le_of_ble_eq_true rfl⟩) (pvR (BornH.S hB hN hS) (OBJ.recv Z hB hW.obj (q := (RX4, TX4, 29)) rfl) hW) rfl rfl hl.1 rfl (lv_room (Nat.le_of_ble_eq_true rfl)) dX4_ask_232 ⟨Nat.zero_le _, Nat.zero_le _⟩) ?_
                  have hpw9 : (MWx G K T) H := (hW.x (fun a h0 h2 h6 h7 h11 => by first | rfl | simp only [up, if_neg h0, if_neg h2, if_neg h6, if_neg h7, if_neg h11]) (fun j h1 h2 h3 h4 h5 => by first | rfl | simp [up, h1, h2]))
                  have he9 : (jdA (best, least) what) = (askM (T 1) i what) := by unfold askM; rw [if_neg (by omega), ← ask_m hF hd (by omega) hBk haa, hp]
                  exact W.iret hx hb hr (fun t ht hW9 => ⟨⟨_, (), rfl, congrArg iI he9, by show (MWx G K T) t.heap; rw [ht]; exact hpw9⟩, hS.F ht⟩) hS.2.2 dX4_ask_235
                · -- 98 -> 101
                  refine ii_const hx hb dX4_ask_101 ?_
                  refine lv_istore (lv' := [(5, .int (iI 0)), (4, .int (iI zc)), (3, .int (iI za)), (0, .ref (K 0)), (1, .int (iI i)), (2, .int (iI what))]) hx hb dX4_ask_102 hl (by decide) rfl (fun ls hl => ?_)
                  refine ii_const hx hb dX4_ask_104 ?_
                  refine lv_istore (lv' := [(6, .int (iI 0)), (5, .int (iI 0)), (4, .int (iI zc)), (3, .int (iI za)), (0, .ref (K 0)), (1, .int (iI i)), (2, .int (iI what))]) hx hb dX4_ask_105 hl (by decide) rfl (fun ls hl => ?_)
                  have loop_107 : ∀ (fu : Nat) (k9 : Nat) (zk9 : Int), (zk9 = (k9 : Int)) → (k9 ≤ a9) → (5 - k9) < fu → ∀ (H : Heap) (locs : List Loc), (MW G K (up (up (up (up T 0 (up (up (T 0) 17 best) 18 least)) 2 F2) 6 W2) 7 B1)) H → va_S (AA K 12 s.heap.size) s.heap H locs → ∀ (ls : Array Slot), lv_has ls 9 [(6, .int (iI zk9)), (5, .int (iI (mwO B1 a9 c9 k9))), (4, .int (iI zc)), (3, .int (iI za)), (0, .ref (K 0)), (1, .int (iI i)), (2, .int (iI what))] → W p l e (headSpec (ws_ yX4_ask cX4_ask 9 (some .int)) ({ frames := 6, cells := 0, slots := 0, locals := 144 } : Room)).room s m ([.ref (K 0), .int (iI i), .int (iI what)] : List Value).toArray below meth c H locs 0 0 (MQ below (mI (askM (T 1) i what) (MWx G K T) (AA K 12 s.heap.size)) ([.ref (K 0), .int (iI i), .int (iI what)] : List Value).toArray s 0 0 (AA K 12 s.heap.size)) (F0 m 107 ls []) := by
                    intro fu
                    induction fu with
                    | zero => intro k9 zk9 ezk9 hk9 hmu; exact absurd hmu (Nat.not_lt_zero _)
                    | succ fu ih107 =>
                      intro k9 zk9 ezk9 hk9 hmu H locs hW hS ls hl
                      have hwo := mwO_in B1 a9 c9 k9
                      refine lv_iload hx hb dX4_ask_107 (lv_at hl 0 rfl) ?_
                      refine lv_iload_n hx hb dX4_ask_109 rfl (lv_at hl 3 rfl) ?_
                      refine ii_icmp_ge (tgt := 195) hx hb dX4_ask_110 (by decide) (by omega) (by omega) (fun c_6 => ?_) (fun c_6 => ?_)
                      · -- 110 -> 195
                        have ex_k9 : a9 = k9 := by omega
                        subst ex_k9
                        refine lv_iload hx hb dX4_ask_195 (lv_at hl 2 rfl) ?_
                        refine ii_const hx hb dX4_ask_197 ?_
                        refine ii_rem hx hb (by omega) (by omega) dX4_ask_198 ?_
                        refine lv_aload_n hx hb dX4_ask_199 rfl (lv_at hl 4 rfl) ?_
                        refine r_get (ci := 4) (k := 3) (v := .int (iI ((T 1) 76))) (C := RX4) (T := TX4) (N := 29) Z hB hx hb hts hown rfl in_X4 hW.obj (by decide) q981 rfl dX4_ask_200 ?_
                        refine ii_icmp_ge (tgt := 224) hx hb dX4_ask_203 (by decide) (by omega) (by omega) (fun c_7 => ?_) (fun c_7 => ?_)
                        · -- 203 -> 224
                          refine ii_iinc (k := 2) (lv' := [(4, .int (iI (zc + 1))), (6, .int (iI zk9)), (5, .int (iI (mwO B1 a9 c9 a9))), (3, .int (iI za)), (0, .ref (K 0)), (1, .int (iI i)), (2, .int (iI what))]) hx hb dX4_ask_224 hl rfl (by decide) rfl (fun ls hl => ?_)
                          refine lv_goto (tgt := 94) hx hb dX4_ask_227 (by decide) ?_
                          exact ih94 (c9 + 1) (zc + 1) best least (by omega) (by omega) (by simp only [mjO]; first | (rw [if_pos (by omega), hp, ← ezc]; exact hjj) | (rw [if_neg (by omega)]; exact hp)) (by omega) (by omega) _ _ hW hS ls (lv_sub hl [0, 3, 4, 5, 6] rfl)
                        · -- 203 -> 206
                          refine lv_aload_n hx hb dX4_ask_206 rfl (lv_at hl 4 rfl) ?_
                          refine ii_bipush hx hb dX4_ask_207 (by decide) ?_
                          refine lv_iload hx hb dX4_ask_209 (lv_at hl 2 rfl) ?_
                          refine ii_const hx hb dX4_ask_211 ?_
                          refine ii_div hx hb (by omega) (by omega) dX4_ask_212 ?_
                          refine ii_mul hx hb dX4_ask_213 ?_
                          refine lv_iload hx hb dX4_ask_214 (lv_at hl 2 rfl) ?_
                          refine ii_const hx hb dX4_ask_216 ?_
                          refine ii_rem hx hb (by omega) (by omega) dX4_ask_217 ?_
                          refine ii_add hx hb dX4_ask_218 ?_
                          refine lv_iload hx hb dX4_ask_219 (lv_at hl 1 rfl) ?_
                          have hle_8 : inR least := by omega
                          refine cmV (va_runV (As := [.int (iI ((10 * (zc / 5)) + (zc % 5))), .int (iI (mwO B1 a9 c9 a9))]) (rest := []) ⟨hx, hb, hml, hown, hts⟩ (mX4_judges Z K hI (up (up (up (up T 0 (up (up (T 0) 17 best) 18 least)) 2 F2) 6 W2) 7 B1) ((10 * (zc / 5)) + (zc % 5)) (mwO B1 a9 c9 a9) (by omega) hle_8 H.size) (cwV 2 hts (lw_V q1327 q1329 qs71 q83 q1330) rfl rfl rfl (by decide +kernel) ⟨Nat.le_of_ble_eq_true rfl, Nat.le_of_ble_eq_true rfl⟩) (pvM (BornH.S hB hN hS) (OBJ.recv Z hB hW.obj (q := (RX4, TX4, 29)) rfl) hW) rfl rfl hl.1 rfl (lv_room (Nat.le_of_ble_eq_true rfl)) dX4_ask_221 ⟨Nat.zero_le _, Nat.zero_le _⟩) hS (AA.le hS.1) (fun H1 locs hW1 hz1 hk1 hS => ?_)
                          have hW := hW1
                          clear hW1 hk1 hz1
                          generalize H1 = H at hW hS ⊢
                          have hW := hW.eqS (S' := (up (up (up (up T 0 (up (up (T 0) 17 ((jd (best, least) ((10 * (zc / 5)) + (zc % 5)) (mwO B1 a9 c9 a9)).1)) 18 ((jd (best, least) ((10 * (zc / 5)) + (zc % 5)) (mwO B1 a9 c9 a9)).2))) 2 F2) 6 W2) 7 B1)) (by
                              funext a
                              by_cases h0 : a = 0
                              · subst h0
                                funext j
                                by_cases k0 : j = 17
                                · subst k0; rfl
                                by_cases k1 : j = 18
                                · subst k1; rfl
                                simp only [up, if_neg k0, if_neg k1, if_true, if_false, Nat.reduceEqDiff, reduceIte]
                              by_cases h2 : a = 2
                              · subst h2; rfl
                              by_cases h6 : a = 6
                              · subst h6; rfl
                              by_cases h7 : a = 7
                              · subst h7; rfl
                              simp only [up, if_neg h0, if_neg h2, if_neg h6, if_neg h7])
                          generalize hjj : (jd (best, least) ((10 * (zc / 5)) + (zc % 5)) (mwO B1 a9 c9 a9)) = pj at hW
                          obtain ⟨jb_9, jl_10⟩ := pj
                          have hjb := jd_b hjj
                          dsimp only at hW hjb
                          refine ii_iinc (k := 2) (lv' := [(4, .int (iI (zc + 1))), (6, .int (iI zk9)), (5, .int (iI (mwO B1 a9 c9 a9))), (3, .int (iI za)), (0, .ref (K 0)), (1, .int (iI i)), (2, .int (iI what))]) hx hb dX4_ask_224 hl rfl (by decide) rfl (fun ls hl => ?_)
                          refine lv_goto (tgt := 94) hx hb dX4_ask_227 (by decide) ?_
                          exact ih94 (c9 + 1) (zc + 1) jb_9 jl_10 (by omega) (by omega) (by simp only [mjO]; first | (rw [if_pos (by omega), hp, ← ezc]; exact hjj) | (rw [if_neg (by omega)]; exact hp)) (by omega) (by omega) _ _ hW hS ls (lv_sub hl [0, 3, 4, 5, 6] rfl)
                      · -- 110 -> 113
                        refine ii_const hx hb dX4_ask_113 ?_
                        refine lv_istore (lv' := [(7, .int (iI 0)), (6, .int (iI zk9)), (5, .int (iI (mwO B1 a9 c9 k9))), (4, .int (iI zc)), (3, .int (iI za)), (0, .ref (K 0)), (1, .int (iI i)), (2, .int (iI what))]) hx hb dX4_ask_114 hl (by decide) rfl (fun ls hl => ?_)
                        refine ii_const hx hb dX4_ask_116 ?_
                        refine lv_istore (lv' := [(8, .int (iI 0)), (7, .int (iI 0)), (6, .int (iI zk9)), (5, .int (iI (mwO B1 a9 c9 k9))), (4, .int (iI zc)), (3, .int (iI za)), (0, .ref (K 0)), (1, .int (iI i)), (2, .int (iI what))]) hx hb dX4_ask_117 hl (by decide) rfl (fun ls hl => ?_)
                        have loop_119 : ∀ (fu : Nat) (j9 : Nat) (zj9 : Int), (zj9 = (j9 : Int)) → (j9 ≤ a9) → (5 - j9) < fu → ∀ (H : Heap) (locs : List Loc), (MW G K (up (up (up (up T 0 (up (up (T 0) 17 best) 18 least)) 2 F2) 6 W2) 7 B1)) H → va_S (AA K 12 s.heap.size) s.heap H locs → ∀ (ls : Array Slot), lv_has ls 9 [(8, .int (iI zj9)), (7, .int (iI (mwI B1 c9 k9 j9))), (6, .int (iI zk9)), (5, .int (iI (mwO B1 a9 c9 k9))), (4, .int (iI zc)), (3, .int (iI za)), (0, .ref (K 0)), (1, .int (iI i)), (2, .int (iI what))] → W p l e (headSpec (ws_ yX4_ask cX4_ask 9 (some .int)) ({ frames := 6, cells := 0, slots := 0, locals := 144 } : Room)).room s m ([.ref (K 0), .int (iI i), .int (iI what)] : List Value).toArray below meth c H locs 0 0 (MQ below (mI (askM (T 1) i what) (MWx G K T) (AA K 12 s.heap.size)) ([.ref (K 0), .int (iI i), .int (iI what)] : List Value).toArray s 0 0 (AA K 12 s.heap.size)) (F0 m 119 ls []) := by
                          intro fu
                          induction fu with
                          | zero => intro j9 zj9 ezj9 hj9 hmu; exact absurd hmu (Nat.not_lt_zero _)
                          | succ fu ih119 =>
                            intro j9 zj9 ezj9 hj9 hmu H locs hW hS ls hl
                            have hwi := mwI_in B1 c9 k9 j9
                            refine lv_iload hx hb dX4_ask_119 (lv_at hl 0 rfl) ?_
                            refine lv_iload_n hx hb dX4_ask_121 rfl (lv_at hl 5 rfl) ?_
                            refine ii_icmp_ge (tgt := 173) hx hb dX4_ask_122 (by decide) (by omega) (by omega) (fun c_11 => ?_) (fun c_11 => ?_)
                            · -- 122 -> 173
                              have ex_j9 : a9 = j9 := by omega
                              subst ex_j9
                              refine lv_iload hx hb dX4_ask_173 (lv_at hl 1 rfl) ?_
                              refine lv_iload hx hb dX4_ask_175 (lv_at hl 3 rfl) ?_
                              refine ii_icmp_le (tgt := 185) hx hb dX4_ask_177 (by decide) (by omega) (by omega) (fun c_12 => ?_) (fun c_12 => ?_)
                              · -- 177 -> 185
                                refine lv_iload hx hb dX4_ask_185 (lv_at hl 3 rfl) ?_
                                refine lv_istore (lv' := [(5, .int (iI (mwO B1 a9 c9 k9))), (8, .int (iI zj9)), (7, .int (iI (mwI B1 c9 k9 a9))), (6, .int (iI zk9)), (4, .int (iI zc)), (3, .int (iI za)), (0, .ref (K 0)), (1, .int (iI i)), (2, .int (iI what))]) hx hb dX4_ask_187 hl (by decide) rfl (fun ls hl => ?_)
                                refine ii_iinc (k := 3) (lv' := [(6, .int (iI (zk9 + 1))), (5, .int (iI (mwO B1 a9 c9 k9))), (8, .int (iI zj9)), (7, .int (iI (mwI B1 c9 k9 a9))), (4, .int (iI zc)), (3, .int (iI za)), (0, .ref (K 0)), (1, .int (iI i)), (2, .int (iI what))]) hx hb dX4_ask_189 hl rfl (by decide) rfl (fun ls hl => ?_)
                                refine lv_goto (tgt := 107) hx hb dX4_ask_192 (by decide) ?_
                                have e_13 : (mwO B1 a9 c9 (k9 + 1)) = (mwO B1 a9 c9 k9) := by simp only [mwO]; first | exact if_pos (by omega) | exact if_neg (by omega)
                                exact ih107 (k9 + 1) (zk9 + 1) (by omega) (by omega) (by omega) _ _ hW hS ls (by rw [e_13]; exact lv_sub hl [0, 1, 4, 5, 6, 7, 8] rfl)
                              · -- 177 -> 180
                                refine lv_iload hx hb dX4_ask_180 (lv_at hl 1 rfl) ?_
                                refine lv_goto (tgt := 187) hx hb dX4_ask_182 (by decide) ?_
                                refine lv_istore (lv' := [(5, .int (iI (mwI B1 c9 k9 a9))), (8, .int (iI zj9)), (7, .int (iI (mwI B1 c9 k9 a9))), (6, .int (iI zk9)), (4, .int (iI zc)), (3, .int (iI za)), (0, .ref (K 0)), (1, .int (iI i)), (2, .int (iI what))]) hx hb dX4_ask_187 hl (by decide) rfl (fun ls hl => ?_)
                                refine ii_iinc (k := 3) (lv' := [(6, .int (iI (zk9 + 1))), (5, .int (iI (mwI B1 c9 k9 a9))), (8, .int (iI zj9)), (7, .int (iI (mwI B1 c9 k9 a9))), (4, .int (iI zc)), (3, .int (iI za)), (0, .ref (K 0)), (1, .int (iI i)), (2, .int (iI what))]) hx hb dX4_ask_189 hl rfl (by decide) rfl (fun ls hl => ?_)
                                refine lv_goto (tgt := 107) hx hb dX4_ask_192 (by decide) ?_
                                have e_14 : (mwO B1 a9 c9 (k9 + 1)) = (mwI B1 c9 k9 a9) := by simp only [mwO]; first | exact if_pos (by omega) | exact if_neg (by omega)
                                exact ih107 (k9 + 1) (zk9 + 1) (by omega) (by omega) (by omega) _ _ hW hS ls (by rw [e_14]; exact lv_sub hl [0, 1, 4, 5, 6, 7, 8] rfl)
                            · -- 122 -> 125
                              refine lv_iload hx hb dX4_ask_125 (lv_at hl 1 rfl) ?_
                              refine lv_aload_n hx hb dX4_ask_127 rfl (lv_at hl 6 rfl) ?_
                              refine r_get (ci := 4) (k := 23) (v := .ref (K 7)) (C := RX4) (T := TX4) (N := 29) Z hB hx hb hts hown rfl in_X4 hW.obj (by decide) q1001 rfl dX4_ask_128 ?_
                              refine ii_bipush hx hb dX4_ask_131 (by decide) ?_
                              refine lv_iload hx hb dX4_ask_133 (lv_at hl 2 rfl) ?_
                              refine ii_mul hx hb dX4_ask_135 ?_
                              refine lv_iload hx hb dX4_ask_136 (lv_at hl 4 rfl) ?_
                              refine ii_add hx hb dX4_ask_138 ?_
                              refine r_iald (k := ((105 * k9) + c9)) (f := B1) Z hB hx hb hW.byKind (by omega) (by omega) (by omega) dX4_ask_139 ?_
                              refine lv_aload_n hx hb dX4_ask_140 rfl (lv_at hl 6 rfl) ?_
                              refine r_get (ci := 4) (k := 23) (v := .ref (K 7)) (C := RX4) (T := TX4) (N := 29) Z hB hx hb hts hown rfl in_X4 hW.obj (by decide) q1001 rfl dX4_ask_141 ?_
                              refine ii_bipush hx hb dX4_ask_144 (by decide) ?_
                              refine lv_iload hx hb dX4_ask_146 (lv_at hl 0 rfl) ?_
                              refine ii_mul hx hb dX4_ask_148 ?_
                              refine lv_iload hx hb dX4_ask_149 (lv_at hl 4 rfl) ?_
                              refine ii_add hx hb dX4_ask_151 ?_
                              refine r_iald (k := ((105 * j9) + c9)) (f := B1) Z hB hx hb hW.byKind (by omega) (by omega) (by omega) dX4_ask_152 ?_
                              refine lv_icmp_ne (tgt := 160) hx hb dX4_ask_153 (by decide) (fun c_15 => ?_) (fun c_15 => ?_)
                              · --
                                refine ii_const hx hb dX4_ask_160 ?_
                                refine cqI (va_runS (As := [.int (iI 0)]) (rest := [.int (iI (mwI B1 c9 k9 j9))]) ⟨hx, hb, hml, hown, hts⟩ (mX4_flag Z 0 (by omega)) (va_cwS 1 hts (lw_S q1182 q1183 q83 q1184) rfl rfl rfl (by decide +kernel) ⟨Nat.le_of_ble_eq_true rfl, Nat.le_of_ble_eq_true rfl⟩) (psR (BornH.S hB hN hS) trivial) rfl rfl hl.1 rfl (lv_room (Nat.le_of_ble_eq_true rfl)) dX4_ask_161 ⟨Nat.zero_le _, Nat.zero_le _⟩) ?_
                                refine ii_add hx hb dX4_ask_164 ?_
                                refine lv_istore (lv' := [(7, .int (iI ((mwI B1 c9 k9 j9) + 0))), (8, .int (iI zj9)), (6, .int (iI zk9)), (5, .int (iI (mwO B1 a9 c9 k9))), (4, .int (iI zc)), (3, .int (iI za)), (0, .ref (K 0)), (1, .int (iI i)), (2, .int (iI what))]) hx hb dX4_ask_165 hl (by decide) rfl (fun ls hl => ?_)
                                refine ii_iinc (k := 1) (lv' := [(8, .int (iI (zj9 + 1))), (7, .int (iI ((mwI B1 c9 k9 j9) + 0))), (6, .int (iI zk9)), (5, .int (iI (mwO B1 a9 c9 k9))), (4, .int (iI zc)), (3, .int (iI za)), (0, .ref (K 0)), (1, .int (iI i)), (2, .int (iI what))]) hx hb dX4_ask_167 hl rfl (by decide) rfl (fun ls hl => ?_)
                                refine lv_goto (tgt := 119) hx hb dX4_ask_170 (by decide) ?_
                                have e_16 : (mwI B1 c9 k9 (j9 + 1)) = ((mwI B1 c9 k9 j9) + 0) := by simp only [mwI]; first | rw [if_pos (by assumption)] | rw [if_neg (by assumption)]
                                exact ih119 (j9 + 1) (zj9 + 1) (by omega) (by omega) (by omega) _ _ hW hS ls (by rw [e_16]; exact lv_sub hl [0, 1, 2, 3, 4, 5, 6, 7, 8] rfl)
                              · --
                                refine ii_const hx hb dX4_ask_156 ?_
                                refine lv_goto (tgt := 161) hx hb dX4_ask_157 (by decide) ?_
                                refine cqI (va_runS (As := [.int (iI 1)]) (rest := [.int (iI (mwI B1 c9 k9 j9))]) ⟨hx, hb, hml, hown, hts⟩ (mX4_flag Z 1 (by omega)) (va_cwS 1 hts (lw_S q1182 q1183 q83 q1184) rfl rfl rfl (by decide +kernel) ⟨Nat.le_of_ble_eq_true rfl, Nat.le_of_ble_eq_true rfl⟩) (psR (BornH.S hB hN hS) trivial) rfl rfl hl.1 rfl (lv_room (Nat.le_of_ble_eq_true rfl)) dX4_ask_161 ⟨Nat.zero_le _, Nat.zero_le _⟩) ?_
                                refine ii_add hx hb dX4_ask_164 ?_
                                refine lv_istore (lv' := [(7, .int (iI ((mwI B1 c9 k9 j9) + 1))), (8, .int (iI zj9)), (6, .int (iI zk9)), (5, .int (iI (mwO B1 a9 c9 k9))), (4, .int (iI zc)), (3, .int (iI za)), (0, .ref (K 0)), (1, .int (iI i)), (2, .int (iI what))]) hx hb dX4_ask_165 hl (by decide) rfl (fun ls hl => ?_)
                                refine ii_iinc (k := 1) (lv' := [(8, .int (iI (zj9 + 1))), (7, .int (iI ((mwI B1 c9 k9 j9) + 1))), (6, .int (iI zk9)), (5, .int (iI (mwO B1 a9 c9 k9))), (4, .int (iI zc)), (3, .int (iI za)), (0, .ref (K 0)), (1, .int (iI i)), (2, .int (iI what))]) hx hb dX4_ask_167 hl rfl (by decide) rfl (fun ls hl => ?_)
                                refine lv_goto (tgt := 119) hx hb dX4_ask_170 (by decide) ?_
                                have e_17 : (mwI B1 c9 k9 (j9 + 1)) = ((mwI B1 c9 k9 j9) + 1) := by simp only [mwI]; first | rw [if_pos (by assumption)] | rw [if_neg (by assumption)]
                                exact ih119 (j9 + 1) (zj9 + 1) (by omega) (by omega) (by omega) _ _ hW hS ls (by rw [e_17]; exact lv_sub hl [0, 1, 2, 3, 4, 5, 6, 7, 8] rfl)
                        have e_18 : (mwI B1 c9 k9 0) = 0 := rfl
                        exact loop_119 _ 0 0 (by omega) (by omega) (Nat.lt_succ_self _) _ _ hW hS ls (by rw [e_18]; exact lv_sub hl [0, 1, 2, 3, 4, 5, 6, 7, 8] rfl)
                  have e_19 : (mwO B1 a9 c9 0) = 0 := rfl
                  exact loop_107 _ 0 0 (by omega) (by omega) (Nat.lt_succ_self _) _ _ hW hS ls (by rw [e_19]; exact lv_sub hl [0, 1, 2, 3, 4, 5, 6] rfl)
            exact loop_94 _ 0 0 (-4) za (by omega) (by omega) (by rw [eza]; rfl) (by omega) (Nat.lt_succ_self _) _ _ hW hS ls (lv_sub hl [0, 1, 2, 3, 4] rfl)
          · -- 25 -> 28
            refine lv_aload_n hx hb dX4_ask_28 rfl (lv_at hl 2 rfl) ?_
            refine ii_const hx hb dX4_ask_29 ?_
            refine lv_iload_n hx hb dX4_ask_30 rfl (lv_at hl 3 rfl) ?_
            refine ii_mul hx hb dX4_ask_31 ?_
            refine ii_const hx hb dX4_ask_32 ?_
            refine ii_add hx hb dX4_ask_33 ?_
            have hav := hF.setK (i := i.toNat) (v := zk) (by omega) (by omega)
            have hav2 : Dia (up (T 1) (2 * i.toNat + 0) zk) := fun a ha => by rw [up_n _ _ (by omega)]; exact hD a ha
            refine lv_iload hx hb dX4_ask_34 (lv_at hl 0 rfl) ?_
            refine cmI (va_runV (As := [.int (iI ((2 * i) + 0)), .int (iI zk)]) (rest := []) ⟨hx, hb, hml, hown, hts⟩ (mX4_isSoWith Z K hI (up (up (up T 2 F2) 6 W2) 7 B1) (T 1) rfl hF hD hd hsm ((2 * i.toNat) + 0) ((2 * i) + 0) (by omega) (by omega) zk (by omega) hav hav2 H.size) (cwV 2 hts (lw_V q1398 q1400 qs76 q83 q1401) rfl rfl rfl (by decide +kernel) ⟨Nat.le_of_ble_eq_true rfl, Nat.le_of_ble_eq_true rfl⟩) (pvM (BornH.S hB hN hS) (OBJ.recv Z hB hW.obj (q := (RX4, TX4, 29)) rfl) hW) rfl rfl hl.1 rfl (lv_room (Nat.le_of_ble_eq_true rfl)) dX4_ask_36 ⟨Nat.zero_le _, Nat.zero_le _⟩) hS (AA.le hS.1) (fun H1 locs hW1 hz1 hk1 hS => ?_)
            have hW := hW1
            clear hW1 hk1 hz1
            generalize H1 = H at hW hS ⊢
            have hW := hW.eqS (S' := (up (up (up T 2 (daysS (up (T 1) ((2 * i.toNat) + 0) zk) 21)) 6 (bkF (up (T 1) ((2 * i.toNat) + 0) zk) W2 0 ((T 1) 76).toNat 21 0)) 7 B1)) (by
                funext a
                by_cases h2 : a = 2
                · subst h2; rfl
                by_cases h6 : a = 6
                · subst h6; rfl
                by_cases h7 : a = 7
                · subst h7; rfl
                simp only [up, if_neg h2, if_neg h6, if_neg h7])
            generalize daysS (up (T 1) ((2 * i.toNat) + 0) zk) 21 = Fv_20 at hW
            refine bb_if_eq (P := snS (up (T 1) ((2 * i.toNat) + 0) zk) (sawF (T 1)) ((T 1) 57).toNat 21 = 1) (tgt := 80) hx hb dX4_ask_39 (by decide) (fun c_23 => ?_) (fun c_23 => ?_)
            · -- 39 -> 80
              have hfit : ¬ fitP (T 1) i.toNat k := by subst ezk; exact c_23
              refine ii_iinc (k := 0) (lv' := [(4, .int (iI (zk + 1))), (3, .int (iI za)), (0, .ref (K 0)), (1, .int (iI i)), (2, .int (iI what))]) hx hb dX4_ask_80 hl rfl (by decide) rfl (fun ls hl => ?_)
              refine lv_goto (tgt := 22) hx hb dX4_ask_83 (by decide) ?_
              exact ih22 (k + 1) (zk + 1) a9 za Fv_20 (bkF (up (T 1) ((2 * i.toNat) + 0) zk) W2 0 ((T 1) 76).toNat 21 0) B1 (by omega) (by omega) (by omega) (by simp only [mnS]; first | (rw [if_pos hfit]; omega) | (rw [if_neg hfit]; exact haa)) (by first | exact hBk.no hfit | (subst ezk; subst haa; exact hBk.yes hn5 hfit)) (by omega) _ _ hW hS ls (lv_sub hl [0, 1, 2, 3, 4] rfl)
            · -- 39 -> 42
              have hfit : fitP (T 1) i.toNat k := by subst ezk; exact c_23
              generalize Fv_20 = F3 at hW
              refine ii_const hx hb dX4_ask_42 ?_
              refine lv_istore (lv' := [(5, .int (iI 0)), (4, .int (iI zk)), (3, .int (iI za)), (0, .ref (K 0)), (1, .int (iI i)), (2, .int (iI what))]) hx hb dX4_ask_43 hl (by decide) rfl (fun ls hl => ?_)
              have loop_45 : ∀ (fu : Nat) (c9 : Nat) (zc : Int), (zc = (c9 : Int)) → (c9 ≤ 105) → (106 - c9) < fu → ∀ (H : Heap) (locs : List Loc), (MW G K (up (up (up T 2 F3) 6 (bkF (up (T 1) ((2 * i.toNat) + 0) zk) W2 0 ((T 1) 76).toNat 21 0)) 7 (cpB (bkF (up (T 1) ((2 * i.toNat) + 0) zk) W2 0 ((T 1) 76).toNat 21 0) B1 a9 c9))) H → va_S (AA K 12 s.heap.size) s.heap H locs → ∀ (ls : Array Slot), lv_has ls 9 [(5, .int (iI zc)), (4, .int (iI zk)), (3, .int (iI za)), (0, .ref (K 0)), (1, .int (iI i)), (2, .int (iI what))] → W p l e (headSpec (ws_ yX4_ask cX4_ask 9 (some .int)) ({ frames := 6, cells := 0, slots := 0, locals := 144 } : Room)).room s m ([.ref (K 0), .int (iI i), .int (iI what)] : List Value).toArray below meth c H locs 0 0 (MQ below (mI (askM (T 1) i what) (MWx G K T) (AA K 12 s.heap.size)) ([.ref (K 0), .int (iI i), .int (iI what)] : List Value).toArray s 0 0 (AA K 12 s.heap.size)) (F0 m 45 ls []) := by
                intro fu
                induction fu with
                | zero => intro c9 zc ezc hc9 hmu; exact absurd hmu (Nat.not_lt_zero _)
                | succ fu ih45 =>
                  intro c9 zc ezc hc9 hmu H locs hW hS ls hl
                  refine lv_iload hx hb dX4_ask_45 (lv_at hl 0 rfl) ?_
                  refine ii_bipush hx hb dX4_ask_47 (by decide) ?_
                  refine ii_icmp_ge (tgt := 77) hx hb dX4_ask_49 (by decide) (by omega) (by omega) (fun c_24 => ?_) (fun c_24 => ?_)
                  · -- 49 -> 77
                    have ex_c9 : 105 = c9 := by omega
                    subst ex_c9
                    refine ii_iinc (k := 2) (lv' := [(3, .int (iI (za + 1))), (5, .int (iI zc)), (4, .int (iI zk)), (0, .ref (K 0)), (1, .int (iI i)), (2, .int (iI what))]) hx hb dX4_ask_77 hl rfl (by decide) rfl (fun ls hl => ?_)
                    refine ii_iinc (k := 2) (lv' := [(4, .int (iI (zk + 1))), (3, .int (iI (za + 1))), (5, .int (iI zc)), (0, .ref (K 0)), (1, .int (iI i)), (2, .int (iI what))]) hx hb dX4_ask_80 hl rfl (by decide) rfl (fun ls hl => ?_)
                    refine lv_goto (tgt := 22) hx hb dX4_ask_83 (by decide) ?_
                    exact ih22 (k + 1) (zk + 1) (a9 + 1) (za + 1) F3 (bkF (up (T 1) ((2 * i.toNat) + 0) zk) W2 0 ((T 1) 76).toNat 21 0) (cpB (bkF (up (T 1) ((2 * i.toNat) + 0) zk) W2 0 ((T 1) 76).toNat 21 0) B1 a9 105) (by omega) (by omega) (by omega) (by simp only [mnS]; first | (rw [if_pos hfit]; omega) | (rw [if_neg hfit]; exact haa)) (by first | exact hBk.no hfit | (subst ezk; subst haa; exact hBk.yes hn5 hfit)) (by omega) _ _ hW hS ls (lv_sub hl [0, 1, 3, 4, 5] rfl)
                  · -- 49 -> 52
                    refine lv_aload_n hx hb dX4_ask_52 rfl (lv_at hl 3 rfl) ?_
                    refine r_get (ci := 4) (k := 23) (v := .ref (K 7)) (C := RX4) (T := TX4) (N := 29) Z hB hx hb hts hown rfl in_X4 hW.obj (by decide) q1001 rfl dX4_ask_53 ?_
                    refine ii_bipush hx hb dX4_ask_56 (by decide) ?_
                    refine lv_iload_n hx hb dX4_ask_58 rfl (lv_at hl 2 rfl) ?_
                    refine ii_mul hx hb dX4_ask_59 ?_
                    refine lv_iload hx hb dX4_ask_60 (lv_at hl 0 rfl) ?_
                    refine ii_add hx hb dX4_ask_62 ?_
                    refine lv_aload_n hx hb dX4_ask_63 rfl (lv_at hl 3 rfl) ?_
                    refine r_get (ci := 4) (k := 22) (v := .ref (K 6)) (C := RX4) (T := TX4) (N := 29) Z hB hx hb hts hown rfl in_X4 hW.obj (by decide) q1000 rfl dX4_ask_64 ?_
                    refine lv_iload hx hb dX4_ask_67 (lv_at hl 0 rfl) ?_
                    refine r_iald (k := c9) (f := (bkF (up (T 1) ((2 * i.toNat) + 0) zk) W2 0 ((T 1) 76).toNat 21 0)) Z hB hx hb hW.were (by omega) (by omega) (by omega) dX4_ask_69 ?_
                    refine r_iast (k := ((105 * a9) + c9)) Z hB hx hb hW.byKind hS (AA.me (by omega)) (by omega) (by omega) (by omega) dX4_ask_70 (MW G K (up (up (up (up T 2 F3) 6 (bkF (up (T 1) ((2 * i.toNat) + 0) zk) W2 0 ((T 1) 76).toNat 21 0)) 7 (cpB (bkF (up (T 1) ((2 * i.toNat) + 0) zk) W2 0 ((T 1) 76).toNat 21 0) B1 a9 c9)) 7 (up (cpB (bkF (up (T 1) ((2 * i.toNat) + 0) zk) W2 0 ((T 1) 76).toNat 21 0) B1 a9 c9) ((105 * a9) + c9) ((bkF (up (T 1) ((2 * i.toNat) + 0) zk) W2 0 ((T 1) 76).toNat 21 0) c9)))) (fun H1 hz oq ha => hW.setA hI (j := 7) (by omega) (by omega) (fun h => absurd h (by omega)) oq ha) (fun H locs hW hS => ?_)
                    have hW := hW.eqS (S' := (up (up (up T 2 F3) 6 (bkF (up (T 1) ((2 * i.toNat) + 0) zk) W2 0 ((T 1) 76).toNat 21 0)) 7 (up (cpB (bkF (up (T 1) ((2 * i.toNat) + 0) zk) W2 0 ((T 1) 76).toNat 21 0) B1 a9 c9) ((105 * a9) + c9) ((bkF (up (T 1) ((2 * i.toNat) + 0) zk) W2 0 ((T 1) 76).toNat 21 0) c9)))) (by
                        funext a
                        by_cases h2 : a = 2
                        · subst h2; rfl
                        by_cases h6 : a = 6
                        · subst h6; rfl
                        by_cases h7 : a = 7
                        · subst h7; rfl
                        simp only [up, if_neg h2, if_neg h6, if_neg h7])
                    refine ii_iinc (k := 0) (lv' := [(5, .int (iI (zc + 1))), (4, .int (iI zk)), (3, .int (iI za)), (0, .ref (K 0)), (1, .int (iI i)), (2, .int (iI what))]) hx hb dX4_ask_71 hl rfl (by decide) rfl (fun ls hl => ?_)
                    refine lv_goto (tgt := 45) hx hb dX4_ask_74 (by decide) ?_
                    exact ih45 (c9 + 1) (zc + 1) (by omega) (by omega) (by omega) _ _ (by rw [← cpB_s]; exact hW) hS ls (lv_sub hl [0, 1, 2, 3, 4, 5] rfl)
              exact loop_45 _ 0 0 (by omega) (by omega) (Nat.lt_succ_self _) _ _ (hW.eqS (by rw [cpB_0])) hS ls (lv_sub hl [0, 1, 2, 3, 4, 5] rfl)
      have hW := hW.eqS (S' := (up (up (up T 2 (T 2)) 6 (T 6)) 7 (T 7))) (by
          funext a
          by_cases h2 : a = 2
          · subst h2; rfl
          by_cases h6 : a = 6
          · subst h6; rfl
          by_cases h7 : a = 7
          · subst h7; rfl
          simp only [up, if_neg h2, if_neg h6, if_neg h7])
      exact loop_22 _ 0 0 0 0 (T 2) (T 6) (T 7) (by omega) (by omega) (by omega) (rfl) (BkOK.z _ _ _) (Nat.lt_succ_self _) _ _ hW hS ls (lv_sub hl [0, 1, 2, 3, 4] rfl)
    · -- 12 -> 15
      refine ii_const hx hb dX4_ask_15 ?_
      have hpw9 : (MWx G K T) s.heap := ⟨T, ⟨fun _ _ _ _ _ _ => rfl, fun _ _ _ _ _ _ => rfl⟩, hW⟩
      have he9 : (-1) = (askM (T 1) i what) := by unfold askM; exact (if_pos (by omega)).symm
      exact W.iret hx hb hr (fun t ht hW9 => ⟨⟨_, (), rfl, congrArg iI he9, by show (MWx G K T) t.heap; rw [ht]; exact hpw9⟩, hS.F ht⟩) hS.2.2 dX4_ask_16
