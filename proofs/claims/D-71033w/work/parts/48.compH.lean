/-! COMPONENT: what was seen (written by gen/comp6.py) -/
set_option maxRecDepth 100000
set_option maxHeartbeats 1000000 in
set_option maxRecDepth 100000 in
theorem mJ8_bitCount {l : Launch} {G : GG} {s0 : State} {b0 : Nat} (Z : ZZ l G s0 b0) (z : Int) (hz : 0 ≤ z ∧ z < 16) : Met l yJ8_bitCount (ws_ yJ8_bitCount cJ8_bitCount 1 (some .int)) ({ frames := 0, cells := 0, slots := 0, locals := 0 } : Room) (pcR s0 (fun _ => True) [.int (iI z)]) (qI (bcS z)) 0 0 (fun _ => False) := by
  refine Met.ofW (cc := cJ8_bitCount) (maxL := 1) (ret := (some .int)) (by decide) rfl ?_
  intro p e s m args below meth c s₁ B hml hv
  obtain ⟨rfl, hW, hB⟩ := hv
  have hx := B.exec
  have hb := B.bytes
  have hr := B.returns
  have hts := atoms_spec (ws := (ws_ yJ8_bitCount cJ8_bitCount 1 (some .int))) B.pre
  have hts : ∀ w ∈ lw_all, w.before _ s = true := fun w h => hts w (List.mem_cons_of_mem _ h)
  have hown : s.vm.findClass RJ8 = some m.cls := findClass_of_methodNamed B.named
  have hlocks := B.notSynchronized
  have hl := lv_entry ([.int (iI z)]) (n := 1) (Nat.le_of_ble_eq_true rfl)
  rw [lg_entry_eq]
  generalize (lg_sl ([.int (iI z)]) ++ List.replicate (1 - (lg_sl ([.int (iI z)])).length) Slot.unset).toArray = ls at hl ⊢
  have hl : lv_has ls 1 [(0, .int (iI z))] := hl
  refine lv_iload_n hx hb dJ8_bitCount_0 rfl (lv_at hl 0 rfl) ?_
  refine lv_iload_n hx hb dJ8_bitCount_1 rfl (lv_at hl 0 rfl) ?_
  refine lv_iconst (v := 1) hx hb dJ8_bitCount_2 (by decide) ?_
  refine lv_iushr hx hb dJ8_bitCount_3 rfl ?_
  refine lv_ldcw hx hb hown (hts _ q711) dJ8_bitCount_4 ?_
  refine lv_iand hx hb dJ8_bitCount_7 ?_
  refine lv_isub hx hb dJ8_bitCount_8 ?_
  refine lv_istore_n (lv' := [(0, .int ((iI z) - (((iI z).toUInt32 >>> ((1 : Int32).toUInt32 &&& Int32.toUInt32 31)).toInt32 &&& (1431655765 : Int32))))]) hx hb dJ8_bitCount_9 rfl hl (by decide) rfl (fun ls hl => ?_)
  refine lv_iload_n hx hb dJ8_bitCount_10 rfl (lv_at hl 0 rfl) ?_
  refine lv_ldcw hx hb hown (hts _ q712) dJ8_bitCount_11 ?_
  refine lv_iand hx hb dJ8_bitCount_14 ?_
  refine lv_iload_n hx hb dJ8_bitCount_15 rfl (lv_at hl 0 rfl) ?_
  refine lv_iconst (v := 2) hx hb dJ8_bitCount_16 (by decide) ?_
  refine lv_iushr hx hb dJ8_bitCount_17 rfl ?_
  refine lv_ldcw hx hb hown (hts _ q712) dJ8_bitCount_18 ?_
  refine lv_iand hx hb dJ8_bitCount_21 ?_
  refine lv_iadd hx hb dJ8_bitCount_22 ?_
  refine lv_istore_n (lv' := [(0, .int ((((iI z) - (((iI z).toUInt32 >>> ((1 : Int32).toUInt32 &&& Int32.toUInt32 31)).toInt32 &&& (1431655765 : Int32))) &&& (858993459 : Int32)) + ((((iI z) - (((iI z).toUInt32 >>> ((1 : Int32).toUInt32 &&& Int32.toUInt32 31)).toInt32 &&& (1431655765 : Int32))).toUInt32 >>> ((2 : Int32).toUInt32 &&& Int32.toUInt32 31)).toInt32 &&& (858993459 : Int32))))]) hx hb dJ8_bitCount_23 rfl hl (by decide) rfl (fun ls hl => ?_)
  refine lv_iload_n hx hb dJ8_bitCount_24 rfl (lv_at hl 0 rfl) ?_
  refine lv_iload_n hx hb dJ8_bitCount_25 rfl (lv_at hl 0 rfl) ?_
  refine lv_iconst (v := 4) hx hb dJ8_bitCount_26 (by decide) ?_
  refine lv_iushr hx hb dJ8_bitCount_27 rfl ?_
  refine lv_iadd hx hb dJ8_bitCount_28 ?_
  refine lv_ldcw hx hb hown (hts _ q713) dJ8_bitCount_29 ?_
  refine lv_iand hx hb dJ8_bitCount_32 ?_
  refine lv_istore_n (lv' := [(0, .int ((((((iI z) - (((iI z).toUInt32 >>> ((1 : Int32).toUInt32 &&& Int32.toUInt32 31)).toInt32 &&& (1431655765 : Int32))) &&& (858993459 : Int32)) + ((((iI z) - (((iI z).toUInt32 >>> ((1 : Int32).toUInt32 &&& Int32.toUInt32 31)).toInt32 &&& (1431655765 : Int32))).toUInt32 >>> ((2 : Int32).toUInt32 &&& Int32.toUInt32 31)).toInt32 &&& (858993459 : Int32))) + (((((iI z) - (((iI z).toUInt32 >>> ((1 : Int32).toUInt32 &&& Int32.toUInt32 31)).toInt32 &&& (1431655765 : Int32))) &&& (858993459 : Int32)) + ((((iI z) - (((iI z).toUInt32 >>> ((1 : Int32).toUInt32 &&& Int32.toUInt32 31)).toInt32 &&& (1431655765 : Int32))).toUInt32 >>> ((2 : Int32).toUInt32 &&& Int32.toUInt32 31)).toInt32 &&& (858993459 : Int32))).toUInt32 >>> ((4 : Int32).toUInt32 &&& Int32.toUInt32 31)).toInt32) &&& (252645135 : Int32)))]) hx hb dJ8_bitCount_33 rfl hl (by decide) rfl (fun ls hl => ?_)
  refine lv_iload_n hx hb dJ8_bitCount_34 rfl (lv_at hl 0 rfl) ?_
  refine lv_iload_n hx hb dJ8_bitCount_35 rfl (lv_at hl 0 rfl) ?_
  refine lv_bipush (v := 8) hx hb dJ8_bitCount_36 (by decide) ?_
  refine lv_iushr hx hb dJ8_bitCount_38 rfl ?_
  refine lv_iadd hx hb dJ8_bitCount_39 ?_
  refine lv_istore_n (lv' := [(0, .int (((((((iI z) - (((iI z).toUInt32 >>> ((1 : Int32).toUInt32 &&& Int32.toUInt32 31)).toInt32 &&& (1431655765 : Int32))) &&& (858993459 : Int32)) + ((((iI z) - (((iI z).toUInt32 >>> ((1 : Int32).toUInt32 &&& Int32.toUInt32 31)).toInt32 &&& (1431655765 : Int32))).toUInt32 >>> ((2 : Int32).toUInt32 &&& Int32.toUInt32 31)).toInt32 &&& (858993459 : Int32))) + (((((iI z) - (((iI z).toUInt32 >>> ((1 : Int32).toUInt32 &&& Int32.toUInt32 31)).toInt32 &&& (1431655765 : Int32))) &&& (858993459 : Int32)) + ((((iI z) - (((iI z).toUInt32 >>> ((1 : Int32).toUInt32 &&& Int32.toUInt32 31)).toInt32 &&& (1431655765 : Int32))).toUInt32 >>> ((2 : Int32).toUInt32 &&& Int32.toUInt32 31)).toInt32 &&& (858993459 : Int32))).toUInt32 >>> ((4 : Int32).toUInt32 &&& Int32.toUInt32 31)).toInt32) &&& (252645135 : Int32)) + (((((((iI z) - (((iI z).toUInt32 >>> ((1 : Int32).toUInt32 &&& Int32.toUInt32 31)).toInt32 &&& (1431655765 : Int32))) &&& (858993459 : Int32)) + ((((iI z) - (((iI z).toUInt32 >>> ((1 : Int32).toUInt32 &&& Int32.toUInt32 31)).toInt32 &&& (1431655765 : Int32))).toUInt32 >>> ((2 : Int32).toUInt32 &&& Int32.toUInt32 31)).toInt32 &&& (858993459 : Int32))) + (((((iI z) - (((iI z).toUInt32 >>> ((1 : Int32).toUInt32 &&& Int32.toUInt32 31)).toInt32 &&& (1431655765 : Int32))) &&& (858993459 : Int32)) + ((((iI z) - (((iI z).toUInt32 >>> ((1 : Int32).toUInt32 &&& Int32.toUInt32 31)).toInt32 &&& (1431655765 : Int32))).toUInt32 >>> ((2 : Int32).toUInt32 &&& Int32.toUInt32 31)).toInt32 &&& (858993459 : Int32))).toUInt32 >>> ((4 : Int32).toUInt32 &&& Int32.toUInt32 31)).toInt32) &&& (252645135 : Int32)).toUInt32 >>> ((8 : Int32).toUInt32 &&& Int32.toUInt32 31)).toInt32))]) hx hb dJ8_bitCount_40 rfl hl (by decide) rfl (fun ls hl => ?_)
  refine lv_iload_n hx hb dJ8_bitCount_41 rfl (lv_at hl 0 rfl) ?_
  refine lv_iload_n hx hb dJ8_bitCount_42 rfl (lv_at hl 0 rfl) ?_
  refine lv_bipush (v := 16) hx hb dJ8_bitCount_43 (by decide) ?_
  refine lv_iushr hx hb dJ8_bitCount_45 rfl ?_
  refine lv_iadd hx hb dJ8_bitCount_46 ?_
  refine lv_istore_n (lv' := [(0, .int ((((((((iI z) - (((iI z).toUInt32 >>> ((1 : Int32).toUInt32 &&& Int32.toUInt32 31)).toInt32 &&& (1431655765 : Int32))) &&& (858993459 : Int32)) + ((((iI z) - (((iI z).toUInt32 >>> ((1 : Int32).toUInt32 &&& Int32.toUInt32 31)).toInt32 &&& (1431655765 : Int32))).toUInt32 >>> ((2 : Int32).toUInt32 &&& Int32.toUInt32 31)).toInt32 &&& (858993459 : Int32))) + (((((iI z) - (((iI z).toUInt32 >>> ((1 : Int32).toUInt32 &&& Int32.toUInt32 31)).toInt32 &&& (1431655765 : Int32))) &&& (858993459 : Int32)) + ((((iI z) - (((iI z).toUInt32 >>> ((1 : Int32).toUInt32 &&& Int32.toUInt32 31)).toInt32 &&& (1431655765 : Int32))).toUInt32 >>> ((2 : Int32).toUInt32 &&& Int32.toUInt32 31)).toInt32 &&& (858993459 : Int32))).toUInt32 >>> ((4 : Int32).toUInt32 &&& Int32.toUInt32 31)).toInt32) &&& (252645135 : Int32)) + (((((((iI z) - (((iI z).toUInt32 >>> ((1 : Int32).toUInt32 &&& Int32.toUInt32 31)).toInt32 &&& (1431655765 : Int32))) &&& (858993459 : Int32)) + ((((iI z) - (((iI z).toUInt32 >>> ((1 : Int32).toUInt32 &&& Int32.toUInt32 31)).toInt32 &&& (1431655765 : Int32))).toUInt32 >>> ((2 : Int32).toUInt32 &&& Int32.toUInt32 31)).toInt32 &&& (858993459 : Int32))) + (((((iI z) - (((iI z).toUInt32 >>> ((1 : Int32).toUInt32 &&& Int32.toUInt32 31)).toInt32 &&& (1431655765 : Int32))) &&& (858993459 : Int32)) + ((((iI z) - (((iI z).toUInt32 >>> ((1 : Int32).toUInt32 &&& Int32.toUInt32 31)).toInt32 &&& (1431655765 : Int32))).toUInt32 >>> ((2 : Int32).toUInt32 &&& Int32.toUInt32 31)).toInt32 &&& (858993459 : Int32))).toUInt32 >>> ((4 : Int32).toUInt32 &&& Int32.toUInt32 31)).toInt32) &&& (252645135 : Int32)).toUInt32 >>> ((8 : Int32).toUInt32 &&& Int32.toUInt32 31)).toInt32) + ((((((((iI z) - (((iI z).toUInt32 >>> ((1 : Int32).toUInt32 &&& Int32.toUInt32 31)).toInt32 &&& (1431655765 : Int32))) &&& (858993459 : Int32)) + ((((iI z) - (((iI z).toUInt32 >>> ((1 : Int32).toUInt32 &&& Int32.toUInt32 31)).toInt32 &&& (1431655765 : Int32))).toUInt32 >>> ((2 : Int32).toUInt32 &&& Int32.toUInt32 31)).toInt32 &&& (858993459 : Int32))) + (((((iI z) - (((iI z).toUInt32 >>> ((1 : Int32).toUInt32 &&& Int32.toUInt32 31)).toInt32 &&& (1431655765 : Int32))) &&& (858993459 : Int32)) + ((((iI z) - (((iI z).toUInt32 >>> ((1 : Int32).toUInt32 &&& Int32.toUInt32 31)).toInt32 &&& (1431655765 : Int32))).toUInt32 >>> ((2 : Int32).toUInt32 &&& Int32.toUInt32 31)).toInt32 &&& (858993459 : Int32))).toUInt32 >>> ((4 : Int32).toUInt32 &&& Int32.toUInt32 31)).toInt32) &&& (252645135 : Int32)) + (((((((iI z) - (((iI z).toUInt32 >>> ((1 : Int32).toUInt32 &&& Int32.toUInt32 31)).toInt32 &&& (1431655765 : Int32))) &&& (858993459 : Int32)) + ((((iI z) - (((iI z).toUInt32 >>> ((1 : Int32).toUInt32 &&& Int32.toUInt32 31)).toInt32 &&& (1431655765 : Int32))).toUInt32 >>> ((2 : Int32).toUInt32 &&& Int32.toUInt32 31)).toInt32 &&& (858993459 : Int32))) + (((((iI z) - (((iI z).toUInt32 >>> ((1 : Int32).toUInt32 &&& Int32.toUInt32 31)).toInt32 &&& (1431655765 : Int32))) &&& (858993459 : Int32)) + ((((iI z) - (((iI z).toUInt32 >>> ((1 : Int32).toUInt32 &&& Int32.toUInt32 31)).toInt32 &&& (1431655765 : Int32))).toUInt32 >>> ((2 : Int32).toUInt32 &&& Int32.toUInt32 31)).toInt32 &&& (858993459 : Int32))).toUInt32 >>> ((4 : Int32).toUInt32 &&& Int32.toUInt32 31)).toInt32) &&& (252645135 : Int32)).toUInt32 >>> ((8 : Int32).toUInt32 &&& Int32.toUInt32 31)).toInt32).toUInt32 >>> ((16 : Int32).toUInt32 &&& Int32.toUInt32 31)).toInt32))]) hx hb dJ8_bitCount_47 rfl hl (by decide) rfl (fun ls hl => ?_)
  refine lv_iload_n hx hb dJ8_bitCount_48 rfl (lv_at hl 0 rfl) ?_
  refine lv_bipush (v := 63) hx hb dJ8_bitCount_49 (by decide) ?_
  refine lv_iand hx hb dJ8_bitCount_51 ?_
  have he9 : (((((((((iI z) - (((iI z).toUInt32 >>> ((1 : Int32).toUInt32 &&& Int32.toUInt32 31)).toInt32 &&& (1431655765 : Int32))) &&& (858993459 : Int32)) + ((((iI z) - (((iI z).toUInt32 >>> ((1 : Int32).toUInt32 &&& Int32.toUInt32 31)).toInt32 &&& (1431655765 : Int32))).toUInt32 >>> ((2 : Int32).toUInt32 &&& Int32.toUInt32 31)).toInt32 &&& (858993459 : Int32))) + (((((iI z) - (((iI z).toUInt32 >>> ((1 : Int32).toUInt32 &&& Int32.toUInt32 31)).toInt32 &&& (1431655765 : Int32))) &&& (858993459 : Int32)) + ((((iI z) - (((iI z).toUInt32 >>> ((1 : Int32).toUInt32 &&& Int32.toUInt32 31)).toInt32 &&& (1431655765 : Int32))).toUInt32 >>> ((2 : Int32).toUInt32 &&& Int32.toUInt32 31)).toInt32 &&& (858993459 : Int32))).toUInt32 >>> ((4 : Int32).toUInt32 &&& Int32.toUInt32 31)).toInt32) &&& (252645135 : Int32)) + (((((((iI z) - (((iI z).toUInt32 >>> ((1 : Int32).toUInt32 &&& Int32.toUInt32 31)).toInt32 &&& (1431655765 : Int32))) &&& (858993459 : Int32)) + ((((iI z) - (((iI z).toUInt32 >>> ((1 : Int32).toUInt32 &&& Int32.toUInt32 31)).toInt32 &&& (1431655765 : Int32))).toUInt32 >>> ((2 : Int32).toUInt32 &&& Int32.toUInt32 31)).toInt32 &&& (858993459 : Int32))) + (((((iI z) - (((iI z).toUInt32 >>> ((1 : Int32).toUInt32 &&& Int32.toUInt32 31)).toInt32 &&& (1431655765 : Int32))) &&& (858993459 : Int32)) + ((((iI z) - (((iI z).toUInt32 >>> ((1 : Int32).toUInt32 &&& Int32.toUInt32 31)).toInt32 &&& (1431655765 : Int32))).toUInt32 >>> ((2 : Int32).toUInt32 &&& Int32.toUInt32 31)).toInt32 &&& (858993459 : Int32))).toUInt32 >>> ((4 : Int32).toUInt32 &&& Int32.toUInt32 31)).toInt32) &&& (252645135 : Int32)).toUInt32 >>> ((8 : Int32).toUInt32 &&& Int32.toUInt32 31)).toInt32) + ((((((((iI z) - (((iI z).toUInt32 >>> ((1 : Int32).toUInt32 &&& Int32.toUInt32 31)).toInt32 &&& (1431655765 : Int32))) &&& (858993459 : Int32)) + ((((iI z) - (((iI z).toUInt32 >>> ((1 : Int32).toUInt32 &&& Int32.toUInt32 31)).toInt32 &&& (1431655765 : Int32))).toUInt32 >>> ((2 : Int32).toUInt32 &&& Int32.toUInt32 31)).toInt32 &&& (858993459 : Int32))) + (((((iI z) - (((iI z).toUInt32 >>> ((1 : Int32).toUInt32 &&& Int32.toUInt32 31)).toInt32 &&& (1431655765 : Int32))) &&& (858993459 : Int32)) + ((((iI z) - (((iI z).toUInt32 >>> ((1 : Int32).toUInt32 &&& Int32.toUInt32 31)).toInt32 &&& (1431655765 : Int32))).toUInt32 >>> ((2 : Int32).toUInt32 &&& Int32.toUInt32 31)).toInt32 &&& (858993459 : Int32))).toUInt32 >>> ((4 : Int32).toUInt32 &&& Int32.toUInt32 31)).toInt32) &&& (252645135 : Int32)) + (((((((iI z) - (((iI z).toUInt32 >>> ((1 : Int32).toUInt32 &&& Int32.toUInt32 31)).toInt32 &&& (1431655765 : Int32))) &&& (858993459 : Int32)) + ((((iI z) - (((iI z).toUInt32 >>> ((1 : Int32).toUInt32 &&& Int32.toUInt32 31)).toInt32 &&& (1431655765 : Int32))).toUInt32 >>> ((2 : Int32).toUInt32 &&& Int32.toUInt32 31)).toInt32 &&& (858993459 : Int32))) + (((((iI z) - (((iI z).toUInt32 >>> ((1 : Int32).toUInt32 &&& Int32.toUInt32 31)).toInt32 &&& (1431655765 : Int32))) &&& (858993459 : Int32)) + ((((iI z) - (((iI z).toUInt32 >>> ((1 : Int32).toUInt32 &&& Int32.toUInt32 31)).toInt32 &&& (1431655765 : Int32))).toUInt32 >>> ((2 : Int32).toUInt32 &&& Int32.toUInt32 31)).toInt32 &&& (858993459 : Int32))).toUInt32 >>> ((4 : Int32).toUInt32 &&& Int32.toUInt32 31)).toInt32) &&& (252645135 : Int32)).toUInt32 >>> ((8 : Int32).toUInt32 &&& Int32.toUInt32 31)).toInt32).toUInt32 >>> ((16 : Int32).toUInt32 &&& Int32.toUInt32 31)).toInt32) &&& (63 : Int32)) = iI (bcS z) := by rcases (show z = 0 ∨ z = 1 ∨ z = 2 ∨ z = 3 ∨ z = 4 ∨ z = 5 ∨ z = 6 ∨ z = 7 ∨ z = 8 ∨ z = 9 ∨ z = 10 ∨ z = 11 ∨ z = 12 ∨ z = 13 ∨ z = 14 ∨ z = 15 by omega) with rfl | rfl | rfl | rfl | rfl | rfl | rfl | rfl | rfl | rfl | rfl | rfl | rfl | rfl | rfl | rfl <;> decide +kernel
  exact W.iret hx hb hr (fun t ht hW9 => ⟨_, rfl, he9, ht⟩) (fun q hq => by cases hq) dJ8_bitCount_52

set_option maxHeartbeats 1000000 in
set_option maxRecDepth 100000 in
theorem mX0_isAsSeen {l : Launch} {G : GG} {s0 : State} {b0 : Nat} (Z : ZZ l G s0 b0) (A : Nat → Nat) (hI : Own s0 A 156) (S : Sta) (R : Nat → Option Nat) (hF0 : WF (S 20)) (F : Nat → Int) (eF : S 22 = F) (hF2 : WF F) (hd : F 54 ≤ 2000) (sn : Nat → Int) (es : S 2 = sn) (many : Int) (em : S 0 3 = many) (B : Nat → Int) (eB : S 3 = B) (hsn : SeenOK sn many) (k : Nat) (zk : Int) (hzk : zk = (k : Int)) (hk : k < 4) (sz : Nat) : Met l yX0_isAsSeen (ws_ yX0_isAsSeen cX0_isAsSeen 5 (some .boolean)) ({ frames := 6, cells := 0, slots := 0, locals := 129 } : Room) (pcM s0 sz (CW G A S R) [.ref (A 0), .int (iI zk)]) (mI (b2 (snS F sn many.toNat 21 = 1)) (CW G A (up (up S 3 (bkF F B k (F 76).toNat 21 0)) 21 (daysS F 21)) R) (AA A 156 sz)) 0 0 (AA A 156 sz) := by
  refine Met.ofW (cc := cX0_isAsSeen) (maxL := 5) (ret := (some .boolean)) (by decide) rfl ?_
  intro p e s m args below meth c s₁ B hml hv
  obtain ⟨rfl, hsz, hW, hB⟩ := hv
  subst hsz
  have hx := B.exec
  have hb := B.bytes
  have hr := B.returns
  have hts := atoms_spec (ws := (ws_ yX0_isAsSeen cX0_isAsSeen 5 (some .boolean))) B.pre
  have hts : ∀ w ∈ lw_all, w.before _ s = true := fun w h => hts w (List.mem_cons_of_mem _ h)
  have hown : s.vm.findClass RX0 = some m.cls := findClass_of_methodNamed B.named
  have hlocks := B.notSynchronized
  have hN := AA.old hI hB
  have hS : va_S (AA A 156 s.heap.size) s.heap s.heap [] := va_S.rf
  have hl := lv_entry ([.ref (A 0), .int (iI zk)]) (n := 5) (Nat.le_of_ble_eq_true rfl)
  rw [lg_entry_eq]
  generalize (lg_sl ([.ref (A 0), .int (iI zk)]) ++ List.replicate (5 - (lg_sl ([.ref (A 0), .int (iI zk)])).length) Slot.unset).toArray = ls at hl ⊢
  have hl : lv_has ls 5 [(0, .ref (A 0)), (1, .int (iI zk))] := hl
  subst eF
  subst es
  subst em
  subst eB
  have hn2 := hF2.n
  have hmm := hsn.1
  refine lv_aload_n hx hb dX0_isAsSeen_0 rfl (lv_at hl 0 rfl) ?_
  refine r_get (ci := 0) (k := 4) (v := .ref (A 56)) (C := RX0) (T := TX0) (N := 16) Z hB hx hb hts hown rfl in_X0 hW.obj (by decide) q797 rfl dX0_isAsSeen_1 ?_
  refine lv_aload_n hx hb dX0_isAsSeen_4 rfl (lv_at hl 0 rfl) ?_
  refine r_get (ci := 0) (k := 5) (v := .ref (A 76)) (C := RX0) (T := TX0) (N := 16) Z hB hx hb hts hown rfl in_X0 hW.obj (by decide) q798 rfl dX0_isAsSeen_5 ?_
  refine cmV (va_runV (As := [.ref (A 76)]) (rest := []) ⟨hx, hb, hml, hown, hts⟩ (mX1_takes Z (fa A 1) (hI.fa (by omega)) (S 21) (fa A 2) (S 22) (fa_apart hI (f := 1) (g := 2) (by omega) (by omega) (by omega)) s.heap.size) (cwV 1 hts (lw_V q424 q425 q426 q80 q427) rfl rfl rfl (by decide +kernel) ⟨Nat.le_of_ble_eq_true rfl, Nat.le_of_ble_eq_true rfl⟩) (pvM (BornH.S hB hN hS) (OBJ.recv Z hB ((hW.fw (f := 1) (by omega) (F := (S 21)) rfl)).1 (q := (RX1, TX1, 8)) rfl) (⟨(hW.fw (f := 1) (by omega) (F := (S 21)) rfl), (hW.fw (f := 2) (by omega) (F := (S 22)) rfl)⟩)) rfl rfl hl.1 rfl (lv_room (Nat.le_of_ble_eq_true rfl)) dX0_isAsSeen_8 ⟨Nat.zero_le _, Nat.zero_le _⟩) hS (AA.fa (by omega) hS.1) (fun H1 locs hW1 hz1 hk1 hS => ?_)
  have hW := hW.joinF hI (f := 1) (by omega) hk1 hW1
  clear hW1 hk1 hz1
  generalize H1 = H at hW hS ⊢
  refine ii_const hx hb dX0_isAsSeen_11 ?_
  refine lv_istore_n (lv' := [(2, .int (iI 1)), (0, .ref (A 0)), (1, .int (iI zk))]) hx hb dX0_isAsSeen_12 rfl hl (by decide) rfl (fun ls hl => ?_)
  refine ii_const hx hb dX0_isAsSeen_13 ?_
  refine lv_istore_n (lv' := [(3, .int (iI 0)), (2, .int (iI 1)), (0, .ref (A 0)), (1, .int (iI zk))]) hx hb dX0_isAsSeen_14 rfl hl (by decide) rfl (fun ls hl => ?_)
  have loop_15 : ∀ (fu : Nat) (d : Nat) (zd : Int), (zd = (d : Int)) → (d ≤ 21) → (22 - d) < fu → ∀ (H : Heap) (locs : List Loc), (CW G A (up (up S 3 (bkF (S 22) (S 3) k (S 22 76).toNat d 0)) 21 (daysS (S 22) d)) R) H → va_S (AA A 156 s.heap.size) s.heap H locs → ∀ (ls : Array Slot), lv_has ls 5 [(3, .int (iI zd)), (2, .int (iI (snS (S 22) (S 2) (S 0 3).toNat d))), (0, .ref (A 0)), (1, .int (iI zk))] → W p l e (headSpec (ws_ yX0_isAsSeen cX0_isAsSeen 5 (some .boolean)) ({ frames := 6, cells := 0, slots := 0, locals := 129 } : Room)).room s m ([.ref (A 0), .int (iI zk)] : List Value).toArray below meth c H locs 0 0 (MQ below (mI (b2 (snS (S 22) (S 2) (S 0 3).toNat 21 = 1)) (CW G A (up (up S 3 (bkF (S 22) (S 3) k ((S 22) 76).toNat 21 0)) 21 (daysS (S 22) 21)) R) (AA A 156 s.heap.size)) ([.ref (A 0), .int (iI zk)] : List Value).toArray s 0 0 (AA A 156 s.heap.size)) (F0 m 15 ls []) := by
    intro fu
    induction fu with
    | zero => intro d zd ezd hd21 hmu; exact absurd hmu (Nat.not_lt_zero _)
    | succ fu ih15 =>
      intro d zd ezd hd21 hmu H locs hW hS ls hl
      have hwd := daysS_wf hF2 d (by omega)
      have hdd := (daysS_day hF2 d (by omega)).2
      have h76 : daysS (S 22) d 76 = S 22 76 := daysS_same hF2 (by omega) (by omega) (by omega) d (by omega)
      have hsv := snS_in (S 22) (S 2) (S 0 3).toNat d
      refine lv_iload_n hx hb dX0_isAsSeen_15 rfl (lv_at hl 0 rfl) ?_
      refine ii_bipush hx hb dX0_isAsSeen_16 (by decide) ?_
      refine ii_icmp_gt (tgt := 146) hx hb dX0_isAsSeen_18 (by decide) (by omega) (by omega) (fun c_1 => ?_) (fun c_1 => ?_)
      · -- 18 -> 146
        have ex_d : 21 = d := by omega
        subst ex_d
        refine lv_iload_n hx hb dX0_isAsSeen_146 rfl (lv_at hl 1 rfl) ?_
        rw [show iI (snS (S 22) (S 2) (S 0 3).toNat 21) = iI (b2 ((snS (S 22) (S 2) (S 0 3).toNat 21) = 1)) from congrArg iI (b2_of (snS_in _ _ _ _))]
        have hpw9 : (CW G A (up (up S 3 (bkF (S 22) (S 3) k ((S 22) 76).toNat 21 0)) 21 (daysS (S 22) 21)) R) H := hW
        have he9 : (b2 ((snS (S 22) (S 2) (S 0 3).toNat 21) = 1)) = (b2 (snS (S 22) (S 2) (S 0 3).toNat 21 = 1)) := rfl
        exact W.zret (ty := .boolean) hx hb hr (b2_nar _) (fun t ht hW9 => ⟨⟨_, (), rfl, congrArg iI he9, by show (CW G A (up (up S 3 (bkF (S 22) (S 3) k ((S 22) 76).toNat 21 0)) 21 (daysS (S 22) 21)) R) t.heap; rw [ht]; exact hpw9⟩, hS.F ht⟩) hS.2.2 dX0_isAsSeen_147
      · -- 18 -> 21
        refine ii_const hx hb dX0_isAsSeen_21 ?_
        refine lv_istore (lv' := [(4, .int (iI 0)), (3, .int (iI zd)), (2, .int (iI (snS (S 22) (S 2) (S 0 3).toNat d))), (0, .ref (A 0)), (1, .int (iI zk))]) hx hb dX0_isAsSeen_22 hl (by decide) rfl (fun ls hl => ?_)
        have loop_24 : ∀ (fu : Nat) (i : Nat) (zi : Int), (zi = (i : Int)) → (i ≤ (S 22 76).toNat) → (6 - i) < fu → ∀ (H : Heap) (locs : List Loc), (CW G A (up (up S 3 (bkF (S 22) (S 3) k (S 22 76).toNat d i)) 21 (daysS (S 22) d)) R) H → va_S (AA A 156 s.heap.size) s.heap H locs → ∀ (ls : Array Slot), lv_has ls 5 [(4, .int (iI zi)), (3, .int (iI zd)), (2, .int (iI (snS (S 22) (S 2) (S 0 3).toNat d))), (0, .ref (A 0)), (1, .int (iI zk))] → W p l e (headSpec (ws_ yX0_isAsSeen cX0_isAsSeen 5 (some .boolean)) ({ frames := 6, cells := 0, slots := 0, locals := 129 } : Room)).room s m ([.ref (A 0), .int (iI zk)] : List Value).toArray below meth c H locs 0 0 (MQ below (mI (b2 (snS (S 22) (S 2) (S 0 3).toNat 21 = 1)) (CW G A (up (up S 3 (bkF (S 22) (S 3) k ((S 22) 76).toNat 21 0)) 21 (daysS (S 22) 21)) R) (AA A 156 s.heap.size)) ([.ref (A 0), .int (iI zk)] : List Value).toArray s 0 0 (AA A 156 s.heap.size)) (F0 m 24 ls []) := by
          intro fu
          induction fu with
          | zero => intro i zi ezi hi hmu; exact absurd hmu (Nat.not_lt_zero _)
          | succ fu ih24 =>
            intro i zi ezi hi hmu H locs hW hS ls hl
            refine lv_iload hx hb dX0_isAsSeen_24 (lv_at hl 0 rfl) ?_
            refine lv_aload_n hx hb dX0_isAsSeen_26 rfl (lv_at hl 3 rfl) ?_
            refine r_get (ci := 0) (k := 4) (v := .ref (A 56)) (C := RX0) (T := TX0) (N := 16) Z hB hx hb hts hown rfl in_X0 hW.obj (by decide) q797 rfl dX0_isAsSeen_27 ?_
            have b_703 := hwd.n 
            refine r_getN (ci := 1) (k := 3) (v := .int (iI ((daysS (S 22) d) 76))) (C := RX1) (T := TX1) (N := 8) Z hB hx hb hts hown rfl in_X1 (((hW.fw (f := 1) (by omega) (F := (daysS (S 22) d)) (up_s _ _ _))).1) (by decide) q147 rfl dX0_isAsSeen_30 ?_
            refine ii_icmp_ge (tgt := 64) hx hb dX0_isAsSeen_33 (by decide) (by omega) (by omega) (fun c_2 => ?_) (fun c_2 => ?_)
            · -- 33 -> 64
              rw [show i = (S 22 76).toNat by omega, bkF_r (by omega)] at hW
              refine ii_const hx hb dX0_isAsSeen_64 ?_
              refine lv_istore (lv' := [(4, .int (iI 0)), (3, .int (iI zd)), (2, .int (iI (snS (S 22) (S 2) (S 0 3).toNat d))), (0, .ref (A 0)), (1, .int (iI zk))]) hx hb dX0_isAsSeen_65 hl (by decide) rfl (fun ls hl => ?_)
              have loop_67 : ∀ (fu : Nat) (q : Nat) (zq : Int), (zq = (q : Int)) → (q ≤ (S 0 3).toNat) → (7 - q) < fu → ∀ (H : Heap) (locs : List Loc), (CW G A (up (up S 3 (bkF (S 22) (S 3) k (S 22 76).toNat (d + 1) 0)) 21 (daysS (S 22) d)) R) H → va_S (AA A 156 s.heap.size) s.heap H locs → ∀ (ls : Array Slot), lv_has ls 5 [(4, .int (iI zq)), (3, .int (iI zd)), (2, .int (iI (snD (daysS (S 22) d) (S 2) zd (snS (S 22) (S 2) (S 0 3).toNat d) q))), (0, .ref (A 0)), (1, .int (iI zk))] → W p l e (headSpec (ws_ yX0_isAsSeen cX0_isAsSeen 5 (some .boolean)) ({ frames := 6, cells := 0, slots := 0, locals := 129 } : Room)).room s m ([.ref (A 0), .int (iI zk)] : List Value).toArray below meth c H locs 0 0 (MQ below (mI (b2 (snS (S 22) (S 2) (S 0 3).toNat 21 = 1)) (CW G A (up (up S 3 (bkF (S 22) (S 3) k ((S 22) 76).toNat 21 0)) 21 (daysS (S 22) 21)) R) (AA A 156 s.heap.size)) ([.ref (A 0), .int (iI zk)] : List Value).toArray s 0 0 (AA A 156 s.heap.size)) (F0 m 67 ls []) := by
                intro fu
                induction fu with
                | zero => intro q zq ezq hq hmu; exact absurd hmu (Nat.not_lt_zero _)
                | succ fu ih67 =>
                  intro q zq ezq hq hmu H locs hW hS ls hl
                  have hsd := snD_in (daysS (S 22) d) (S 2) zd hsv q
                  refine lv_iload hx hb dX0_isAsSeen_67 (lv_at hl 0 rfl) ?_
                  refine lv_aload_n hx hb dX0_isAsSeen_69 rfl (lv_at hl 3 rfl) ?_
                  refine r_get (ci := 0) (k := 8) (v := .int (iI ((S 0) 3))) (C := RX0) (T := TX0) (N := 16) Z hB hx hb hts hown rfl in_X0 hW.obj (by decide) q803 rfl dX0_isAsSeen_70 ?_
                  refine ii_icmp_ge (tgt := 133) hx hb dX0_isAsSeen_73 (by decide) (by omega) (by omega) (fun c_3 => ?_) (fun c_3 => ?_)
                  · -- 73 -> 133
                    have ex_q : (S 0 3).toNat = q := by omega
                    subst ex_q
                    refine lv_aload_n hx hb dX0_isAsSeen_133 rfl (lv_at hl 3 rfl) ?_
                    refine r_get (ci := 0) (k := 4) (v := .ref (A 56)) (C := RX0) (T := TX0) (N := 16) Z hB hx hb hts hown rfl in_X0 hW.obj (by decide) q797 rfl dX0_isAsSeen_134 ?_
                    refine cmV (va_runV (As := []) (rest := []) ⟨hx, hb, hml, hown, hts⟩ (mX1_dayGoes Z (fa A 1) (hI.fa (by omega)) (daysS (S 22) d) hwd  H.size) (cwV 0 hts (lw_V q564 q565 q566 q80 q567) rfl rfl rfl (by decide +kernel) ⟨Nat.le_of_ble_eq_true rfl, Nat.le_of_ble_eq_true rfl⟩) (pvM (BornH.S hB hN hS) (OBJ.recv Z hB ((hW.fw (f := 1) (by omega) (F := (daysS (S 22) d)) (up_s _ _ _))).1 (q := (RX1, TX1, 8)) rfl) (hW.fw (f := 1) (by omega) (F := (daysS (S 22) d)) (up_s _ _ _))) rfl rfl hl.1 rfl (lv_room (Nat.le_of_ble_eq_true rfl)) dX0_isAsSeen_137 ⟨Nat.zero_le _, Nat.zero_le _⟩) hS (AA.fa (by omega) hS.1) (fun H1 locs hW1 hz1 hk1 hS => ?_)
                    have hW := hW.joinF hI (f := 1) (by omega) hk1 hW1
                    clear hW1 hk1 hz1
                    generalize H1 = H at hW hS ⊢
                    have hW := hW.eqS (S' := (up (up S 3 (bkF (S 22) (S 3) k (S 22 76).toNat (d + 1) 0)) 21 (dayS (daysS (S 22) d)))) (by
                        funext a
                        by_cases h3 : a = 3
                        · subst h3; rfl
                        by_cases h21 : a = 21
                        · subst h21; rfl
                        simp only [up, if_neg h3, if_neg h21])
                    have hwf_4 := dayS_wf hwd (by omega)
                    refine ii_iinc (k := 1) (lv' := [(3, .int (iI (zd + 1))), (4, .int (iI zq)), (2, .int (iI (snD (daysS (S 22) d) (S 2) zd (snS (S 22) (S 2) (S 0 3).toNat d) (S 0 3).toNat))), (0, .ref (A 0)), (1, .int (iI zk))]) hx hb dX0_isAsSeen_140 hl rfl (by decide) rfl (fun ls hl => ?_)
                    refine lv_goto (tgt := 15) hx hb dX0_isAsSeen_143 (by decide) ?_
                    have e_5 : (snS (S 22) (S 2) (S 0 3).toNat (d + 1)) = (snD (daysS (S 22) d) (S 2) zd (snS (S 22) (S 2) (S 0 3).toNat d) (S 0 3).toNat) := by simp only [snS]; rw [← ezd]
                    exact ih15 (d + 1) (zd + 1) (by omega) (by omega) (by omega) _ _ hW hS ls (by rw [e_5]; exact lv_sub hl [0, 2, 3, 4] rfl)
                  · -- 73 -> 76
                    have hsq := hsn.2 q (by omega)
                    refine lv_iload_n hx hb dX0_isAsSeen_76 rfl (lv_at hl 2 rfl) ?_
                    refine ii_if_eq (tgt := 125) hx hb dX0_isAsSeen_77 (by decide) (by omega) (fun c_6 => ?_) (fun c_6 => ?_)
                    · -- 77 -> 125
                      refine ii_const hx hb dX0_isAsSeen_125 ?_
                      refine lv_istore_n (lv' := [(2, .int (iI 0)), (4, .int (iI zq)), (3, .int (iI zd)), (0, .ref (A 0)), (1, .int (iI zk))]) hx hb dX0_isAsSeen_126 rfl hl (by decide) rfl (fun ls hl => ?_)
                      refine ii_iinc (k := 1) (lv' := [(4, .int (iI (zq + 1))), (2, .int (iI 0)), (3, .int (iI zd)), (0, .ref (A 0)), (1, .int (iI zk))]) hx hb dX0_isAsSeen_127 hl rfl (by decide) rfl (fun ls hl => ?_)
                      refine lv_goto (tgt := 67) hx hb dX0_isAsSeen_130 (by decide) ?_
                      have e_7 : (snD (daysS (S 22) d) (S 2) zd (snS (S 22) (S 2) (S 0 3).toNat d) (q + 1)) = 0 := by simp only [snD]; (repeat' split) <;> omega
                      exact ih67 (q + 1) (zq + 1) (by omega) (by omega) (by omega) _ _ hW hS ls (by rw [e_7]; exact lv_sub hl [0, 2, 1, 3, 4] rfl)
                    · -- 77 -> 80
                      refine lv_aload_n hx hb dX0_isAsSeen_80 rfl (lv_at hl 3 rfl) ?_
                      refine r_get (ci := 0) (k := 7) (v := .ref (A 2)) (C := RX0) (T := TX0) (N := 16) Z hB hx hb hts hown rfl in_X0 hW.obj (by decide) q801 rfl dX0_isAsSeen_81 ?_
                      refine lv_iload hx hb dX0_isAsSeen_84 (lv_at hl 0 rfl) ?_
                      refine r_aald (t := 1) (ty := .array .int) (k := q) Z hB hx hb rfl rfl hW.seen (by omega) (by omega) (by omega) rfl dX0_isAsSeen_86 ?_
                      refine ii_const hx hb dX0_isAsSeen_87 ?_
                      refine r_iald (k := 0) (f := (fun c => (S 2) (3 * q + c))) Z hB hx hb (hW.seenR q (by omega)) (by omega) (by omega) (by omega) dX0_isAsSeen_88 ?_
                      refine lv_iload_n hx hb dX0_isAsSeen_89 rfl (lv_at hl 1 rfl) ?_
                      refine ii_icmp_ne (tgt := 121) hx hb dX0_isAsSeen_90 (by decide) (by omega) (by omega) (fun c_8 => ?_) (fun c_8 => ?_)
                      · -- 90 -> 121
                        refine ii_const hx hb dX0_isAsSeen_121 ?_
                        refine lv_goto (tgt := 126) hx hb dX0_isAsSeen_122 (by decide) ?_
                        refine lv_istore_n (lv' := [(2, .int (iI 1)), (4, .int (iI zq)), (3, .int (iI zd)), (0, .ref (A 0)), (1, .int (iI zk))]) hx hb dX0_isAsSeen_126 rfl hl (by decide) rfl (fun ls hl => ?_)
                        refine ii_iinc (k := 1) (lv' := [(4, .int (iI (zq + 1))), (2, .int (iI 1)), (3, .int (iI zd)), (0, .ref (A 0)), (1, .int (iI zk))]) hx hb dX0_isAsSeen_127 hl rfl (by decide) rfl (fun ls hl => ?_)
                        refine lv_goto (tgt := 67) hx hb dX0_isAsSeen_130 (by decide) ?_
                        have e_9 : (snD (daysS (S 22) d) (S 2) zd (snS (S 22) (S 2) (S 0 3).toNat d) (q + 1)) = 1 := by simp only [snD]; (repeat' split) <;> omega
                        exact ih67 (q + 1) (zq + 1) (by omega) (by omega) (by omega) _ _ hW hS ls (by rw [e_9]; exact lv_sub hl [0, 2, 1, 3, 4] rfl)
                      · -- 90 -> 93
                        refine lv_aload_n hx hb dX0_isAsSeen_93 rfl (lv_at hl 3 rfl) ?_
                        refine r_get (ci := 0) (k := 4) (v := .ref (A 56)) (C := RX0) (T := TX0) (N := 16) Z hB hx hb hts hown rfl in_X0 hW.obj (by decide) q797 rfl dX0_isAsSeen_94 ?_
                        refine lv_aload_n hx hb dX0_isAsSeen_97 rfl (lv_at hl 3 rfl) ?_
                        refine r_get (ci := 0) (k := 7) (v := .ref (A 2)) (C := RX0) (T := TX0) (N := 16) Z hB hx hb hts hown rfl in_X0 hW.obj (by decide) q801 rfl dX0_isAsSeen_98 ?_
                        refine lv_iload hx hb dX0_isAsSeen_101 (lv_at hl 0 rfl) ?_
                        refine r_aald (t := 1) (ty := .array .int) (k := q) Z hB hx hb rfl rfl hW.seen (by omega) (by omega) (by omega) rfl dX0_isAsSeen_103 ?_
                        refine ii_const hx hb dX0_isAsSeen_104 ?_
                        refine r_iald (k := 1) (f := (fun c => (S 2) (3 * q + c))) Z hB hx hb (hW.seenR q (by omega)) (by omega) (by omega) (by omega) dX0_isAsSeen_105 ?_
                        refine cqI (va_runV (As := [.int (iI ((S 2) (3 * q + 1)))]) (rest := []) ⟨hx, hb, hml, hown, hts⟩ (mX1_at Z (fa A 1) (daysS (S 22) d) hwd ((S 2) (3 * q + 1)).toNat ((S 2) (3 * q + 1)) (by omega) (by omega)) (cwV 1 hts (lw_V q600 q387 q388 q80 q389) rfl rfl rfl (by decide +kernel) ⟨Nat.le_of_ble_eq_true rfl, Nat.le_of_ble_eq_true rfl⟩) (pvR (BornH.S hB hN hS) (OBJ.recv Z hB (((hW.fw (f := 1) (by omega) (F := (daysS (S 22) d)) (up_s _ _ _))).1) (q := (RX1, TX1, 8)) rfl) (hW.fw (f := 1) (by omega) (F := (daysS (S 22) d)) (up_s _ _ _))) rfl rfl hl.1 rfl (lv_room (Nat.le_of_ble_eq_true rfl)) dX0_isAsSeen_106 ⟨Nat.zero_le _, Nat.zero_le _⟩) ?_
                        have b_711 := hwd.pl ((S 2) (3 * q + 1)).toNat (by omega)
                        refine lv_aload_n hx hb dX0_isAsSeen_109 rfl (lv_at hl 3 rfl) ?_
                        refine r_get (ci := 0) (k := 7) (v := .ref (A 2)) (C := RX0) (T := TX0) (N := 16) Z hB hx hb hts hown rfl in_X0 hW.obj (by decide) q801 rfl dX0_isAsSeen_110 ?_
                        refine lv_iload hx hb dX0_isAsSeen_113 (lv_at hl 0 rfl) ?_
                        refine r_aald (t := 1) (ty := .array .int) (k := q) Z hB hx hb rfl rfl hW.seen (by omega) (by omega) (by omega) rfl dX0_isAsSeen_115 ?_
                        refine ii_const hx hb dX0_isAsSeen_116 ?_
                        refine r_iald (k := 2) (f := (fun c => (S 2) (3 * q + c))) Z hB hx hb (hW.seenR q (by omega)) (by omega) (by omega) (by omega) dX0_isAsSeen_117 ?_
                        refine ii_icmp_ne (tgt := 125) hx hb dX0_isAsSeen_118 (by decide) (by omega) (by omega) (fun c_10 => ?_) (fun c_10 => ?_)
                        · -- 118 -> 125
                          refine ii_const hx hb dX0_isAsSeen_125 ?_
                          refine lv_istore_n (lv' := [(2, .int (iI 0)), (4, .int (iI zq)), (3, .int (iI zd)), (0, .ref (A 0)), (1, .int (iI zk))]) hx hb dX0_isAsSeen_126 rfl hl (by decide) rfl (fun ls hl => ?_)
                          refine ii_iinc (k := 1) (lv' := [(4, .int (iI (zq + 1))), (2, .int (iI 0)), (3, .int (iI zd)), (0, .ref (A 0)), (1, .int (iI zk))]) hx hb dX0_isAsSeen_127 hl rfl (by decide) rfl (fun ls hl => ?_)
                          refine lv_goto (tgt := 67) hx hb dX0_isAsSeen_130 (by decide) ?_
                          have e_11 : (snD (daysS (S 22) d) (S 2) zd (snS (S 22) (S 2) (S 0 3).toNat d) (q + 1)) = 0 := by simp only [snD]; (repeat' split) <;> omega
                          exact ih67 (q + 1) (zq + 1) (by omega) (by omega) (by omega) _ _ hW hS ls (by rw [e_11]; exact lv_sub hl [0, 2, 1, 3, 4] rfl)
                        · -- 118 -> 121
                          refine ii_const hx hb dX0_isAsSeen_121 ?_
                          refine lv_goto (tgt := 126) hx hb dX0_isAsSeen_122 (by decide) ?_
                          refine lv_istore_n (lv' := [(2, .int (iI 1)), (4, .int (iI zq)), (3, .int (iI zd)), (0, .ref (A 0)), (1, .int (iI zk))]) hx hb dX0_isAsSeen_126 rfl hl (by decide) rfl (fun ls hl => ?_)
                          refine ii_iinc (k := 1) (lv' := [(4, .int (iI (zq + 1))), (2, .int (iI 1)), (3, .int (iI zd)), (0, .ref (A 0)), (1, .int (iI zk))]) hx hb dX0_isAsSeen_127 hl rfl (by decide) rfl (fun ls hl => ?_)
                          refine lv_goto (tgt := 67) hx hb dX0_isAsSeen_130 (by decide) ?_
                          have e_12 : (snD (daysS (S 22) d) (S 2) zd (snS (S 22) (S 2) (S 0 3).toNat d) (q + 1)) = 1 := by simp only [snD]; (repeat' split) <;> omega
                          exact ih67 (q + 1) (zq + 1) (by omega) (by omega) (by omega) _ _ hW hS ls (by rw [e_12]; exact lv_sub hl [0, 2, 1, 3, 4] rfl)
              have e_13 : (snD (daysS (S 22) d) (S 2) zd (snS (S 22) (S 2) (S 0 3).toNat d) 0) = (snS (S 22) (S 2) (S 0 3).toNat d) := rfl
              exact loop_67 _ 0 0 (by omega) (by omega) (Nat.lt_succ_self _) _ _ hW hS ls (by rw [e_13]; exact lv_sub hl [0, 1, 2, 3, 4] rfl)
            · -- 33 -> 36
              refine lv_aload_n hx hb dX0_isAsSeen_36 rfl (lv_at hl 3 rfl) ?_
              refine r_get (ci := 0) (k := 9) (v := .ref (A 9)) (C := RX0) (T := TX0) (N := 16) Z hB hx hb hts hown rfl in_X0 hW.obj (by decide) q804 rfl dX0_isAsSeen_37 ?_
              refine lv_iload_n hx hb dX0_isAsSeen_40 rfl (lv_at hl 4 rfl) ?_
              refine r_aald (t := 1) (ty := .array .int) (k := k) Z hB hx hb rfl rfl hW.by (by omega) (by omega) (by omega) rfl dX0_isAsSeen_41 ?_
              refine ii_const hx hb dX0_isAsSeen_42 ?_
              refine lv_iload_n hx hb dX0_isAsSeen_43 rfl (lv_at hl 1 rfl) ?_
              refine ii_mul hx hb dX0_isAsSeen_44 ?_
              refine lv_iload hx hb dX0_isAsSeen_45 (lv_at hl 0 rfl) ?_
              refine ii_add hx hb dX0_isAsSeen_47 ?_
              refine lv_aload_n hx hb dX0_isAsSeen_48 rfl (lv_at hl 3 rfl) ?_
              refine r_get (ci := 0) (k := 4) (v := .ref (A 56)) (C := RX0) (T := TX0) (N := 16) Z hB hx hb hts hown rfl in_X0 hW.obj (by decide) q797 rfl dX0_isAsSeen_49 ?_
              refine lv_iload hx hb dX0_isAsSeen_52 (lv_at hl 0 rfl) ?_
              refine cqI (va_runV (As := [.int (iI zi)]) (rest := [.int (iI ((5 * zd) + zi)), .ref (A (10 + k))]) ⟨hx, hb, hml, hown, hts⟩ (mX1_at Z (fa A 1) (daysS (S 22) d) hwd i zi (by omega) (by omega)) (cwV 1 hts (lw_V q600 q387 q388 q80 q389) rfl rfl rfl (by decide +kernel) ⟨Nat.le_of_ble_eq_true rfl, Nat.le_of_ble_eq_true rfl⟩) (pvR (BornH.S hB hN hS) (OBJ.recv Z hB (((hW.fw (f := 1) (by omega) (F := (daysS (S 22) d)) (up_s _ _ _))).1) (q := (RX1, TX1, 8)) rfl) (hW.fw (f := 1) (by omega) (F := (daysS (S 22) d)) (up_s _ _ _))) rfl rfl hl.1 rfl (lv_room (Nat.le_of_ble_eq_true rfl)) dX0_isAsSeen_54 ⟨Nat.zero_le _, Nat.zero_le _⟩) ?_
              have b_716 := hwd.pl i (by omega)
              refine r_iast (k := ((5 * d) + i)) Z hB hx hb (hW.byR k (by omega)) hS (Or.inl ⟨10 + k, by omega, rfl⟩) (by omega) (by omega) (by omega) dX0_isAsSeen_57 (CW G A (up (up (up S 3 (bkF (S 22) (S 3) k (S 22 76).toNat d i)) 21 (daysS (S 22) d)) 3 (up (bkF (S 22) (S 3) k (S 22 76).toNat d i) (105 * k + ((5 * d) + i)) ((daysS (S 22) d) (2 * i + 1)))) R) (fun H1 hz oq ha => hW.setBy hI (i := k) (by omega) (by omega) oq ha) (fun H locs hW hS => ?_)
              have hW := hW.eqS (S' := (up (up S 3 (up (bkF (S 22) (S 3) k (S 22 76).toNat d i) (105 * k + ((5 * d) + i)) ((daysS (S 22) d) (2 * i + 1)))) 21 (daysS (S 22) d))) (by
                  funext a
                  by_cases h3 : a = 3
                  · subst h3; rfl
                  by_cases h21 : a = 21
                  · subst h21; rfl
                  simp only [up, if_neg h3, if_neg h21])
              refine ii_iinc (k := 0) (lv' := [(4, .int (iI (zi + 1))), (3, .int (iI zd)), (2, .int (iI (snS (S 22) (S 2) (S 0 3).toNat d))), (0, .ref (A 0)), (1, .int (iI zk))]) hx hb dX0_isAsSeen_58 hl rfl (by decide) rfl (fun ls hl => ?_)
              refine lv_goto (tgt := 24) hx hb dX0_isAsSeen_61 (by decide) ?_
              exact ih24 (i + 1) (zi + 1) (by omega) (by omega) (by omega) _ _ (by rw [← bkF_s (by omega) (by omega) (by omega)]; exact hW) hS ls (lv_sub hl [0, 1, 2, 3, 4] rfl)
        exact loop_24 _ 0 0 (by omega) (by omega) (Nat.lt_succ_self _) _ _ hW hS ls (lv_sub hl [0, 1, 2, 3, 4] rfl)
  have e_14 : (snS (S 22) (S 2) (S 0 3).toNat 0) = 1 := rfl
  exact loop_15 _ 0 0 (by omega) (by omega) (Nat.lt_succ_self _) _ _ (by rw [bkF_0, show up S 3 (S 3) = S from up_id S 3]; exact hW) hS ls (by rw [e_14]; exact lv_sub hl [0, 1, 2, 3] rfl)

set_option maxHeartbeats 1000000 in
set_option maxRecDepth 100000 in
theorem mX0_kindsOf {l : Launch} {G : GG} {s0 : State} {b0 : Nat} (Z : ZZ l G s0 b0) (A : Nat → Nat) (hI : Own s0 A 156) (S : Sta) (R : Nat → Option Nat) (hF0 : WF (S 20)) (hd : S 20 54 ≤ 2000) (sn : Nat → Int) (es : S 2 = sn) (many : Int) (em : S 0 3 = many) (B : Nat → Int) (eB : S 3 = B) (hsn : SeenOK sn many) (F : Nat → Int) (eF : S 20 = F) (i : Nat) (zi : Int) (hzi : zi = (i : Int)) (h5 : i < 5) (sz : Nat) : Met l yX0_kindsOf (ws_ yX0_kindsOf cX0_kindsOf 4 (some .int)) ({ frames := 7, cells := 0, slots := 0, locals := 153 } : Room) (pcM s0 sz (CW G A S R) [.ref (A 0), .int (iI zi)]) (mI (kdS F sn many.toNat i 4) (fun H => ∃ F1 F2 : Nat → Int, CW G A (up (up (up S 3 (kbS F B i 4)) 21 F1) 22 F2) R H) (AA A 156 sz)) 0 0 (AA A 156 sz) := by
  refine Met.ofW (cc := cX0_kindsOf) (maxL := 4) (ret := (some .int)) (by decide) rfl ?_
  intro p e s m args below meth c s₁ B hml hv
  obtain ⟨rfl, hsz, hW, hB⟩ := hv
  subst hsz
  have hx := B.exec
  have hb := B.bytes
  have hr := B.returns
  have hts := atoms_spec (ws := (ws_ yX0_kindsOf cX0_kindsOf 4 (some .int))) B.pre
  have hts : ∀ w ∈ lw_all, w.before _ s = true := fun w h => hts w (List.mem_cons_of_mem _ h)
  have hown : s.vm.findClass RX0 = some m.cls := findClass_of_methodNamed B.named
  have hlocks := B.notSynchronized
  have hN := AA.old hI hB
  have hS : va_S (AA A 156 s.heap.size) s.heap s.heap [] := va_S.rf
  have hl := lv_entry ([.ref (A 0), .int (iI zi)]) (n := 4) (Nat.le_of_ble_eq_true rfl)
  rw [lg_entry_eq]
  generalize (lg_sl ([.ref (A 0), .int (iI zi)]) ++ List.replicate (4 - (lg_sl ([.ref (A 0), .int (iI zi)])).length) Slot.unset).toArray = ls at hl ⊢
  have hl : lv_has ls 4 [(0, .ref (A 0)), (1, .int (iI zi))] := hl
  subst es
  subst em
  subst eB
  subst eF
  refine ii_const hx hb dX0_kindsOf_0 ?_
  refine lv_istore_n (lv' := [(2, .int (iI 0)), (0, .ref (A 0)), (1, .int (iI zi))]) hx hb dX0_kindsOf_1 rfl hl (by decide) rfl (fun ls hl => ?_)
  refine lv_aload_n hx hb dX0_kindsOf_2 rfl (lv_at hl 1 rfl) ?_
  refine r_get (ci := 0) (k := 5) (v := .ref (A 76)) (C := RX0) (T := TX0) (N := 16) Z hB hx hb hts hown rfl in_X0 hW.obj (by decide) q798 rfl dX0_kindsOf_3 ?_
  refine lv_aload_n hx hb dX0_kindsOf_6 rfl (lv_at hl 1 rfl) ?_
  refine r_get (ci := 0) (k := 3) (v := .ref (A 36)) (C := RX0) (T := TX0) (N := 16) Z hB hx hb hts hown rfl in_X0 hW.obj (by decide) q796 rfl dX0_kindsOf_7 ?_
  refine cmV (va_runV (As := [.ref (A 36)]) (rest := []) ⟨hx, hb, hml, hown, hts⟩ (mX1_takes Z (fa A 2) (hI.fa (by omega)) (S 22) (fa A 0) (S 20) (fa_apart hI (f := 2) (g := 0) (by omega) (by omega) (by omega)) s.heap.size) (cwV 1 hts (lw_V q424 q425 q426 q80 q427) rfl rfl rfl (by decide +kernel) ⟨Nat.le_of_ble_eq_true rfl, Nat.le_of_ble_eq_true rfl⟩) (pvM (BornH.S hB hN hS) (OBJ.recv Z hB ((hW.fw (f := 2) (by omega) (F := (S 22)) rfl)).1 (q := (RX1, TX1, 8)) rfl) (⟨(hW.fw (f := 2) (by omega) (F := (S 22)) rfl), (hW.fw (f := 0) (by omega) (F := (S 20)) rfl)⟩)) rfl rfl hl.1 rfl (lv_room (Nat.le_of_ble_eq_true rfl)) dX0_kindsOf_10 ⟨Nat.zero_le _, Nat.zero_le _⟩) hS (AA.fa (by omega) hS.1) (fun H1 locs hW1 hz1 hk1 hS => ?_)
  have hW := hW.joinF hI (f := 2) (by omega) hk1 hW1
  clear hW1 hk1 hz1
  generalize H1 = H at hW hS ⊢
  refine ii_const hx hb dX0_kindsOf_13 ?_
  refine lv_istore_n (lv' := [(3, .int (iI 0)), (2, .int (iI 0)), (0, .ref (A 0)), (1, .int (iI zi))]) hx hb dX0_kindsOf_14 rfl hl (by decide) rfl (fun ls hl => ?_)
  have loop_15 : ∀ (fu : Nat) (v : Nat) (zv : Int) (F1 : Nat → Int) (F2 : Nat → Int), (zv = (v : Int)) → (v ≤ 4) → (∀ v9 : Int, up F2 (2 * i + 0) v9 = up (S 20) (2 * i + 0) v9) → (5 - v) < fu → ∀ (H : Heap) (locs : List Loc), (CW G A (up (up (up S 3 (kbS (S 20) (S 3) i v)) 21 F1) 22 F2) R) H → va_S (AA A 156 s.heap.size) s.heap H locs → ∀ (ls : Array Slot), lv_has ls 4 [(3, .int (iI zv)), (2, .int (iI (kdS (S 20) (S 2) (S 0 3).toNat i v))), (0, .ref (A 0)), (1, .int (iI zi))] → W p l e (headSpec (ws_ yX0_kindsOf cX0_kindsOf 4 (some .int)) ({ frames := 7, cells := 0, slots := 0, locals := 153 } : Room)).room s m ([.ref (A 0), .int (iI zi)] : List Value).toArray below meth c H locs 0 0 (MQ below (mI (kdS (S 20) (S 2) (S 0 3).toNat i 4) (fun H => ∃ F1 F2 : Nat → Int, CW G A (up (up (up S 3 (kbS (S 20) (S 3) i 4)) 21 F1) 22 F2) R H) (AA A 156 s.heap.size)) ([.ref (A 0), .int (iI zi)] : List Value).toArray s 0 0 (AA A 156 s.heap.size)) (F0 m 15 ls []) := by
    intro fu
    induction fu with
    | zero => intro v zv F1 F2 ezv hv4 hF2e hmu; exact absurd hmu (Nat.not_lt_zero _)
    | succ fu ih15 =>
      intro v zv F1 F2 ezv hv4 hF2e hmu H locs hW hS ls hl
      have hrv := kdS_in (S 20) (S 2) (S 0 3).toNat i v (by omega)
      have hpw : v < 4 → 1 ≤ pw2 zv.toNat ∧ pw2 zv.toNat ≤ 8 := by rw [show zv.toNat = v by omega]; exact fun h => pw2_3 h
      refine lv_iload_n hx hb dX0_kindsOf_15 rfl (lv_at hl 0 rfl) ?_
      refine ii_const hx hb dX0_kindsOf_16 ?_
      refine ii_icmp_ge (tgt := 56) hx hb dX0_kindsOf_17 (by decide) (by omega) (by omega) (fun c_1 => ?_) (fun c_1 => ?_)
      · -- 17 -> 56
        refine lv_iload_n hx hb dX0_kindsOf_56 rfl (lv_at hl 1 rfl) ?_
        have hpw9 : (fun H => ∃ F1 F2 : Nat → Int, CW G A (up (up (up S 3 (kbS (S 20) (S 3) i 4)) 21 F1) 22 F2) R H) H := ⟨F1, F2, by rw [show (4 : Nat) = v by omega]; exact hW⟩
        have he9 : (kdS (S 20) (S 2) (S 0 3).toNat i v) = (kdS (S 20) (S 2) (S 0 3).toNat i 4) := by rw [show v = 4 by omega]
        exact W.iret hx hb hr (fun t ht hW9 => ⟨⟨_, (), rfl, congrArg iI he9, by show (fun H => ∃ F1 F2 : Nat → Int, CW G A (up (up (up S 3 (kbS (S 20) (S 3) i 4)) 21 F1) 22 F2) R H) t.heap; rw [ht]; exact hpw9⟩, hS.F ht⟩) hS.2.2 dX0_kindsOf_57
      · -- 17 -> 20
        refine lv_aload_n hx hb dX0_kindsOf_20 rfl (lv_at hl 2 rfl) ?_
        refine r_get (ci := 0) (k := 5) (v := .ref (A 76)) (C := RX0) (T := TX0) (N := 16) Z hB hx hb hts hown rfl in_X0 hW.obj (by decide) q798 rfl dX0_kindsOf_21 ?_
        refine r_getN (ci := 1) (k := 0) (v := .ref ((fa A 2) 1)) (C := RX1) (T := TX1) (N := 8) Z hB hx hb hts hown rfl in_X1 (((hW.fw (f := 2) (by omega) (F := F2) (up_s _ _ _))).1) (by decide) q139 rfl dX0_kindsOf_24 ?_
        refine lv_iload_n hx hb dX0_kindsOf_27 rfl (lv_at hl 3 rfl) ?_
        refine r_aald (t := 1) (ty := .array .int) (k := i) Z hB hx hb rfl rfl (((hW.fw (f := 2) (by omega) (F := F2) (up_s _ _ _))).2.1) (by omega) (by omega) (by omega) rfl dX0_kindsOf_28 ?_
        refine ii_const hx hb dX0_kindsOf_29 ?_
        refine lv_iload_n hx hb dX0_kindsOf_30 rfl (lv_at hl 0 rfl) ?_
        refine r_iast (k := 0) Z hB hx hb (((hW.fw (f := 2) (by omega) (F := F2) (up_s _ _ _))).2.2.1 i (by omega)) hS (Or.inl ⟨36 + 20 * 2 + (2 + i), by omega, rfl⟩) (by omega) (by omega) (by omega) dX0_kindsOf_31 (CW G A (up (up (up (up S 3 (kbS (S 20) (S 3) i v)) 21 F1) 22 F2) 22 (up F2 (2 * i + 0) zv)) R) (fun H1 hz oq ha => hW.storeF hI (f := 2) (c := 2 + i) (by omega) (by omega) oq (FW.setI ((hW.fw (f := 2) (by omega) (F := F2) (up_s _ _ _))) (hI.fa (f := 2) (by omega)) (by omega) (by omega) oq ha)) (fun H locs hW hS => ?_)
        have hW := hW.eqS (S' := (up (up (up S 3 (kbS (S 20) (S 3) i v)) 21 F1) 22 (up F2 (2 * i + 0) zv))) (by
            funext a
            by_cases h3 : a = 3
            · subst h3; rfl
            by_cases h21 : a = 21
            · subst h21; rfl
            by_cases h22 : a = 22
            · subst h22; rfl
            simp only [up, if_neg h3, if_neg h21, if_neg h22])
        rw [hF2e] at hW
        have h22 : WF (up (S 20) (2 * i + 0) zv) := hF0.setK (by omega) (by omega)
        have h54 : (up (S 20) (2 * i + 0) zv) 54 = S 20 54 := up_n _ _ (by omega)
        refine lv_iload_n hx hb dX0_kindsOf_32 rfl (lv_at hl 1 rfl) ?_
        refine lv_aload_n hx hb dX0_kindsOf_33 rfl (lv_at hl 2 rfl) ?_
        refine lv_iload_n hx hb dX0_kindsOf_34 rfl (lv_at hl 0 rfl) ?_
        have hd_2 : (up (S 20) (2 * i + 0) zv) 54 ≤ 2000 := by omega
        refine cmI (va_runV (As := [.int (iI zv)]) (rest := [.int (iI (kdS (S 20) (S 2) (S 0 3).toNat i v))]) ⟨hx, hb, hml, hown, hts⟩ (mX0_isAsSeen Z A hI (up (up (up S 3 (kbS (S 20) (S 3) i v)) 21 F1) 22 (up (S 20) (2 * i + 0) zv)) R hF0 (up (S 20) (2 * i + 0) zv) rfl h22 hd_2 (S 2) rfl ((S 0) 3) rfl (kbS (S 20) (S 3) i v) rfl hsn v zv (by omega) (by omega) H.size) (cwV 1 hts (lw_V q696 q698 qs29 q79 q699) rfl rfl rfl (by decide +kernel) ⟨Nat.le_of_ble_eq_true rfl, Nat.le_of_ble_eq_true rfl⟩) (pvM (BornH.S hB hN hS) (OBJ.recv Z hB hW.obj (q := (RX0, TX0, 16)) rfl) hW) rfl rfl hl.1 rfl (lv_room (Nat.le_of_ble_eq_true rfl)) dX0_kindsOf_35 ⟨Nat.zero_le _, Nat.zero_le _⟩) hS (AA.le hS.1) (fun H1 locs hW1 hz1 hk1 hS => ?_)
        have hW := hW1
        clear hW1 hk1 hz1
        generalize H1 = H at hW hS ⊢
        clear hd_2
        have hW := hW.eqS (S' := (up (up (up S 3 (bkF (up (S 20) (2 * i + 0) zv) (kbS (S 20) (S 3) i v) v ((up (S 20) (2 * i + 0) zv) 76).toNat 21 0)) 21 (daysS (up (S 20) (2 * i + 0) zv) 21)) 22 (up (S 20) (2 * i + 0) zv))) (by
            funext a
            by_cases h3 : a = 3
            · subst h3; rfl
            by_cases h21 : a = 21
            · subst h21; rfl
            by_cases h22 : a = 22
            · subst h22; rfl
            simp only [up, if_neg h3, if_neg h21, if_neg h22])
        generalize daysS (up (S 20) (2 * i + 0) zv) 21 = Fv_3 at hW
        refine bb_if_eq (P := snS (up (S 20) (2 * i + 0) zv) (S 2) ((S 0) 3).toNat 21 = 1) (tgt := 47) hx hb dX0_kindsOf_38 (by decide) (fun c_4 => ?_) (fun c_4 => ?_)
        · -- 38 -> 47
          refine ii_const hx hb dX0_kindsOf_47 ?_
          refine ii_or hx hb (by omega) (by omega) dX0_kindsOf_48 ?_
          refine lv_istore_n (lv' := [(2, .int (iI (orZ (kdS (S 20) (S 2) (S 0 3).toNat i v) 0))), (3, .int (iI zv)), (0, .ref (A 0)), (1, .int (iI zi))]) hx hb dX0_kindsOf_49 rfl hl (by decide) rfl (fun ls hl => ?_)
          refine ii_iinc (k := 1) (lv' := [(3, .int (iI (zv + 1))), (2, .int (iI (orZ (kdS (S 20) (S 2) (S 0 3).toNat i v) 0))), (0, .ref (A 0)), (1, .int (iI zi))]) hx hb dX0_kindsOf_50 hl rfl (by decide) rfl (fun ls hl => ?_)
          refine lv_goto (tgt := 15) hx hb dX0_kindsOf_53 (by decide) ?_
          have e_5 : (kdS (S 20) (S 2) (S 0 3).toNat i (v + 1)) = (orZ (kdS (S 20) (S 2) (S 0 3).toNat i v) 0) := by simp only [kdS]; rw [← ezv]; first | (rw [if_pos (by assumption), show zv.toNat = v by omega]) | rw [if_neg (by assumption)]
          exact ih15 (v + 1) (zv + 1) Fv_3 (up (S 20) (2 * i + 0) zv) (by omega) (by omega) (fun v9 => up_up _ _ _ _) (by omega) _ _ (by simp only [kbS]; rw [← ezv]; exact hW) hS ls (by rw [e_5]; exact lv_sub hl [0, 1, 2, 3] rfl)
        · -- 38 -> 41
          refine ii_const hx hb dX0_kindsOf_41 ?_
          refine lv_iload_n hx hb dX0_kindsOf_42 rfl (lv_at hl 0 rfl) ?_
          refine ii_shl1 hx hb (by omega) dX0_kindsOf_43 ?_
          refine lv_goto (tgt := 48) hx hb dX0_kindsOf_44 (by decide) ?_
          refine ii_or hx hb (by omega) (by omega) dX0_kindsOf_48 ?_
          refine lv_istore_n (lv' := [(2, .int (iI (orZ (kdS (S 20) (S 2) (S 0 3).toNat i v) ((pw2 (zv).toNat : Nat) : Int)))), (3, .int (iI zv)), (0, .ref (A 0)), (1, .int (iI zi))]) hx hb dX0_kindsOf_49 rfl hl (by decide) rfl (fun ls hl => ?_)
          refine ii_iinc (k := 1) (lv' := [(3, .int (iI (zv + 1))), (2, .int (iI (orZ (kdS (S 20) (S 2) (S 0 3).toNat i v) ((pw2 (zv).toNat : Nat) : Int)))), (0, .ref (A 0)), (1, .int (iI zi))]) hx hb dX0_kindsOf_50 hl rfl (by decide) rfl (fun ls hl => ?_)
          refine lv_goto (tgt := 15) hx hb dX0_kindsOf_53 (by decide) ?_
          have e_6 : (kdS (S 20) (S 2) (S 0 3).toNat i (v + 1)) = (orZ (kdS (S 20) (S 2) (S 0 3).toNat i v) ((pw2 (zv).toNat : Nat) : Int)) := by simp only [kdS]; rw [← ezv]; first | (rw [if_pos (by assumption), show zv.toNat = v by omega]) | rw [if_neg (by assumption)]
          exact ih15 (v + 1) (zv + 1) Fv_3 (up (S 20) (2 * i + 0) zv) (by omega) (by omega) (fun v9 => up_up _ _ _ _) (by omega) _ _ (by simp only [kbS]; rw [← ezv]; exact hW) hS ls (by rw [e_6]; exact lv_sub hl [0, 1, 2, 3] rfl)
  have e_7 : (kdS (S 20) (S 2) (S 0 3).toNat i 0) = 0 := rfl
  have hW := hW.eqS (S' := (up (up (up S 3 (kbS (S 20) (S 3) i 0)) 21 (S 21)) 22 (S 20))) (by
      funext a
      by_cases h3 : a = 3
      · subst h3; rfl
      by_cases h21 : a = 21
      · subst h21; rfl
      by_cases h22 : a = 22
      · subst h22; rfl
      simp only [up, if_neg h3, if_neg h21, if_neg h22])
  exact loop_15 _ 0 0 (S 21) (S 20) (by omega) (by omega) (fun v9 => rfl) (Nat.lt_succ_self _) _ _ hW hS ls (by rw [e_7]; exact lv_sub hl [0, 1, 2, 3] rfl)

set_option maxHeartbeats 1000000 in
set_option maxRecDepth 100000 in
theorem mX0_kinds {l : Launch} {G : GG} {s0 : State} {b0 : Nat} (Z : ZZ l G s0 b0) (A : Nat → Nat) (hI : Own s0 A 156) (S : Sta) (R : Nat → Option Nat) (hF0 : WF (S 20)) (hd : S 20 54 ≤ 2000) (hsn : SeenOK (S 2) (S 0 3)) (i : Int) (hi : inR i) (sz : Nat) : Met l yX0_kinds (ws_ yX0_kinds cX0_kinds 2 (some .int)) ({ frames := 8, cells := 0, slots := 0, locals := 176 } : Room) (pcM s0 sz (CW G A S R) [.ref (A 0), .int (iI i)]) (mI (kindsA (S 20) (S 2) (S 0 3).toNat i) (CWx G A S R) (AA A 156 sz)) 0 0 (AA A 156 sz) := by
  refine Met.ofW (cc := cX0_kinds) (maxL := 2) (ret := (some .int)) (by decide) rfl ?_
  intro p e s m args below meth c s₁ B hml hv
  obtain ⟨rfl, hsz, hW, hB⟩ := hv
  subst hsz
  have hx := B.exec
  have hb := B.bytes
  have hr := B.returns
  have hts := atoms_spec (ws := (ws_ yX0_kinds cX0_kinds 2 (some .int))) B.pre
  have hts : ∀ w ∈ lw_all, w.before _ s = true := fun w h => hts w (List.mem_cons_of_mem _ h)
  have hown : s.vm.findClass RX0 = some m.cls := findClass_of_methodNamed B.named
  have hlocks := B.notSynchronized
  have hN := AA.old hI hB
  have hS : va_S (AA A 156 s.heap.size) s.heap s.heap [] := va_S.rf
  have hl := lv_entry ([.ref (A 0), .int (iI i)]) (n := 2) (Nat.le_of_ble_eq_true rfl)
  rw [lg_entry_eq]
  generalize (lg_sl ([.ref (A 0), .int (iI i)]) ++ List.replicate (2 - (lg_sl ([.ref (A 0), .int (iI i)])).length) Slot.unset).toArray = ls at hl ⊢
  have hl : lv_has ls 2 [(0, .ref (A 0)), (1, .int (iI i))] := hl
  have hn5 := hF0.n
  refine lv_aload_n hx hb dX0_kinds_0 rfl (lv_at hl 0 rfl) ?_
  refine lv_iload_n hx hb dX0_kinds_1 rfl (lv_at hl 1 rfl) ?_
  refine cqI (va_runV (As := [.int (iI i)]) (rest := []) ⟨hx, hb, hml, hown, hts⟩ (mX0_isIsle Z A S R hF0 i (by omega)) (cwV 1 hts (lw_V q449 q451 qs14 q79 q453) rfl rfl rfl (by decide +kernel) ⟨Nat.le_of_ble_eq_true rfl, Nat.le_of_ble_eq_true rfl⟩) (pvR (BornH.S hB hN hS) (OBJ.recv Z hB hW.obj (q := (RX0, TX0, 16)) rfl) hW) rfl rfl hl.1 rfl (lv_room (Nat.le_of_ble_eq_true rfl)) dX0_kinds_2 ⟨Nat.zero_le _, Nat.zero_le _⟩) ?_
  refine bb_if_eq (P := okI (S 20) i) (tgt := 16) hx hb dX0_kinds_5 (by decide) (fun c_1 => ?_) (fun c_1 => ?_)
  · -- 5 -> 16
    refine ii_const hx hb dX0_kinds_16 ?_
    have hpw9 : (CWx G A S R) s.heap := ⟨S, ⟨fun _ _ _ _ _ _ => rfl, fun _ _ _ _ => rfl⟩, hW⟩
    have he9 : (-1) = (kindsA (S 20) (S 2) (S 0 3).toNat i) := by unfold kindsA; first | rw [if_pos (by assumption)] | rw [if_neg (by assumption)]
    exact W.iret hx hb hr (fun t ht hW9 => ⟨⟨_, (), rfl, congrArg iI he9, by show (CWx G A S R) t.heap; rw [ht]; exact hpw9⟩, hS.F ht⟩) hS.2.2 dX0_kinds_17
  · -- 5 -> 8
    refine lv_aload_n hx hb dX0_kinds_8 rfl (lv_at hl 0 rfl) ?_
    refine lv_iload_n hx hb dX0_kinds_9 rfl (lv_at hl 1 rfl) ?_
    refine cmI (va_runV (As := [.int (iI i)]) (rest := []) ⟨hx, hb, hml, hown, hts⟩ (mX0_kindsOf Z A hI S R hF0 hd (S 2) rfl ((S 0) 3) rfl (S 3) rfl hsn (S 20) rfl (i).toNat i (by omega) (by omega) s.heap.size) (cwV 1 hts (lw_V q692 q694 qs28 q79 q695) rfl rfl rfl (by decide +kernel) ⟨Nat.le_of_ble_eq_true rfl, Nat.le_of_ble_eq_true rfl⟩) (pvM (BornH.S hB hN hS) (OBJ.recv Z hB hW.obj (q := (RX0, TX0, 16)) rfl) hW) rfl rfl hl.1 rfl (lv_room (Nat.le_of_ble_eq_true rfl)) dX0_kinds_10 ⟨Nat.zero_le _, Nat.zero_le _⟩) hS (AA.le hS.1) (fun H1 locs hW1 hz1 hk1 hS => ?_)
    obtain ⟨Fa_2, Fb_3, hW⟩ := hW1
    clear hk1 hz1
    generalize H1 = H at hW hS ⊢
    have b_717 := kdS_in (S 20) (S 2) ((S 0) 3).toNat (i).toNat 4 (by omega)
    refine lv_goto (tgt := 17) hx hb dX0_kinds_13 (by decide) ?_
    have hpw9 : (CWx G A S R) H := (hW.x (fun a h0 h3 h1 h2 h4 => by first | rfl | simp only [up, if_neg h0, if_neg h3, if_neg h1, if_neg h2, if_neg h4]) (fun j h2 h5 h6 => by first | rfl | simp [up, h2]))
    have he9 : (kdS (S 20) (S 2) ((S 0) 3).toNat (i).toNat 4) = (kindsA (S 20) (S 2) (S 0 3).toNat i) := by unfold kindsA; first | rw [if_pos (by assumption)] | rw [if_neg (by assumption)]
    exact W.iret hx hb hr (fun t ht hW9 => ⟨⟨_, (), rfl, congrArg iI he9, by show (CWx G A S R) t.heap; rw [ht]; exact hpw9⟩, hS.F ht⟩) hS.2.2 dX0_kinds_17

set_option maxHeartbeats 1000000 in
set_option maxRecDepth 100000 in
theorem mX0_sulks {l : Launch} {G : GG} {s0 : State} {b0 : Nat} (Z : ZZ l G s0 b0) (A : Nat → Nat) (hI : Own s0 A 156) (S : Sta) (R : Nat → Option Nat) (hF0 : WF (S 20)) (hd : S 20 54 ≤ 2000) (hsn : SeenOK (S 2) (S 0 3)) (i : Int) (hi : inR i) (j : Int) (hj : inR j) (sz : Nat) : Met l yX0_sulks (ws_ yX0_sulks cX0_sulks 5 (some .int)) ({ frames := 7, cells := 0, slots := 0, locals := 153 } : Room) (pcM s0 sz (CW G A S R) [.ref (A 0), .int (iI i), .int (iI j)]) (mI (sulksA (S 20) (S 2) (S 0 3).toNat i j) (CWx G A S R) (AA A 156 sz)) 0 0 (AA A 156 sz) := by
  refine Met.ofW (cc := cX0_sulks) (maxL := 5) (ret := (some .int)) (by decide) rfl ?_
  intro p e s m args below meth c s₁ B hml hv
  obtain ⟨rfl, hsz, hW, hB⟩ := hv
  subst hsz
  have hx := B.exec
  have hb := B.bytes
  have hr := B.returns
  have hts := atoms_spec (ws := (ws_ yX0_sulks cX0_sulks 5 (some .int))) B.pre
  have hts : ∀ w ∈ lw_all, w.before _ s = true := fun w h => hts w (List.mem_cons_of_mem _ h)
  have hown : s.vm.findClass RX0 = some m.cls := findClass_of_methodNamed B.named
  have hlocks := B.notSynchronized
  have hN := AA.old hI hB
  have hS : va_S (AA A 156 s.heap.size) s.heap s.heap [] := va_S.rf
  have hl := lv_entry ([.ref (A 0), .int (iI i), .int (iI j)]) (n := 5) (Nat.le_of_ble_eq_true rfl)
  rw [lg_entry_eq]
  generalize (lg_sl ([.ref (A 0), .int (iI i), .int (iI j)]) ++ List.replicate (5 - (lg_sl ([.ref (A 0), .int (iI i), .int (iI j)])).length) Slot.unset).toArray = ls at hl ⊢
  have hl : lv_has ls 5 [(0, .ref (A 0)), (1, .int (iI i)), (2, .int (iI j))] := hl
  have hn5 := hF0.n
  refine lv_aload_n hx hb dX0_sulks_0 rfl (lv_at hl 0 rfl) ?_
  refine lv_iload_n hx hb dX0_sulks_1 rfl (lv_at hl 1 rfl) ?_
  refine lv_iload_n hx hb dX0_sulks_2 rfl (lv_at hl 2 rfl) ?_
  refine cqI (va_runV (As := [.int (iI i), .int (iI j)]) (rest := []) ⟨hx, hb, hml, hown, hts⟩ (mX0_areTwo Z A S R hF0 i (by omega) j (by omega)) (cwV 2 hts (lw_V q505 q507 qs15 q79 q508) rfl rfl rfl (by decide +kernel) ⟨Nat.le_of_ble_eq_true rfl, Nat.le_of_ble_eq_true rfl⟩) (pvR (BornH.S hB hN hS) (OBJ.recv Z hB hW.obj (q := (RX0, TX0, 16)) rfl) hW) rfl rfl hl.1 rfl (lv_room (Nat.le_of_ble_eq_true rfl)) dX0_sulks_3 ⟨Nat.zero_le _, Nat.zero_le _⟩) ?_
  refine bb_if_ne (P := ok2 (S 20) i j) (tgt := 11) hx hb dX0_sulks_6 (by decide) (fun c_1 => ?_) (fun c_1 => ?_)
  · -- 6 -> 11
    refine ii_const hx hb dX0_sulks_11 ?_
    refine lv_istore_n (lv' := [(3, .int (iI 0)), (0, .ref (A 0)), (1, .int (iI i)), (2, .int (iI j))]) hx hb dX0_sulks_12 rfl hl (by decide) rfl (fun ls hl => ?_)
    refine lv_aload_n hx hb dX0_sulks_13 rfl (lv_at hl 1 rfl) ?_
    refine r_get (ci := 0) (k := 5) (v := .ref (A 76)) (C := RX0) (T := TX0) (N := 16) Z hB hx hb hts hown rfl in_X0 hW.obj (by decide) q798 rfl dX0_sulks_14 ?_
    refine lv_aload_n hx hb dX0_sulks_17 rfl (lv_at hl 1 rfl) ?_
    refine r_get (ci := 0) (k := 3) (v := .ref (A 36)) (C := RX0) (T := TX0) (N := 16) Z hB hx hb hts hown rfl in_X0 hW.obj (by decide) q796 rfl dX0_sulks_18 ?_
    refine cmV (va_runV (As := [.ref (A 36)]) (rest := []) ⟨hx, hb, hml, hown, hts⟩ (mX1_takes Z (fa A 2) (hI.fa (by omega)) (S 22) (fa A 0) (S 20) (fa_apart hI (f := 2) (g := 0) (by omega) (by omega) (by omega)) s.heap.size) (cwV 1 hts (lw_V q424 q425 q426 q80 q427) rfl rfl rfl (by decide +kernel) ⟨Nat.le_of_ble_eq_true rfl, Nat.le_of_ble_eq_true rfl⟩) (pvM (BornH.S hB hN hS) (OBJ.recv Z hB ((hW.fw (f := 2) (by omega) (F := (S 22)) rfl)).1 (q := (RX1, TX1, 8)) rfl) (⟨(hW.fw (f := 2) (by omega) (F := (S 22)) rfl), (hW.fw (f := 0) (by omega) (F := (S 20)) rfl)⟩)) rfl rfl hl.1 rfl (lv_room (Nat.le_of_ble_eq_true rfl)) dX0_sulks_21 ⟨Nat.zero_le _, Nat.zero_le _⟩) hS (AA.fa (by omega) hS.1) (fun H1 locs hW1 hz1 hk1 hS => ?_)
    have hW := hW.joinF hI (f := 2) (by omega) hk1 hW1
    clear hW1 hk1 hz1
    generalize H1 = H at hW hS ⊢
    refine ii_const hx hb dX0_sulks_24 ?_
    refine lv_istore (lv' := [(4, .int (iI 0)), (3, .int (iI 0)), (0, .ref (A 0)), (1, .int (iI i)), (2, .int (iI j))]) hx hb dX0_sulks_25 hl (by decide) rfl (fun ls hl => ?_)
    have loop_27 : ∀ (fu : Nat) (v : Nat) (zv : Int) (F1 : Nat → Int) (F2 : Nat → Int) (B1 : Nat → Int), (zv = (v : Int)) → (v ≤ 4) → (∀ v9 : Int, up F2 (10 + 5 * i.toNat + j.toNat) v9 = up (S 20) (10 + 5 * i.toNat + j.toNat) v9) → (5 - v) < fu → ∀ (H : Heap) (locs : List Loc), (CW G A (up (up (up S 3 B1) 21 F1) 22 F2) R) H → va_S (AA A 156 s.heap.size) s.heap H locs → ∀ (ls : Array Slot), lv_has ls 5 [(4, .int (iI zv)), (3, .int (iI (suS (S 20) (S 2) (S 0 3).toNat (10 + 5 * i.toNat + j.toNat) v))), (0, .ref (A 0)), (1, .int (iI i)), (2, .int (iI j))] → W p l e (headSpec (ws_ yX0_sulks cX0_sulks 5 (some .int)) ({ frames := 7, cells := 0, slots := 0, locals := 153 } : Room)).room s m ([.ref (A 0), .int (iI i), .int (iI j)] : List Value).toArray below meth c H locs 0 0 (MQ below (mI (sulksA (S 20) (S 2) (S 0 3).toNat i j) (CWx G A S R) (AA A 156 s.heap.size)) ([.ref (A 0), .int (iI i), .int (iI j)] : List Value).toArray s 0 0 (AA A 156 s.heap.size)) (F0 m 27 ls []) := by
      intro fu
      induction fu with
      | zero => intro v zv F1 F2 B1 ezv hv4 hF2e hmu; exact absurd hmu (Nat.not_lt_zero _)
      | succ fu ih27 =>
        intro v zv F1 F2 B1 ezv hv4 hF2e hmu H locs hW hS ls hl
        have hrv := suS_in (S 20) (S 2) (S 0 3).toNat (10 + 5 * i.toNat + j.toNat) v (by omega)
        have hpw : v < 4 → 1 ≤ pw2 zv.toNat ∧ pw2 zv.toNat ≤ 8 := by rw [show zv.toNat = v by omega]; exact fun h => pw2_3 h
        refine lv_iload hx hb dX0_sulks_27 (lv_at hl 0 rfl) ?_
        refine ii_const hx hb dX0_sulks_29 ?_
        refine ii_icmp_gt (tgt := 71) hx hb dX0_sulks_30 (by decide) (by omega) (by omega) (fun c_2 => ?_) (fun c_2 => ?_)
        · -- 30 -> 71
          refine lv_iload_n hx hb dX0_sulks_71 rfl (lv_at hl 1 rfl) ?_
          have hpw9 : (CWx G A S R) H := (hW.x (fun a h0 h3 h1 h2 h4 => by first | rfl | simp only [up, if_neg h0, if_neg h3, if_neg h1, if_neg h2, if_neg h4]) (fun j h2 h5 h6 => by first | rfl | simp [up, h2]))
          have he9 : (suS (S 20) (S 2) (S 0 3).toNat (10 + 5 * i.toNat + j.toNat) v) = (sulksA (S 20) (S 2) (S 0 3).toNat i j) := by unfold sulksA; first | (rw [if_pos (by assumption), show v = 4 by omega]) | rw [if_neg (by assumption)]
          exact W.iret hx hb hr (fun t ht hW9 => ⟨⟨_, (), rfl, congrArg iI he9, by show (CWx G A S R) t.heap; rw [ht]; exact hpw9⟩, hS.F ht⟩) hS.2.2 dX0_sulks_72
        · -- 30 -> 33
          refine lv_aload_n hx hb dX0_sulks_33 rfl (lv_at hl 2 rfl) ?_
          refine r_get (ci := 0) (k := 5) (v := .ref (A 76)) (C := RX0) (T := TX0) (N := 16) Z hB hx hb hts hown rfl in_X0 hW.obj (by decide) q798 rfl dX0_sulks_34 ?_
          refine r_getN (ci := 1) (k := 1) (v := .ref ((fa A 2) 7)) (C := RX1) (T := TX1) (N := 8) Z hB hx hb hts hown rfl in_X1 (((hW.fw (f := 2) (by omega) (F := F2) (up_s _ _ _))).1) (by decide) q142 rfl dX0_sulks_37 ?_
          refine lv_iload_n hx hb dX0_sulks_40 rfl (lv_at hl 3 rfl) ?_
          refine r_aald (t := 1) (ty := .array .int) (k := (i).toNat) Z hB hx hb rfl rfl (((hW.fw (f := 2) (by omega) (F := F2) (up_s _ _ _))).2.2.2.1) (by omega) (by omega) (by omega) rfl dX0_sulks_41 ?_
          refine lv_iload_n hx hb dX0_sulks_42 rfl (lv_at hl 4 rfl) ?_
          refine lv_iload hx hb dX0_sulks_43 (lv_at hl 0 rfl) ?_
          refine r_iast (k := (j).toNat) Z hB hx hb (((hW.fw (f := 2) (by omega) (F := F2) (up_s _ _ _))).2.2.2.2.1 (i).toNat (by omega)) hS (Or.inl ⟨36 + 20 * 2 + (8 + (i).toNat), by omega, rfl⟩) (by omega) (by omega) (by omega) dX0_sulks_45 (CW G A (up (up (up (up S 3 B1) 21 F1) 22 F2) 22 (up F2 (10 + 5 * (i).toNat + (j).toNat) zv)) R) (fun H1 hz oq ha => hW.storeF hI (f := 2) (c := 8 + (i).toNat) (by omega) (by omega) oq (FW.setC ((hW.fw (f := 2) (by omega) (F := F2) (up_s _ _ _))) (hI.fa (f := 2) (by omega)) (by omega) (by omega) oq ha)) (fun H locs hW hS => ?_)
          have hW := hW.eqS (S' := (up (up (up S 3 B1) 21 F1) 22 (up F2 (10 + 5 * (i).toNat + (j).toNat) zv))) (by
              funext a
              by_cases h3 : a = 3
              · subst h3; rfl
              by_cases h21 : a = 21
              · subst h21; rfl
              by_cases h22 : a = 22
              · subst h22; rfl
              simp only [up, if_neg h3, if_neg h21, if_neg h22])
          rw [hF2e] at hW
          have h22 : WF (up (S 20) (10 + 5 * i.toNat + j.toNat) zv) := hF0.setC (by omega) (by omega) (by omega)
          have h54 : (up (S 20) (10 + 5 * i.toNat + j.toNat) zv) 54 = S 20 54 := up_n _ _ (by omega)
          refine lv_iload_n hx hb dX0_sulks_46 rfl (lv_at hl 1 rfl) ?_
          refine lv_aload_n hx hb dX0_sulks_47 rfl (lv_at hl 2 rfl) ?_
          refine ii_const hx hb dX0_sulks_48 ?_
          have hd_3 : (up (S 20) (10 + 5 * i.toNat + j.toNat) zv) 54 ≤ 2000 := by omega
          refine cmI (va_runV (As := [.int (iI 0)]) (rest := [.int (iI (suS (S 20) (S 2) (S 0 3).toNat (10 + 5 * i.toNat + j.toNat) v))]) ⟨hx, hb, hml, hown, hts⟩ (mX0_isAsSeen Z A hI (up (up (up S 3 B1) 21 F1) 22 (up (S 20) (10 + 5 * i.toNat + j.toNat) zv)) R hF0 (up (S 20) (10 + 5 * i.toNat + j.toNat) zv) rfl h22 hd_3 (S 2) rfl ((S 0) 3) rfl B1 rfl hsn 0 0 (by omega) (by omega) H.size) (cwV 1 hts (lw_V q696 q698 qs29 q79 q699) rfl rfl rfl (by decide +kernel) ⟨Nat.le_of_ble_eq_true rfl, Nat.le_of_ble_eq_true rfl⟩) (pvM (BornH.S hB hN hS) (OBJ.recv Z hB hW.obj (q := (RX0, TX0, 16)) rfl) hW) rfl rfl hl.1 rfl (lv_room (Nat.le_of_ble_eq_true rfl)) dX0_sulks_49 ⟨Nat.zero_le _, Nat.zero_le _⟩) hS (AA.le hS.1) (fun H1 locs hW1 hz1 hk1 hS => ?_)
          have hW := hW1
          clear hW1 hk1 hz1
          generalize H1 = H at hW hS ⊢
          clear hd_3
          have hW := hW.eqS (S' := (up (up (up S 3 (bkF (up (S 20) (10 + 5 * i.toNat + j.toNat) zv) B1 0 ((up (S 20) (10 + 5 * i.toNat + j.toNat) zv) 76).toNat 21 0)) 21 (daysS (up (S 20) (10 + 5 * i.toNat + j.toNat) zv) 21)) 22 (up (S 20) (10 + 5 * i.toNat + j.toNat) zv))) (by
              funext a
              by_cases h3 : a = 3
              · subst h3; rfl
              by_cases h21 : a = 21
              · subst h21; rfl
              by_cases h22 : a = 22
              · subst h22; rfl
              simp only [up, if_neg h3, if_neg h21, if_neg h22])
          generalize daysS (up (S 20) (10 + 5 * i.toNat + j.toNat) zv) 21 = Fv_4 at hW
          refine bb_if_eq (P := snS (up (S 20) (10 + 5 * i.toNat + j.toNat) zv) (S 2) ((S 0) 3).toNat 21 = 1) (tgt := 62) hx hb dX0_sulks_52 (by decide) (fun c_5 => ?_) (fun c_5 => ?_)
          · -- 52 -> 62
            refine ii_const hx hb dX0_sulks_62 ?_
            refine ii_or hx hb (by omega) (by omega) dX0_sulks_63 ?_
            refine lv_istore_n (lv' := [(3, .int (iI (orZ (suS (S 20) (S 2) (S 0 3).toNat (10 + 5 * i.toNat + j.toNat) v) 0))), (4, .int (iI zv)), (0, .ref (A 0)), (1, .int (iI i)), (2, .int (iI j))]) hx hb dX0_sulks_64 rfl hl (by decide) rfl (fun ls hl => ?_)
            refine ii_iinc (k := 1) (lv' := [(4, .int (iI (zv + 1))), (3, .int (iI (orZ (suS (S 20) (S 2) (S 0 3).toNat (10 + 5 * i.toNat + j.toNat) v) 0))), (0, .ref (A 0)), (1, .int (iI i)), (2, .int (iI j))]) hx hb dX0_sulks_65 hl rfl (by decide) rfl (fun ls hl => ?_)
            refine lv_goto (tgt := 27) hx hb dX0_sulks_68 (by decide) ?_
            have e_6 : (suS (S 20) (S 2) (S 0 3).toNat (10 + 5 * i.toNat + j.toNat) (v + 1)) = (orZ (suS (S 20) (S 2) (S 0 3).toNat (10 + 5 * i.toNat + j.toNat) v) 0) := by simp only [suS]; rw [← ezv]; first | (rw [if_pos (by assumption), show zv.toNat = v by omega]) | rw [if_neg (by assumption)]
            exact ih27 (v + 1) (zv + 1) Fv_4 (up (S 20) (10 + 5 * i.toNat + j.toNat) zv) (bkF (up (S 20) (10 + 5 * i.toNat + j.toNat) zv) B1 0 ((up (S 20) (10 + 5 * i.toNat + j.toNat) zv) 76).toNat 21 0) (by omega) (by omega) (fun v9 => up_up _ _ _ _) (by omega) _ _ hW hS ls (by rw [e_6]; exact lv_sub hl [0, 1, 2, 3, 4] rfl)
          · -- 52 -> 55
            refine ii_const hx hb dX0_sulks_55 ?_
            refine lv_iload hx hb dX0_sulks_56 (lv_at hl 0 rfl) ?_
            refine ii_shl1 hx hb (by omega) dX0_sulks_58 ?_
            refine lv_goto (tgt := 63) hx hb dX0_sulks_59 (by decide) ?_
            refine ii_or hx hb (by omega) (by omega) dX0_sulks_63 ?_
            refine lv_istore_n (lv' := [(3, .int (iI (orZ (suS (S 20) (S 2) (S 0 3).toNat (10 + 5 * i.toNat + j.toNat) v) ((pw2 (zv).toNat : Nat) : Int)))), (4, .int (iI zv)), (0, .ref (A 0)), (1, .int (iI i)), (2, .int (iI j))]) hx hb dX0_sulks_64 rfl hl (by decide) rfl (fun ls hl => ?_)
            refine ii_iinc (k := 1) (lv' := [(4, .int (iI (zv + 1))), (3, .int (iI (orZ (suS (S 20) (S 2) (S 0 3).toNat (10 + 5 * i.toNat + j.toNat) v) ((pw2 (zv).toNat : Nat) : Int)))), (0, .ref (A 0)), (1, .int (iI i)), (2, .int (iI j))]) hx hb dX0_sulks_65 hl rfl (by decide) rfl (fun ls hl => ?_)
            refine lv_goto (tgt := 27) hx hb dX0_sulks_68 (by decide) ?_
            have e_7 : (suS (S 20) (S 2) (S 0 3).toNat (10 + 5 * i.toNat + j.toNat) (v + 1)) = (orZ (suS (S 20) (S 2) (S 0 3).toNat (10 + 5 * i.toNat + j.toNat) v) ((pw2 (zv).toNat : Nat) : Int)) := by simp only [suS]; rw [← ezv]; first | (rw [if_pos (by assumption), show zv.toNat = v by omega]) | rw [if_neg (by assumption)]
            exact ih27 (v + 1) (zv + 1) Fv_4 (up (S 20) (10 + 5 * i.toNat + j.toNat) zv) (bkF (up (S 20) (10 + 5 * i.toNat + j.toNat) zv) B1 0 ((up (S 20) (10 + 5 * i.toNat + j.toNat) zv) 76).toNat 21 0) (by omega) (by omega) (fun v9 => up_up _ _ _ _) (by omega) _ _ hW hS ls (by rw [e_7]; exact lv_sub hl [0, 1, 2, 3, 4] rfl)
    have e_8 : (suS (S 20) (S 2) (S 0 3).toNat (10 + 5 * i.toNat + j.toNat) 0) = 0 := rfl
    have hW := hW.eqS (S' := (up (up (up S 3 (S 3)) 21 (S 21)) 22 (S 20))) (by
        funext a
        by_cases h3 : a = 3
        · subst h3; rfl
        by_cases h21 : a = 21
        · subst h21; rfl
        by_cases h22 : a = 22
        · subst h22; rfl
        simp only [up, if_neg h3, if_neg h21, if_neg h22])
    exact loop_27 _ 0 0 (S 21) (S 20) (S 3) (by omega) (by omega) (fun v9 => rfl) (Nat.lt_succ_self _) _ _ hW hS ls (by rw [e_8]; exact lv_sub hl [0, 1, 2, 3, 4] rfl)
  · -- 6 -> 9
    refine ii_const hx hb dX0_sulks_9 ?_
    have hpw9 : (CWx G A S R) s.heap := ⟨S, ⟨fun _ _ _ _ _ _ => rfl, fun _ _ _ _ => rfl⟩, hW⟩
    have he9 : (-1) = (sulksA (S 20) (S 2) (S 0 3).toNat i j) := by unfold sulksA; first | (rw [if_pos (by assumption), show v = 4 by omega]) | rw [if_neg (by assumption)]
    exact W.iret hx hb hr (fun t ht hW9 => ⟨⟨_, (), rfl, congrArg iI he9, by show (CWx G A S R) t.heap; rw [ht]; exact hpw9⟩, hS.F ht⟩) hS.2.2 dX0_sulks_10
