/-! WHAT THE START HOLDS FOR GOOD: the four kinds; super's methods -/
/-- an object of the start's, of class C -/
def KO (s0 : State) (C : String) (b : Nat) : Prop := ∃ cell : Cell, s0.heap[b]? = some cell ∧ cell.vm.isStatics = false ∧ s0.vm.findClass C = some cell.cls ∧ ∃ k : Class, s0.vm.classes[cell.cls]? = some k
theorem KO.here {s0 s : State} {H : Heap} {C : String} {b : Nat} (h : KO s0 C b) (hB : BornH s0 s H) : ∃ cell : Cell, H[b]? = some cell ∧ cell.vm.isStatics = false ∧ s.vm.findClass C = some cell.cls ∧ ∃ k : Class, s.vm.classes[cell.cls]? = some k := by
  obtain ⟨cell, h1, h2, h3, k, h4⟩ := h
  obtain ⟨k', hk', -⟩ := hB.1.alike.2.2 _ _ h4
  exact ⟨cell, by rw [hB.2.2 b (Array.getElem?_eq_some_iff.mp h1).1]; exact h1, h2, by rw [hB.1.alike.findClass]; exact h3, k', hk'⟩
theorem KO.recv {s0 s : State} {H : Heap} {C : String} {b : Nat} (h : KO s0 C b) (hB : BornH s0 s H) : ∃ cell : Cell, H[b]? = some cell ∧ cell.vm.isStatics = false ∧ s.vm.findClass C = some cell.cls := by
  obtain ⟨cell, h1, h2, h3, -⟩ := h.here hB
  exact ⟨cell, h1, h2, h3⟩
abbrev oldA (s0 : State) : Nat → Prop := fun q => s0.heap.size ≤ q
def knm : Nat → String
  | 0 => "TemperIsles$Plain"
  | 1 => "TemperIsles$Proud"
  | 2 => "TemperIsles$Fond"
  | _ => "TemperIsles$Widow"
theorem old_not {s0 : State} : ∀ a : Nat, a < s0.heap.size → ¬ oldA s0 a := fun a h z => absurd z (Nat.not_le.mpr h)
theorem static_here {l : Launch} {G : GG} {s0 : State} {b0 : Nat} (Z : ZZ l G s0 b0) {s : State} (hB : Born s0 s) {C n d : String} {v : Value} (h : va_Z C n d v (oldA s0) s0 s0.heap) : va_Z C n d v (oldA s0) s s.heap :=
  va_Z.moved hB.1.alike (h.kept (fun a ha _ => hB.2.2 a ha))
theorem table_here {l : Launch} {G : GG} {s0 : State} {b0 : Nat} (Z : ZZ l G s0 b0) {s : State} (hB : Born s0 s) {ty : FieldType} {t N : Nat} {f : Nat → Value} (h : va_T ty t N f (oldA s0) s0 s0.heap) : va_T ty t N f (oldA s0) s s.heap :=
  va_T.moved hB.1.alike (h.kept (fun a ha _ => hB.2.2 a ha))
set_option maxRecDepth 100000 in
set_option maxHeartbeats 4000000 in
theorem kinds_of {l : Launch} {G : GG} {s0 : State} {b0 : Nat} (Z : ZZ l G s0 b0) : ∃ (t : Nat) (kk : Nat → Nat), va_Z "TemperIsles" "KINDS" "[LTemperIsles$Plain;" (.ref t) (oldA s0) s0 s0.heap ∧ va_T (.object "TemperIsles$Plain") t 4 (fun j => .ref (kk j)) (oldA s0) s0 s0.heap ∧ ∀ j : Nat, j < 4 → KO s0 (knm j) (kk j) := by
  have hs := flat_of_before _ Z.2.2.1
  have hx : ∀ j : Nat, j < 4 → (Cond.exactly (.elem (.static "TemperIsles" "KINDS" "[LTemperIsles$Plain;") (.int (Int32.ofNat j))) (knm j)).before #[Value.ref b0] s0 = true := by
    intro j hj
    rcases (show j = 0 ∨ j = 1 ∨ j = 2 ∨ j = 3 by omega) with rfl | rfl | rfl | rfl
    · exact hs _ (by decide +kernel)
    · exact hs _ (by decide +kernel)
    · exact hs _ (by decide +kernel)
    · exact hs _ (by decide +kernel)
  have h : ∀ j : Nat, ∃ a : Nat, j < 4 → (Term.elem (.static "TemperIsles" "KINDS" "[LTemperIsles$Plain;") (.int (Int32.ofNat j))).eval #[Value.ref b0] s0 none [] s0 = some (.ref a) ∧ KO s0 (knm j) a := by
    intro j
    by_cases hj : j < 4
    · obtain ⟨a, c, cell, k, q1, q2, q3, q4, q5, q6, -⟩ := Cond.exactly_spec (hx j hj)
      exact ⟨a, fun _ => ⟨q1, cell, q3, q5, by rw [q6]; exact q2, k, by rw [q6]; exact q4⟩⟩
    · exact ⟨0, fun q => absurd q hj⟩
  have harr : (Cond.arrayOf (.static "TemperIsles" "KINDS" "[LTemperIsles$Plain;") (.object "TemperIsles$Plain")).before #[Value.ref b0] s0 = true := hs _ (by decide +kernel)
  have hlen : (Cond.eq (.length (.static "TemperIsles" "KINDS" "[LTemperIsles$Plain;")) (.int 4)).before #[Value.ref b0] s0 = true := hs _ (by decide +kernel)
  obtain ⟨t, ht, hT⟩ := va_Tof (N := 4) (f := fun j => .ref (Classical.choose (h j))) (A := oldA s0) (by decide) harr (va_eqt hlen) (fun j hj => (Classical.choose_spec (h j) hj).1) old_not
  exact ⟨t, fun j => Classical.choose (h j), va_Zref (Z.2.1 _ q463) (Z.2.1 _ (lw_all_tbl q79)) ht old_not, hT, fun j hj => (Classical.choose_spec (h j) hj).2⟩
section FSU
variable {p : Program} {l : Launch} {e : Env} {R : Room} {s : State} {m : MethodId} {args : Array Value} {below : List Frame} {meth : Method} {c : Code} {H : Heap} {locs : List Loc} {cells slots : Nat}
/-- super.m(..): as va_runSU, the receiver's class any that the machine knows -/
theorem r_runSU {y : MethodName} {bytes cc : ByteArray} {maxL nL mc ms n index : Nat} {ret : Option FieldType} {ws : List Cond} {rm : Room} {Pc : Array Value → State → Prop} {Qc : Array Value → State → Outcome → State → Prop} {free : Addr → Prop} {Ts : List Cond} {own : String} {b : Addr} {As rest : List Value} {g : JFrame} {cell : Cell} {k : Class}
    (hcB : H[b]? = some cell) (hoB : cell.vm.isStatics = false) (hkB : s.vm.classes[cell.cls]? = some k) (S : CallFix p m c cc nL s args Ts own) (hM : Met l y ws rm Pc Qc mc ms free) (cw : va_CS R s args own index y bytes maxL ret ws rm mc ms n) (hp : PreS s H Pc (.ref b :: As))
    (hg : g.method = m) (hn : As.length = n) (hsize : g.locals.size = nL) (hstack : g.stack = As.reverse ++ .ref b :: rest) (hW : 2 * g.monitorRoom + (rest.map fun v => v.category).sum ≤ 8) (hdg : decode cc g.pc = .ok (.invokespecial index, 3)) (hf : cells + mc ≤ R.cells ∧ slots + ms ≤ R.slots) :
    va_Run p l e R s m args below meth c H locs cells slots mc ms g rest (Qc (Value.ref b :: As).toArray) (free) := by
  obtain ⟨⟨hrc, hrs, hfr, hlo, hws, hcw⟩, hl1, hl2, hl3, hl4, hini, hcode, hno, hlen⟩ := cw
  have hK : Back l R p e below s args y 3 8 (PreOf R mc ms Pc) (PostOf Qc mc ms free) := back_of hM hp.1 hrc hrs hfr hlo hws hcw (fun a' U hW => word_at hW (Or.inl rfl) hini)
  obtain ⟨hx, hb, hml, ho, -⟩ := S
  intro T hT X
  obtain ⟨v, vm₁, ⟨U', l2, c2, s2⟩, hW₁, X', ⟨g', mk, t, L, e1, e2, hq, h1, hL, h2, h3⟩, st⟩ := va_callSU X hx (bytes := bytes) (maxL := maxL) (ret := ret) ho hl1 hl2 hl3 hl4 hcode hno hK (by rw [hT]; exact hcB) hoB hkB hg (hsize.trans hml.symm) (argsL := As) (rest := rest) (fun sig h => hn.trans (hlen sig h)) hstack hW (by rw [hb]; exact hdg)
    (fun vm₁ hW₁ => ⟨hf.1, hf.2, hp.2 (T.setVm vm₁) hT hW₁⟩)
  dsimp only [Pt.U, Pt.locs, Pt.cells, Pt.slots] at X' e1 e2 h1 h2 h3 st
  subst h1; subst h2; subst h3
  exact ⟨v, (T.setVm vm₁).calling g' mk (Value.ref b :: As).toArray, t, U', L, hT, X', hL, e1, e2, hq, st⟩
end FSU
/-- what super's call asks -/
theorem lw_SU {own : String} {idx : Nat} {y : MethodName} {b : ByteArray} {L : Nat} {r : Option FieldType} (h1 : Cond.methodLink own idx y ∈ lw_all) (h2 : Cond.sameMethod y.cls y.cls y.name y.desc ∈ lw_all) (h3 : Cond.superclass own y.cls ∈ lw_all) (h4 : Cond.instanceMethod y ∈ lw_all) (h5 : Cond.initialized y.cls ∈ lw_all) (h6 : Cond.code y b L r ∈ lw_all) : GoodIn lw_all (va_wsSU own idx y (ws_ y b L r)) := by
  refine lw_app ?_ (lw_meth h6)
  intro w hw
  simp only [List.mem_cons, List.not_mem_nil, or_false] at hw
  rcases hw with e | e | e | e | e
  · rw [e]; exact h1
  · rw [e]; exact h2
  · rw [e]; exact h3
  · rw [e]; exact h4
  · rw [e]; exact h5
/-- what a call of an overriding method asks -/
theorem lw_O {own : String} {idx : Nat} {C owner : String} {x y : MethodName} {b : ByteArray} {L : Nat} {r : Option FieldType} (h1 : Cond.methodLink own idx x ∈ lw_all) (h2 : Cond.sameMethod x.cls owner x.name x.desc ∈ lw_all) (h3 : Cond.instanceMethod ⟨owner, x.name, x.desc⟩ ∈ lw_all) (h4 : Cond.selects C x y ∈ lw_all) (h5 : Cond.instanceMethod y ∈ lw_all) (h6 : Cond.initialized y.cls ∈ lw_all) (h7 : Cond.code y b L r ∈ lw_all) : GoodIn lw_all (va_wsO own idx C owner x y (ws_ y b L r)) := by
  refine lw_app ?_ (lw_meth h7)
  intro w hw
  simp only [List.mem_cons, List.not_mem_nil, or_false] at hw
  rcases hw with e | e | e | e | e | e
  · rw [e]; exact h1
  · rw [e]; exact h2
  · rw [e]; exact h3
  · rw [e]; exact h4
  · rw [e]; exact h5
  · rw [e]; exact h6
/-- the sign -/
def sgS (z : Int) : Int := if 0 < z then 1 else if z < 0 then -1 else 0
theorem sg_dec : ∀ n : Fin 201, ((Int32.ofInt ((n.val : Int) - 100)) >>> ((31 : Int32) &&& 31)) ||| ((-(Int32.ofInt ((n.val : Int) - 100))).toUInt32 >>> ((31 : Int32).toUInt32 &&& Int32.toUInt32 31)).toInt32 = Int32.ofInt (sgS ((n.val : Int) - 100)) := by decide +kernel
theorem sg_of {z : Int} (h : -100 ≤ z ∧ z ≤ 100) : (iI z >>> ((31 : Int32) &&& 31)) ||| ((-(iI z)).toUInt32 >>> ((31 : Int32).toUInt32 &&& Int32.toUInt32 31)).toInt32 = iI (sgS z) := by
  have := sg_dec ⟨(z + 100).toNat, by omega⟩
  rwa [show ((((z + 100).toNat : Nat) : Int) - 100) = z by omega] at this
theorem sgS_in (z : Int) : -1 ≤ sgS z ∧ sgS z ≤ 1 := by unfold sgS; split <;> (try split) <;> omega
