/-! rows that make cells -/
theorem va_S.grow {A : Nat → Prop} {H0 H H1 : Heap} {locs : List Loc} (h : va_S A H0 H locs) (hz : H.size ≤ H1.size) (ho : ∀ q : Nat, q < H.size → H1[q]? = H[q]?) : va_S A H0 H1 locs :=
  ⟨Nat.le_trans h.1 hz, fun q h1 h2 => (ho q (Nat.lt_of_lt_of_le h1 h.1)).trans (h.2.1 q h1 h2), h.2.2⟩
section FN
variable {p : Program} {l : Launch} {e : Env} {R : Room} {s : State} {m : MethodId} {args : Array Value} {below : List Frame} {meth : Method} {c : Code} {H : Heap} {locs : List Loc} {cells slots : Nat} {Q : State → Prop} {cc : ByteArray} {pc : Nat} {ls : Array Slot} {st : List Value} {G : GG} {s0 : State} {b0 : Nat}
theorem r_new (Z : ZZ l G s0 b0) (hB : Born s0 s) (hx : p.tables.exec = Jvm.exec) (hb : c.code = cc) (hts : ∀ w ∈ lw_all, w.before args s = true) {own C : String} {T : u_T} {N ci index : Nat} {fs : List Value} (hown : s.vm.findClass own = some m.cls) (hc : cls9[ci]? = some (C, T, N)) (hin : ∀ w ∈ u_ws C T N, w ∈ lw_all) (ty : Nat → FieldType) (hty : ∀ k, k < N → parseFieldDescriptor (T k).2.2.1 = some (ty k))
    (qc : Cond.classLink own index C ∈ lw_all) (qi : Cond.instantiable C N ∈ lw_all) (qn : Cond.initialized C ∈ lw_all) (hfs : ∀ j, j < N → defaultValue (ty j) = vp_V fs j) (hcells : cells + 1 ≤ R.cells) (hslots : slots + N ≤ R.slots) (d : decode cc pc = .ok (.new index, 3))
    (kk : ∀ H1 : Heap, H1.size = H.size + 1 → (∀ q : Nat, q < H.size → H1[q]? = H[q]?) → OBJ G ci H.size fs H1 → W p l e R s m args below meth c H1 locs (cells+1) (slots+N) Q (F0 m (pc + 3) ls (.ref H.size :: st))) : W p l e R s m args below meth c H locs cells slots Q (F0 m (pc) ls (st)) := by
  have hKn := (hB.K Z).1 ci _ hc
  refine W.newcK hx hb hown (hts _ qc) (hts _ qi) (hts _ qn) rfl d hcells hslots hKn.2.1 rfl fun H1 kC hkC e1 z1 o1 => ?_
  exact kk H1 z1 o1 ⟨_, hc, (u_born ty hts hin hKn hkC e1 hty).to hfs⟩
theorem r_newa (Z : ZZ l G s0 b0) (hB : Born s0 s) (hx : p.tables.exec = Jvm.exec) (hb : c.code = cc) (hts : ∀ w ∈ lw_all, w.before args s = true) {atype : ArrayType} {t n : Nat} {zn : Int} {ty : FieldType} (ht : (tysG G.2)[t]? = some (G.2 t, ty)) (hty : newarray.typeOf atype = ty) (hd : defaultValue ty = .int 0) (hp : va_RA s (G.2 t) ty → s.vm.findClass ("[" ++ ty.toString) = some (G.2 t)) (q : Cond.arrayClass (newarray.typeOf atype) ∈ lw_all) (en : zn = (n : Int)) (hn : n < 2147483648) (hby : n * componentBytes (newarray.typeOf atype) ≤ 536870912) (hcells : cells + 1 ≤ R.cells) (hslots : slots + n ≤ R.slots) (d : decode cc pc = .ok (.newarray atype, 2))
    (kk : ∀ H1 : Heap, H1.size = H.size + 1 → (∀ q : Nat, q < H.size → H1[q]? = H[q]?) → IA G t H.size n (fun _ => 0) H1 → W p l e R s m args below meth c H1 locs (cells+1) (slots+n) Q (F0 m (pc + 2) ls (.ref H.size :: st))) : W p l e R s m args below meth c H locs cells slots Q (F0 m (pc) ls (.int (iI zn) :: st)) := by
  subst hty; subst en
  refine va_newaK hx hb (hts _ q) rfl d rfl (by rw [← iI_0, iI_lt ⟨by omega, by omega⟩ inR_0]; omega) (iI_cl rfl hn) hby hcells hslots rfl fun H1 cA e1 z1 o1 hAr hNm => ?_
  have eA : cA = G.2 t := Option.some.inj (hNm.symm.trans (hp ((hB.K Z).2 t _ ht).2))
  subst eA
  refine kk H1 z1 o1 ?_
  unfold IA
  rw [e1, hd]
  rfl
theorem r_anewa (Z : ZZ l G s0 b0) (hB : Born s0 s) (hx : p.tables.exec = Jvm.exec) (hb : c.code = cc) (hts : ∀ w ∈ lw_all, w.before args s = true) {own C : String} {index t n : Nat} {zn : Int} (hown : s.vm.findClass own = some m.cls) (ht : (tysG G.2)[t]? = some (G.2 t, .object C)) (qc : Cond.classLink own index C ∈ lw_all) (qo : Cond.arrayOver (.object C) ∈ lw_tbl) (en : zn = (n : Int)) (hn : n < 1000) (hcells : cells + 1 ≤ R.cells) (hslots : slots + n ≤ R.slots) (d : decode cc pc = .ok (.anewarray index, 3))
    (kk : ∀ H1 : Heap, H1.size = H.size + 1 → (∀ q : Nat, q < H.size → H1[q]? = H[q]?) → QA G t H.size n (fun _ => none) H1 → W p l e R s m args below meth c H1 locs (cells+1) (slots+n) Q (F0 m (pc + 3) ls (.ref H.size :: st))) : W p l e R s m args below meth c H locs cells slots Q (F0 m (pc) ls (.int (iI zn) :: st)) := by
  subst en
  have enn : (iI (n : Int)).toNatClampNeg = n := iI_cl rfl (by omega)
  refine W.anew hx hb hown (hts _ qc) (va_AO.use (va_AO.moved hB.1.alike (va_AO.of (Z.2.1 _ qo)))) rfl d rfl (by rw [← iI_0, iI_lt ⟨by omega, by omega⟩ inR_0]; omega) (by rw [enn]; omega) hcells (by rw [enn]; exact hslots) fun cA kA comp f1 f2 f3 f4 => ?_
  obtain ⟨kA', comp', g1, g2, g3, g4⟩ := ((hB.K Z).2 t _ ht).2
  have eA : cA = G.2 t := Option.some.inj (f1.symm.trans g4)
  subst eA
  rw [enn]
  refine kk _ (by rw [Array.size_push]) (fun q hq => by rw [Array.getElem?_push, if_neg (Nat.ne_of_lt hq)]) ?_
  unfold QA
  rw [Array.getElem?_push_size, arrV_new]
  rfl
/-- a reference into an array of references -/
theorem r_aast (Z : ZZ l G s0 b0) (hB : Born s0 s) (hx : p.tables.exec = Jvm.exec) (hb : c.code = cc) {t a n k v ci : Nat} {r : vw_C} {vs : List Value} {f : Nat → Option Nat} {z : Int} {A : Nat → Prop} {H0 : Heap} (ht : (tysG G.2)[t]? = some (G.2 t, .object r.1)) (hc : cls9[ci]? = some r) (hQ : QA G t a n f H) (hV : OBJ G ci v vs H) (hS : va_S A H0 H locs) (hAa : A a) (hz : z = (k : Int)) (hk : k < n) (hn : n < 2147483648) (d : decode cc pc = .ok (.aastore, 1))
    (kk : ∀ (H1 : Heap) (locs1 : List Loc), H1.size = H.size → (∀ q : Nat, q ≠ a → H1[q]? = H[q]?) → QA G t a n (up f k (some v)) H1 → va_S A H0 H1 locs1 → W p l e R s m args below meth c H1 locs1 cells slots Q (F0 m (pc + 1) ls (st))) : W p l e R s m args below meth c H locs cells slots Q (F0 m (pc) ls (.ref v :: .int (iI z) :: .ref a :: st)) := by
  have hK := hB.K Z
  have hi := iI_in hz hk hn
  have ecl : (iI z).toNatClampNeg = k := iI_cl hz (by omega)
  have hlt : (iI z).toNatClampNeg < n := Nat.not_le.mp fun q => hi (Or.inr q)
  have h0 : ¬ iI z < 0 := fun q => hi (Or.inl q)
  obtain ⟨r', hr', cellV, g1, g2, g3, -⟩ := hV
  have hcls := (hK.1 ci r hc).2
  obtain ⟨kA, comp, k1, k2, k3, -⟩ := (hK.2 t _ ht).2
  have hcomp : comp = G.1.1 ci := Option.some.inj (k3.symm.trans hcls.1)
  subst hcomp
  obtain ⟨kC, hkC, -⟩ := hcls.2
  refine W.aast hx hb hQ (fun q h => by cases h) (fun h => by cases h) k1 k2 rfl hkC ⟨h0, by show _ < (arrV _ _ _).slots.size; rw [arrV_size]; exact hlt⟩ g1 (fun q h => by rw [g3] at h; cases h) (by rw [g2]; exact hkC) (by rw [g2]; exact va_assign hcls) rfl rfl d fun H1 e z oq => ?_
  refine kk H1 _ z oq ?_ (hS.put z oq hAa)
  unfold QA
  rw [e, vp_cell_q, vp_cell_q, arrV_store, ecl]
  congr 2
  funext q
  by_cases hq : q = k
  · subst hq
    simp [updV, up, va_rf]
  · simp [updV, up, hq]
end FN
/-- a grid at b: n rows of k zeros behind it -/
def GR (G : GG) (b n k : Nat) (H : Heap) : Prop := QA G 1 b n (fun i => some (b + 1 + i)) H ∧ ∀ i : Nat, i < n → IA G 0 (b + 1 + i) k (fun _ => 0) H
theorem GR.kept {G : GG} {b n k : Nat} {H H1 : Heap} (h : GR G b n k H) (hq : ∀ x : Nat, b ≤ x → x ≤ b + n → H1[x]? = H[x]?) : GR G b n k H1 := ⟨h.1.kept (hq _ (by omega) (by omega)), fun i hi => (h.2 i hi).kept (hq _ (by omega) (by omega))⟩
/-- the addresses of a firth made at a0, its arrays from sz on -/
def adN (a0 sz : Nat) : Nat → Nat := fun k => if k = 0 then a0 else sz + (k - 1)
theorem QA.to {G : GG} {t a n : Nat} {f g : Nat → Option Nat} {H : Heap} (h : QA G t a n f H) (e : ∀ j, j < n → f j = g j) : QA G t a n g H := by
  unfold QA at h ⊢
  rw [h, vp_cell_q, vp_cell_q, arrV_congr (fun j hj => by rw [e j hj])]
theorem FW.born {G : GG} {a0 sz : Nat} {H : Heap} (ho : OBJ G 1 a0 [.ref sz, .ref (sz + 6), .ref (sz + 12), .int (iI 0), .int (iI 0), .int (iI 0), .int (iI 0), .int (iI 0)] H) (h1 : GR G sz 5 2 H) (h2 : GR G (sz + 6) 5 5 H) (h3 : GR G (sz + 12) 6 3 H) : FW G (adN a0 sz) (fun _ => 0) H := by
  have e : ∀ k : Nat, k ≠ 0 → adN a0 sz k = sz + (k - 1) := fun k hk => if_neg hk
  refine ⟨ho, ?_, fun i hi => ?_, ?_, fun i hi => ?_, ?_, fun i hi => ?_⟩
  · exact h1.1.to (fun j hj => by rw [e _ (by omega)]; congr 1; omega)
  · have := h1.2 i hi
    rw [e _ (by omega)]
    rwa [show sz + (2 + i - 1) = sz + 1 + i by omega]
  · exact h2.1.to (fun j hj => by rw [e _ (by omega)]; congr 1; omega)
  · have := h2.2 i hi
    rw [e _ (by omega)]
    rwa [show sz + (8 + i - 1) = sz + 6 + 1 + i by omega]
  · exact h3.1.to (fun j hj => by rw [e _ (by omega)]; congr 1; omega)
  · have := h3.2 i hi
    rw [e _ (by omega)]
    rwa [show sz + (14 + i - 1) = sz + 12 + 1 + i by omega]
