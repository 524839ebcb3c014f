/-! rows for System.arraycopy and new int[n][k]; whole rows of a firth -/
theorem ao_moved {t : FieldType} {u U : State} (hvm : u.vm.Alike U.vm) (h : (Cond.arrayOver (.array t)).before #[] u = true) : (Cond.arrayOver (.array t)).before #[] U = true := by
  unfold Cond.before Cond.holds at h ⊢
  simp only [Cond.value] at h ⊢
  rw [hvm.findClass]
  cases hc : u.vm.findClass (FieldType.array t).toString with
  | none => rw [hc] at h; simp at h
  | some comp =>
    rw [hc, Option.bind_some] at h
    rw [Option.bind_some]
    cases hi : (u.vm.classes.findIdx? fun (x : Class) => match x.kind with | .array component _ => component == comp | _ => false) with
    | none => exact absurd (hi ▸ h) (by simp)
    | some c =>
      have hi' : (U.vm.classes.findIdx? fun (x : Class) => match x.kind with | .array component _ => component == comp | _ => false) = some c := by
        refine (va_idx_bare U.vm comp).symm.trans ?_
        have hbe : U.vm.bare = u.vm.bare := by first | exact hvm.bare_eq | exact hvm.bare_eq.symm
        rw [hbe]
        exact (va_idx_bare u.vm comp).trans hi
      have h1 : (((some c : Option Nat).bind (fun c => (u.vm.classes[c]?).map fun (k : Class) => match k.kind with | .array _ ty => decide (ty = FieldType.array t) && decide (u.vm.findClass ("[" ++ (FieldType.array t).toString) = some c) | _ => false)) == some true) = true := hi ▸ h
      refine (congrArg (fun o : Option Nat => (o.bind (fun c => (U.vm.classes[c]?).map fun (k : Class) => match k.kind with | .array _ ty => decide (ty = FieldType.array t) && decide (U.vm.findClass ("[" ++ (FieldType.array t).toString) = some c) | _ => false) == some true)) hi').trans ?_
      rw [Option.bind_some] at h1
      cases hk : u.vm.classes[c]? with
      | none => rw [hk] at h1; simp at h1
      | some k =>
        obtain ⟨k', hk', he⟩ := hvm.2.2 _ _ hk
        rw [hk] at h1
        rw [Option.map_some] at h1
        rw [Option.bind_some, hk', Option.map_some, he, hvm.findClass]
        exact h1
theorem outer_arrV (c : ClassId) (N h0 : Nat) : ∀ i : Nat, i ≤ N → Multi.outerC c N h0 i = arrV c N (fun j => if j < i then .ref (h0 + 1 + j) else .null)
  | 0, _ => by
    show ({ cls := c, slots := Array.replicate N .null, vm := .none } : Cell) = _
    rw [arrV_new]
    rfl
  | i + 1, h => by
    show (Multi.outerC c N h0 i).setSlot i (.ref (h0 + 1 + i)) = _
    rw [outer_arrV c N h0 i (by omega), arrV_store]
    congr 1
    funext j
    by_cases e : j = i
    · subst e; simp [updV]
    · unfold updV
      rw [if_neg e]
      show (if j < i then Value.ref (h0 + 1 + j) else Value.null) = _
      by_cases e2 : j < i
      · rw [if_pos e2, if_pos (by omega)]
      · rw [if_neg e2, if_neg (by omega)]
section FR2
variable {p : Program} {l : Launch} {e : Env} {R : Room} {s : State} {m : MethodId} {args : Array Value} {below : List Frame} {meth : Method} {c : Code} {H : Heap} {locs : List Loc} {cells slots : Nat} {Q : State → Prop} {cc : ByteArray} {pc : Nat} {ls : Array Slot} {st : List Value} {G : GG} {s0 : State} {b0 : Nat}
/-- System.arraycopy(f, 0, g, 0, n), ints -/
theorem r_copy (Z : ZZ l G s0 b0) (hB : Born s0 s) (hx : p.tables.exec = Jvm.exec) (hb : c.code = cc) (hml : c.maxLocals = ls.size) (hts : ∀ w ∈ lw_all, w.before args s = true) {own : String} {index : Nat} (hown : s.vm.findClass own = some m.cls) (q : Cond.methodLink own index arraycopyName ∈ lw_all)
    {t a0 a n0 n1 n : Nat} {ty : FieldType} {f g : Nat → Int} {z0 z1 zn : Int} {A : Nat → Prop} {H0 : Heap} (ht : (tysG G.2)[t]? = some (G.2 t, ty)) (hprim : refKind ty = false) (hf : IA G t a0 n0 f H) (hg : IA G t a n1 g H) (hS : va_S A H0 H locs) (hAa : A a) (e0 : z0 = 0) (e1 : z1 = 0) (en : zn = (n : Int)) (hn : n < 2147483648) (h4 : n ≤ n0) (h5 : n ≤ n1) (hfit : ∀ i, i < n → fits ty (.int (iI (f i))) = true)
    (hframes : 1 ≤ R.frames) (hlocals : (st.map fun v => v.category).sum + (nativeFrameWords "java/lang/System" "arraycopy" 5 + 11) ≤ R.locals) (d : decode cc pc = .ok (.invokestatic index, 3))
    (PW : Heap → Prop) (hw : ∀ H1 : Heap, H1.size = H.size → (∀ q : Nat, q ≠ a → H1[q]? = H[q]?) → IA G t a n1 (fun j => if j < n then f j else g j) H1 → PW H1)
    (kk : ∀ (H1 : Heap) (locs1 : List Loc), PW H1 → va_S A H0 H1 locs1 → W p l e R s m args below meth c H1 locs1 cells slots Q (F0 m (pc + 3) ls (st))) : W p l e R s m args below meth c H locs cells slots Q (F0 m (pc) ls (.int (iI zn) :: .int (iI z1) :: .ref a :: .int (iI z0) :: .ref a0 :: st)) := by
  subst e0; subst e1; subst en
  have hK := hB.K Z
  intro T hT X
  have hc0 : H[a0]? = some (vp_cell (G.2 t) (n0, .inl (fun j => iI (f j)))) := hf
  have hc1 : H[a]? = some (vp_cell (G.2 t) (n1, .inl (fun j => iI (g j)))) := hg
  obtain ⟨-, k0, hk0, cm0, hkk0⟩ := (hK.2 t _ ht).1 n0 (fun j => .int (iI (f j)))
  obtain ⟨-, k1, hk1, cm1, hkk1⟩ := (hK.2 t _ ht).1 n1 (fun j => .int (iI (g j)))
  have ez : (iI 0).toNatClampNeg = 0 := rfl
  have enn : (iI (n : Int)).toNatClampNeg = n := iI_cl rfl hn
  have etn : (iI (n : Int)).toInt = (n : Int) := iI_toInt ⟨by omega, by omega⟩
  have et0 : (iI 0).toInt = 0 := rfl
  obtain ⟨vm', X', step⟩ := X.arraycopy hx hown (hts _ q) (hts _ q120) (hts _ q119) (hts _ q84) (src := a0) (dst := a) (cs := vp_cell (G.2 t) (n0, .inl (fun j => iI (f j)))) (cd := vp_cell (G.2 t) (n1, .inl (fun j => iI (g j)))) (srcPos := iI 0) (destPos := iI 0) (n := iI (n : Int)) (by rw [hT]; exact hc0) (by rw [hT]; exact hc1)
    (fun _ h => by cases h) (fun _ h => by cases h) (fun h => by cases h) (fun h => by cases h) hk0 hk1 hkk0 hkk1 (by simp [hprim]) (by decide) (by decide) (by rw [← iI_0, iI_lt ⟨by omega, by omega⟩ inR_0]; omega)
    (by rw [et0, etn]; show ¬ _ > ((arrV (G.2 t) n0 _).slots.size : Int); rw [arrV_size]; omega)
    (by rw [et0, etn]; show ¬ _ > ((arrV (G.2 t) n1 _).slots.size : Int); rw [arrV_size]; omega)
    (fun vm₁ _ i hi => by
      rw [enn] at hi
      have e9 : (vp_cell (G.2 t) (n0, .inl (fun j => iI (f j)))).slots.getD ((iI 0).toNatClampNeg + i) .null = .int (iI (f i)) := by
        rw [ez, Nat.zero_add]
        show (arrV (G.2 t) n0 (fun j => .int (iI (f j)))).slots.getD _ _ = _
        rw [Array.getD_eq_getD_getElem?, arrV_read _ _ (by omega)]
        rfl
      refine ⟨?_, ?_⟩
      · rw [e9]; exact hfit i hi
      · rw [e9]; exact trivial)
    (g := F0 m pc ls (.int (iI (n : Int)) :: .int (iI 0) :: .ref a :: .int (iI 0) :: .ref a0 :: st)) rfl (by rw [hml]) (rest := st) rfl (by rw [hb]; exact d) hframes (by show 2 * 0 + _ + _ ≤ _; omega)
  have e1 : copied (vp_cell (G.2 t) (n0, .inl (fun j => iI (f j)))) (vp_cell (G.2 t) (n1, .inl (fun j => iI (g j)))) (iI 0) (iI 0) (iI (n : Int)) = vp_cell (G.2 t) (n1, .inl (va_cpy (fun j => iI (f j)) (fun j => iI (g j)) (iI 0).toNatClampNeg (iI 0).toNatClampNeg (iI (n : Int)).toNatClampNeg)) := va_copied (fun z => .int z) (G.2 t) (G.2 t) (fun j => iI (f j)) (fun j => iI (g j)) (by rw [ez, enn]; omega)
  rw [e1, ez, enn] at X' step
  have hl : a < H.size := (Array.getElem?_eq_some_iff.mp hc1).1
  have hcell : va_cpy (fun j => iI (f j)) (fun j => iI (g j)) 0 0 n = fun j => iI (if j < n then f j else g j) := by
    funext j
    by_cases h : j < n
    · simp [va_cpy, h]
    · simp [va_cpy, h]
  rw [hcell] at X' step
  have oq : ∀ q : Nat, q ≠ a → (H.setIfInBounds a (vp_cell (G.2 t) (n1, .inl (fun j => iI (if j < n then f j else g j)))))[q]? = H[q]? := fun q hq => by simp [Array.getElem?_setIfInBounds, Ne.symm hq]
  have hheap : ((T.setVm vm').setCell a (vp_cell (G.2 t) (n1, .inl (fun j => iI (if j < n then f j else g j))))).heap = H.setIfInBounds a (vp_cell (G.2 t) (n1, .inl (fun j => iI (if j < n then f j else g j)))) := by rw [← hT]; rfl
  obtain ⟨t2, a1, b1⟩ := kk _ _ (hw _ (by simp) oq (show (H.setIfInBounds a _)[a]? = some _ by simp [Array.getElem?_setIfInBounds, hl])) ⟨by simp; exact hS.1, fun q g1 g2 => by
      rw [oq q (fun e => g2 (by rw [e]; exact hAa))]
      exact hS.2.1 q g1 g2, fun q hq => by
      rcases List.mem_append.mp hq with h | h
      · exact hS.2.2 q h
      · obtain ⟨z, -, hz⟩ := List.mem_map.mp h
        rw [← hz]
        exact hAa⟩ _ hheap X'
  exact ⟨t2, step t2 a1, b1⟩
/-- new int[n][k] -/
theorem r_multi (Z : ZZ l G s0 b0) (hB : Born s0 s) (hx : p.tables.exec = Jvm.exec) (hb : c.code = cc) (hts : ∀ w ∈ lw_all, w.before args s = true) {own : String} {index : Nat} (hown : s.vm.findClass own = some m.cls) (q : Cond.classLink own index "[[I" ∈ lw_all)
    {n k : Nat} {zn zk : Int} (en : zn = (n : Int)) (ek : zk = (k : Int)) (hn : n < 1000) (hk : k < 1000) (hcells : cells + (1 + n) ≤ R.cells) (hslots : slots + (n + n * k) ≤ R.slots) (d : decode cc pc = .ok (.multianewarray index 2, 4))
    (kk : ∀ H1 : Heap, H1.size = H.size + 1 + n → (∀ q : Nat, q < H.size → H1[q]? = H[q]?) → QA G 1 H.size n (fun i => some (H.size + 1 + i)) H1 → (∀ i : Nat, i < n → IA G 0 (H.size + 1 + i) k (fun _ => 0) H1) → W p l e R s m args below meth c H1 locs (cells+1+n) (slots+n+n*k) Q (F0 m (pc + 4) ls (.ref H.size :: st))) : W p l e R s m args below meth c H locs cells slots Q (F0 m (pc) ls (.int (iI zk) :: .int (iI zn) :: st)) := by
  subst en; subst ek
  have hK := hB.K Z
  have enn : (iI (n : Int)).toNatClampNeg = n := iI_cl rfl (by omega)
  have ekk : (iI (k : Int)).toNatClampNeg = k := iI_cl rfl (by omega)
  intro T hT X
  obtain ⟨vm₁, cA, comp, hW1, hfA, hfC, hO, hI, X1, step⟩ := X.multianewarray2F hx (own := own) (index := index) (ty := .int) hown (hts _ q) (ao_moved hB.1.alike (Z.2.1 _ q136)) (hts _ q176)
    (g := F0 m pc ls (.int (iI (k : Int)) :: .int (iI (n : Int)) :: st)) rfl (by rw [hb]; exact d) (n := iI (n : Int)) (k := iI (k : Int)) (rest := st) rfl (by rw [← iI_0, iI_lt ⟨by omega, by omega⟩ inR_0]; omega) (by rw [← iI_0, iI_lt ⟨by omega, by omega⟩ inR_0]; omega)
    (by rw [enn]; omega) (by rw [ekk]; show k * 4 ≤ _; omega) (by rw [ekk]; omega) rfl rfl (by rw [enn]; exact hcells) (by rw [enn, ekk]; exact hslots)
  rw [enn, ekk] at X1 step
  have eA : cA = G.2 1 := Option.some.inj (hfA.symm.trans (hK.2 1 _ rfl).2)
  have eC : comp = G.2 0 := Option.some.inj (hfC.symm.trans (hK.2 0 _ rfl).2)
  subst eA; subst eC
  obtain ⟨f1, f2, f3, f4⟩ := Multi.fill_facts (T.setVm vm₁) (G.2 1) (G.2 0) n k (defaultValue .int) n
  obtain ⟨o1, o2, o3⟩ := Multi.outerC_facts (G.2 1) n (T.setVm vm₁).heap.size n
  have hsz : (T.setVm vm₁).heap.size = H.size := by show T.heap.size = _; rw [hT]
  have hH : (T.setVm vm₁).heap = H := hT
  have go := kk (Multi.fill (T.setVm vm₁) (G.2 1) (G.2 0) n k (defaultValue .int) n).heap (by rw [f1, hsz]) (fun q hq => by
      rw [Multi.fill_old (T.setVm vm₁) (G.2 1) (G.2 0) _ _ _ (by rw [hsz]; exact hq), hH]) (by
      unfold QA
      rw [← hsz, f2, vp_cell_q, outer_arrV _ _ _ _ (Nat.le_refl n)]
      exact congrArg some (arrV_congr (fun j hj => if_pos hj))) (fun i hi => by
      unfold IA
      rw [← hsz, Multi.fill_inner (T.setVm vm₁) (G.2 1) (G.2 0) n k (defaultValue .int) n i hi]
      exact congrArg some (arrV_new (G.2 0) k (.int 0)))
  have go2 := go _ rfl X1
  rw [hT] at step
  obtain ⟨t2, a1, b1⟩ := go2
  exact ⟨t2, step t2 a1, b1⟩
end FR2
section FWR
variable {G : GG} {ad : Nat → Nat} {F F' : Nat → Int} {H H1 : Heap} {s0 : State}
theorem FW.rowI (h : FW G ad F H) (hI : Own s0 ad 20) {i : Nat} (hi : i < 5) {g : Nat → Int} (oq : ∀ q : Nat, q ≠ ad (2 + i) → H1[q]? = H[q]?) (ha : IA G 0 (ad (2 + i)) 2 g H1) (e1 : ∀ j : Nat, j < 2 → F' (2 * i + j) = g j) (e2 : ∀ k : Nat, (k < 57 ∨ k = 76) → (k < 2 * i ∨ 2 * i + 2 ≤ k) → F' k = F k) : FW G ad F' H1 := by
  have o := FW.oq hI (c := 2 + i) (by omega) oq
  obtain ⟨h1, h2, h3, h4, h5, h6, h7⟩ := h
  refine ⟨?_, h2.kept (o 1 (by omega) (by omega)), fun x hx => ?_, h4.kept (o 7 (by omega) (by omega)), fun x hx => ((h5 x hx).kept (o _ (by omega) (by omega))).to (fun j hj => (e2 _ (by omega) (by omega)).symm), h6.kept (o 13 (by omega) (by omega)), fun x hx => ((h7 x hx).kept (o _ (by omega) (by omega))).to (fun j hj => (e2 _ (by omega) (by omega)).symm)⟩
  · rw [e2 76 (by omega) (by omega), e2 53 (by omega) (by omega), e2 54 (by omega) (by omega), e2 55 (by omega) (by omega), e2 56 (by omega) (by omega)]
    exact h1.kept (o 0 (by omega) (by omega))
  · by_cases e : x = i
    · subst e
      exact ha.to (fun j hj => (e1 j hj).symm)
    · exact ((h3 x hx).kept (o _ (by omega) (by omega))).to (fun j hj => (e2 _ (by omega) (by omega)).symm)
theorem FW.rowC (h : FW G ad F H) (hI : Own s0 ad 20) {i : Nat} (hi : i < 5) {g : Nat → Int} (oq : ∀ q : Nat, q ≠ ad (8 + i) → H1[q]? = H[q]?) (ha : IA G 0 (ad (8 + i)) 5 g H1) (e1 : ∀ j : Nat, j < 5 → F' (10 + 5 * i + j) = g j) (e2 : ∀ k : Nat, (k < 57 ∨ k = 76) → (k < 10 + 5 * i ∨ 10 + 5 * i + 5 ≤ k) → F' k = F k) : FW G ad F' H1 := by
  have o := FW.oq hI (c := 8 + i) (by omega) oq
  obtain ⟨h1, h2, h3, h4, h5, h6, h7⟩ := h
  refine ⟨?_, h2.kept (o 1 (by omega) (by omega)), fun x hx => ((h3 x hx).kept (o _ (by omega) (by omega))).to (fun j hj => (e2 _ (by omega) (by omega)).symm), h4.kept (o 7 (by omega) (by omega)), fun x hx => ?_, h6.kept (o 13 (by omega) (by omega)), fun x hx => ((h7 x hx).kept (o _ (by omega) (by omega))).to (fun j hj => (e2 _ (by omega) (by omega)).symm)⟩
  · rw [e2 76 (by omega) (by omega), e2 53 (by omega) (by omega), e2 54 (by omega) (by omega), e2 55 (by omega) (by omega), e2 56 (by omega) (by omega)]
    exact h1.kept (o 0 (by omega) (by omega))
  · by_cases e : x = i
    · subst e
      exact ha.to (fun j hj => (e1 j hj).symm)
    · exact ((h5 x hx).kept (o _ (by omega) (by omega))).to (fun j hj => (e2 _ (by omega) (by omega)).symm)
theorem FW.rowR (h : FW G ad F H) (hI : Own s0 ad 20) {i : Nat} (hi : i < 6) {g : Nat → Int} (oq : ∀ q : Nat, q ≠ ad (14 + i) → H1[q]? = H[q]?) (ha : IA G 0 (ad (14 + i)) 3 g H1) (e1 : ∀ j : Nat, j < 3 → F' (35 + 3 * i + j) = g j) (e2 : ∀ k : Nat, (k < 57 ∨ k = 76) → (k < 35 + 3 * i ∨ 35 + 3 * i + 3 ≤ k) → F' k = F k) : FW G ad F' H1 := by
  have o := FW.oq hI (c := 14 + i) (by omega) oq
  obtain ⟨h1, h2, h3, h4, h5, h6, h7⟩ := h
  refine ⟨?_, h2.kept (o 1 (by omega) (by omega)), fun x hx => ((h3 x hx).kept (o _ (by omega) (by omega))).to (fun j hj => (e2 _ (by omega) (by omega)).symm), h4.kept (o 7 (by omega) (by omega)), fun x hx => ((h5 x hx).kept (o _ (by omega) (by omega))).to (fun j hj => (e2 _ (by omega) (by omega)).symm), h6.kept (o 13 (by omega) (by omega)), fun x hx => ?_⟩
  · rw [e2 76 (by omega) (by omega), e2 53 (by omega) (by omega), e2 54 (by omega) (by omega), e2 55 (by omega) (by omega), e2 56 (by omega) (by omega)]
    exact h1.kept (o 0 (by omega) (by omega))
  · by_cases e : x = i
    · subst e
      exact ha.to (fun j hj => (e1 j hj).symm)
    · exact ((h7 x hx).kept (o _ (by omega) (by omega))).to (fun j hj => (e2 _ (by omega) (by omega)).symm)
end FWR
/-- numbers of F2 as far as they were taken, else of F -/
def tk1 (F F2 : Nat → Int) (i k : Nat) : Int := if k < 2 * i then F2 k else if 10 ≤ k ∧ k < 10 + 5 * i then F2 k else F k
def tk2 (F F2 : Nat → Int) (i k : Nat) : Int := if k < 35 then F2 k else if k < 35 + 3 * i then F2 k else F k
