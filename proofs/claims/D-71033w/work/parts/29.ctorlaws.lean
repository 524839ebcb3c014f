/-! pictures that speak of a run of addresses alone -/
def Lc (lo hi : Nat) (P : Heap → Prop) : Prop := ∀ H H1 : Heap, P H → (∀ q : Nat, lo ≤ q → q < hi → H1[q]? = H[q]?) → P H1
theorem Lc.true (lo hi : Nat) : Lc lo hi (fun _ => True) := fun _ _ _ _ => trivial
theorem Lc.and {lo hi a b c d : Nat} {P Q : Heap → Prop} (h : Lc a b P) (h2 : Lc c d Q) (h3 : lo ≤ a ∧ b ≤ hi ∧ lo ≤ c ∧ d ≤ hi) : Lc lo hi (fun H => P H ∧ Q H) :=
  fun H H1 hP hq => ⟨h H H1 hP.1 (fun q h1 h2 => hq q (by omega) (by omega)), h2 H H1 hP.2 (fun q h1 h2 => hq q (by omega) (by omega))⟩
theorem Lc.gr (G : GG) (b n k : Nat) : Lc b (b + 1 + n) (GR G b n k) := fun _ _ h hq => h.kept (fun x h1 h2 => hq x h1 (by omega))
theorem Lc.ia (G : GG) (t a n : Nat) (f : Nat → Int) : Lc a (a + 1) (IA G t a n f) := fun _ _ h hq => h.kept (hq a (by omega) (by omega))
theorem Lc.qa (G : GG) (t a n : Nat) (f : Nat → Option Nat) : Lc a (a + 1) (QA G t a n f) := fun _ _ h hq => h.kept (hq a (by omega) (by omega))
theorem Lc.obj (G : GG) (ci a : Nat) (fs : List Value) : Lc a (a + 1) (OBJ G ci a fs) := fun _ _ h hq => h.kept (hq a (by omega) (by omega))
theorem Lc.fw (G : GG) (b : Nat) (F : Nat → Int) : Lc b (b + 20) (FW G (adN b (b + 1)) F) := fun _ _ h hq => h.kept (fun k hk => by
  have e : adN b (b + 1) k = b + k := by unfold adN; split <;> omega
  rw [e]
  exact hq _ (by omega) (by omega))
theorem AA1 {b sz q : Nat} (h : q ≠ b) (h2 : q < sz) : ¬ AA (fun _ => b) 1 sz q := by
  rintro (⟨k, -, rfl⟩ | h3)
  · exact h rfl
  · omega
theorem AA1.le {a0 b sz sz2 : Nat} (hb : sz ≤ b) (h : sz ≤ sz2) : ∀ q, AA (fun _ => b) 1 sz2 q → AA (fun _ => a0) 1 sz q := by
  rintro q (⟨k, -, rfl⟩ | h3)
  · exact Or.inr hb
  · exact Or.inr (Nat.le_trans h h3)
theorem Own.one {s0 : State} {b : Nat} (h : s0.heap.size ≤ b) : Own s0 (fun _ => b) 1 := ⟨fun i j hi hj _ => by omega, fun _ _ => h⟩
theorem Lc.at {lo hi : Nat} {P : Heap → Prop} (h : Lc lo hi P) {H H1 : Heap} (hP : P H) (hq : ∀ q : Nat, lo ≤ q → q < hi → H1[q]? = H[q]?) : P H1 := h H H1 hP hq
