/-! THE MODEL: what stays when it was only asked -/
def SameM (T T' : Sta) : Prop := (∀ a : Nat, a ≠ 0 → a ≠ 2 → a ≠ 6 → a ≠ 7 → a ≠ 11 → T' a = T a) ∧ ∀ j : Nat, j ≠ 17 → j ≠ 18 → j ≠ 19 → j ≠ 20 → j ≠ 21 → T' 0 j = T 0 j
def MWx (G : GG) (B : Nat → Nat) (T : Sta) (H : Heap) : Prop := ∃ T' : Sta, SameM T T' ∧ MW G B T' H
theorem MW.x {G : GG} {B : Nat → Nat} {T T' : Sta} {H : Heap} (h : MW G B T' H) (e1 : ∀ a : Nat, a ≠ 0 → a ≠ 2 → a ≠ 6 → a ≠ 7 → a ≠ 11 → T' a = T a) (e2 : ∀ j : Nat, j ≠ 17 → j ≠ 18 → j ≠ 19 → j ≠ 20 → j ≠ 21 → T' 0 j = T 0 j) : MWx G B T H := ⟨T', ⟨e1, e2⟩, h⟩
theorem mdr_pos {kd s : Int} (hk : 0 ≤ kd ∧ kd ≤ 3) : 0 < mdr kd s ↔ 0 < s ∧ 0 < fathS kd (az s) := by
  unfold mdr fathS az
  (repeat' split) <;> omega
