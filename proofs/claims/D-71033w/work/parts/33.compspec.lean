/-! WHAT THE COMPONENT ANSWERS AND BECOMES: the plain methods -/
abbrev okI (F : Nat → Int) (i : Int) : Prop := 0 ≤ i ∧ i ≤ F 76 - 1
abbrev okR (F : Nat → Int) (k : Int) : Prop := 0 ≤ k ∧ k ≤ F 53 - 1
abbrev ok2 (F : Nat → Int) (i j : Int) : Prop := okI F i ∧ okI F j ∧ i ≠ j
def spS (F : Nat → Int) : Int := max 0 (highS F (F 76).toNat - lowS F (F 76).toNat)
def ruleS (F : Nat → Int) (what : Int) : Int := if what = 0 then F 76 else if what = 1 then F 53 else if what = 2 then F 54 else if what = 3 then F 55 else if what = 4 then F 56 else if what = 5 then spS F else -1
def fathF (F : Nat → Int) (i : Nat) : Int := fathS (F (2 * i + 0)) (az (sulkS F i (F 76).toNat))
def isleS (F : Nat → Int) (i what : Int) : Int :=
  if ¬ okI F i then -1 else if what = 0 then F (2 * i.toNat + 0) else if what = 1 then F (2 * i.toNat + 1) else if what = 2 then ropesS F i.toNat (F 53).toNat else if what = 3 then fathF F i.toNat
  else if what = 4 then (if 0 < sulkS F i.toNat (F 76).toNat ∧ 0 < fathF F i.toNat then 1 else 0) else if what = 5 then nearS F i.toNat (F 76).toNat else -1
def crossS (F : Nat → Int) (i j : Int) : Int := if ok2 F i j then F (10 + 5 * i.toNat + j.toNat) else -1
def ropeS (F : Nat → Int) (k what : Int) : Int := if okR F k ∧ 0 ≤ what ∧ what ≤ 2 then F (35 + 3 * k.toNat + what.toNat) else -1
def farS (F : Nat → Int) (i j : Int) : Int := if ok2 F i j then apS F i.toNat j.toNat else -1
def lenS (F : Nat → Int) : Nat → Int
  | 0 => 0
  | k + 1 => lenS F k + F (35 + 3 * k + 2)
def rowS (F : Nat → Int) (i : Nat) : Nat → Int → Int
  | 0, a => a
  | j + 1, a => rowS F i j a + F (10 + 5 * i + j)
def crsS (F : Nat → Int) (n : Nat) : Nat → Int
  | 0 => 0
  | i + 1 => rowS F i n (crsS F n i)
/-- what of the component's is asked by count: many seen, kept, taped, the first sheet (-4: none) -/
def countS (S : Sta) (R : Nat → Option Nat) (what : Int) : Int :=
  if what = 0 then S 0 3 else if what = 1 then S 0 9 + S 0 10 else if what = 2 then S 0 0 else if what = 3 then (if R 0 = none then -4 else S 0 11) else if what = 4 then lenS (S 20) (S 20 53).toNat else if what = 5 then crsS (S 20) (S 20 76).toNat (S 20 76).toNat else -1
/-! what is changed: answer A.., then the numbers -/
def feedA (S : Sta) (c : Int) : Int := if ¬ (0 ≤ c ∧ c ≤ 127) then -1 else if S 0 0 = 160 then -3 else S 0 0 + 1
def feedT (S : Sta) (c : Int) : Sta := if ¬ (0 ≤ c ∧ c ≤ 127) ∨ S 0 0 = 160 then S else up (up S 0 (up (S 0) 0 (S 0 0 + 1))) 1 (up (S 1) (S 0 0).toNat c)
def endA (S : Sta) (n : Int) : Int := if ¬ (0 ≤ n ∧ n ≤ S 0 0) then -1 else S 0 0
def endT (S : Sta) (n : Int) : Sta := if ¬ (0 ≤ n ∧ n ≤ S 0 0) then S else up S 0 (up (S 0) 0 n)
abbrev okAlt (F : Nat → Int) (i what v : Int) : Prop := okI F i ∧ ((what = 0 ∧ 0 ≤ v ∧ v ≤ 3) ∨ (what = 1 ∧ 0 ≤ v ∧ v ≤ 99 ∧ (whoS F v (F 76).toNat 0 = -4 ∨ whoS F v (F 76).toNat 0 = i)))
def alterA (F : Nat → Int) (i what v : Int) : Int := if okAlt F i what v then F (2 * i.toNat + what.toNat) else -1
def alterF (F : Nat → Int) (i what v : Int) : Nat → Int := if okAlt F i what v then up F (2 * i.toNat + what.toNat) v else F
def sulkA (F : Nat → Int) (i j v : Int) : Int := if ok2 F i j ∧ 0 ≤ v ∧ v ≤ 3 then F (10 + 5 * i.toNat + j.toNat) else -1
def sulkF (F : Nat → Int) (i j v : Int) : Nat → Int := if ok2 F i j ∧ 0 ≤ v ∧ v ≤ 3 then up F (10 + 5 * i.toNat + j.toNat) v else F
def haulA (F : Nat → Int) (k v : Int) : Int := if okR F k ∧ 1 ≤ v ∧ v ≤ 30 then F (35 + 3 * k.toNat + 2) else -1
def haulF (F : Nat → Int) (k v : Int) : Nat → Int := if okR F k ∧ 1 ≤ v ∧ v ≤ 30 then up F (35 + 3 * k.toNat + 2) v else F
def wedA (F : Nat → Int) (i j n : Int) : Int := if ¬ (ok2 F i j ∧ 1 ≤ n ∧ n ≤ 30) then -1 else if F 53 = 6 then -3 else F 53 + 1
def wedF (F : Nat → Int) (i j n : Int) : Nat → Int := if ¬ (ok2 F i j ∧ 1 ≤ n ∧ n ≤ 30) ∨ F 53 = 6 then F else wedS F i j n
def looseA (F : Nat → Int) (n : Int) : Int := if 0 ≤ n ∧ n ≤ F 53 then F 53 else -1
def looseF (F : Nat → Int) (n : Int) : Nat → Int := if 0 ≤ n ∧ n ≤ F 53 then up F 53 n else F
def feastA (F : Nat → Int) (v : Int) : Int := if 0 ≤ v ∧ v ≤ 6 then F 55 else -1
def feastF (F : Nat → Int) (v : Int) : Nat → Int := if 0 ≤ v ∧ v ≤ 6 then up F 55 v else F
abbrev okSee (F : Nat → Int) (n i v : Int) : Prop := (0 ≤ n ∧ n ≤ 20) ∧ okI F i ∧ 0 ≤ v ∧ v ≤ 99
def seeA (S : Sta) (n i v : Int) : Int := if ¬ okSee (S 20) n i v then -1 else if S 0 3 = 6 then -3 else S 0 3 + 1
def seeR (t : Nat → Int) (k : Nat) (n i v : Int) : Nat → Int := up (up (up t (3 * k + 0) n) (3 * k + 1) i) (3 * k + 2) v
def seeT (S : Sta) (n i v : Int) : Sta := if ¬ okSee (S 20) n i v ∨ S 0 3 = 6 then S else up (up S 0 (up (S 0) 3 (S 0 3 + 1))) 2 (seeR (S 2) (S 0 3).toNat n i v)
def forgetA (S : Sta) (n : Int) : Int := if 0 ≤ n ∧ n ≤ S 0 3 then S 0 3 else -1
def forgetT (S : Sta) (n : Int) : Sta := if 0 ≤ n ∧ n ≤ S 0 3 then up S 0 (up (S 0) 3 n) else S
def movS (F F1 : Nat → Int) : Nat → Int
  | 0 => 0
  | i + 1 => movS F F1 i + (if F1 (2 * i + 1) = F (2 * i + 1) then 0 else 1)
theorem up_self20 (S : Sta) : up S 20 (S 20) = S := up_id S 20
