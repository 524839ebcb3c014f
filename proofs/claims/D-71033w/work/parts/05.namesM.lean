/-! TemperIslesModel -/
set_option maxRecDepth 100000
def RX4 : String := "TemperIslesModel"
def TX4 : u_T := fun k => match k with
  | 0 => ("TemperIslesModel", "st", "[I", true)
  | 1 => ("TemperIslesModel", "now", "[I", true)
  | 2 => ("TemperIslesModel", "isKept", "[Z", true)
  | 3 => ("TemperIslesModel", "isles", "I", false)
  | 4 => ("TemperIslesModel", "draft", "[I", true)
  | 5 => ("TemperIslesModel", "dIsles", "I", false)
  | 6 => ("TemperIslesModel", "hasFeast", "Z", false)
  | 7 => ("TemperIslesModel", "toldCross", "I", false)
  | 8 => ("TemperIslesModel", "highest", "I", false)
  | 9 => ("TemperIslesModel", "tape", "[I", true)
  | 10 => ("TemperIslesModel", "taped", "I", false)
  | 11 => ("TemperIslesModel", "pos", "I", false)
  | 12 => ("TemperIslesModel", "begun", "I", false)
  | 13 => ("TemperIslesModel", "sort", "I", false)
  | 14 => ("TemperIslesModel", "value", "I", false)
  | 15 => ("TemperIslesModel", "fault", "I", false)
  | 16 => ("TemperIslesModel", "wrongAt", "I", false)
  | 17 => ("TemperIslesModel", "bestCode", "I", false)
  | 18 => ("TemperIslesModel", "bestMuch", "I", false)
  | 19 => ("TemperIslesModel", "nearSum", "J", false)
  | 20 => ("TemperIslesModel", "spreadSum", "J", false)
  | 21 => ("TemperIslesModel", "allWays", "J", false)
  | 22 => ("TemperIslesModel", "were", "[I", true)
  | 23 => ("TemperIslesModel", "byKind", "[I", true)
  | 24 => ("TemperIslesModel", "lanes", "[I", true)
  | 25 => ("TemperIslesModel", "sizes", "[I", true)
  | 26 => ("TemperIslesModel", "cells", "[I", true)
  | 27 => ("TemperIslesModel", "torn", "I", false)
  | _ => ("TemperIslesModel", "before", "[I", true)
def tyX4 : Nat → FieldType := fun k => match k with
  | 0 => .array .int
  | 1 => .array .int
  | 2 => .array .boolean
  | 3 => .int
  | 4 => .array .int
  | 5 => .int
  | 6 => .boolean
  | 7 => .int
  | 8 => .int
  | 9 => .array .int
  | 10 => .int
  | 11 => .int
  | 12 => .int
  | 13 => .int
  | 14 => .int
  | 15 => .int
  | 16 => .int
  | 17 => .int
  | 18 => .int
  | 19 => .long
  | 20 => .long
  | 21 => .long
  | 22 => .array .int
  | 23 => .array .int
  | 24 => .array .int
  | 25 => .array .int
  | 26 => .array .int
  | 27 => .int
  | _ => .array .int
abbrev wsX40 : List Cond := u_ws RX4 TX4 29
set_option maxRecDepth 100000 in
theorem nmX4 : ∀ a, a < 29 → ∀ b, b < 29 → a ≠ b → (TX4 a).2.1 ≠ (TX4 b).2.1 := by decide +kernel
set_option maxRecDepth 100000 in
theorem tyX4_ok : ∀ k, k < 29 → parseFieldDescriptor (TX4 k).2.2.1 = some (tyX4 k) := by decide +kernel
abbrev cX4_init : ByteArray := prog_12_method_1_code
def yX4_init : MethodName := ⟨RX4, "<init>", "()V"⟩
def dkwX4_init_5 : List UInt8 := [42, 182, 0, 47, 177]
abbrev dktX4_init_5 : List UInt8 := dkwX4_init_5 ++ []
def dkwX4_init_4 : List UInt8 := [60, 27, 7, 162, 0, 17, 42, 180, 0, 32, 27, 16, 252, 79, 132, 1, 1, 167, 255, 240, 42, 182, 0, 44]
abbrev dktX4_init_4 : List UInt8 := dkwX4_init_4 ++ dktX4_init_5
def dkwX4_init_3 : List UInt8 := [7, 188, 10, 181, 0, 35, 42, 17, 0, 160, 188, 10, 181, 0, 38, 42, 16, 76, 188, 10, 181, 0, 41, 3]
abbrev dktX4_init_3 : List UInt8 := dkwX4_init_3 ++ dktX4_init_4
def dkwX4_init_2 : List UInt8 := [16, 105, 188, 10, 181, 0, 26, 42, 17, 1, 164, 188, 10, 181, 0, 29, 42, 7, 188, 10, 181, 0, 32, 42]
abbrev dktX4_init_2 : List UInt8 := dkwX4_init_2 ++ dktX4_init_3
def dkwX4_init_1 : List UInt8 := [188, 4, 181, 0, 16, 42, 16, 76, 188, 10, 181, 0, 20, 42, 17, 0, 160, 188, 10, 181, 0, 23, 42]
abbrev dktX4_init_1 : List UInt8 := dkwX4_init_1 ++ dktX4_init_2
def dkwX4_init_0 : List UInt8 := [42, 183, 0, 1, 42, 17, 0, 228, 188, 10, 181, 0, 7, 42, 16, 76, 188, 10, 181, 0, 13, 42, 5]
abbrev dktX4_init_0 : List UInt8 := dkwX4_init_0 ++ dktX4_init_1
theorem dksX4_init_0 : cX4_init.data.toList.drop 0 = dktX4_init_0 := by decide +kernel
theorem dksX4_init_1 : cX4_init.data.toList.drop 23 = dktX4_init_1 := dk_seg dksX4_init_0 23 rfl rfl
theorem dksX4_init_2 : cX4_init.data.toList.drop 46 = dktX4_init_2 := dk_seg dksX4_init_1 23 rfl rfl
theorem dksX4_init_3 : cX4_init.data.toList.drop 70 = dktX4_init_3 := dk_seg dksX4_init_2 24 rfl rfl
theorem dksX4_init_4 : cX4_init.data.toList.drop 94 = dktX4_init_4 := dk_seg dksX4_init_3 24 rfl rfl
theorem dksX4_init_5 : cX4_init.data.toList.drop 118 = dktX4_init_5 := dk_seg dksX4_init_4 24 rfl rfl
theorem dX4_init_0 : decode cX4_init 0 = .ok (.aload_n 0, 1) := dk_42 (dk_at dksX4_init_0 0 rfl rfl)
theorem dX4_init_1 : decode cX4_init 1 = .ok (.invokespecial 1, 3) := dk_183 0 1 (dk_at dksX4_init_0 1 rfl rfl)
theorem dX4_init_4 : decode cX4_init 4 = .ok (.aload_n 0, 1) := dk_42 (dk_at dksX4_init_0 4 rfl rfl)
theorem dX4_init_5 : decode cX4_init 5 = .ok (.sipush 228, 3) := dk_17 0 228 (dk_at dksX4_init_0 5 rfl rfl)
theorem dX4_init_8 : decode cX4_init 8 = .ok (.newarray .int, 2) := dk_188_10 (dk_at dksX4_init_0 8 rfl rfl)
theorem dX4_init_10 : decode cX4_init 10 = .ok (.putfield 7, 3) := dk_181 0 7 (dk_at dksX4_init_0 10 rfl rfl)
theorem dX4_init_13 : decode cX4_init 13 = .ok (.aload_n 0, 1) := dk_42 (dk_at dksX4_init_0 13 rfl rfl)
theorem dX4_init_14 : decode cX4_init 14 = .ok (.bipush 76, 2) := dk_16 76 (dk_at dksX4_init_0 14 rfl rfl)
theorem dX4_init_16 : decode cX4_init 16 = .ok (.newarray .int, 2) := dk_188_10 (dk_at dksX4_init_0 16 rfl rfl)
theorem dX4_init_18 : decode cX4_init 18 = .ok (.putfield 13, 3) := dk_181 0 13 (dk_at dksX4_init_0 18 rfl rfl)
theorem dX4_init_21 : decode cX4_init 21 = .ok (.aload_n 0, 1) := dk_42 (dk_at dksX4_init_0 21 rfl rfl)
theorem dX4_init_22 : decode cX4_init 22 = .ok (.iconst 2, 1) := dk_5 (dk_at dksX4_init_0 22 rfl rfl)
theorem dX4_init_23 : decode cX4_init 23 = .ok (.newarray .boolean, 2) := dk_188_4 (dk_at dksX4_init_1 0 rfl rfl)
theorem dX4_init_25 : decode cX4_init 25 = .ok (.putfield 16, 3) := dk_181 0 16 (dk_at dksX4_init_1 2 rfl rfl)
theorem dX4_init_28 : decode cX4_init 28 = .ok (.aload_n 0, 1) := dk_42 (dk_at dksX4_init_1 5 rfl rfl)
theorem dX4_init_29 : decode cX4_init 29 = .ok (.bipush 76, 2) := dk_16 76 (dk_at dksX4_init_1 6 rfl rfl)
theorem dX4_init_31 : decode cX4_init 31 = .ok (.newarray .int, 2) := dk_188_10 (dk_at dksX4_init_1 8 rfl rfl)
theorem dX4_init_33 : decode cX4_init 33 = .ok (.putfield 20, 3) := dk_181 0 20 (dk_at dksX4_init_1 10 rfl rfl)
theorem dX4_init_36 : decode cX4_init 36 = .ok (.aload_n 0, 1) := dk_42 (dk_at dksX4_init_1 13 rfl rfl)
theorem dX4_init_37 : decode cX4_init 37 = .ok (.sipush 160, 3) := dk_17 0 160 (dk_at dksX4_init_1 14 rfl rfl)
theorem dX4_init_40 : decode cX4_init 40 = .ok (.newarray .int, 2) := dk_188_10 (dk_at dksX4_init_1 17 rfl rfl)
theorem dX4_init_42 : decode cX4_init 42 = .ok (.putfield 23, 3) := dk_181 0 23 (dk_at dksX4_init_1 19 rfl rfl)
theorem dX4_init_45 : decode cX4_init 45 = .ok (.aload_n 0, 1) := dk_42 (dk_at dksX4_init_1 22 rfl rfl)
theorem dX4_init_46 : decode cX4_init 46 = .ok (.bipush 105, 2) := dk_16 105 (dk_at dksX4_init_2 0 rfl rfl)
theorem dX4_init_48 : decode cX4_init 48 = .ok (.newarray .int, 2) := dk_188_10 (dk_at dksX4_init_2 2 rfl rfl)
theorem dX4_init_50 : decode cX4_init 50 = .ok (.putfield 26, 3) := dk_181 0 26 (dk_at dksX4_init_2 4 rfl rfl)
theorem dX4_init_53 : decode cX4_init 53 = .ok (.aload_n 0, 1) := dk_42 (dk_at dksX4_init_2 7 rfl rfl)
theorem dX4_init_54 : decode cX4_init 54 = .ok (.sipush 420, 3) := dk_17 1 164 (dk_at dksX4_init_2 8 rfl rfl)
theorem dX4_init_57 : decode cX4_init 57 = .ok (.newarray .int, 2) := dk_188_10 (dk_at dksX4_init_2 11 rfl rfl)
theorem dX4_init_59 : decode cX4_init 59 = .ok (.putfield 29, 3) := dk_181 0 29 (dk_at dksX4_init_2 13 rfl rfl)
theorem dX4_init_62 : decode cX4_init 62 = .ok (.aload_n 0, 1) := dk_42 (dk_at dksX4_init_2 16 rfl rfl)
theorem dX4_init_63 : decode cX4_init 63 = .ok (.iconst 4, 1) := dk_7 (dk_at dksX4_init_2 17 rfl rfl)
theorem dX4_init_64 : decode cX4_init 64 = .ok (.newarray .int, 2) := dk_188_10 (dk_at dksX4_init_2 18 rfl rfl)
theorem dX4_init_66 : decode cX4_init 66 = .ok (.putfield 32, 3) := dk_181 0 32 (dk_at dksX4_init_2 20 rfl rfl)
theorem dX4_init_69 : decode cX4_init 69 = .ok (.aload_n 0, 1) := dk_42 (dk_at dksX4_init_2 23 rfl rfl)
theorem dX4_init_70 : decode cX4_init 70 = .ok (.iconst 4, 1) := dk_7 (dk_at dksX4_init_3 0 rfl rfl)
theorem dX4_init_71 : decode cX4_init 71 = .ok (.newarray .int, 2) := dk_188_10 (dk_at dksX4_init_3 1 rfl rfl)
theorem dX4_init_73 : decode cX4_init 73 = .ok (.putfield 35, 3) := dk_181 0 35 (dk_at dksX4_init_3 3 rfl rfl)
theorem dX4_init_76 : decode cX4_init 76 = .ok (.aload_n 0, 1) := dk_42 (dk_at dksX4_init_3 6 rfl rfl)
theorem dX4_init_77 : decode cX4_init 77 = .ok (.sipush 160, 3) := dk_17 0 160 (dk_at dksX4_init_3 7 rfl rfl)
theorem dX4_init_80 : decode cX4_init 80 = .ok (.newarray .int, 2) := dk_188_10 (dk_at dksX4_init_3 10 rfl rfl)
theorem dX4_init_82 : decode cX4_init 82 = .ok (.putfield 38, 3) := dk_181 0 38 (dk_at dksX4_init_3 12 rfl rfl)
theorem dX4_init_85 : decode cX4_init 85 = .ok (.aload_n 0, 1) := dk_42 (dk_at dksX4_init_3 15 rfl rfl)
theorem dX4_init_86 : decode cX4_init 86 = .ok (.bipush 76, 2) := dk_16 76 (dk_at dksX4_init_3 16 rfl rfl)
theorem dX4_init_88 : decode cX4_init 88 = .ok (.newarray .int, 2) := dk_188_10 (dk_at dksX4_init_3 18 rfl rfl)
theorem dX4_init_90 : decode cX4_init 90 = .ok (.putfield 41, 3) := dk_181 0 41 (dk_at dksX4_init_3 20 rfl rfl)
theorem dX4_init_93 : decode cX4_init 93 = .ok (.iconst 0, 1) := dk_3 (dk_at dksX4_init_3 23 rfl rfl)
theorem dX4_init_94 : decode cX4_init 94 = .ok (.istore_n 1, 1) := dk_60 (dk_at dksX4_init_4 0 rfl rfl)
theorem dX4_init_95 : decode cX4_init 95 = .ok (.iload_n 1, 1) := dk_27 (dk_at dksX4_init_4 1 rfl rfl)
theorem dX4_init_96 : decode cX4_init 96 = .ok (.iconst 4, 1) := dk_7 (dk_at dksX4_init_4 2 rfl rfl)
theorem dX4_init_97 : decode cX4_init 97 = .ok (.if_icmp .ge 17, 3) := dk_162 0 17 (dk_at dksX4_init_4 3 rfl rfl)
theorem dX4_init_100 : decode cX4_init 100 = .ok (.aload_n 0, 1) := dk_42 (dk_at dksX4_init_4 6 rfl rfl)
theorem dX4_init_101 : decode cX4_init 101 = .ok (.getfield 32, 3) := dk_180 0 32 (dk_at dksX4_init_4 7 rfl rfl)
theorem dX4_init_104 : decode cX4_init 104 = .ok (.iload_n 1, 1) := dk_27 (dk_at dksX4_init_4 10 rfl rfl)
theorem dX4_init_105 : decode cX4_init 105 = .ok (.bipush (-4), 2) := dk_16 252 (dk_at dksX4_init_4 11 rfl rfl)
theorem dX4_init_107 : decode cX4_init 107 = .ok (.iastore, 1) := dk_79 (dk_at dksX4_init_4 13 rfl rfl)
theorem dX4_init_108 : decode cX4_init 108 = .ok (.iinc 1 1, 3) := dk_132 1 1 (dk_at dksX4_init_4 14 rfl rfl)
theorem dX4_init_111 : decode cX4_init 111 = .ok (.goto (-16), 3) := dk_167 255 240 (dk_at dksX4_init_4 17 rfl rfl)
theorem dX4_init_114 : decode cX4_init 114 = .ok (.aload_n 0, 1) := dk_42 (dk_at dksX4_init_4 20 rfl rfl)
theorem dX4_init_115 : decode cX4_init 115 = .ok (.invokevirtual 44, 3) := dk_182 0 44 (dk_at dksX4_init_4 21 rfl rfl)
theorem dX4_init_118 : decode cX4_init 118 = .ok (.aload_n 0, 1) := dk_42 (dk_at dksX4_init_5 0 rfl rfl)
theorem dX4_init_119 : decode cX4_init 119 = .ok (.invokevirtual 47, 3) := dk_182 0 47 (dk_at dksX4_init_5 1 rfl rfl)
theorem dX4_init_122 : decode cX4_init 122 = .ok (.return_, 1) := dk_177 (dk_at dksX4_init_5 4 rfl rfl)
abbrev cX4_firstDraft : ByteArray := prog_12_method_7_code
def yX4_firstDraft : MethodName := ⟨RX4, "firstDraft", "()V"⟩
def dkwX4_firstDraft_1 : List UInt8 := [181, 0, 50, 42, 3, 181, 0, 54, 42, 3, 181, 0, 58, 42, 16, 252, 181, 0, 61, 177]
abbrev dktX4_firstDraft_1 : List UInt8 := dkwX4_firstDraft_1 ++ []
def dkwX4_firstDraft_0 : List UInt8 := [3, 60, 27, 16, 76, 162, 0, 16, 42, 180, 0, 20, 27, 3, 79, 132, 1, 1, 167, 255, 240, 42, 3]
abbrev dktX4_firstDraft_0 : List UInt8 := dkwX4_firstDraft_0 ++ dktX4_firstDraft_1
theorem dksX4_firstDraft_0 : cX4_firstDraft.data.toList.drop 0 = dktX4_firstDraft_0 := by decide +kernel
theorem dksX4_firstDraft_1 : cX4_firstDraft.data.toList.drop 23 = dktX4_firstDraft_1 := dk_seg dksX4_firstDraft_0 23 rfl rfl
theorem dX4_firstDraft_0 : decode cX4_firstDraft 0 = .ok (.iconst 0, 1) := dk_3 (dk_at dksX4_firstDraft_0 0 rfl rfl)
theorem dX4_firstDraft_1 : decode cX4_firstDraft 1 = .ok (.istore_n 1, 1) := dk_60 (dk_at dksX4_firstDraft_0 1 rfl rfl)
theorem dX4_firstDraft_2 : decode cX4_firstDraft 2 = .ok (.iload_n 1, 1) := dk_27 (dk_at dksX4_firstDraft_0 2 rfl rfl)
theorem dX4_firstDraft_3 : decode cX4_firstDraft 3 = .ok (.bipush 76, 2) := dk_16 76 (dk_at dksX4_firstDraft_0 3 rfl rfl)
theorem dX4_firstDraft_5 : decode cX4_firstDraft 5 = .ok (.if_icmp .ge 16, 3) := dk_162 0 16 (dk_at dksX4_firstDraft_0 5 rfl rfl)
theorem dX4_firstDraft_8 : decode cX4_firstDraft 8 = .ok (.aload_n 0, 1) := dk_42 (dk_at dksX4_firstDraft_0 8 rfl rfl)
theorem dX4_firstDraft_9 : decode cX4_firstDraft 9 = .ok (.getfield 20, 3) := dk_180 0 20 (dk_at dksX4_firstDraft_0 9 rfl rfl)
theorem dX4_firstDraft_12 : decode cX4_firstDraft 12 = .ok (.iload_n 1, 1) := dk_27 (dk_at dksX4_firstDraft_0 12 rfl rfl)
theorem dX4_firstDraft_13 : decode cX4_firstDraft 13 = .ok (.iconst 0, 1) := dk_3 (dk_at dksX4_firstDraft_0 13 rfl rfl)
theorem dX4_firstDraft_14 : decode cX4_firstDraft 14 = .ok (.iastore, 1) := dk_79 (dk_at dksX4_firstDraft_0 14 rfl rfl)
theorem dX4_firstDraft_15 : decode cX4_firstDraft 15 = .ok (.iinc 1 1, 3) := dk_132 1 1 (dk_at dksX4_firstDraft_0 15 rfl rfl)
theorem dX4_firstDraft_18 : decode cX4_firstDraft 18 = .ok (.goto (-16), 3) := dk_167 255 240 (dk_at dksX4_firstDraft_0 18 rfl rfl)
theorem dX4_firstDraft_21 : decode cX4_firstDraft 21 = .ok (.aload_n 0, 1) := dk_42 (dk_at dksX4_firstDraft_0 21 rfl rfl)
theorem dX4_firstDraft_22 : decode cX4_firstDraft 22 = .ok (.iconst 0, 1) := dk_3 (dk_at dksX4_firstDraft_0 22 rfl rfl)
theorem dX4_firstDraft_23 : decode cX4_firstDraft 23 = .ok (.putfield 50, 3) := dk_181 0 50 (dk_at dksX4_firstDraft_1 0 rfl rfl)
theorem dX4_firstDraft_26 : decode cX4_firstDraft 26 = .ok (.aload_n 0, 1) := dk_42 (dk_at dksX4_firstDraft_1 3 rfl rfl)
theorem dX4_firstDraft_27 : decode cX4_firstDraft 27 = .ok (.iconst 0, 1) := dk_3 (dk_at dksX4_firstDraft_1 4 rfl rfl)
theorem dX4_firstDraft_28 : decode cX4_firstDraft 28 = .ok (.putfield 54, 3) := dk_181 0 54 (dk_at dksX4_firstDraft_1 5 rfl rfl)
theorem dX4_firstDraft_31 : decode cX4_firstDraft 31 = .ok (.aload_n 0, 1) := dk_42 (dk_at dksX4_firstDraft_1 8 rfl rfl)
theorem dX4_firstDraft_32 : decode cX4_firstDraft 32 = .ok (.iconst 0, 1) := dk_3 (dk_at dksX4_firstDraft_1 9 rfl rfl)
theorem dX4_firstDraft_33 : decode cX4_firstDraft 33 = .ok (.putfield 58, 3) := dk_181 0 58 (dk_at dksX4_firstDraft_1 10 rfl rfl)
theorem dX4_firstDraft_36 : decode cX4_firstDraft 36 = .ok (.aload_n 0, 1) := dk_42 (dk_at dksX4_firstDraft_1 13 rfl rfl)
theorem dX4_firstDraft_37 : decode cX4_firstDraft 37 = .ok (.bipush (-4), 2) := dk_16 252 (dk_at dksX4_firstDraft_1 14 rfl rfl)
theorem dX4_firstDraft_39 : decode cX4_firstDraft 39 = .ok (.putfield 61, 3) := dk_181 0 61 (dk_at dksX4_firstDraft_1 16 rfl rfl)
theorem dX4_firstDraft_42 : decode cX4_firstDraft 42 = .ok (.return_, 1) := dk_177 (dk_at dksX4_firstDraft_1 19 rfl rfl)
abbrev cX4_keepDraft : ByteArray := prog_12_method_8_code
def yX4_keepDraft : MethodName := ⟨RX4, "keepDraft", "()V"⟩
def dkwX4_keepDraft_2 : List UInt8 := [84, 177]
abbrev dktX4_keepDraft_2 : List UInt8 := dkwX4_keepDraft_2 ++ []
def dkwX4_keepDraft_1 : List UInt8 := [167, 255, 235, 42, 42, 180, 0, 50, 181, 0, 64, 42, 180, 0, 16, 3, 3, 84, 42, 180, 0, 16, 4, 3]
abbrev dktX4_keepDraft_1 : List UInt8 := dkwX4_keepDraft_1 ++ dktX4_keepDraft_2
def dkwX4_keepDraft_0 : List UInt8 := [3, 60, 27, 16, 76, 162, 0, 21, 42, 180, 0, 7, 27, 42, 180, 0, 20, 27, 46, 79, 132, 1, 1]
abbrev dktX4_keepDraft_0 : List UInt8 := dkwX4_keepDraft_0 ++ dktX4_keepDraft_1
theorem dksX4_keepDraft_0 : cX4_keepDraft.data.toList.drop 0 = dktX4_keepDraft_0 := by decide +kernel
theorem dksX4_keepDraft_1 : cX4_keepDraft.data.toList.drop 23 = dktX4_keepDraft_1 := dk_seg dksX4_keepDraft_0 23 rfl rfl
theorem dksX4_keepDraft_2 : cX4_keepDraft.data.toList.drop 47 = dktX4_keepDraft_2 := dk_seg dksX4_keepDraft_1 24 rfl rfl
theorem dX4_keepDraft_0 : decode cX4_keepDraft 0 = .ok (.iconst 0, 1) := dk_3 (dk_at dksX4_keepDraft_0 0 rfl rfl)
theorem dX4_keepDraft_1 : decode cX4_keepDraft 1 = .ok (.istore_n 1, 1) := dk_60 (dk_at dksX4_keepDraft_0 1 rfl rfl)
theorem dX4_keepDraft_2 : decode cX4_keepDraft 2 = .ok (.iload_n 1, 1) := dk_27 (dk_at dksX4_keepDraft_0 2 rfl rfl)
theorem dX4_keepDraft_3 : decode cX4_keepDraft 3 = .ok (.bipush 76, 2) := dk_16 76 (dk_at dksX4_keepDraft_0 3 rfl rfl)
theorem dX4_keepDraft_5 : decode cX4_keepDraft 5 = .ok (.if_icmp .ge 21, 3) := dk_162 0 21 (dk_at dksX4_keepDraft_0 5 rfl rfl)
theorem dX4_keepDraft_8 : decode cX4_keepDraft 8 = .ok (.aload_n 0, 1) := dk_42 (dk_at dksX4_keepDraft_0 8 rfl rfl)
theorem dX4_keepDraft_9 : decode cX4_keepDraft 9 = .ok (.getfield 7, 3) := dk_180 0 7 (dk_at dksX4_keepDraft_0 9 rfl rfl)
theorem dX4_keepDraft_12 : decode cX4_keepDraft 12 = .ok (.iload_n 1, 1) := dk_27 (dk_at dksX4_keepDraft_0 12 rfl rfl)
theorem dX4_keepDraft_13 : decode cX4_keepDraft 13 = .ok (.aload_n 0, 1) := dk_42 (dk_at dksX4_keepDraft_0 13 rfl rfl)
theorem dX4_keepDraft_14 : decode cX4_keepDraft 14 = .ok (.getfield 20, 3) := dk_180 0 20 (dk_at dksX4_keepDraft_0 14 rfl rfl)
theorem dX4_keepDraft_17 : decode cX4_keepDraft 17 = .ok (.iload_n 1, 1) := dk_27 (dk_at dksX4_keepDraft_0 17 rfl rfl)
theorem dX4_keepDraft_18 : decode cX4_keepDraft 18 = .ok (.iaload, 1) := dk_46 (dk_at dksX4_keepDraft_0 18 rfl rfl)
theorem dX4_keepDraft_19 : decode cX4_keepDraft 19 = .ok (.iastore, 1) := dk_79 (dk_at dksX4_keepDraft_0 19 rfl rfl)
theorem dX4_keepDraft_20 : decode cX4_keepDraft 20 = .ok (.iinc 1 1, 3) := dk_132 1 1 (dk_at dksX4_keepDraft_0 20 rfl rfl)
theorem dX4_keepDraft_23 : decode cX4_keepDraft 23 = .ok (.goto (-21), 3) := dk_167 255 235 (dk_at dksX4_keepDraft_1 0 rfl rfl)
theorem dX4_keepDraft_26 : decode cX4_keepDraft 26 = .ok (.aload_n 0, 1) := dk_42 (dk_at dksX4_keepDraft_1 3 rfl rfl)
theorem dX4_keepDraft_27 : decode cX4_keepDraft 27 = .ok (.aload_n 0, 1) := dk_42 (dk_at dksX4_keepDraft_1 4 rfl rfl)
theorem dX4_keepDraft_28 : decode cX4_keepDraft 28 = .ok (.getfield 50, 3) := dk_180 0 50 (dk_at dksX4_keepDraft_1 5 rfl rfl)
theorem dX4_keepDraft_31 : decode cX4_keepDraft 31 = .ok (.putfield 64, 3) := dk_181 0 64 (dk_at dksX4_keepDraft_1 8 rfl rfl)
theorem dX4_keepDraft_34 : decode cX4_keepDraft 34 = .ok (.aload_n 0, 1) := dk_42 (dk_at dksX4_keepDraft_1 11 rfl rfl)
theorem dX4_keepDraft_35 : decode cX4_keepDraft 35 = .ok (.getfield 16, 3) := dk_180 0 16 (dk_at dksX4_keepDraft_1 12 rfl rfl)
theorem dX4_keepDraft_38 : decode cX4_keepDraft 38 = .ok (.iconst 0, 1) := dk_3 (dk_at dksX4_keepDraft_1 15 rfl rfl)
theorem dX4_keepDraft_39 : decode cX4_keepDraft 39 = .ok (.iconst 0, 1) := dk_3 (dk_at dksX4_keepDraft_1 16 rfl rfl)
theorem dX4_keepDraft_40 : decode cX4_keepDraft 40 = .ok (.bastore, 1) := dk_84 (dk_at dksX4_keepDraft_1 17 rfl rfl)
theorem dX4_keepDraft_41 : decode cX4_keepDraft 41 = .ok (.aload_n 0, 1) := dk_42 (dk_at dksX4_keepDraft_1 18 rfl rfl)
theorem dX4_keepDraft_42 : decode cX4_keepDraft 42 = .ok (.getfield 16, 3) := dk_180 0 16 (dk_at dksX4_keepDraft_1 19 rfl rfl)
theorem dX4_keepDraft_45 : decode cX4_keepDraft 45 = .ok (.iconst 1, 1) := dk_4 (dk_at dksX4_keepDraft_1 22 rfl rfl)
theorem dX4_keepDraft_46 : decode cX4_keepDraft 46 = .ok (.iconst 0, 1) := dk_3 (dk_at dksX4_keepDraft_1 23 rfl rfl)
theorem dX4_keepDraft_47 : decode cX4_keepDraft 47 = .ok (.bastore, 1) := dk_84 (dk_at dksX4_keepDraft_2 0 rfl rfl)
theorem dX4_keepDraft_48 : decode cX4_keepDraft 48 = .ok (.return_, 1) := dk_177 (dk_at dksX4_keepDraft_2 1 rfl rfl)
abbrev cX4_feed : ByteArray := prog_12_method_9_code
def yX4_feed : MethodName := ⟨RX4, "feed", "(I)I"⟩
def dkwX4_feed_2 : List UInt8 := [180, 0, 73, 172]
abbrev dktX4_feed_2 : List UInt8 := dkwX4_feed_2 ++ []
def dkwX4_feed_1 : List UInt8 := [16, 253, 172, 42, 180, 0, 23, 42, 180, 0, 73, 27, 79, 42, 89, 180, 0, 73, 4, 96, 181, 0, 73, 42]
abbrev dktX4_feed_1 : List UInt8 := dkwX4_feed_1 ++ dktX4_feed_2
def dkwX4_feed_0 : List UInt8 := [27, 133, 9, 20, 0, 67, 184, 0, 69, 154, 0, 5, 2, 172, 42, 180, 0, 73, 17, 0, 160, 160, 0, 6]
abbrev dktX4_feed_0 : List UInt8 := dkwX4_feed_0 ++ dktX4_feed_1
theorem dksX4_feed_0 : cX4_feed.data.toList.drop 0 = dktX4_feed_0 := by decide +kernel
theorem dksX4_feed_1 : cX4_feed.data.toList.drop 24 = dktX4_feed_1 := dk_seg dksX4_feed_0 24 rfl rfl
theorem dksX4_feed_2 : cX4_feed.data.toList.drop 48 = dktX4_feed_2 := dk_seg dksX4_feed_1 24 rfl rfl
theorem dX4_feed_0 : decode cX4_feed 0 = .ok (.iload_n 1, 1) := dk_27 (dk_at dksX4_feed_0 0 rfl rfl)
theorem dX4_feed_1 : decode cX4_feed 1 = .ok (.i2l, 1) := dk_133 (dk_at dksX4_feed_0 1 rfl rfl)
theorem dX4_feed_2 : decode cX4_feed 2 = .ok (.lconst 0, 1) := dk_9 (dk_at dksX4_feed_0 2 rfl rfl)
theorem dX4_feed_3 : decode cX4_feed 3 = .ok (.ldc2_w 67, 3) := dk_20 0 67 (dk_at dksX4_feed_0 3 rfl rfl)
theorem dX4_feed_6 : decode cX4_feed 6 = .ok (.invokestatic 69, 3) := dk_184 0 69 (dk_at dksX4_feed_0 6 rfl rfl)
theorem dX4_feed_9 : decode cX4_feed 9 = .ok (.ifCond .ne 5, 3) := dk_154 0 5 (dk_at dksX4_feed_0 9 rfl rfl)
theorem dX4_feed_12 : decode cX4_feed 12 = .ok (.iconst (-1), 1) := dk_2 (dk_at dksX4_feed_0 12 rfl rfl)
theorem dX4_feed_13 : decode cX4_feed 13 = .ok (.ireturn, 1) := dk_172 (dk_at dksX4_feed_0 13 rfl rfl)
theorem dX4_feed_14 : decode cX4_feed 14 = .ok (.aload_n 0, 1) := dk_42 (dk_at dksX4_feed_0 14 rfl rfl)
theorem dX4_feed_15 : decode cX4_feed 15 = .ok (.getfield 73, 3) := dk_180 0 73 (dk_at dksX4_feed_0 15 rfl rfl)
theorem dX4_feed_18 : decode cX4_feed 18 = .ok (.sipush 160, 3) := dk_17 0 160 (dk_at dksX4_feed_0 18 rfl rfl)
theorem dX4_feed_21 : decode cX4_feed 21 = .ok (.if_icmp .ne 6, 3) := dk_160 0 6 (dk_at dksX4_feed_0 21 rfl rfl)
theorem dX4_feed_24 : decode cX4_feed 24 = .ok (.bipush (-3), 2) := dk_16 253 (dk_at dksX4_feed_1 0 rfl rfl)
theorem dX4_feed_26 : decode cX4_feed 26 = .ok (.ireturn, 1) := dk_172 (dk_at dksX4_feed_1 2 rfl rfl)
theorem dX4_feed_27 : decode cX4_feed 27 = .ok (.aload_n 0, 1) := dk_42 (dk_at dksX4_feed_1 3 rfl rfl)
theorem dX4_feed_28 : decode cX4_feed 28 = .ok (.getfield 23, 3) := dk_180 0 23 (dk_at dksX4_feed_1 4 rfl rfl)
theorem dX4_feed_31 : decode cX4_feed 31 = .ok (.aload_n 0, 1) := dk_42 (dk_at dksX4_feed_1 7 rfl rfl)
theorem dX4_feed_32 : decode cX4_feed 32 = .ok (.getfield 73, 3) := dk_180 0 73 (dk_at dksX4_feed_1 8 rfl rfl)
theorem dX4_feed_35 : decode cX4_feed 35 = .ok (.iload_n 1, 1) := dk_27 (dk_at dksX4_feed_1 11 rfl rfl)
theorem dX4_feed_36 : decode cX4_feed 36 = .ok (.iastore, 1) := dk_79 (dk_at dksX4_feed_1 12 rfl rfl)
theorem dX4_feed_37 : decode cX4_feed 37 = .ok (.aload_n 0, 1) := dk_42 (dk_at dksX4_feed_1 13 rfl rfl)
theorem dX4_feed_38 : decode cX4_feed 38 = .ok (.dup, 1) := dk_89 (dk_at dksX4_feed_1 14 rfl rfl)
theorem dX4_feed_39 : decode cX4_feed 39 = .ok (.getfield 73, 3) := dk_180 0 73 (dk_at dksX4_feed_1 15 rfl rfl)
theorem dX4_feed_42 : decode cX4_feed 42 = .ok (.iconst 1, 1) := dk_4 (dk_at dksX4_feed_1 18 rfl rfl)
theorem dX4_feed_43 : decode cX4_feed 43 = .ok (.iadd, 1) := dk_96 (dk_at dksX4_feed_1 19 rfl rfl)
theorem dX4_feed_44 : decode cX4_feed 44 = .ok (.putfield 73, 3) := dk_181 0 73 (dk_at dksX4_feed_1 20 rfl rfl)
theorem dX4_feed_47 : decode cX4_feed 47 = .ok (.aload_n 0, 1) := dk_42 (dk_at dksX4_feed_1 23 rfl rfl)
theorem dX4_feed_48 : decode cX4_feed 48 = .ok (.getfield 73, 3) := dk_180 0 73 (dk_at dksX4_feed_2 0 rfl rfl)
theorem dX4_feed_51 : decode cX4_feed 51 = .ok (.ireturn, 1) := dk_172 (dk_at dksX4_feed_2 3 rfl rfl)
abbrev cX4_in : ByteArray := prog_12_method_3_code
def yX4_in : MethodName := ⟨RX4, "in", "(JJJ)Z"⟩
def dkwX4_in_0 : List UInt8 := [30, 32, 148, 155, 0, 14, 30, 22, 4, 148, 157, 0, 7, 4, 167, 0, 4, 3, 172]
abbrev dktX4_in_0 : List UInt8 := dkwX4_in_0 ++ []
theorem dksX4_in_0 : cX4_in.data.toList.drop 0 = dktX4_in_0 := by decide +kernel
theorem dX4_in_0 : decode cX4_in 0 = .ok (.lload_n 0, 1) := dk_30 (dk_at dksX4_in_0 0 rfl rfl)
theorem dX4_in_1 : decode cX4_in 1 = .ok (.lload_n 2, 1) := dk_32 (dk_at dksX4_in_0 1 rfl rfl)
theorem dX4_in_2 : decode cX4_in 2 = .ok (.lcmp, 1) := dk_148 (dk_at dksX4_in_0 2 rfl rfl)
theorem dX4_in_3 : decode cX4_in 3 = .ok (.ifCond .lt 14, 3) := dk_155 0 14 (dk_at dksX4_in_0 3 rfl rfl)
theorem dX4_in_6 : decode cX4_in 6 = .ok (.lload_n 0, 1) := dk_30 (dk_at dksX4_in_0 6 rfl rfl)
theorem dX4_in_7 : decode cX4_in 7 = .ok (.lload 4, 2) := dk_22 4 (dk_at dksX4_in_0 7 rfl rfl)
theorem dX4_in_9 : decode cX4_in 9 = .ok (.lcmp, 1) := dk_148 (dk_at dksX4_in_0 9 rfl rfl)
theorem dX4_in_10 : decode cX4_in 10 = .ok (.ifCond .gt 7, 3) := dk_157 0 7 (dk_at dksX4_in_0 10 rfl rfl)
theorem dX4_in_13 : decode cX4_in 13 = .ok (.iconst 1, 1) := dk_4 (dk_at dksX4_in_0 13 rfl rfl)
theorem dX4_in_14 : decode cX4_in 14 = .ok (.goto 4, 3) := dk_167 0 4 (dk_at dksX4_in_0 14 rfl rfl)
theorem dX4_in_17 : decode cX4_in 17 = .ok (.iconst 0, 1) := dk_3 (dk_at dksX4_in_0 17 rfl rfl)
theorem dX4_in_18 : decode cX4_in 18 = .ok (.ireturn, 1) := dk_172 (dk_at dksX4_in_0 18 rfl rfl)
abbrev cX4_end : ByteArray := prog_12_method_10_code
def yX4_end : MethodName := ⟨RX4, "end", "(I)I"⟩
def dkwX4_end_1 : List UInt8 := [181, 0, 73, 28, 172]
abbrev dktX4_end_1 : List UInt8 := dkwX4_end_1 ++ []
def dkwX4_end_0 : List UInt8 := [27, 133, 9, 42, 180, 0, 73, 133, 184, 0, 69, 154, 0, 5, 2, 172, 42, 180, 0, 73, 61, 42, 27]
abbrev dktX4_end_0 : List UInt8 := dkwX4_end_0 ++ dktX4_end_1
theorem dksX4_end_0 : cX4_end.data.toList.drop 0 = dktX4_end_0 := by decide +kernel
theorem dksX4_end_1 : cX4_end.data.toList.drop 23 = dktX4_end_1 := dk_seg dksX4_end_0 23 rfl rfl
theorem dX4_end_0 : decode cX4_end 0 = .ok (.iload_n 1, 1) := dk_27 (dk_at dksX4_end_0 0 rfl rfl)
theorem dX4_end_1 : decode cX4_end 1 = .ok (.i2l, 1) := dk_133 (dk_at dksX4_end_0 1 rfl rfl)
theorem dX4_end_2 : decode cX4_end 2 = .ok (.lconst 0, 1) := dk_9 (dk_at dksX4_end_0 2 rfl rfl)
theorem dX4_end_3 : decode cX4_end 3 = .ok (.aload_n 0, 1) := dk_42 (dk_at dksX4_end_0 3 rfl rfl)
theorem dX4_end_4 : decode cX4_end 4 = .ok (.getfield 73, 3) := dk_180 0 73 (dk_at dksX4_end_0 4 rfl rfl)
theorem dX4_end_7 : decode cX4_end 7 = .ok (.i2l, 1) := dk_133 (dk_at dksX4_end_0 7 rfl rfl)
theorem dX4_end_8 : decode cX4_end 8 = .ok (.invokestatic 69, 3) := dk_184 0 69 (dk_at dksX4_end_0 8 rfl rfl)
theorem dX4_end_11 : decode cX4_end 11 = .ok (.ifCond .ne 5, 3) := dk_154 0 5 (dk_at dksX4_end_0 11 rfl rfl)
theorem dX4_end_14 : decode cX4_end 14 = .ok (.iconst (-1), 1) := dk_2 (dk_at dksX4_end_0 14 rfl rfl)
theorem dX4_end_15 : decode cX4_end 15 = .ok (.ireturn, 1) := dk_172 (dk_at dksX4_end_0 15 rfl rfl)
theorem dX4_end_16 : decode cX4_end 16 = .ok (.aload_n 0, 1) := dk_42 (dk_at dksX4_end_0 16 rfl rfl)
theorem dX4_end_17 : decode cX4_end 17 = .ok (.getfield 73, 3) := dk_180 0 73 (dk_at dksX4_end_0 17 rfl rfl)
theorem dX4_end_20 : decode cX4_end 20 = .ok (.istore_n 2, 1) := dk_61 (dk_at dksX4_end_0 20 rfl rfl)
theorem dX4_end_21 : decode cX4_end 21 = .ok (.aload_n 0, 1) := dk_42 (dk_at dksX4_end_0 21 rfl rfl)
theorem dX4_end_22 : decode cX4_end 22 = .ok (.iload_n 1, 1) := dk_27 (dk_at dksX4_end_0 22 rfl rfl)
theorem dX4_end_23 : decode cX4_end 23 = .ok (.putfield 73, 3) := dk_181 0 73 (dk_at dksX4_end_1 0 rfl rfl)
theorem dX4_end_26 : decode cX4_end 26 = .ok (.iload_n 2, 1) := dk_28 (dk_at dksX4_end_1 3 rfl rfl)
theorem dX4_end_27 : decode cX4_end 27 = .ok (.ireturn, 1) := dk_172 (dk_at dksX4_end_1 4 rfl rfl)
abbrev cX4_text : ByteArray := prog_12_method_25_code
def yX4_text : MethodName := ⟨RX4, "text", "()I"⟩
def dkwX4_text_4 : List UInt8 := [182, 0, 47, 27, 172]
abbrev dktX4_text_4 : List UInt8 := dkwX4_text_4 ++ []
def dkwX4_text_3 : List UInt8 := [182, 0, 114, 42, 3, 181, 0, 73, 42, 180, 0, 76, 158, 0, 11, 16, 246, 42, 180, 0, 82, 100, 172, 42]
abbrev dktX4_text_3 : List UInt8 := dkwX4_text_3 ++ dktX4_text_4
def dkwX4_text_2 : List UInt8 := [154, 0, 25, 42, 42, 180, 0, 61, 42, 180, 0, 50, 162, 0, 7, 4, 167, 0, 4, 3, 16, 6]
abbrev dktX4_text_2 : List UInt8 := dkwX4_text_2 ++ dktX4_text_3
def dkwX4_text_1 : List UInt8 := [154, 0, 20, 42, 180, 0, 100, 153, 0, 13, 42, 182, 0, 148, 132, 1, 1, 167, 255, 235, 42, 180, 0, 76]
abbrev dktX4_text_1 : List UInt8 := dkwX4_text_1 ++ dktX4_text_2
def dkwX4_text_0 : List UInt8 := [3, 60, 42, 3, 181, 0, 76, 42, 3, 181, 0, 85, 42, 182, 0, 44, 42, 182, 0, 122, 42, 180, 0, 76]
abbrev dktX4_text_0 : List UInt8 := dkwX4_text_0 ++ dktX4_text_1
theorem dksX4_text_0 : cX4_text.data.toList.drop 0 = dktX4_text_0 := by decide +kernel
theorem dksX4_text_1 : cX4_text.data.toList.drop 24 = dktX4_text_1 := dk_seg dksX4_text_0 24 rfl rfl
theorem dksX4_text_2 : cX4_text.data.toList.drop 48 = dktX4_text_2 := dk_seg dksX4_text_1 24 rfl rfl
theorem dksX4_text_3 : cX4_text.data.toList.drop 70 = dktX4_text_3 := dk_seg dksX4_text_2 22 rfl rfl
theorem dksX4_text_4 : cX4_text.data.toList.drop 94 = dktX4_text_4 := dk_seg dksX4_text_3 24 rfl rfl
theorem dX4_text_0 : decode cX4_text 0 = .ok (.iconst 0, 1) := dk_3 (dk_at dksX4_text_0 0 rfl rfl)
theorem dX4_text_1 : decode cX4_text 1 = .ok (.istore_n 1, 1) := dk_60 (dk_at dksX4_text_0 1 rfl rfl)
theorem dX4_text_2 : decode cX4_text 2 = .ok (.aload_n 0, 1) := dk_42 (dk_at dksX4_text_0 2 rfl rfl)
theorem dX4_text_3 : decode cX4_text 3 = .ok (.iconst 0, 1) := dk_3 (dk_at dksX4_text_0 3 rfl rfl)
theorem dX4_text_4 : decode cX4_text 4 = .ok (.putfield 76, 3) := dk_181 0 76 (dk_at dksX4_text_0 4 rfl rfl)
theorem dX4_text_7 : decode cX4_text 7 = .ok (.aload_n 0, 1) := dk_42 (dk_at dksX4_text_0 7 rfl rfl)
theorem dX4_text_8 : decode cX4_text 8 = .ok (.iconst 0, 1) := dk_3 (dk_at dksX4_text_0 8 rfl rfl)
theorem dX4_text_9 : decode cX4_text 9 = .ok (.putfield 85, 3) := dk_181 0 85 (dk_at dksX4_text_0 9 rfl rfl)
theorem dX4_text_12 : decode cX4_text 12 = .ok (.aload_n 0, 1) := dk_42 (dk_at dksX4_text_0 12 rfl rfl)
theorem dX4_text_13 : decode cX4_text 13 = .ok (.invokevirtual 44, 3) := dk_182 0 44 (dk_at dksX4_text_0 13 rfl rfl)
theorem dX4_text_16 : decode cX4_text 16 = .ok (.aload_n 0, 1) := dk_42 (dk_at dksX4_text_0 16 rfl rfl)
theorem dX4_text_17 : decode cX4_text 17 = .ok (.invokevirtual 122, 3) := dk_182 0 122 (dk_at dksX4_text_0 17 rfl rfl)
theorem dX4_text_20 : decode cX4_text 20 = .ok (.aload_n 0, 1) := dk_42 (dk_at dksX4_text_0 20 rfl rfl)
theorem dX4_text_21 : decode cX4_text 21 = .ok (.getfield 76, 3) := dk_180 0 76 (dk_at dksX4_text_0 21 rfl rfl)
theorem dX4_text_24 : decode cX4_text 24 = .ok (.ifCond .ne 20, 3) := dk_154 0 20 (dk_at dksX4_text_1 0 rfl rfl)
theorem dX4_text_27 : decode cX4_text 27 = .ok (.aload_n 0, 1) := dk_42 (dk_at dksX4_text_1 3 rfl rfl)
theorem dX4_text_28 : decode cX4_text 28 = .ok (.getfield 100, 3) := dk_180 0 100 (dk_at dksX4_text_1 4 rfl rfl)
theorem dX4_text_31 : decode cX4_text 31 = .ok (.ifCond .eq 13, 3) := dk_153 0 13 (dk_at dksX4_text_1 7 rfl rfl)
theorem dX4_text_34 : decode cX4_text 34 = .ok (.aload_n 0, 1) := dk_42 (dk_at dksX4_text_1 10 rfl rfl)
theorem dX4_text_35 : decode cX4_text 35 = .ok (.invokevirtual 148, 3) := dk_182 0 148 (dk_at dksX4_text_1 11 rfl rfl)
theorem dX4_text_38 : decode cX4_text 38 = .ok (.iinc 1 1, 3) := dk_132 1 1 (dk_at dksX4_text_1 14 rfl rfl)
theorem dX4_text_41 : decode cX4_text 41 = .ok (.goto (-21), 3) := dk_167 255 235 (dk_at dksX4_text_1 17 rfl rfl)
theorem dX4_text_44 : decode cX4_text 44 = .ok (.aload_n 0, 1) := dk_42 (dk_at dksX4_text_1 20 rfl rfl)
theorem dX4_text_45 : decode cX4_text 45 = .ok (.getfield 76, 3) := dk_180 0 76 (dk_at dksX4_text_1 21 rfl rfl)
theorem dX4_text_48 : decode cX4_text 48 = .ok (.ifCond .ne 25, 3) := dk_154 0 25 (dk_at dksX4_text_2 0 rfl rfl)
theorem dX4_text_51 : decode cX4_text 51 = .ok (.aload_n 0, 1) := dk_42 (dk_at dksX4_text_2 3 rfl rfl)
theorem dX4_text_52 : decode cX4_text 52 = .ok (.aload_n 0, 1) := dk_42 (dk_at dksX4_text_2 4 rfl rfl)
theorem dX4_text_53 : decode cX4_text 53 = .ok (.getfield 61, 3) := dk_180 0 61 (dk_at dksX4_text_2 5 rfl rfl)
theorem dX4_text_56 : decode cX4_text 56 = .ok (.aload_n 0, 1) := dk_42 (dk_at dksX4_text_2 8 rfl rfl)
theorem dX4_text_57 : decode cX4_text 57 = .ok (.getfield 50, 3) := dk_180 0 50 (dk_at dksX4_text_2 9 rfl rfl)
theorem dX4_text_60 : decode cX4_text 60 = .ok (.if_icmp .ge 7, 3) := dk_162 0 7 (dk_at dksX4_text_2 12 rfl rfl)
theorem dX4_text_63 : decode cX4_text 63 = .ok (.iconst 1, 1) := dk_4 (dk_at dksX4_text_2 15 rfl rfl)
theorem dX4_text_64 : decode cX4_text 64 = .ok (.goto 4, 3) := dk_167 0 4 (dk_at dksX4_text_2 16 rfl rfl)
theorem dX4_text_67 : decode cX4_text 67 = .ok (.iconst 0, 1) := dk_3 (dk_at dksX4_text_2 19 rfl rfl)
theorem dX4_text_68 : decode cX4_text 68 = .ok (.bipush 6, 2) := dk_16 6 (dk_at dksX4_text_2 20 rfl rfl)
theorem dX4_text_70 : decode cX4_text 70 = .ok (.invokevirtual 114, 3) := dk_182 0 114 (dk_at dksX4_text_3 0 rfl rfl)
theorem dX4_text_73 : decode cX4_text 73 = .ok (.aload_n 0, 1) := dk_42 (dk_at dksX4_text_3 3 rfl rfl)
theorem dX4_text_74 : decode cX4_text 74 = .ok (.iconst 0, 1) := dk_3 (dk_at dksX4_text_3 4 rfl rfl)
theorem dX4_text_75 : decode cX4_text 75 = .ok (.putfield 73, 3) := dk_181 0 73 (dk_at dksX4_text_3 5 rfl rfl)
theorem dX4_text_78 : decode cX4_text 78 = .ok (.aload_n 0, 1) := dk_42 (dk_at dksX4_text_3 8 rfl rfl)
theorem dX4_text_79 : decode cX4_text 79 = .ok (.getfield 76, 3) := dk_180 0 76 (dk_at dksX4_text_3 9 rfl rfl)
theorem dX4_text_82 : decode cX4_text 82 = .ok (.ifCond .le 11, 3) := dk_158 0 11 (dk_at dksX4_text_3 12 rfl rfl)
theorem dX4_text_85 : decode cX4_text 85 = .ok (.bipush (-10), 2) := dk_16 246 (dk_at dksX4_text_3 15 rfl rfl)
theorem dX4_text_87 : decode cX4_text 87 = .ok (.aload_n 0, 1) := dk_42 (dk_at dksX4_text_3 17 rfl rfl)
theorem dX4_text_88 : decode cX4_text 88 = .ok (.getfield 82, 3) := dk_180 0 82 (dk_at dksX4_text_3 18 rfl rfl)
theorem dX4_text_91 : decode cX4_text 91 = .ok (.isub, 1) := dk_100 (dk_at dksX4_text_3 21 rfl rfl)
theorem dX4_text_92 : decode cX4_text 92 = .ok (.ireturn, 1) := dk_172 (dk_at dksX4_text_3 22 rfl rfl)
theorem dX4_text_93 : decode cX4_text 93 = .ok (.aload_n 0, 1) := dk_42 (dk_at dksX4_text_3 23 rfl rfl)
theorem dX4_text_94 : decode cX4_text 94 = .ok (.invokevirtual 47, 3) := dk_182 0 47 (dk_at dksX4_text_4 0 rfl rfl)
theorem dX4_text_97 : decode cX4_text 97 = .ok (.iload_n 1, 1) := dk_27 (dk_at dksX4_text_4 3 rfl rfl)
theorem dX4_text_98 : decode cX4_text 98 = .ok (.ireturn, 1) := dk_172 (dk_at dksX4_text_4 4 rfl rfl)
abbrev cX4_takes : ByteArray := prog_12_method_16_code
def yX4_takes : MethodName := ⟨RX4, "takes", "()V"⟩
def dkwX4_takes_11 : List UInt8 := [182, 0, 114, 42, 89, 180, 0, 85, 4, 96, 181, 0, 85, 177]
abbrev dktX4_takes_11 : List UInt8 := dkwX4_takes_11 ++ []
def dkwX4_takes_10 : List UInt8 := [182, 0, 114, 167, 0, 34, 42, 6, 181, 0, 100, 42, 27, 16, 59, 160, 0, 7, 4, 167, 0, 4, 3, 4]
abbrev dktX4_takes_10 : List UInt8 := dkwX4_takes_10 ++ dktX4_takes_11
def dkwX4_takes_9 : List UInt8 := [167, 255, 182, 42, 42, 180, 0, 85, 42, 180, 0, 79, 100, 5, 163, 0, 7, 4, 167, 0, 4, 3, 4]
abbrev dktX4_takes_9 : List UInt8 := dkwX4_takes_9 ++ dktX4_takes_10
def dkwX4_takes_8 : List UInt8 := [96, 16, 48, 100, 167, 0, 7, 42, 180, 0, 111, 181, 0, 111, 42, 89, 180, 0, 85, 4, 96, 181, 0, 85]
abbrev dktX4_takes_8 : List UInt8 := dkwX4_takes_8 ++ dktX4_takes_9
def dkwX4_takes_7 : List UInt8 := [42, 180, 0, 79, 100, 5, 162, 0, 25, 16, 10, 42, 180, 0, 111, 104, 42, 42, 180, 0, 85, 182, 0, 88]
abbrev dktX4_takes_7 : List UInt8 := dkwX4_takes_7 ++ dktX4_takes_8
def dkwX4_takes_6 : List UInt8 := [180, 0, 85, 182, 0, 88, 133, 20, 0, 107, 20, 0, 109, 184, 0, 69, 153, 0, 59, 42, 42, 180, 0, 85]
abbrev dktX4_takes_6 : List UInt8 := dkwX4_takes_6 ++ dktX4_takes_7
def dkwX4_takes_5 : List UInt8 := [20, 0, 107, 20, 0, 109, 184, 0, 69, 153, 0, 116, 42, 5, 181, 0, 100, 42, 3, 181, 0, 111, 42, 42]
abbrev dktX4_takes_5 : List UInt8 := dkwX4_takes_5 ++ dktX4_takes_6
def dkwX4_takes_4 : List UInt8 := [20, 0, 105, 184, 0, 69, 153, 0, 174, 42, 89, 180, 0, 85, 4, 96, 181, 0, 85, 167, 255, 225, 27, 133]
abbrev dktX4_takes_4 : List UInt8 := dkwX4_takes_4 ++ dktX4_takes_5
def dkwX4_takes_3 : List UInt8 := [184, 0, 69, 153, 0, 42, 42, 4, 181, 0, 100, 42, 42, 180, 0, 85, 182, 0, 88, 133, 20, 0, 103]
abbrev dktX4_takes_3 : List UInt8 := dkwX4_takes_3 ++ dktX4_takes_4
def dkwX4_takes_2 : List UInt8 := [182, 0, 88, 60, 27, 156, 0, 11, 42, 3, 181, 0, 100, 167, 0, 214, 27, 133, 20, 0, 103, 20, 0, 105]
abbrev dktX4_takes_2 : List UInt8 := dkwX4_takes_2 ++ dktX4_takes_3
def dkwX4_takes_1 : List UInt8 := [180, 0, 85, 4, 96, 181, 0, 85, 167, 255, 233, 42, 42, 180, 0, 85, 181, 0, 79, 42, 42, 180, 0, 85]
abbrev dktX4_takes_1 : List UInt8 := dkwX4_takes_1 ++ dktX4_takes_2
def dkwX4_takes_0 : List UInt8 := [42, 180, 0, 76, 158, 0, 4, 177, 42, 42, 180, 0, 85, 182, 0, 88, 16, 32, 160, 0, 16, 42, 89]
abbrev dktX4_takes_0 : List UInt8 := dkwX4_takes_0 ++ dktX4_takes_1
theorem dksX4_takes_0 : cX4_takes.data.toList.drop 0 = dktX4_takes_0 := by decide +kernel
theorem dksX4_takes_1 : cX4_takes.data.toList.drop 23 = dktX4_takes_1 := dk_seg dksX4_takes_0 23 rfl rfl
theorem dksX4_takes_2 : cX4_takes.data.toList.drop 47 = dktX4_takes_2 := dk_seg dksX4_takes_1 24 rfl rfl
theorem dksX4_takes_3 : cX4_takes.data.toList.drop 71 = dktX4_takes_3 := dk_seg dksX4_takes_2 24 rfl rfl
theorem dksX4_takes_4 : cX4_takes.data.toList.drop 94 = dktX4_takes_4 := dk_seg dksX4_takes_3 23 rfl rfl
theorem dksX4_takes_5 : cX4_takes.data.toList.drop 118 = dktX4_takes_5 := dk_seg dksX4_takes_4 24 rfl rfl
theorem dksX4_takes_6 : cX4_takes.data.toList.drop 142 = dktX4_takes_6 := dk_seg dksX4_takes_5 24 rfl rfl
theorem dksX4_takes_7 : cX4_takes.data.toList.drop 166 = dktX4_takes_7 := dk_seg dksX4_takes_6 24 rfl rfl
theorem dksX4_takes_8 : cX4_takes.data.toList.drop 190 = dktX4_takes_8 := dk_seg dksX4_takes_7 24 rfl rfl
theorem dksX4_takes_9 : cX4_takes.data.toList.drop 214 = dktX4_takes_9 := dk_seg dksX4_takes_8 24 rfl rfl
theorem dksX4_takes_10 : cX4_takes.data.toList.drop 237 = dktX4_takes_10 := dk_seg dksX4_takes_9 23 rfl rfl
theorem dksX4_takes_11 : cX4_takes.data.toList.drop 261 = dktX4_takes_11 := dk_seg dksX4_takes_10 24 rfl rfl
theorem dX4_takes_0 : decode cX4_takes 0 = .ok (.aload_n 0, 1) := dk_42 (dk_at dksX4_takes_0 0 rfl rfl)
theorem dX4_takes_1 : decode cX4_takes 1 = .ok (.getfield 76, 3) := dk_180 0 76 (dk_at dksX4_takes_0 1 rfl rfl)
theorem dX4_takes_4 : decode cX4_takes 4 = .ok (.ifCond .le 4, 3) := dk_158 0 4 (dk_at dksX4_takes_0 4 rfl rfl)
theorem dX4_takes_7 : decode cX4_takes 7 = .ok (.return_, 1) := dk_177 (dk_at dksX4_takes_0 7 rfl rfl)
theorem dX4_takes_8 : decode cX4_takes 8 = .ok (.aload_n 0, 1) := dk_42 (dk_at dksX4_takes_0 8 rfl rfl)
theorem dX4_takes_9 : decode cX4_takes 9 = .ok (.aload_n 0, 1) := dk_42 (dk_at dksX4_takes_0 9 rfl rfl)
theorem dX4_takes_10 : decode cX4_takes 10 = .ok (.getfield 85, 3) := dk_180 0 85 (dk_at dksX4_takes_0 10 rfl rfl)
theorem dX4_takes_13 : decode cX4_takes 13 = .ok (.invokevirtual 88, 3) := dk_182 0 88 (dk_at dksX4_takes_0 13 rfl rfl)
theorem dX4_takes_16 : decode cX4_takes 16 = .ok (.bipush 32, 2) := dk_16 32 (dk_at dksX4_takes_0 16 rfl rfl)
theorem dX4_takes_18 : decode cX4_takes 18 = .ok (.if_icmp .ne 16, 3) := dk_160 0 16 (dk_at dksX4_takes_0 18 rfl rfl)
theorem dX4_takes_21 : decode cX4_takes 21 = .ok (.aload_n 0, 1) := dk_42 (dk_at dksX4_takes_0 21 rfl rfl)
theorem dX4_takes_22 : decode cX4_takes 22 = .ok (.dup, 1) := dk_89 (dk_at dksX4_takes_0 22 rfl rfl)
theorem dX4_takes_23 : decode cX4_takes 23 = .ok (.getfield 85, 3) := dk_180 0 85 (dk_at dksX4_takes_1 0 rfl rfl)
theorem dX4_takes_26 : decode cX4_takes 26 = .ok (.iconst 1, 1) := dk_4 (dk_at dksX4_takes_1 3 rfl rfl)
theorem dX4_takes_27 : decode cX4_takes 27 = .ok (.iadd, 1) := dk_96 (dk_at dksX4_takes_1 4 rfl rfl)
theorem dX4_takes_28 : decode cX4_takes 28 = .ok (.putfield 85, 3) := dk_181 0 85 (dk_at dksX4_takes_1 5 rfl rfl)
theorem dX4_takes_31 : decode cX4_takes 31 = .ok (.goto (-23), 3) := dk_167 255 233 (dk_at dksX4_takes_1 8 rfl rfl)
theorem dX4_takes_34 : decode cX4_takes 34 = .ok (.aload_n 0, 1) := dk_42 (dk_at dksX4_takes_1 11 rfl rfl)
theorem dX4_takes_35 : decode cX4_takes 35 = .ok (.aload_n 0, 1) := dk_42 (dk_at dksX4_takes_1 12 rfl rfl)
theorem dX4_takes_36 : decode cX4_takes 36 = .ok (.getfield 85, 3) := dk_180 0 85 (dk_at dksX4_takes_1 13 rfl rfl)
theorem dX4_takes_39 : decode cX4_takes 39 = .ok (.putfield 79, 3) := dk_181 0 79 (dk_at dksX4_takes_1 16 rfl rfl)
theorem dX4_takes_42 : decode cX4_takes 42 = .ok (.aload_n 0, 1) := dk_42 (dk_at dksX4_takes_1 19 rfl rfl)
theorem dX4_takes_43 : decode cX4_takes 43 = .ok (.aload_n 0, 1) := dk_42 (dk_at dksX4_takes_1 20 rfl rfl)
theorem dX4_takes_44 : decode cX4_takes 44 = .ok (.getfield 85, 3) := dk_180 0 85 (dk_at dksX4_takes_1 21 rfl rfl)
theorem dX4_takes_47 : decode cX4_takes 47 = .ok (.invokevirtual 88, 3) := dk_182 0 88 (dk_at dksX4_takes_2 0 rfl rfl)
theorem dX4_takes_50 : decode cX4_takes 50 = .ok (.istore_n 1, 1) := dk_60 (dk_at dksX4_takes_2 3 rfl rfl)
theorem dX4_takes_51 : decode cX4_takes 51 = .ok (.iload_n 1, 1) := dk_27 (dk_at dksX4_takes_2 4 rfl rfl)
theorem dX4_takes_52 : decode cX4_takes 52 = .ok (.ifCond .ge 11, 3) := dk_156 0 11 (dk_at dksX4_takes_2 5 rfl rfl)
theorem dX4_takes_55 : decode cX4_takes 55 = .ok (.aload_n 0, 1) := dk_42 (dk_at dksX4_takes_2 8 rfl rfl)
theorem dX4_takes_56 : decode cX4_takes 56 = .ok (.iconst 0, 1) := dk_3 (dk_at dksX4_takes_2 9 rfl rfl)
theorem dX4_takes_57 : decode cX4_takes 57 = .ok (.putfield 100, 3) := dk_181 0 100 (dk_at dksX4_takes_2 10 rfl rfl)
theorem dX4_takes_60 : decode cX4_takes 60 = .ok (.goto 214, 3) := dk_167 0 214 (dk_at dksX4_takes_2 13 rfl rfl)
theorem dX4_takes_63 : decode cX4_takes 63 = .ok (.iload_n 1, 1) := dk_27 (dk_at dksX4_takes_2 16 rfl rfl)
theorem dX4_takes_64 : decode cX4_takes 64 = .ok (.i2l, 1) := dk_133 (dk_at dksX4_takes_2 17 rfl rfl)
theorem dX4_takes_65 : decode cX4_takes 65 = .ok (.ldc2_w 103, 3) := dk_20 0 103 (dk_at dksX4_takes_2 18 rfl rfl)
theorem dX4_takes_68 : decode cX4_takes 68 = .ok (.ldc2_w 105, 3) := dk_20 0 105 (dk_at dksX4_takes_2 21 rfl rfl)
theorem dX4_takes_71 : decode cX4_takes 71 = .ok (.invokestatic 69, 3) := dk_184 0 69 (dk_at dksX4_takes_3 0 rfl rfl)
theorem dX4_takes_74 : decode cX4_takes 74 = .ok (.ifCond .eq 42, 3) := dk_153 0 42 (dk_at dksX4_takes_3 3 rfl rfl)
theorem dX4_takes_77 : decode cX4_takes 77 = .ok (.aload_n 0, 1) := dk_42 (dk_at dksX4_takes_3 6 rfl rfl)
theorem dX4_takes_78 : decode cX4_takes 78 = .ok (.iconst 1, 1) := dk_4 (dk_at dksX4_takes_3 7 rfl rfl)
theorem dX4_takes_79 : decode cX4_takes 79 = .ok (.putfield 100, 3) := dk_181 0 100 (dk_at dksX4_takes_3 8 rfl rfl)
theorem dX4_takes_82 : decode cX4_takes 82 = .ok (.aload_n 0, 1) := dk_42 (dk_at dksX4_takes_3 11 rfl rfl)
theorem dX4_takes_83 : decode cX4_takes 83 = .ok (.aload_n 0, 1) := dk_42 (dk_at dksX4_takes_3 12 rfl rfl)
theorem dX4_takes_84 : decode cX4_takes 84 = .ok (.getfield 85, 3) := dk_180 0 85 (dk_at dksX4_takes_3 13 rfl rfl)
theorem dX4_takes_87 : decode cX4_takes 87 = .ok (.invokevirtual 88, 3) := dk_182 0 88 (dk_at dksX4_takes_3 16 rfl rfl)
theorem dX4_takes_90 : decode cX4_takes 90 = .ok (.i2l, 1) := dk_133 (dk_at dksX4_takes_3 19 rfl rfl)
theorem dX4_takes_91 : decode cX4_takes 91 = .ok (.ldc2_w 103, 3) := dk_20 0 103 (dk_at dksX4_takes_3 20 rfl rfl)
theorem dX4_takes_94 : decode cX4_takes 94 = .ok (.ldc2_w 105, 3) := dk_20 0 105 (dk_at dksX4_takes_4 0 rfl rfl)
theorem dX4_takes_97 : decode cX4_takes 97 = .ok (.invokestatic 69, 3) := dk_184 0 69 (dk_at dksX4_takes_4 3 rfl rfl)
theorem dX4_takes_100 : decode cX4_takes 100 = .ok (.ifCond .eq 174, 3) := dk_153 0 174 (dk_at dksX4_takes_4 6 rfl rfl)
theorem dX4_takes_103 : decode cX4_takes 103 = .ok (.aload_n 0, 1) := dk_42 (dk_at dksX4_takes_4 9 rfl rfl)
theorem dX4_takes_104 : decode cX4_takes 104 = .ok (.dup, 1) := dk_89 (dk_at dksX4_takes_4 10 rfl rfl)
theorem dX4_takes_105 : decode cX4_takes 105 = .ok (.getfield 85, 3) := dk_180 0 85 (dk_at dksX4_takes_4 11 rfl rfl)
theorem dX4_takes_108 : decode cX4_takes 108 = .ok (.iconst 1, 1) := dk_4 (dk_at dksX4_takes_4 14 rfl rfl)
theorem dX4_takes_109 : decode cX4_takes 109 = .ok (.iadd, 1) := dk_96 (dk_at dksX4_takes_4 15 rfl rfl)
theorem dX4_takes_110 : decode cX4_takes 110 = .ok (.putfield 85, 3) := dk_181 0 85 (dk_at dksX4_takes_4 16 rfl rfl)
theorem dX4_takes_113 : decode cX4_takes 113 = .ok (.goto (-31), 3) := dk_167 255 225 (dk_at dksX4_takes_4 19 rfl rfl)
theorem dX4_takes_116 : decode cX4_takes 116 = .ok (.iload_n 1, 1) := dk_27 (dk_at dksX4_takes_4 22 rfl rfl)
theorem dX4_takes_117 : decode cX4_takes 117 = .ok (.i2l, 1) := dk_133 (dk_at dksX4_takes_4 23 rfl rfl)
theorem dX4_takes_118 : decode cX4_takes 118 = .ok (.ldc2_w 107, 3) := dk_20 0 107 (dk_at dksX4_takes_5 0 rfl rfl)
theorem dX4_takes_121 : decode cX4_takes 121 = .ok (.ldc2_w 109, 3) := dk_20 0 109 (dk_at dksX4_takes_5 3 rfl rfl)
theorem dX4_takes_124 : decode cX4_takes 124 = .ok (.invokestatic 69, 3) := dk_184 0 69 (dk_at dksX4_takes_5 6 rfl rfl)
theorem dX4_takes_127 : decode cX4_takes 127 = .ok (.ifCond .eq 116, 3) := dk_153 0 116 (dk_at dksX4_takes_5 9 rfl rfl)
theorem dX4_takes_130 : decode cX4_takes 130 = .ok (.aload_n 0, 1) := dk_42 (dk_at dksX4_takes_5 12 rfl rfl)
theorem dX4_takes_131 : decode cX4_takes 131 = .ok (.iconst 2, 1) := dk_5 (dk_at dksX4_takes_5 13 rfl rfl)
theorem dX4_takes_132 : decode cX4_takes 132 = .ok (.putfield 100, 3) := dk_181 0 100 (dk_at dksX4_takes_5 14 rfl rfl)
theorem dX4_takes_135 : decode cX4_takes 135 = .ok (.aload_n 0, 1) := dk_42 (dk_at dksX4_takes_5 17 rfl rfl)
theorem dX4_takes_136 : decode cX4_takes 136 = .ok (.iconst 0, 1) := dk_3 (dk_at dksX4_takes_5 18 rfl rfl)
theorem dX4_takes_137 : decode cX4_takes 137 = .ok (.putfield 111, 3) := dk_181 0 111 (dk_at dksX4_takes_5 19 rfl rfl)
theorem dX4_takes_140 : decode cX4_takes 140 = .ok (.aload_n 0, 1) := dk_42 (dk_at dksX4_takes_5 22 rfl rfl)
theorem dX4_takes_141 : decode cX4_takes 141 = .ok (.aload_n 0, 1) := dk_42 (dk_at dksX4_takes_5 23 rfl rfl)
theorem dX4_takes_142 : decode cX4_takes 142 = .ok (.getfield 85, 3) := dk_180 0 85 (dk_at dksX4_takes_6 0 rfl rfl)
theorem dX4_takes_145 : decode cX4_takes 145 = .ok (.invokevirtual 88, 3) := dk_182 0 88 (dk_at dksX4_takes_6 3 rfl rfl)
theorem dX4_takes_148 : decode cX4_takes 148 = .ok (.i2l, 1) := dk_133 (dk_at dksX4_takes_6 6 rfl rfl)
theorem dX4_takes_149 : decode cX4_takes 149 = .ok (.ldc2_w 107, 3) := dk_20 0 107 (dk_at dksX4_takes_6 7 rfl rfl)
theorem dX4_takes_152 : decode cX4_takes 152 = .ok (.ldc2_w 109, 3) := dk_20 0 109 (dk_at dksX4_takes_6 10 rfl rfl)
theorem dX4_takes_155 : decode cX4_takes 155 = .ok (.invokestatic 69, 3) := dk_184 0 69 (dk_at dksX4_takes_6 13 rfl rfl)
theorem dX4_takes_158 : decode cX4_takes 158 = .ok (.ifCond .eq 59, 3) := dk_153 0 59 (dk_at dksX4_takes_6 16 rfl rfl)
theorem dX4_takes_161 : decode cX4_takes 161 = .ok (.aload_n 0, 1) := dk_42 (dk_at dksX4_takes_6 19 rfl rfl)
theorem dX4_takes_162 : decode cX4_takes 162 = .ok (.aload_n 0, 1) := dk_42 (dk_at dksX4_takes_6 20 rfl rfl)
theorem dX4_takes_163 : decode cX4_takes 163 = .ok (.getfield 85, 3) := dk_180 0 85 (dk_at dksX4_takes_6 21 rfl rfl)
theorem dX4_takes_166 : decode cX4_takes 166 = .ok (.aload_n 0, 1) := dk_42 (dk_at dksX4_takes_7 0 rfl rfl)
theorem dX4_takes_167 : decode cX4_takes 167 = .ok (.getfield 79, 3) := dk_180 0 79 (dk_at dksX4_takes_7 1 rfl rfl)
theorem dX4_takes_170 : decode cX4_takes 170 = .ok (.isub, 1) := dk_100 (dk_at dksX4_takes_7 4 rfl rfl)
theorem dX4_takes_171 : decode cX4_takes 171 = .ok (.iconst 2, 1) := dk_5 (dk_at dksX4_takes_7 5 rfl rfl)
theorem dX4_takes_172 : decode cX4_takes 172 = .ok (.if_icmp .ge 25, 3) := dk_162 0 25 (dk_at dksX4_takes_7 6 rfl rfl)
theorem dX4_takes_175 : decode cX4_takes 175 = .ok (.bipush 10, 2) := dk_16 10 (dk_at dksX4_takes_7 9 rfl rfl)
theorem dX4_takes_177 : decode cX4_takes 177 = .ok (.aload_n 0, 1) := dk_42 (dk_at dksX4_takes_7 11 rfl rfl)
theorem dX4_takes_178 : decode cX4_takes 178 = .ok (.getfield 111, 3) := dk_180 0 111 (dk_at dksX4_takes_7 12 rfl rfl)
theorem dX4_takes_181 : decode cX4_takes 181 = .ok (.imul, 1) := dk_104 (dk_at dksX4_takes_7 15 rfl rfl)
theorem dX4_takes_182 : decode cX4_takes 182 = .ok (.aload_n 0, 1) := dk_42 (dk_at dksX4_takes_7 16 rfl rfl)
theorem dX4_takes_183 : decode cX4_takes 183 = .ok (.aload_n 0, 1) := dk_42 (dk_at dksX4_takes_7 17 rfl rfl)
theorem dX4_takes_184 : decode cX4_takes 184 = .ok (.getfield 85, 3) := dk_180 0 85 (dk_at dksX4_takes_7 18 rfl rfl)
theorem dX4_takes_187 : decode cX4_takes 187 = .ok (.invokevirtual 88, 3) := dk_182 0 88 (dk_at dksX4_takes_7 21 rfl rfl)
theorem dX4_takes_190 : decode cX4_takes 190 = .ok (.iadd, 1) := dk_96 (dk_at dksX4_takes_8 0 rfl rfl)
theorem dX4_takes_191 : decode cX4_takes 191 = .ok (.bipush 48, 2) := dk_16 48 (dk_at dksX4_takes_8 1 rfl rfl)
theorem dX4_takes_193 : decode cX4_takes 193 = .ok (.isub, 1) := dk_100 (dk_at dksX4_takes_8 3 rfl rfl)
theorem dX4_takes_194 : decode cX4_takes 194 = .ok (.goto 7, 3) := dk_167 0 7 (dk_at dksX4_takes_8 4 rfl rfl)
theorem dX4_takes_197 : decode cX4_takes 197 = .ok (.aload_n 0, 1) := dk_42 (dk_at dksX4_takes_8 7 rfl rfl)
theorem dX4_takes_198 : decode cX4_takes 198 = .ok (.getfield 111, 3) := dk_180 0 111 (dk_at dksX4_takes_8 8 rfl rfl)
theorem dX4_takes_201 : decode cX4_takes 201 = .ok (.putfield 111, 3) := dk_181 0 111 (dk_at dksX4_takes_8 11 rfl rfl)
theorem dX4_takes_204 : decode cX4_takes 204 = .ok (.aload_n 0, 1) := dk_42 (dk_at dksX4_takes_8 14 rfl rfl)
theorem dX4_takes_205 : decode cX4_takes 205 = .ok (.dup, 1) := dk_89 (dk_at dksX4_takes_8 15 rfl rfl)
theorem dX4_takes_206 : decode cX4_takes 206 = .ok (.getfield 85, 3) := dk_180 0 85 (dk_at dksX4_takes_8 16 rfl rfl)
theorem dX4_takes_209 : decode cX4_takes 209 = .ok (.iconst 1, 1) := dk_4 (dk_at dksX4_takes_8 19 rfl rfl)
theorem dX4_takes_210 : decode cX4_takes 210 = .ok (.iadd, 1) := dk_96 (dk_at dksX4_takes_8 20 rfl rfl)
theorem dX4_takes_211 : decode cX4_takes 211 = .ok (.putfield 85, 3) := dk_181 0 85 (dk_at dksX4_takes_8 21 rfl rfl)
theorem dX4_takes_214 : decode cX4_takes 214 = .ok (.goto (-74), 3) := dk_167 255 182 (dk_at dksX4_takes_9 0 rfl rfl)
theorem dX4_takes_217 : decode cX4_takes 217 = .ok (.aload_n 0, 1) := dk_42 (dk_at dksX4_takes_9 3 rfl rfl)
theorem dX4_takes_218 : decode cX4_takes 218 = .ok (.aload_n 0, 1) := dk_42 (dk_at dksX4_takes_9 4 rfl rfl)
theorem dX4_takes_219 : decode cX4_takes 219 = .ok (.getfield 85, 3) := dk_180 0 85 (dk_at dksX4_takes_9 5 rfl rfl)
theorem dX4_takes_222 : decode cX4_takes 222 = .ok (.aload_n 0, 1) := dk_42 (dk_at dksX4_takes_9 8 rfl rfl)
theorem dX4_takes_223 : decode cX4_takes 223 = .ok (.getfield 79, 3) := dk_180 0 79 (dk_at dksX4_takes_9 9 rfl rfl)
theorem dX4_takes_226 : decode cX4_takes 226 = .ok (.isub, 1) := dk_100 (dk_at dksX4_takes_9 12 rfl rfl)
theorem dX4_takes_227 : decode cX4_takes 227 = .ok (.iconst 2, 1) := dk_5 (dk_at dksX4_takes_9 13 rfl rfl)
theorem dX4_takes_228 : decode cX4_takes 228 = .ok (.if_icmp .gt 7, 3) := dk_163 0 7 (dk_at dksX4_takes_9 14 rfl rfl)
theorem dX4_takes_231 : decode cX4_takes 231 = .ok (.iconst 1, 1) := dk_4 (dk_at dksX4_takes_9 17 rfl rfl)
theorem dX4_takes_232 : decode cX4_takes 232 = .ok (.goto 4, 3) := dk_167 0 4 (dk_at dksX4_takes_9 18 rfl rfl)
theorem dX4_takes_235 : decode cX4_takes 235 = .ok (.iconst 0, 1) := dk_3 (dk_at dksX4_takes_9 21 rfl rfl)
theorem dX4_takes_236 : decode cX4_takes 236 = .ok (.iconst 1, 1) := dk_4 (dk_at dksX4_takes_9 22 rfl rfl)
theorem dX4_takes_237 : decode cX4_takes 237 = .ok (.invokevirtual 114, 3) := dk_182 0 114 (dk_at dksX4_takes_10 0 rfl rfl)
theorem dX4_takes_240 : decode cX4_takes 240 = .ok (.goto 34, 3) := dk_167 0 34 (dk_at dksX4_takes_10 3 rfl rfl)
theorem dX4_takes_243 : decode cX4_takes 243 = .ok (.aload_n 0, 1) := dk_42 (dk_at dksX4_takes_10 6 rfl rfl)
theorem dX4_takes_244 : decode cX4_takes 244 = .ok (.iconst 3, 1) := dk_6 (dk_at dksX4_takes_10 7 rfl rfl)
theorem dX4_takes_245 : decode cX4_takes 245 = .ok (.putfield 100, 3) := dk_181 0 100 (dk_at dksX4_takes_10 8 rfl rfl)
theorem dX4_takes_248 : decode cX4_takes 248 = .ok (.aload_n 0, 1) := dk_42 (dk_at dksX4_takes_10 11 rfl rfl)
theorem dX4_takes_249 : decode cX4_takes 249 = .ok (.iload_n 1, 1) := dk_27 (dk_at dksX4_takes_10 12 rfl rfl)
theorem dX4_takes_250 : decode cX4_takes 250 = .ok (.bipush 59, 2) := dk_16 59 (dk_at dksX4_takes_10 13 rfl rfl)
theorem dX4_takes_252 : decode cX4_takes 252 = .ok (.if_icmp .ne 7, 3) := dk_160 0 7 (dk_at dksX4_takes_10 15 rfl rfl)
theorem dX4_takes_255 : decode cX4_takes 255 = .ok (.iconst 1, 1) := dk_4 (dk_at dksX4_takes_10 18 rfl rfl)
theorem dX4_takes_256 : decode cX4_takes 256 = .ok (.goto 4, 3) := dk_167 0 4 (dk_at dksX4_takes_10 19 rfl rfl)
theorem dX4_takes_259 : decode cX4_takes 259 = .ok (.iconst 0, 1) := dk_3 (dk_at dksX4_takes_10 22 rfl rfl)
theorem dX4_takes_260 : decode cX4_takes 260 = .ok (.iconst 1, 1) := dk_4 (dk_at dksX4_takes_10 23 rfl rfl)
theorem dX4_takes_261 : decode cX4_takes 261 = .ok (.invokevirtual 114, 3) := dk_182 0 114 (dk_at dksX4_takes_11 0 rfl rfl)
theorem dX4_takes_264 : decode cX4_takes 264 = .ok (.aload_n 0, 1) := dk_42 (dk_at dksX4_takes_11 3 rfl rfl)
theorem dX4_takes_265 : decode cX4_takes 265 = .ok (.dup, 1) := dk_89 (dk_at dksX4_takes_11 4 rfl rfl)
theorem dX4_takes_266 : decode cX4_takes 266 = .ok (.getfield 85, 3) := dk_180 0 85 (dk_at dksX4_takes_11 5 rfl rfl)
theorem dX4_takes_269 : decode cX4_takes 269 = .ok (.iconst 1, 1) := dk_4 (dk_at dksX4_takes_11 8 rfl rfl)
theorem dX4_takes_270 : decode cX4_takes 270 = .ok (.iadd, 1) := dk_96 (dk_at dksX4_takes_11 9 rfl rfl)
theorem dX4_takes_271 : decode cX4_takes 271 = .ok (.putfield 85, 3) := dk_181 0 85 (dk_at dksX4_takes_11 10 rfl rfl)
theorem dX4_takes_274 : decode cX4_takes 274 = .ok (.return_, 1) := dk_177 (dk_at dksX4_takes_11 13 rfl rfl)
abbrev cX4_byteAt : ByteArray := prog_12_method_12_code
def yX4_byteAt : MethodName := ⟨RX4, "byteAt", "(I)I"⟩
def dkwX4_byteAt_0 : List UInt8 := [27, 42, 180, 0, 73, 162, 0, 12, 42, 180, 0, 23, 27, 46, 167, 0, 4, 2, 172]
abbrev dktX4_byteAt_0 : List UInt8 := dkwX4_byteAt_0 ++ []
theorem dksX4_byteAt_0 : cX4_byteAt.data.toList.drop 0 = dktX4_byteAt_0 := by decide +kernel
theorem dX4_byteAt_0 : decode cX4_byteAt 0 = .ok (.iload_n 1, 1) := dk_27 (dk_at dksX4_byteAt_0 0 rfl rfl)
theorem dX4_byteAt_1 : decode cX4_byteAt 1 = .ok (.aload_n 0, 1) := dk_42 (dk_at dksX4_byteAt_0 1 rfl rfl)
theorem dX4_byteAt_2 : decode cX4_byteAt 2 = .ok (.getfield 73, 3) := dk_180 0 73 (dk_at dksX4_byteAt_0 2 rfl rfl)
theorem dX4_byteAt_5 : decode cX4_byteAt 5 = .ok (.if_icmp .ge 12, 3) := dk_162 0 12 (dk_at dksX4_byteAt_0 5 rfl rfl)
theorem dX4_byteAt_8 : decode cX4_byteAt 8 = .ok (.aload_n 0, 1) := dk_42 (dk_at dksX4_byteAt_0 8 rfl rfl)
theorem dX4_byteAt_9 : decode cX4_byteAt 9 = .ok (.getfield 23, 3) := dk_180 0 23 (dk_at dksX4_byteAt_0 9 rfl rfl)
theorem dX4_byteAt_12 : decode cX4_byteAt 12 = .ok (.iload_n 1, 1) := dk_27 (dk_at dksX4_byteAt_0 12 rfl rfl)
theorem dX4_byteAt_13 : decode cX4_byteAt 13 = .ok (.iaload, 1) := dk_46 (dk_at dksX4_byteAt_0 13 rfl rfl)
theorem dX4_byteAt_14 : decode cX4_byteAt 14 = .ok (.goto 4, 3) := dk_167 0 4 (dk_at dksX4_byteAt_0 14 rfl rfl)
theorem dX4_byteAt_17 : decode cX4_byteAt 17 = .ok (.iconst (-1), 1) := dk_2 (dk_at dksX4_byteAt_0 17 rfl rfl)
theorem dX4_byteAt_18 : decode cX4_byteAt 18 = .ok (.ireturn, 1) := dk_172 (dk_at dksX4_byteAt_0 18 rfl rfl)
abbrev cX4_needs : ByteArray := prog_12_method_11_code
def yX4_needs : MethodName := ⟨RX4, "needs", "(ZI)V"⟩
def dkwX4_needs_1 : List UInt8 := [177]
abbrev dktX4_needs_1 : List UInt8 := dkwX4_needs_1 ++ []
def dkwX4_needs_0 : List UInt8 := [27, 154, 0, 23, 42, 180, 0, 76, 154, 0, 16, 42, 28, 181, 0, 76, 42, 42, 180, 0, 79, 181, 0, 82]
abbrev dktX4_needs_0 : List UInt8 := dkwX4_needs_0 ++ dktX4_needs_1
theorem dksX4_needs_0 : cX4_needs.data.toList.drop 0 = dktX4_needs_0 := by decide +kernel
theorem dksX4_needs_1 : cX4_needs.data.toList.drop 24 = dktX4_needs_1 := dk_seg dksX4_needs_0 24 rfl rfl
theorem dX4_needs_0 : decode cX4_needs 0 = .ok (.iload_n 1, 1) := dk_27 (dk_at dksX4_needs_0 0 rfl rfl)
theorem dX4_needs_1 : decode cX4_needs 1 = .ok (.ifCond .ne 23, 3) := dk_154 0 23 (dk_at dksX4_needs_0 1 rfl rfl)
theorem dX4_needs_4 : decode cX4_needs 4 = .ok (.aload_n 0, 1) := dk_42 (dk_at dksX4_needs_0 4 rfl rfl)
theorem dX4_needs_5 : decode cX4_needs 5 = .ok (.getfield 76, 3) := dk_180 0 76 (dk_at dksX4_needs_0 5 rfl rfl)
theorem dX4_needs_8 : decode cX4_needs 8 = .ok (.ifCond .ne 16, 3) := dk_154 0 16 (dk_at dksX4_needs_0 8 rfl rfl)
theorem dX4_needs_11 : decode cX4_needs 11 = .ok (.aload_n 0, 1) := dk_42 (dk_at dksX4_needs_0 11 rfl rfl)
theorem dX4_needs_12 : decode cX4_needs 12 = .ok (.iload_n 2, 1) := dk_28 (dk_at dksX4_needs_0 12 rfl rfl)
theorem dX4_needs_13 : decode cX4_needs 13 = .ok (.putfield 76, 3) := dk_181 0 76 (dk_at dksX4_needs_0 13 rfl rfl)
theorem dX4_needs_16 : decode cX4_needs 16 = .ok (.aload_n 0, 1) := dk_42 (dk_at dksX4_needs_0 16 rfl rfl)
theorem dX4_needs_17 : decode cX4_needs 17 = .ok (.aload_n 0, 1) := dk_42 (dk_at dksX4_needs_0 17 rfl rfl)
theorem dX4_needs_18 : decode cX4_needs 18 = .ok (.getfield 79, 3) := dk_180 0 79 (dk_at dksX4_needs_0 18 rfl rfl)
theorem dX4_needs_21 : decode cX4_needs 21 = .ok (.putfield 82, 3) := dk_181 0 82 (dk_at dksX4_needs_0 21 rfl rfl)
theorem dX4_needs_24 : decode cX4_needs 24 = .ok (.return_, 1) := dk_177 (dk_at dksX4_needs_1 0 rfl rfl)
abbrev cX4_readLine : ByteArray := prog_12_method_24_code
def yX4_readLine : MethodName := ⟨RX4, "readLine", "()V"⟩
def dkwX4_readLine_7 : List UInt8 := [167, 0, 4, 3, 5, 182, 0, 114, 42, 182, 0, 122, 177]
abbrev dktX4_readLine_7 : List UInt8 := dkwX4_readLine_7 ++ []
def dkwX4_readLine_6 : List UInt8 := [177, 42, 27, 182, 0, 145, 42, 180, 0, 76, 154, 0, 21, 42, 42, 180, 0, 100, 6, 160, 0, 7, 4]
abbrev dktX4_readLine_6 : List UInt8 := dkwX4_readLine_6 ++ dktX4_readLine_7
def dkwX4_readLine_5 : List UInt8 := [16, 6, 160, 0, 7, 4, 167, 0, 4, 3, 181, 0, 54, 42, 182, 0, 122, 42, 180, 0, 76, 158, 0, 4]
abbrev dktX4_readLine_5 : List UInt8 := dkwX4_readLine_5 ++ dktX4_readLine_6
def dkwX4_readLine_4 : List UInt8 := [180, 0, 54, 154, 0, 7, 4, 167, 0, 4, 3, 7, 182, 0, 114, 42, 42, 180, 0, 54, 154, 0, 9, 27]
abbrev dktX4_readLine_4 : List UInt8 := dkwX4_readLine_4 ++ dktX4_readLine_5
def dkwX4_readLine_3 : List UInt8 := [16, 6, 162, 0, 7, 4, 167, 0, 4, 3, 8, 182, 0, 114, 42, 27, 16, 6, 160, 0, 10, 42]
abbrev dktX4_readLine_3 : List UInt8 := dkwX4_readLine_3 ++ dktX4_readLine_4
def dkwX4_readLine_2 : List UInt8 := [162, 0, 7, 4, 167, 0, 29, 3, 167, 0, 25, 27, 8, 160, 0, 15, 42, 180, 0, 20, 16, 53, 46]
abbrev dktX4_readLine_2 : List UInt8 := dkwX4_readLine_2 ++ dktX4_readLine_3
def dkwX4_readLine_1 : List UInt8 := [159, 0, 7, 4, 167, 0, 4, 3, 5, 182, 0, 114, 42, 27, 7, 162, 0, 19, 42, 180, 0, 50, 8]
abbrev dktX4_readLine_1 : List UInt8 := dkwX4_readLine_1 ++ dktX4_readLine_2
def dkwX4_readLine_0 : List UInt8 := [42, 180, 0, 100, 4, 160, 0, 10, 42, 182, 0, 141, 167, 0, 5, 16, 252, 60, 42, 27, 16, 252]
abbrev dktX4_readLine_0 : List UInt8 := dkwX4_readLine_0 ++ dktX4_readLine_1
theorem dksX4_readLine_0 : cX4_readLine.data.toList.drop 0 = dktX4_readLine_0 := by decide +kernel
theorem dksX4_readLine_1 : cX4_readLine.data.toList.drop 22 = dktX4_readLine_1 := dk_seg dksX4_readLine_0 22 rfl rfl
theorem dksX4_readLine_2 : cX4_readLine.data.toList.drop 45 = dktX4_readLine_2 := dk_seg dksX4_readLine_1 23 rfl rfl
theorem dksX4_readLine_3 : cX4_readLine.data.toList.drop 68 = dktX4_readLine_3 := dk_seg dksX4_readLine_2 23 rfl rfl
theorem dksX4_readLine_4 : cX4_readLine.data.toList.drop 90 = dktX4_readLine_4 := dk_seg dksX4_readLine_3 22 rfl rfl
theorem dksX4_readLine_5 : cX4_readLine.data.toList.drop 114 = dktX4_readLine_5 := dk_seg dksX4_readLine_4 24 rfl rfl
theorem dksX4_readLine_6 : cX4_readLine.data.toList.drop 138 = dktX4_readLine_6 := dk_seg dksX4_readLine_5 24 rfl rfl
theorem dksX4_readLine_7 : cX4_readLine.data.toList.drop 161 = dktX4_readLine_7 := dk_seg dksX4_readLine_6 23 rfl rfl
theorem dX4_readLine_0 : decode cX4_readLine 0 = .ok (.aload_n 0, 1) := dk_42 (dk_at dksX4_readLine_0 0 rfl rfl)
theorem dX4_readLine_1 : decode cX4_readLine 1 = .ok (.getfield 100, 3) := dk_180 0 100 (dk_at dksX4_readLine_0 1 rfl rfl)
theorem dX4_readLine_4 : decode cX4_readLine 4 = .ok (.iconst 1, 1) := dk_4 (dk_at dksX4_readLine_0 4 rfl rfl)
theorem dX4_readLine_5 : decode cX4_readLine 5 = .ok (.if_icmp .ne 10, 3) := dk_160 0 10 (dk_at dksX4_readLine_0 5 rfl rfl)
theorem dX4_readLine_8 : decode cX4_readLine 8 = .ok (.aload_n 0, 1) := dk_42 (dk_at dksX4_readLine_0 8 rfl rfl)
theorem dX4_readLine_9 : decode cX4_readLine 9 = .ok (.invokevirtual 141, 3) := dk_182 0 141 (dk_at dksX4_readLine_0 9 rfl rfl)
theorem dX4_readLine_12 : decode cX4_readLine 12 = .ok (.goto 5, 3) := dk_167 0 5 (dk_at dksX4_readLine_0 12 rfl rfl)
theorem dX4_readLine_15 : decode cX4_readLine 15 = .ok (.bipush (-4), 2) := dk_16 252 (dk_at dksX4_readLine_0 15 rfl rfl)
theorem dX4_readLine_17 : decode cX4_readLine 17 = .ok (.istore_n 1, 1) := dk_60 (dk_at dksX4_readLine_0 17 rfl rfl)
theorem dX4_readLine_18 : decode cX4_readLine 18 = .ok (.aload_n 0, 1) := dk_42 (dk_at dksX4_readLine_0 18 rfl rfl)
theorem dX4_readLine_19 : decode cX4_readLine 19 = .ok (.iload_n 1, 1) := dk_27 (dk_at dksX4_readLine_0 19 rfl rfl)
theorem dX4_readLine_20 : decode cX4_readLine 20 = .ok (.bipush (-4), 2) := dk_16 252 (dk_at dksX4_readLine_0 20 rfl rfl)
theorem dX4_readLine_22 : decode cX4_readLine 22 = .ok (.if_icmp .eq 7, 3) := dk_159 0 7 (dk_at dksX4_readLine_1 0 rfl rfl)
theorem dX4_readLine_25 : decode cX4_readLine 25 = .ok (.iconst 1, 1) := dk_4 (dk_at dksX4_readLine_1 3 rfl rfl)
theorem dX4_readLine_26 : decode cX4_readLine 26 = .ok (.goto 4, 3) := dk_167 0 4 (dk_at dksX4_readLine_1 4 rfl rfl)
theorem dX4_readLine_29 : decode cX4_readLine 29 = .ok (.iconst 0, 1) := dk_3 (dk_at dksX4_readLine_1 7 rfl rfl)
theorem dX4_readLine_30 : decode cX4_readLine 30 = .ok (.iconst 2, 1) := dk_5 (dk_at dksX4_readLine_1 8 rfl rfl)
theorem dX4_readLine_31 : decode cX4_readLine 31 = .ok (.invokevirtual 114, 3) := dk_182 0 114 (dk_at dksX4_readLine_1 9 rfl rfl)
theorem dX4_readLine_34 : decode cX4_readLine 34 = .ok (.aload_n 0, 1) := dk_42 (dk_at dksX4_readLine_1 12 rfl rfl)
theorem dX4_readLine_35 : decode cX4_readLine 35 = .ok (.iload_n 1, 1) := dk_27 (dk_at dksX4_readLine_1 13 rfl rfl)
theorem dX4_readLine_36 : decode cX4_readLine 36 = .ok (.iconst 4, 1) := dk_7 (dk_at dksX4_readLine_1 14 rfl rfl)
theorem dX4_readLine_37 : decode cX4_readLine 37 = .ok (.if_icmp .ge 19, 3) := dk_162 0 19 (dk_at dksX4_readLine_1 15 rfl rfl)
theorem dX4_readLine_40 : decode cX4_readLine 40 = .ok (.aload_n 0, 1) := dk_42 (dk_at dksX4_readLine_1 18 rfl rfl)
theorem dX4_readLine_41 : decode cX4_readLine 41 = .ok (.getfield 50, 3) := dk_180 0 50 (dk_at dksX4_readLine_1 19 rfl rfl)
theorem dX4_readLine_44 : decode cX4_readLine 44 = .ok (.iconst 5, 1) := dk_8 (dk_at dksX4_readLine_1 22 rfl rfl)
theorem dX4_readLine_45 : decode cX4_readLine 45 = .ok (.if_icmp .ge 7, 3) := dk_162 0 7 (dk_at dksX4_readLine_2 0 rfl rfl)
theorem dX4_readLine_48 : decode cX4_readLine 48 = .ok (.iconst 1, 1) := dk_4 (dk_at dksX4_readLine_2 3 rfl rfl)
theorem dX4_readLine_49 : decode cX4_readLine 49 = .ok (.goto 29, 3) := dk_167 0 29 (dk_at dksX4_readLine_2 4 rfl rfl)
theorem dX4_readLine_52 : decode cX4_readLine 52 = .ok (.iconst 0, 1) := dk_3 (dk_at dksX4_readLine_2 7 rfl rfl)
theorem dX4_readLine_53 : decode cX4_readLine 53 = .ok (.goto 25, 3) := dk_167 0 25 (dk_at dksX4_readLine_2 8 rfl rfl)
theorem dX4_readLine_56 : decode cX4_readLine 56 = .ok (.iload_n 1, 1) := dk_27 (dk_at dksX4_readLine_2 11 rfl rfl)
theorem dX4_readLine_57 : decode cX4_readLine 57 = .ok (.iconst 5, 1) := dk_8 (dk_at dksX4_readLine_2 12 rfl rfl)
theorem dX4_readLine_58 : decode cX4_readLine 58 = .ok (.if_icmp .ne 15, 3) := dk_160 0 15 (dk_at dksX4_readLine_2 13 rfl rfl)
theorem dX4_readLine_61 : decode cX4_readLine 61 = .ok (.aload_n 0, 1) := dk_42 (dk_at dksX4_readLine_2 16 rfl rfl)
theorem dX4_readLine_62 : decode cX4_readLine 62 = .ok (.getfield 20, 3) := dk_180 0 20 (dk_at dksX4_readLine_2 17 rfl rfl)
theorem dX4_readLine_65 : decode cX4_readLine 65 = .ok (.bipush 53, 2) := dk_16 53 (dk_at dksX4_readLine_2 20 rfl rfl)
theorem dX4_readLine_67 : decode cX4_readLine 67 = .ok (.iaload, 1) := dk_46 (dk_at dksX4_readLine_2 22 rfl rfl)
theorem dX4_readLine_68 : decode cX4_readLine 68 = .ok (.bipush 6, 2) := dk_16 6 (dk_at dksX4_readLine_3 0 rfl rfl)
theorem dX4_readLine_70 : decode cX4_readLine 70 = .ok (.if_icmp .ge 7, 3) := dk_162 0 7 (dk_at dksX4_readLine_3 2 rfl rfl)
theorem dX4_readLine_73 : decode cX4_readLine 73 = .ok (.iconst 1, 1) := dk_4 (dk_at dksX4_readLine_3 5 rfl rfl)
theorem dX4_readLine_74 : decode cX4_readLine 74 = .ok (.goto 4, 3) := dk_167 0 4 (dk_at dksX4_readLine_3 6 rfl rfl)
theorem dX4_readLine_77 : decode cX4_readLine 77 = .ok (.iconst 0, 1) := dk_3 (dk_at dksX4_readLine_3 9 rfl rfl)
theorem dX4_readLine_78 : decode cX4_readLine 78 = .ok (.iconst 5, 1) := dk_8 (dk_at dksX4_readLine_3 10 rfl rfl)
theorem dX4_readLine_79 : decode cX4_readLine 79 = .ok (.invokevirtual 114, 3) := dk_182 0 114 (dk_at dksX4_readLine_3 11 rfl rfl)
theorem dX4_readLine_82 : decode cX4_readLine 82 = .ok (.aload_n 0, 1) := dk_42 (dk_at dksX4_readLine_3 14 rfl rfl)
theorem dX4_readLine_83 : decode cX4_readLine 83 = .ok (.iload_n 1, 1) := dk_27 (dk_at dksX4_readLine_3 15 rfl rfl)
theorem dX4_readLine_84 : decode cX4_readLine 84 = .ok (.bipush 6, 2) := dk_16 6 (dk_at dksX4_readLine_3 16 rfl rfl)
theorem dX4_readLine_86 : decode cX4_readLine 86 = .ok (.if_icmp .ne 10, 3) := dk_160 0 10 (dk_at dksX4_readLine_3 18 rfl rfl)
theorem dX4_readLine_89 : decode cX4_readLine 89 = .ok (.aload_n 0, 1) := dk_42 (dk_at dksX4_readLine_3 21 rfl rfl)
theorem dX4_readLine_90 : decode cX4_readLine 90 = .ok (.getfield 54, 3) := dk_180 0 54 (dk_at dksX4_readLine_4 0 rfl rfl)
theorem dX4_readLine_93 : decode cX4_readLine 93 = .ok (.ifCond .ne 7, 3) := dk_154 0 7 (dk_at dksX4_readLine_4 3 rfl rfl)
theorem dX4_readLine_96 : decode cX4_readLine 96 = .ok (.iconst 1, 1) := dk_4 (dk_at dksX4_readLine_4 6 rfl rfl)
theorem dX4_readLine_97 : decode cX4_readLine 97 = .ok (.goto 4, 3) := dk_167 0 4 (dk_at dksX4_readLine_4 7 rfl rfl)
theorem dX4_readLine_100 : decode cX4_readLine 100 = .ok (.iconst 0, 1) := dk_3 (dk_at dksX4_readLine_4 10 rfl rfl)
theorem dX4_readLine_101 : decode cX4_readLine 101 = .ok (.iconst 4, 1) := dk_7 (dk_at dksX4_readLine_4 11 rfl rfl)
theorem dX4_readLine_102 : decode cX4_readLine 102 = .ok (.invokevirtual 114, 3) := dk_182 0 114 (dk_at dksX4_readLine_4 12 rfl rfl)
theorem dX4_readLine_105 : decode cX4_readLine 105 = .ok (.aload_n 0, 1) := dk_42 (dk_at dksX4_readLine_4 15 rfl rfl)
theorem dX4_readLine_106 : decode cX4_readLine 106 = .ok (.aload_n 0, 1) := dk_42 (dk_at dksX4_readLine_4 16 rfl rfl)
theorem dX4_readLine_107 : decode cX4_readLine 107 = .ok (.getfield 54, 3) := dk_180 0 54 (dk_at dksX4_readLine_4 17 rfl rfl)
theorem dX4_readLine_110 : decode cX4_readLine 110 = .ok (.ifCond .ne 9, 3) := dk_154 0 9 (dk_at dksX4_readLine_4 20 rfl rfl)
theorem dX4_readLine_113 : decode cX4_readLine 113 = .ok (.iload_n 1, 1) := dk_27 (dk_at dksX4_readLine_4 23 rfl rfl)
theorem dX4_readLine_114 : decode cX4_readLine 114 = .ok (.bipush 6, 2) := dk_16 6 (dk_at dksX4_readLine_5 0 rfl rfl)
theorem dX4_readLine_116 : decode cX4_readLine 116 = .ok (.if_icmp .ne 7, 3) := dk_160 0 7 (dk_at dksX4_readLine_5 2 rfl rfl)
theorem dX4_readLine_119 : decode cX4_readLine 119 = .ok (.iconst 1, 1) := dk_4 (dk_at dksX4_readLine_5 5 rfl rfl)
theorem dX4_readLine_120 : decode cX4_readLine 120 = .ok (.goto 4, 3) := dk_167 0 4 (dk_at dksX4_readLine_5 6 rfl rfl)
theorem dX4_readLine_123 : decode cX4_readLine 123 = .ok (.iconst 0, 1) := dk_3 (dk_at dksX4_readLine_5 9 rfl rfl)
theorem dX4_readLine_124 : decode cX4_readLine 124 = .ok (.putfield 54, 3) := dk_181 0 54 (dk_at dksX4_readLine_5 10 rfl rfl)
theorem dX4_readLine_127 : decode cX4_readLine 127 = .ok (.aload_n 0, 1) := dk_42 (dk_at dksX4_readLine_5 13 rfl rfl)
theorem dX4_readLine_128 : decode cX4_readLine 128 = .ok (.invokevirtual 122, 3) := dk_182 0 122 (dk_at dksX4_readLine_5 14 rfl rfl)
theorem dX4_readLine_131 : decode cX4_readLine 131 = .ok (.aload_n 0, 1) := dk_42 (dk_at dksX4_readLine_5 17 rfl rfl)
theorem dX4_readLine_132 : decode cX4_readLine 132 = .ok (.getfield 76, 3) := dk_180 0 76 (dk_at dksX4_readLine_5 18 rfl rfl)
theorem dX4_readLine_135 : decode cX4_readLine 135 = .ok (.ifCond .le 4, 3) := dk_158 0 4 (dk_at dksX4_readLine_5 21 rfl rfl)
theorem dX4_readLine_138 : decode cX4_readLine 138 = .ok (.return_, 1) := dk_177 (dk_at dksX4_readLine_6 0 rfl rfl)
theorem dX4_readLine_139 : decode cX4_readLine 139 = .ok (.aload_n 0, 1) := dk_42 (dk_at dksX4_readLine_6 1 rfl rfl)
theorem dX4_readLine_140 : decode cX4_readLine 140 = .ok (.iload_n 1, 1) := dk_27 (dk_at dksX4_readLine_6 2 rfl rfl)
theorem dX4_readLine_141 : decode cX4_readLine 141 = .ok (.invokevirtual 145, 3) := dk_182 0 145 (dk_at dksX4_readLine_6 3 rfl rfl)
theorem dX4_readLine_144 : decode cX4_readLine 144 = .ok (.aload_n 0, 1) := dk_42 (dk_at dksX4_readLine_6 6 rfl rfl)
theorem dX4_readLine_145 : decode cX4_readLine 145 = .ok (.getfield 76, 3) := dk_180 0 76 (dk_at dksX4_readLine_6 7 rfl rfl)
theorem dX4_readLine_148 : decode cX4_readLine 148 = .ok (.ifCond .ne 21, 3) := dk_154 0 21 (dk_at dksX4_readLine_6 10 rfl rfl)
theorem dX4_readLine_151 : decode cX4_readLine 151 = .ok (.aload_n 0, 1) := dk_42 (dk_at dksX4_readLine_6 13 rfl rfl)
theorem dX4_readLine_152 : decode cX4_readLine 152 = .ok (.aload_n 0, 1) := dk_42 (dk_at dksX4_readLine_6 14 rfl rfl)
theorem dX4_readLine_153 : decode cX4_readLine 153 = .ok (.getfield 100, 3) := dk_180 0 100 (dk_at dksX4_readLine_6 15 rfl rfl)
theorem dX4_readLine_156 : decode cX4_readLine 156 = .ok (.iconst 3, 1) := dk_6 (dk_at dksX4_readLine_6 18 rfl rfl)
theorem dX4_readLine_157 : decode cX4_readLine 157 = .ok (.if_icmp .ne 7, 3) := dk_160 0 7 (dk_at dksX4_readLine_6 19 rfl rfl)
theorem dX4_readLine_160 : decode cX4_readLine 160 = .ok (.iconst 1, 1) := dk_4 (dk_at dksX4_readLine_6 22 rfl rfl)
theorem dX4_readLine_161 : decode cX4_readLine 161 = .ok (.goto 4, 3) := dk_167 0 4 (dk_at dksX4_readLine_7 0 rfl rfl)
theorem dX4_readLine_164 : decode cX4_readLine 164 = .ok (.iconst 0, 1) := dk_3 (dk_at dksX4_readLine_7 3 rfl rfl)
theorem dX4_readLine_165 : decode cX4_readLine 165 = .ok (.iconst 2, 1) := dk_5 (dk_at dksX4_readLine_7 4 rfl rfl)
theorem dX4_readLine_166 : decode cX4_readLine 166 = .ok (.invokevirtual 114, 3) := dk_182 0 114 (dk_at dksX4_readLine_7 5 rfl rfl)
theorem dX4_readLine_169 : decode cX4_readLine 169 = .ok (.aload_n 0, 1) := dk_42 (dk_at dksX4_readLine_7 8 rfl rfl)
theorem dX4_readLine_170 : decode cX4_readLine 170 = .ok (.invokevirtual 122, 3) := dk_182 0 122 (dk_at dksX4_readLine_7 9 rfl rfl)
theorem dX4_readLine_173 : decode cX4_readLine 173 = .ok (.return_, 1) := dk_177 (dk_at dksX4_readLine_7 12 rfl rfl)
abbrev cX4_lineNow : ByteArray := prog_12_method_15_code
def yX4_lineNow : MethodName := ⟨RX4, "lineNow", "()I"⟩
def dkwX4_lineNow_7 : List UInt8 := [182, 0, 96, 153, 0, 8, 16, 6, 167, 0, 5, 16, 252, 172]
abbrev dktX4_lineNow_7 : List UInt8 := dkwX4_lineNow_7 ++ []
def dkwX4_lineNow_6 : List UInt8 := [8, 167, 0, 35, 42, 8, 16, 102, 16, 101, 16, 97, 16, 115, 182, 0, 92, 153, 0, 17, 42, 16, 116]
abbrev dktX4_lineNow_6 : List UInt8 := dkwX4_lineNow_6 ++ dktX4_lineNow_7
def dkwX4_lineNow_5 : List UInt8 := [182, 0, 96, 153, 0, 5, 7, 172, 42, 7, 16, 114, 16, 111, 16, 112, 16, 101, 182, 0, 92, 153, 0, 7]
abbrev dktX4_lineNow_5 : List UInt8 := dkwX4_lineNow_5 ++ dktX4_lineNow_6
def dkwX4_lineNow_4 : List UInt8 := [153, 0, 5, 6, 172, 42, 8, 16, 99, 16, 114, 16, 111, 16, 115, 182, 0, 92, 153, 0, 14, 42, 16, 115]
abbrev dktX4_lineNow_4 : List UInt8 := dkwX4_lineNow_4 ++ dktX4_lineNow_5
def dkwX4_lineNow_3 : List UInt8 := [5, 172, 42, 8, 16, 119, 16, 105, 16, 100, 16, 111, 182, 0, 92, 153, 0, 14, 42, 16, 119, 182, 0, 96]
abbrev dktX4_lineNow_3 : List UInt8 := dkwX4_lineNow_3 ++ dktX4_lineNow_4
def dkwX4_lineNow_2 : List UInt8 := [182, 0, 96, 153, 0, 5, 4, 172, 42, 7, 16, 102, 16, 111, 16, 110, 16, 100, 182, 0, 92, 153, 0, 5]
abbrev dktX4_lineNow_2 : List UInt8 := dkwX4_lineNow_2 ++ dktX4_lineNow_3
def dkwX4_lineNow_1 : List UInt8 := [153, 0, 5, 3, 172, 42, 8, 16, 112, 16, 114, 16, 111, 16, 117, 182, 0, 92, 153, 0, 14, 42, 16, 100]
abbrev dktX4_lineNow_1 : List UInt8 := dkwX4_lineNow_1 ++ dktX4_lineNow_2
def dkwX4_lineNow_0 : List UInt8 := [42, 8, 16, 112, 16, 108, 16, 97, 16, 105, 182, 0, 92, 153, 0, 14, 42, 16, 110, 182, 0, 96]
abbrev dktX4_lineNow_0 : List UInt8 := dkwX4_lineNow_0 ++ dktX4_lineNow_1
theorem dksX4_lineNow_0 : cX4_lineNow.data.toList.drop 0 = dktX4_lineNow_0 := by decide +kernel
theorem dksX4_lineNow_1 : cX4_lineNow.data.toList.drop 22 = dktX4_lineNow_1 := dk_seg dksX4_lineNow_0 22 rfl rfl
theorem dksX4_lineNow_2 : cX4_lineNow.data.toList.drop 46 = dktX4_lineNow_2 := dk_seg dksX4_lineNow_1 24 rfl rfl
theorem dksX4_lineNow_3 : cX4_lineNow.data.toList.drop 70 = dktX4_lineNow_3 := dk_seg dksX4_lineNow_2 24 rfl rfl
theorem dksX4_lineNow_4 : cX4_lineNow.data.toList.drop 94 = dktX4_lineNow_4 := dk_seg dksX4_lineNow_3 24 rfl rfl
theorem dksX4_lineNow_5 : cX4_lineNow.data.toList.drop 118 = dktX4_lineNow_5 := dk_seg dksX4_lineNow_4 24 rfl rfl
theorem dksX4_lineNow_6 : cX4_lineNow.data.toList.drop 142 = dktX4_lineNow_6 := dk_seg dksX4_lineNow_5 24 rfl rfl
theorem dksX4_lineNow_7 : cX4_lineNow.data.toList.drop 165 = dktX4_lineNow_7 := dk_seg dksX4_lineNow_6 23 rfl rfl
theorem dX4_lineNow_0 : decode cX4_lineNow 0 = .ok (.aload_n 0, 1) := dk_42 (dk_at dksX4_lineNow_0 0 rfl rfl)
theorem dX4_lineNow_1 : decode cX4_lineNow 1 = .ok (.iconst 5, 1) := dk_8 (dk_at dksX4_lineNow_0 1 rfl rfl)
theorem dX4_lineNow_2 : decode cX4_lineNow 2 = .ok (.bipush 112, 2) := dk_16 112 (dk_at dksX4_lineNow_0 2 rfl rfl)
theorem dX4_lineNow_4 : decode cX4_lineNow 4 = .ok (.bipush 108, 2) := dk_16 108 (dk_at dksX4_lineNow_0 4 rfl rfl)
theorem dX4_lineNow_6 : decode cX4_lineNow 6 = .ok (.bipush 97, 2) := dk_16 97 (dk_at dksX4_lineNow_0 6 rfl rfl)
theorem dX4_lineNow_8 : decode cX4_lineNow 8 = .ok (.bipush 105, 2) := dk_16 105 (dk_at dksX4_lineNow_0 8 rfl rfl)
theorem dX4_lineNow_10 : decode cX4_lineNow 10 = .ok (.invokevirtual 92, 3) := dk_182 0 92 (dk_at dksX4_lineNow_0 10 rfl rfl)
theorem dX4_lineNow_13 : decode cX4_lineNow 13 = .ok (.ifCond .eq 14, 3) := dk_153 0 14 (dk_at dksX4_lineNow_0 13 rfl rfl)
theorem dX4_lineNow_16 : decode cX4_lineNow 16 = .ok (.aload_n 0, 1) := dk_42 (dk_at dksX4_lineNow_0 16 rfl rfl)
theorem dX4_lineNow_17 : decode cX4_lineNow 17 = .ok (.bipush 110, 2) := dk_16 110 (dk_at dksX4_lineNow_0 17 rfl rfl)
theorem dX4_lineNow_19 : decode cX4_lineNow 19 = .ok (.invokevirtual 96, 3) := dk_182 0 96 (dk_at dksX4_lineNow_0 19 rfl rfl)
theorem dX4_lineNow_22 : decode cX4_lineNow 22 = .ok (.ifCond .eq 5, 3) := dk_153 0 5 (dk_at dksX4_lineNow_1 0 rfl rfl)
theorem dX4_lineNow_25 : decode cX4_lineNow 25 = .ok (.iconst 0, 1) := dk_3 (dk_at dksX4_lineNow_1 3 rfl rfl)
theorem dX4_lineNow_26 : decode cX4_lineNow 26 = .ok (.ireturn, 1) := dk_172 (dk_at dksX4_lineNow_1 4 rfl rfl)
theorem dX4_lineNow_27 : decode cX4_lineNow 27 = .ok (.aload_n 0, 1) := dk_42 (dk_at dksX4_lineNow_1 5 rfl rfl)
theorem dX4_lineNow_28 : decode cX4_lineNow 28 = .ok (.iconst 5, 1) := dk_8 (dk_at dksX4_lineNow_1 6 rfl rfl)
theorem dX4_lineNow_29 : decode cX4_lineNow 29 = .ok (.bipush 112, 2) := dk_16 112 (dk_at dksX4_lineNow_1 7 rfl rfl)
theorem dX4_lineNow_31 : decode cX4_lineNow 31 = .ok (.bipush 114, 2) := dk_16 114 (dk_at dksX4_lineNow_1 9 rfl rfl)
theorem dX4_lineNow_33 : decode cX4_lineNow 33 = .ok (.bipush 111, 2) := dk_16 111 (dk_at dksX4_lineNow_1 11 rfl rfl)
theorem dX4_lineNow_35 : decode cX4_lineNow 35 = .ok (.bipush 117, 2) := dk_16 117 (dk_at dksX4_lineNow_1 13 rfl rfl)
theorem dX4_lineNow_37 : decode cX4_lineNow 37 = .ok (.invokevirtual 92, 3) := dk_182 0 92 (dk_at dksX4_lineNow_1 15 rfl rfl)
theorem dX4_lineNow_40 : decode cX4_lineNow 40 = .ok (.ifCond .eq 14, 3) := dk_153 0 14 (dk_at dksX4_lineNow_1 18 rfl rfl)
theorem dX4_lineNow_43 : decode cX4_lineNow 43 = .ok (.aload_n 0, 1) := dk_42 (dk_at dksX4_lineNow_1 21 rfl rfl)
theorem dX4_lineNow_44 : decode cX4_lineNow 44 = .ok (.bipush 100, 2) := dk_16 100 (dk_at dksX4_lineNow_1 22 rfl rfl)
theorem dX4_lineNow_46 : decode cX4_lineNow 46 = .ok (.invokevirtual 96, 3) := dk_182 0 96 (dk_at dksX4_lineNow_2 0 rfl rfl)
theorem dX4_lineNow_49 : decode cX4_lineNow 49 = .ok (.ifCond .eq 5, 3) := dk_153 0 5 (dk_at dksX4_lineNow_2 3 rfl rfl)
theorem dX4_lineNow_52 : decode cX4_lineNow 52 = .ok (.iconst 1, 1) := dk_4 (dk_at dksX4_lineNow_2 6 rfl rfl)
theorem dX4_lineNow_53 : decode cX4_lineNow 53 = .ok (.ireturn, 1) := dk_172 (dk_at dksX4_lineNow_2 7 rfl rfl)
theorem dX4_lineNow_54 : decode cX4_lineNow 54 = .ok (.aload_n 0, 1) := dk_42 (dk_at dksX4_lineNow_2 8 rfl rfl)
theorem dX4_lineNow_55 : decode cX4_lineNow 55 = .ok (.iconst 4, 1) := dk_7 (dk_at dksX4_lineNow_2 9 rfl rfl)
theorem dX4_lineNow_56 : decode cX4_lineNow 56 = .ok (.bipush 102, 2) := dk_16 102 (dk_at dksX4_lineNow_2 10 rfl rfl)
theorem dX4_lineNow_58 : decode cX4_lineNow 58 = .ok (.bipush 111, 2) := dk_16 111 (dk_at dksX4_lineNow_2 12 rfl rfl)
theorem dX4_lineNow_60 : decode cX4_lineNow 60 = .ok (.bipush 110, 2) := dk_16 110 (dk_at dksX4_lineNow_2 14 rfl rfl)
theorem dX4_lineNow_62 : decode cX4_lineNow 62 = .ok (.bipush 100, 2) := dk_16 100 (dk_at dksX4_lineNow_2 16 rfl rfl)
theorem dX4_lineNow_64 : decode cX4_lineNow 64 = .ok (.invokevirtual 92, 3) := dk_182 0 92 (dk_at dksX4_lineNow_2 18 rfl rfl)
theorem dX4_lineNow_67 : decode cX4_lineNow 67 = .ok (.ifCond .eq 5, 3) := dk_153 0 5 (dk_at dksX4_lineNow_2 21 rfl rfl)
theorem dX4_lineNow_70 : decode cX4_lineNow 70 = .ok (.iconst 2, 1) := dk_5 (dk_at dksX4_lineNow_3 0 rfl rfl)
theorem dX4_lineNow_71 : decode cX4_lineNow 71 = .ok (.ireturn, 1) := dk_172 (dk_at dksX4_lineNow_3 1 rfl rfl)
theorem dX4_lineNow_72 : decode cX4_lineNow 72 = .ok (.aload_n 0, 1) := dk_42 (dk_at dksX4_lineNow_3 2 rfl rfl)
theorem dX4_lineNow_73 : decode cX4_lineNow 73 = .ok (.iconst 5, 1) := dk_8 (dk_at dksX4_lineNow_3 3 rfl rfl)
theorem dX4_lineNow_74 : decode cX4_lineNow 74 = .ok (.bipush 119, 2) := dk_16 119 (dk_at dksX4_lineNow_3 4 rfl rfl)
theorem dX4_lineNow_76 : decode cX4_lineNow 76 = .ok (.bipush 105, 2) := dk_16 105 (dk_at dksX4_lineNow_3 6 rfl rfl)
theorem dX4_lineNow_78 : decode cX4_lineNow 78 = .ok (.bipush 100, 2) := dk_16 100 (dk_at dksX4_lineNow_3 8 rfl rfl)
theorem dX4_lineNow_80 : decode cX4_lineNow 80 = .ok (.bipush 111, 2) := dk_16 111 (dk_at dksX4_lineNow_3 10 rfl rfl)
theorem dX4_lineNow_82 : decode cX4_lineNow 82 = .ok (.invokevirtual 92, 3) := dk_182 0 92 (dk_at dksX4_lineNow_3 12 rfl rfl)
theorem dX4_lineNow_85 : decode cX4_lineNow 85 = .ok (.ifCond .eq 14, 3) := dk_153 0 14 (dk_at dksX4_lineNow_3 15 rfl rfl)
theorem dX4_lineNow_88 : decode cX4_lineNow 88 = .ok (.aload_n 0, 1) := dk_42 (dk_at dksX4_lineNow_3 18 rfl rfl)
theorem dX4_lineNow_89 : decode cX4_lineNow 89 = .ok (.bipush 119, 2) := dk_16 119 (dk_at dksX4_lineNow_3 19 rfl rfl)
theorem dX4_lineNow_91 : decode cX4_lineNow 91 = .ok (.invokevirtual 96, 3) := dk_182 0 96 (dk_at dksX4_lineNow_3 21 rfl rfl)
theorem dX4_lineNow_94 : decode cX4_lineNow 94 = .ok (.ifCond .eq 5, 3) := dk_153 0 5 (dk_at dksX4_lineNow_4 0 rfl rfl)
theorem dX4_lineNow_97 : decode cX4_lineNow 97 = .ok (.iconst 3, 1) := dk_6 (dk_at dksX4_lineNow_4 3 rfl rfl)
theorem dX4_lineNow_98 : decode cX4_lineNow 98 = .ok (.ireturn, 1) := dk_172 (dk_at dksX4_lineNow_4 4 rfl rfl)
theorem dX4_lineNow_99 : decode cX4_lineNow 99 = .ok (.aload_n 0, 1) := dk_42 (dk_at dksX4_lineNow_4 5 rfl rfl)
theorem dX4_lineNow_100 : decode cX4_lineNow 100 = .ok (.iconst 5, 1) := dk_8 (dk_at dksX4_lineNow_4 6 rfl rfl)
theorem dX4_lineNow_101 : decode cX4_lineNow 101 = .ok (.bipush 99, 2) := dk_16 99 (dk_at dksX4_lineNow_4 7 rfl rfl)
theorem dX4_lineNow_103 : decode cX4_lineNow 103 = .ok (.bipush 114, 2) := dk_16 114 (dk_at dksX4_lineNow_4 9 rfl rfl)
theorem dX4_lineNow_105 : decode cX4_lineNow 105 = .ok (.bipush 111, 2) := dk_16 111 (dk_at dksX4_lineNow_4 11 rfl rfl)
theorem dX4_lineNow_107 : decode cX4_lineNow 107 = .ok (.bipush 115, 2) := dk_16 115 (dk_at dksX4_lineNow_4 13 rfl rfl)
theorem dX4_lineNow_109 : decode cX4_lineNow 109 = .ok (.invokevirtual 92, 3) := dk_182 0 92 (dk_at dksX4_lineNow_4 15 rfl rfl)
theorem dX4_lineNow_112 : decode cX4_lineNow 112 = .ok (.ifCond .eq 14, 3) := dk_153 0 14 (dk_at dksX4_lineNow_4 18 rfl rfl)
theorem dX4_lineNow_115 : decode cX4_lineNow 115 = .ok (.aload_n 0, 1) := dk_42 (dk_at dksX4_lineNow_4 21 rfl rfl)
theorem dX4_lineNow_116 : decode cX4_lineNow 116 = .ok (.bipush 115, 2) := dk_16 115 (dk_at dksX4_lineNow_4 22 rfl rfl)
theorem dX4_lineNow_118 : decode cX4_lineNow 118 = .ok (.invokevirtual 96, 3) := dk_182 0 96 (dk_at dksX4_lineNow_5 0 rfl rfl)
theorem dX4_lineNow_121 : decode cX4_lineNow 121 = .ok (.ifCond .eq 5, 3) := dk_153 0 5 (dk_at dksX4_lineNow_5 3 rfl rfl)
theorem dX4_lineNow_124 : decode cX4_lineNow 124 = .ok (.iconst 4, 1) := dk_7 (dk_at dksX4_lineNow_5 6 rfl rfl)
theorem dX4_lineNow_125 : decode cX4_lineNow 125 = .ok (.ireturn, 1) := dk_172 (dk_at dksX4_lineNow_5 7 rfl rfl)
theorem dX4_lineNow_126 : decode cX4_lineNow 126 = .ok (.aload_n 0, 1) := dk_42 (dk_at dksX4_lineNow_5 8 rfl rfl)
theorem dX4_lineNow_127 : decode cX4_lineNow 127 = .ok (.iconst 4, 1) := dk_7 (dk_at dksX4_lineNow_5 9 rfl rfl)
theorem dX4_lineNow_128 : decode cX4_lineNow 128 = .ok (.bipush 114, 2) := dk_16 114 (dk_at dksX4_lineNow_5 10 rfl rfl)
theorem dX4_lineNow_130 : decode cX4_lineNow 130 = .ok (.bipush 111, 2) := dk_16 111 (dk_at dksX4_lineNow_5 12 rfl rfl)
theorem dX4_lineNow_132 : decode cX4_lineNow 132 = .ok (.bipush 112, 2) := dk_16 112 (dk_at dksX4_lineNow_5 14 rfl rfl)
theorem dX4_lineNow_134 : decode cX4_lineNow 134 = .ok (.bipush 101, 2) := dk_16 101 (dk_at dksX4_lineNow_5 16 rfl rfl)
theorem dX4_lineNow_136 : decode cX4_lineNow 136 = .ok (.invokevirtual 92, 3) := dk_182 0 92 (dk_at dksX4_lineNow_5 18 rfl rfl)
theorem dX4_lineNow_139 : decode cX4_lineNow 139 = .ok (.ifCond .eq 7, 3) := dk_153 0 7 (dk_at dksX4_lineNow_5 21 rfl rfl)
theorem dX4_lineNow_142 : decode cX4_lineNow 142 = .ok (.iconst 5, 1) := dk_8 (dk_at dksX4_lineNow_6 0 rfl rfl)
theorem dX4_lineNow_143 : decode cX4_lineNow 143 = .ok (.goto 35, 3) := dk_167 0 35 (dk_at dksX4_lineNow_6 1 rfl rfl)
theorem dX4_lineNow_146 : decode cX4_lineNow 146 = .ok (.aload_n 0, 1) := dk_42 (dk_at dksX4_lineNow_6 4 rfl rfl)
theorem dX4_lineNow_147 : decode cX4_lineNow 147 = .ok (.iconst 5, 1) := dk_8 (dk_at dksX4_lineNow_6 5 rfl rfl)
theorem dX4_lineNow_148 : decode cX4_lineNow 148 = .ok (.bipush 102, 2) := dk_16 102 (dk_at dksX4_lineNow_6 6 rfl rfl)
theorem dX4_lineNow_150 : decode cX4_lineNow 150 = .ok (.bipush 101, 2) := dk_16 101 (dk_at dksX4_lineNow_6 8 rfl rfl)
theorem dX4_lineNow_152 : decode cX4_lineNow 152 = .ok (.bipush 97, 2) := dk_16 97 (dk_at dksX4_lineNow_6 10 rfl rfl)
theorem dX4_lineNow_154 : decode cX4_lineNow 154 = .ok (.bipush 115, 2) := dk_16 115 (dk_at dksX4_lineNow_6 12 rfl rfl)
theorem dX4_lineNow_156 : decode cX4_lineNow 156 = .ok (.invokevirtual 92, 3) := dk_182 0 92 (dk_at dksX4_lineNow_6 14 rfl rfl)
theorem dX4_lineNow_159 : decode cX4_lineNow 159 = .ok (.ifCond .eq 17, 3) := dk_153 0 17 (dk_at dksX4_lineNow_6 17 rfl rfl)
theorem dX4_lineNow_162 : decode cX4_lineNow 162 = .ok (.aload_n 0, 1) := dk_42 (dk_at dksX4_lineNow_6 20 rfl rfl)
theorem dX4_lineNow_163 : decode cX4_lineNow 163 = .ok (.bipush 116, 2) := dk_16 116 (dk_at dksX4_lineNow_6 21 rfl rfl)
theorem dX4_lineNow_165 : decode cX4_lineNow 165 = .ok (.invokevirtual 96, 3) := dk_182 0 96 (dk_at dksX4_lineNow_7 0 rfl rfl)
theorem dX4_lineNow_168 : decode cX4_lineNow 168 = .ok (.ifCond .eq 8, 3) := dk_153 0 8 (dk_at dksX4_lineNow_7 3 rfl rfl)
theorem dX4_lineNow_171 : decode cX4_lineNow 171 = .ok (.bipush 6, 2) := dk_16 6 (dk_at dksX4_lineNow_7 6 rfl rfl)
theorem dX4_lineNow_173 : decode cX4_lineNow 173 = .ok (.goto 5, 3) := dk_167 0 5 (dk_at dksX4_lineNow_7 8 rfl rfl)
theorem dX4_lineNow_176 : decode cX4_lineNow 176 = .ok (.bipush (-4), 2) := dk_16 252 (dk_at dksX4_lineNow_7 11 rfl rfl)
theorem dX4_lineNow_178 : decode cX4_lineNow 178 = .ok (.ireturn, 1) := dk_172 (dk_at dksX4_lineNow_7 13 rfl rfl)
abbrev cX4_is : ByteArray := prog_12_method_13_code
def yX4_is : MethodName := ⟨RX4, "is", "(IIIII)Z"⟩
def dkwX4_is_3 : List UInt8 := [167, 0, 4, 3, 172]
abbrev dktX4_is_3 : List UInt8 := dkwX4_is_3 ++ []
def dkwX4_is_2 : List UInt8 := [182, 0, 88, 21, 4, 160, 0, 22, 42, 42, 180, 0, 79, 6, 96, 182, 0, 88, 21, 5, 160, 0, 7, 4]
abbrev dktX4_is_2 : List UInt8 := dkwX4_is_2 ++ dktX4_is_3
def dkwX4_is_1 : List UInt8 := [160, 0, 51, 42, 42, 180, 0, 79, 4, 96, 182, 0, 88, 29, 160, 0, 37, 42, 42, 180, 0, 79, 5, 96]
abbrev dktX4_is_1 : List UInt8 := dkwX4_is_1 ++ dktX4_is_2
def dkwX4_is_0 : List UInt8 := [42, 180, 0, 85, 42, 180, 0, 79, 100, 27, 160, 0, 63, 42, 42, 180, 0, 79, 182, 0, 88, 28]
abbrev dktX4_is_0 : List UInt8 := dkwX4_is_0 ++ dktX4_is_1
theorem dksX4_is_0 : cX4_is.data.toList.drop 0 = dktX4_is_0 := by decide +kernel
theorem dksX4_is_1 : cX4_is.data.toList.drop 22 = dktX4_is_1 := dk_seg dksX4_is_0 22 rfl rfl
theorem dksX4_is_2 : cX4_is.data.toList.drop 46 = dktX4_is_2 := dk_seg dksX4_is_1 24 rfl rfl
theorem dksX4_is_3 : cX4_is.data.toList.drop 70 = dktX4_is_3 := dk_seg dksX4_is_2 24 rfl rfl
theorem dX4_is_0 : decode cX4_is 0 = .ok (.aload_n 0, 1) := dk_42 (dk_at dksX4_is_0 0 rfl rfl)
theorem dX4_is_1 : decode cX4_is 1 = .ok (.getfield 85, 3) := dk_180 0 85 (dk_at dksX4_is_0 1 rfl rfl)
theorem dX4_is_4 : decode cX4_is 4 = .ok (.aload_n 0, 1) := dk_42 (dk_at dksX4_is_0 4 rfl rfl)
theorem dX4_is_5 : decode cX4_is 5 = .ok (.getfield 79, 3) := dk_180 0 79 (dk_at dksX4_is_0 5 rfl rfl)
theorem dX4_is_8 : decode cX4_is 8 = .ok (.isub, 1) := dk_100 (dk_at dksX4_is_0 8 rfl rfl)
theorem dX4_is_9 : decode cX4_is 9 = .ok (.iload_n 1, 1) := dk_27 (dk_at dksX4_is_0 9 rfl rfl)
theorem dX4_is_10 : decode cX4_is 10 = .ok (.if_icmp .ne 63, 3) := dk_160 0 63 (dk_at dksX4_is_0 10 rfl rfl)
theorem dX4_is_13 : decode cX4_is 13 = .ok (.aload_n 0, 1) := dk_42 (dk_at dksX4_is_0 13 rfl rfl)
theorem dX4_is_14 : decode cX4_is 14 = .ok (.aload_n 0, 1) := dk_42 (dk_at dksX4_is_0 14 rfl rfl)
theorem dX4_is_15 : decode cX4_is 15 = .ok (.getfield 79, 3) := dk_180 0 79 (dk_at dksX4_is_0 15 rfl rfl)
theorem dX4_is_18 : decode cX4_is 18 = .ok (.invokevirtual 88, 3) := dk_182 0 88 (dk_at dksX4_is_0 18 rfl rfl)
theorem dX4_is_21 : decode cX4_is 21 = .ok (.iload_n 2, 1) := dk_28 (dk_at dksX4_is_0 21 rfl rfl)
theorem dX4_is_22 : decode cX4_is 22 = .ok (.if_icmp .ne 51, 3) := dk_160 0 51 (dk_at dksX4_is_1 0 rfl rfl)
theorem dX4_is_25 : decode cX4_is 25 = .ok (.aload_n 0, 1) := dk_42 (dk_at dksX4_is_1 3 rfl rfl)
theorem dX4_is_26 : decode cX4_is 26 = .ok (.aload_n 0, 1) := dk_42 (dk_at dksX4_is_1 4 rfl rfl)
theorem dX4_is_27 : decode cX4_is 27 = .ok (.getfield 79, 3) := dk_180 0 79 (dk_at dksX4_is_1 5 rfl rfl)
theorem dX4_is_30 : decode cX4_is 30 = .ok (.iconst 1, 1) := dk_4 (dk_at dksX4_is_1 8 rfl rfl)
theorem dX4_is_31 : decode cX4_is 31 = .ok (.iadd, 1) := dk_96 (dk_at dksX4_is_1 9 rfl rfl)
theorem dX4_is_32 : decode cX4_is 32 = .ok (.invokevirtual 88, 3) := dk_182 0 88 (dk_at dksX4_is_1 10 rfl rfl)
theorem dX4_is_35 : decode cX4_is 35 = .ok (.iload_n 3, 1) := dk_29 (dk_at dksX4_is_1 13 rfl rfl)
theorem dX4_is_36 : decode cX4_is 36 = .ok (.if_icmp .ne 37, 3) := dk_160 0 37 (dk_at dksX4_is_1 14 rfl rfl)
theorem dX4_is_39 : decode cX4_is 39 = .ok (.aload_n 0, 1) := dk_42 (dk_at dksX4_is_1 17 rfl rfl)
theorem dX4_is_40 : decode cX4_is 40 = .ok (.aload_n 0, 1) := dk_42 (dk_at dksX4_is_1 18 rfl rfl)
theorem dX4_is_41 : decode cX4_is 41 = .ok (.getfield 79, 3) := dk_180 0 79 (dk_at dksX4_is_1 19 rfl rfl)
theorem dX4_is_44 : decode cX4_is 44 = .ok (.iconst 2, 1) := dk_5 (dk_at dksX4_is_1 22 rfl rfl)
theorem dX4_is_45 : decode cX4_is 45 = .ok (.iadd, 1) := dk_96 (dk_at dksX4_is_1 23 rfl rfl)
theorem dX4_is_46 : decode cX4_is 46 = .ok (.invokevirtual 88, 3) := dk_182 0 88 (dk_at dksX4_is_2 0 rfl rfl)
theorem dX4_is_49 : decode cX4_is 49 = .ok (.iload 4, 2) := dk_21 4 (dk_at dksX4_is_2 3 rfl rfl)
theorem dX4_is_51 : decode cX4_is 51 = .ok (.if_icmp .ne 22, 3) := dk_160 0 22 (dk_at dksX4_is_2 5 rfl rfl)
theorem dX4_is_54 : decode cX4_is 54 = .ok (.aload_n 0, 1) := dk_42 (dk_at dksX4_is_2 8 rfl rfl)
theorem dX4_is_55 : decode cX4_is 55 = .ok (.aload_n 0, 1) := dk_42 (dk_at dksX4_is_2 9 rfl rfl)
theorem dX4_is_56 : decode cX4_is 56 = .ok (.getfield 79, 3) := dk_180 0 79 (dk_at dksX4_is_2 10 rfl rfl)
theorem dX4_is_59 : decode cX4_is 59 = .ok (.iconst 3, 1) := dk_6 (dk_at dksX4_is_2 13 rfl rfl)
theorem dX4_is_60 : decode cX4_is 60 = .ok (.iadd, 1) := dk_96 (dk_at dksX4_is_2 14 rfl rfl)
theorem dX4_is_61 : decode cX4_is 61 = .ok (.invokevirtual 88, 3) := dk_182 0 88 (dk_at dksX4_is_2 15 rfl rfl)
theorem dX4_is_64 : decode cX4_is 64 = .ok (.iload 5, 2) := dk_21 5 (dk_at dksX4_is_2 18 rfl rfl)
theorem dX4_is_66 : decode cX4_is 66 = .ok (.if_icmp .ne 7, 3) := dk_160 0 7 (dk_at dksX4_is_2 20 rfl rfl)
theorem dX4_is_69 : decode cX4_is 69 = .ok (.iconst 1, 1) := dk_4 (dk_at dksX4_is_2 23 rfl rfl)
theorem dX4_is_70 : decode cX4_is 70 = .ok (.goto 4, 3) := dk_167 0 4 (dk_at dksX4_is_3 0 rfl rfl)
theorem dX4_is_73 : decode cX4_is 73 = .ok (.iconst 0, 1) := dk_3 (dk_at dksX4_is_3 3 rfl rfl)
theorem dX4_is_74 : decode cX4_is 74 = .ok (.ireturn, 1) := dk_172 (dk_at dksX4_is_3 4 rfl rfl)
abbrev cX4_endsIn : ByteArray := prog_12_method_14_code
def yX4_endsIn : MethodName := ⟨RX4, "endsIn", "(I)Z"⟩
def dkwX4_endsIn_0 : List UInt8 := [42, 42, 180, 0, 79, 7, 96, 182, 0, 88, 27, 160, 0, 7, 4, 167, 0, 4, 3, 172]
abbrev dktX4_endsIn_0 : List UInt8 := dkwX4_endsIn_0 ++ []
theorem dksX4_endsIn_0 : cX4_endsIn.data.toList.drop 0 = dktX4_endsIn_0 := by decide +kernel
theorem dX4_endsIn_0 : decode cX4_endsIn 0 = .ok (.aload_n 0, 1) := dk_42 (dk_at dksX4_endsIn_0 0 rfl rfl)
theorem dX4_endsIn_1 : decode cX4_endsIn 1 = .ok (.aload_n 0, 1) := dk_42 (dk_at dksX4_endsIn_0 1 rfl rfl)
theorem dX4_endsIn_2 : decode cX4_endsIn 2 = .ok (.getfield 79, 3) := dk_180 0 79 (dk_at dksX4_endsIn_0 2 rfl rfl)
theorem dX4_endsIn_5 : decode cX4_endsIn 5 = .ok (.iconst 4, 1) := dk_7 (dk_at dksX4_endsIn_0 5 rfl rfl)
theorem dX4_endsIn_6 : decode cX4_endsIn 6 = .ok (.iadd, 1) := dk_96 (dk_at dksX4_endsIn_0 6 rfl rfl)
theorem dX4_endsIn_7 : decode cX4_endsIn 7 = .ok (.invokevirtual 88, 3) := dk_182 0 88 (dk_at dksX4_endsIn_0 7 rfl rfl)
theorem dX4_endsIn_10 : decode cX4_endsIn 10 = .ok (.iload_n 1, 1) := dk_27 (dk_at dksX4_endsIn_0 10 rfl rfl)
theorem dX4_endsIn_11 : decode cX4_endsIn 11 = .ok (.if_icmp .ne 7, 3) := dk_160 0 7 (dk_at dksX4_endsIn_0 11 rfl rfl)
theorem dX4_endsIn_14 : decode cX4_endsIn 14 = .ok (.iconst 1, 1) := dk_4 (dk_at dksX4_endsIn_0 14 rfl rfl)
theorem dX4_endsIn_15 : decode cX4_endsIn 15 = .ok (.goto 4, 3) := dk_167 0 4 (dk_at dksX4_endsIn_0 15 rfl rfl)
theorem dX4_endsIn_18 : decode cX4_endsIn 18 = .ok (.iconst 0, 1) := dk_3 (dk_at dksX4_endsIn_0 18 rfl rfl)
theorem dX4_endsIn_19 : decode cX4_endsIn 19 = .ok (.ireturn, 1) := dk_172 (dk_at dksX4_endsIn_0 19 rfl rfl)
abbrev cX4_readLineOf : ByteArray := prog_12_method_23_code
def yX4_readLineOf : MethodName := ⟨RX4, "readLineOf", "(I)V"⟩
def dkwX4_readLineOf_3 : List UInt8 := [182, 0, 125, 79, 167, 0, 8, 42, 27, 182, 0, 138, 177]
abbrev dktX4_readLineOf_3 : List UInt8 := dkwX4_readLineOf_3 ++ []
def dkwX4_readLineOf_2 : List UInt8 := [42, 182, 0, 132, 167, 0, 32, 42, 182, 0, 135, 167, 0, 25, 42, 180, 0, 20, 16, 55, 42, 3, 16, 6]
abbrev dktX4_readLineOf_2 : List UInt8 := dkwX4_readLineOf_2 ++ dktX4_readLineOf_3
def dkwX4_readLineOf_1 : List UInt8 := [170, 0, 0, 0, 0, 0, 58, 0, 0, 0, 4, 0, 0, 0, 6, 0, 0, 0, 27, 0, 0, 0, 34, 0, 0, 0, 41]
abbrev dktX4_readLineOf_1 : List UInt8 := dkwX4_readLineOf_1 ++ dktX4_readLineOf_2
def dkwX4_readLineOf_0 : List UInt8 := [27]
abbrev dktX4_readLineOf_0 : List UInt8 := dkwX4_readLineOf_0 ++ dktX4_readLineOf_1
theorem dksX4_readLineOf_0 : cX4_readLineOf.data.toList.drop 0 = dktX4_readLineOf_0 := by decide +kernel
theorem dksX4_readLineOf_1 : cX4_readLineOf.data.toList.drop 1 = dktX4_readLineOf_1 := dk_seg dksX4_readLineOf_0 1 rfl rfl
theorem dksX4_readLineOf_2 : cX4_readLineOf.data.toList.drop 28 = dktX4_readLineOf_2 := dk_seg dksX4_readLineOf_1 27 rfl rfl
theorem dksX4_readLineOf_3 : cX4_readLineOf.data.toList.drop 52 = dktX4_readLineOf_3 := dk_seg dksX4_readLineOf_2 24 rfl rfl
theorem dX4_readLineOf_0 : decode cX4_readLineOf 0 = .ok (.iload_n 1, 1) := dk_27 (dk_at dksX4_readLineOf_0 0 rfl rfl)
theorem dX4_readLineOf_1 : decode cX4_readLineOf 1 = .ok (.tableswitch 58 4 6 #[27, 34, 41], 27) := by decide +kernel
theorem dX4_readLineOf_28 : decode cX4_readLineOf 28 = .ok (.aload_n 0, 1) := dk_42 (dk_at dksX4_readLineOf_2 0 rfl rfl)
theorem dX4_readLineOf_29 : decode cX4_readLineOf 29 = .ok (.invokevirtual 132, 3) := dk_182 0 132 (dk_at dksX4_readLineOf_2 1 rfl rfl)
theorem dX4_readLineOf_32 : decode cX4_readLineOf 32 = .ok (.goto 32, 3) := dk_167 0 32 (dk_at dksX4_readLineOf_2 4 rfl rfl)
theorem dX4_readLineOf_35 : decode cX4_readLineOf 35 = .ok (.aload_n 0, 1) := dk_42 (dk_at dksX4_readLineOf_2 7 rfl rfl)
theorem dX4_readLineOf_36 : decode cX4_readLineOf 36 = .ok (.invokevirtual 135, 3) := dk_182 0 135 (dk_at dksX4_readLineOf_2 8 rfl rfl)
theorem dX4_readLineOf_39 : decode cX4_readLineOf 39 = .ok (.goto 25, 3) := dk_167 0 25 (dk_at dksX4_readLineOf_2 11 rfl rfl)
theorem dX4_readLineOf_42 : decode cX4_readLineOf 42 = .ok (.aload_n 0, 1) := dk_42 (dk_at dksX4_readLineOf_2 14 rfl rfl)
theorem dX4_readLineOf_43 : decode cX4_readLineOf 43 = .ok (.getfield 20, 3) := dk_180 0 20 (dk_at dksX4_readLineOf_2 15 rfl rfl)
theorem dX4_readLineOf_46 : decode cX4_readLineOf 46 = .ok (.bipush 55, 2) := dk_16 55 (dk_at dksX4_readLineOf_2 18 rfl rfl)
theorem dX4_readLineOf_48 : decode cX4_readLineOf 48 = .ok (.aload_n 0, 1) := dk_42 (dk_at dksX4_readLineOf_2 20 rfl rfl)
theorem dX4_readLineOf_49 : decode cX4_readLineOf 49 = .ok (.iconst 0, 1) := dk_3 (dk_at dksX4_readLineOf_2 21 rfl rfl)
theorem dX4_readLineOf_50 : decode cX4_readLineOf 50 = .ok (.bipush 6, 2) := dk_16 6 (dk_at dksX4_readLineOf_2 22 rfl rfl)
theorem dX4_readLineOf_52 : decode cX4_readLineOf 52 = .ok (.invokevirtual 125, 3) := dk_182 0 125 (dk_at dksX4_readLineOf_3 0 rfl rfl)
theorem dX4_readLineOf_55 : decode cX4_readLineOf 55 = .ok (.iastore, 1) := dk_79 (dk_at dksX4_readLineOf_3 3 rfl rfl)
theorem dX4_readLineOf_56 : decode cX4_readLineOf 56 = .ok (.goto 8, 3) := dk_167 0 8 (dk_at dksX4_readLineOf_3 4 rfl rfl)
theorem dX4_readLineOf_59 : decode cX4_readLineOf 59 = .ok (.aload_n 0, 1) := dk_42 (dk_at dksX4_readLineOf_3 7 rfl rfl)
theorem dX4_readLineOf_60 : decode cX4_readLineOf 60 = .ok (.iload_n 1, 1) := dk_27 (dk_at dksX4_readLineOf_3 8 rfl rfl)
theorem dX4_readLineOf_61 : decode cX4_readLineOf 61 = .ok (.invokevirtual 138, 3) := dk_182 0 138 (dk_at dksX4_readLineOf_3 9 rfl rfl)
theorem dX4_readLineOf_64 : decode cX4_readLineOf 64 = .ok (.return_, 1) := dk_177 (dk_at dksX4_readLineOf_3 12 rfl rfl)
abbrev cX4_readCross : ByteArray := prog_12_method_21_code
def yX4_readCross : MethodName := ⟨RX4, "readCross", "()V"⟩
def dkwX4_readCross_4 : List UInt8 := [28, 96, 42, 3, 6, 182, 0, 125, 79, 177]
abbrev dktX4_readCross_4 : List UInt8 := dkwX4_readCross_4 ++ []
def dkwX4_readCross_3 : List UInt8 := [42, 27, 182, 0, 128, 42, 28, 182, 0, 128, 42, 182, 0, 122, 42, 180, 0, 20, 16, 10, 8, 27, 104, 96]
abbrev dktX4_readCross_3 : List UInt8 := dkwX4_readCross_3 ++ dktX4_readCross_4
def dkwX4_readCross_2 : List UInt8 := [167, 0, 4, 3, 7, 182, 0, 114, 42, 89, 180, 0, 58, 4, 8, 27, 104, 28, 96, 120, 128, 181, 0, 58]
abbrev dktX4_readCross_2 : List UInt8 := dkwX4_readCross_2 ++ dktX4_readCross_3
def dkwX4_readCross_1 : List UInt8 := [3, 6, 182, 0, 114, 42, 42, 180, 0, 58, 8, 27, 104, 28, 96, 122, 4, 126, 154, 0, 7, 4]
abbrev dktX4_readCross_1 : List UInt8 := dkwX4_readCross_1 ++ dktX4_readCross_2
def dkwX4_readCross_0 : List UInt8 := [42, 3, 7, 182, 0, 125, 60, 42, 3, 7, 182, 0, 118, 61, 42, 27, 28, 159, 0, 7, 4, 167, 0, 4]
abbrev dktX4_readCross_0 : List UInt8 := dkwX4_readCross_0 ++ dktX4_readCross_1
theorem dksX4_readCross_0 : cX4_readCross.data.toList.drop 0 = dktX4_readCross_0 := by decide +kernel
theorem dksX4_readCross_1 : cX4_readCross.data.toList.drop 24 = dktX4_readCross_1 := dk_seg dksX4_readCross_0 24 rfl rfl
theorem dksX4_readCross_2 : cX4_readCross.data.toList.drop 46 = dktX4_readCross_2 := dk_seg dksX4_readCross_1 22 rfl rfl
theorem dksX4_readCross_3 : cX4_readCross.data.toList.drop 70 = dktX4_readCross_3 := dk_seg dksX4_readCross_2 24 rfl rfl
theorem dksX4_readCross_4 : cX4_readCross.data.toList.drop 94 = dktX4_readCross_4 := dk_seg dksX4_readCross_3 24 rfl rfl
theorem dX4_readCross_0 : decode cX4_readCross 0 = .ok (.aload_n 0, 1) := dk_42 (dk_at dksX4_readCross_0 0 rfl rfl)
theorem dX4_readCross_1 : decode cX4_readCross 1 = .ok (.iconst 0, 1) := dk_3 (dk_at dksX4_readCross_0 1 rfl rfl)
theorem dX4_readCross_2 : decode cX4_readCross 2 = .ok (.iconst 4, 1) := dk_7 (dk_at dksX4_readCross_0 2 rfl rfl)
theorem dX4_readCross_3 : decode cX4_readCross 3 = .ok (.invokevirtual 125, 3) := dk_182 0 125 (dk_at dksX4_readCross_0 3 rfl rfl)
theorem dX4_readCross_6 : decode cX4_readCross 6 = .ok (.istore_n 1, 1) := dk_60 (dk_at dksX4_readCross_0 6 rfl rfl)
theorem dX4_readCross_7 : decode cX4_readCross 7 = .ok (.aload_n 0, 1) := dk_42 (dk_at dksX4_readCross_0 7 rfl rfl)
theorem dX4_readCross_8 : decode cX4_readCross 8 = .ok (.iconst 0, 1) := dk_3 (dk_at dksX4_readCross_0 8 rfl rfl)
theorem dX4_readCross_9 : decode cX4_readCross 9 = .ok (.iconst 4, 1) := dk_7 (dk_at dksX4_readCross_0 9 rfl rfl)
theorem dX4_readCross_10 : decode cX4_readCross 10 = .ok (.invokevirtual 118, 3) := dk_182 0 118 (dk_at dksX4_readCross_0 10 rfl rfl)
theorem dX4_readCross_13 : decode cX4_readCross 13 = .ok (.istore_n 2, 1) := dk_61 (dk_at dksX4_readCross_0 13 rfl rfl)
theorem dX4_readCross_14 : decode cX4_readCross 14 = .ok (.aload_n 0, 1) := dk_42 (dk_at dksX4_readCross_0 14 rfl rfl)
theorem dX4_readCross_15 : decode cX4_readCross 15 = .ok (.iload_n 1, 1) := dk_27 (dk_at dksX4_readCross_0 15 rfl rfl)
theorem dX4_readCross_16 : decode cX4_readCross 16 = .ok (.iload_n 2, 1) := dk_28 (dk_at dksX4_readCross_0 16 rfl rfl)
theorem dX4_readCross_17 : decode cX4_readCross 17 = .ok (.if_icmp .eq 7, 3) := dk_159 0 7 (dk_at dksX4_readCross_0 17 rfl rfl)
theorem dX4_readCross_20 : decode cX4_readCross 20 = .ok (.iconst 1, 1) := dk_4 (dk_at dksX4_readCross_0 20 rfl rfl)
theorem dX4_readCross_21 : decode cX4_readCross 21 = .ok (.goto 4, 3) := dk_167 0 4 (dk_at dksX4_readCross_0 21 rfl rfl)
theorem dX4_readCross_24 : decode cX4_readCross 24 = .ok (.iconst 0, 1) := dk_3 (dk_at dksX4_readCross_1 0 rfl rfl)
theorem dX4_readCross_25 : decode cX4_readCross 25 = .ok (.iconst 3, 1) := dk_6 (dk_at dksX4_readCross_1 1 rfl rfl)
theorem dX4_readCross_26 : decode cX4_readCross 26 = .ok (.invokevirtual 114, 3) := dk_182 0 114 (dk_at dksX4_readCross_1 2 rfl rfl)
theorem dX4_readCross_29 : decode cX4_readCross 29 = .ok (.aload_n 0, 1) := dk_42 (dk_at dksX4_readCross_1 5 rfl rfl)
theorem dX4_readCross_30 : decode cX4_readCross 30 = .ok (.aload_n 0, 1) := dk_42 (dk_at dksX4_readCross_1 6 rfl rfl)
theorem dX4_readCross_31 : decode cX4_readCross 31 = .ok (.getfield 58, 3) := dk_180 0 58 (dk_at dksX4_readCross_1 7 rfl rfl)
theorem dX4_readCross_34 : decode cX4_readCross 34 = .ok (.iconst 5, 1) := dk_8 (dk_at dksX4_readCross_1 10 rfl rfl)
theorem dX4_readCross_35 : decode cX4_readCross 35 = .ok (.iload_n 1, 1) := dk_27 (dk_at dksX4_readCross_1 11 rfl rfl)
theorem dX4_readCross_36 : decode cX4_readCross 36 = .ok (.imul, 1) := dk_104 (dk_at dksX4_readCross_1 12 rfl rfl)
theorem dX4_readCross_37 : decode cX4_readCross 37 = .ok (.iload_n 2, 1) := dk_28 (dk_at dksX4_readCross_1 13 rfl rfl)
theorem dX4_readCross_38 : decode cX4_readCross 38 = .ok (.iadd, 1) := dk_96 (dk_at dksX4_readCross_1 14 rfl rfl)
theorem dX4_readCross_39 : decode cX4_readCross 39 = .ok (.ishr, 1) := dk_122 (dk_at dksX4_readCross_1 15 rfl rfl)
theorem dX4_readCross_40 : decode cX4_readCross 40 = .ok (.iconst 1, 1) := dk_4 (dk_at dksX4_readCross_1 16 rfl rfl)
theorem dX4_readCross_41 : decode cX4_readCross 41 = .ok (.iand, 1) := dk_126 (dk_at dksX4_readCross_1 17 rfl rfl)
theorem dX4_readCross_42 : decode cX4_readCross 42 = .ok (.ifCond .ne 7, 3) := dk_154 0 7 (dk_at dksX4_readCross_1 18 rfl rfl)
theorem dX4_readCross_45 : decode cX4_readCross 45 = .ok (.iconst 1, 1) := dk_4 (dk_at dksX4_readCross_1 21 rfl rfl)
theorem dX4_readCross_46 : decode cX4_readCross 46 = .ok (.goto 4, 3) := dk_167 0 4 (dk_at dksX4_readCross_2 0 rfl rfl)
theorem dX4_readCross_49 : decode cX4_readCross 49 = .ok (.iconst 0, 1) := dk_3 (dk_at dksX4_readCross_2 3 rfl rfl)
theorem dX4_readCross_50 : decode cX4_readCross 50 = .ok (.iconst 4, 1) := dk_7 (dk_at dksX4_readCross_2 4 rfl rfl)
theorem dX4_readCross_51 : decode cX4_readCross 51 = .ok (.invokevirtual 114, 3) := dk_182 0 114 (dk_at dksX4_readCross_2 5 rfl rfl)
theorem dX4_readCross_54 : decode cX4_readCross 54 = .ok (.aload_n 0, 1) := dk_42 (dk_at dksX4_readCross_2 8 rfl rfl)
theorem dX4_readCross_55 : decode cX4_readCross 55 = .ok (.dup, 1) := dk_89 (dk_at dksX4_readCross_2 9 rfl rfl)
theorem dX4_readCross_56 : decode cX4_readCross 56 = .ok (.getfield 58, 3) := dk_180 0 58 (dk_at dksX4_readCross_2 10 rfl rfl)
theorem dX4_readCross_59 : decode cX4_readCross 59 = .ok (.iconst 1, 1) := dk_4 (dk_at dksX4_readCross_2 13 rfl rfl)
theorem dX4_readCross_60 : decode cX4_readCross 60 = .ok (.iconst 5, 1) := dk_8 (dk_at dksX4_readCross_2 14 rfl rfl)
theorem dX4_readCross_61 : decode cX4_readCross 61 = .ok (.iload_n 1, 1) := dk_27 (dk_at dksX4_readCross_2 15 rfl rfl)
theorem dX4_readCross_62 : decode cX4_readCross 62 = .ok (.imul, 1) := dk_104 (dk_at dksX4_readCross_2 16 rfl rfl)
theorem dX4_readCross_63 : decode cX4_readCross 63 = .ok (.iload_n 2, 1) := dk_28 (dk_at dksX4_readCross_2 17 rfl rfl)
theorem dX4_readCross_64 : decode cX4_readCross 64 = .ok (.iadd, 1) := dk_96 (dk_at dksX4_readCross_2 18 rfl rfl)
theorem dX4_readCross_65 : decode cX4_readCross 65 = .ok (.ishl, 1) := dk_120 (dk_at dksX4_readCross_2 19 rfl rfl)
theorem dX4_readCross_66 : decode cX4_readCross 66 = .ok (.ior, 1) := dk_128 (dk_at dksX4_readCross_2 20 rfl rfl)
theorem dX4_readCross_67 : decode cX4_readCross 67 = .ok (.putfield 58, 3) := dk_181 0 58 (dk_at dksX4_readCross_2 21 rfl rfl)
theorem dX4_readCross_70 : decode cX4_readCross 70 = .ok (.aload_n 0, 1) := dk_42 (dk_at dksX4_readCross_3 0 rfl rfl)
theorem dX4_readCross_71 : decode cX4_readCross 71 = .ok (.iload_n 1, 1) := dk_27 (dk_at dksX4_readCross_3 1 rfl rfl)
theorem dX4_readCross_72 : decode cX4_readCross 72 = .ok (.invokevirtual 128, 3) := dk_182 0 128 (dk_at dksX4_readCross_3 2 rfl rfl)
theorem dX4_readCross_75 : decode cX4_readCross 75 = .ok (.aload_n 0, 1) := dk_42 (dk_at dksX4_readCross_3 5 rfl rfl)
theorem dX4_readCross_76 : decode cX4_readCross 76 = .ok (.iload_n 2, 1) := dk_28 (dk_at dksX4_readCross_3 6 rfl rfl)
theorem dX4_readCross_77 : decode cX4_readCross 77 = .ok (.invokevirtual 128, 3) := dk_182 0 128 (dk_at dksX4_readCross_3 7 rfl rfl)
theorem dX4_readCross_80 : decode cX4_readCross 80 = .ok (.aload_n 0, 1) := dk_42 (dk_at dksX4_readCross_3 10 rfl rfl)
theorem dX4_readCross_81 : decode cX4_readCross 81 = .ok (.invokevirtual 122, 3) := dk_182 0 122 (dk_at dksX4_readCross_3 11 rfl rfl)
theorem dX4_readCross_84 : decode cX4_readCross 84 = .ok (.aload_n 0, 1) := dk_42 (dk_at dksX4_readCross_3 14 rfl rfl)
theorem dX4_readCross_85 : decode cX4_readCross 85 = .ok (.getfield 20, 3) := dk_180 0 20 (dk_at dksX4_readCross_3 15 rfl rfl)
theorem dX4_readCross_88 : decode cX4_readCross 88 = .ok (.bipush 10, 2) := dk_16 10 (dk_at dksX4_readCross_3 18 rfl rfl)
theorem dX4_readCross_90 : decode cX4_readCross 90 = .ok (.iconst 5, 1) := dk_8 (dk_at dksX4_readCross_3 20 rfl rfl)
theorem dX4_readCross_91 : decode cX4_readCross 91 = .ok (.iload_n 1, 1) := dk_27 (dk_at dksX4_readCross_3 21 rfl rfl)
theorem dX4_readCross_92 : decode cX4_readCross 92 = .ok (.imul, 1) := dk_104 (dk_at dksX4_readCross_3 22 rfl rfl)
theorem dX4_readCross_93 : decode cX4_readCross 93 = .ok (.iadd, 1) := dk_96 (dk_at dksX4_readCross_3 23 rfl rfl)
theorem dX4_readCross_94 : decode cX4_readCross 94 = .ok (.iload_n 2, 1) := dk_28 (dk_at dksX4_readCross_4 0 rfl rfl)
theorem dX4_readCross_95 : decode cX4_readCross 95 = .ok (.iadd, 1) := dk_96 (dk_at dksX4_readCross_4 1 rfl rfl)
theorem dX4_readCross_96 : decode cX4_readCross 96 = .ok (.aload_n 0, 1) := dk_42 (dk_at dksX4_readCross_4 2 rfl rfl)
theorem dX4_readCross_97 : decode cX4_readCross 97 = .ok (.iconst 0, 1) := dk_3 (dk_at dksX4_readCross_4 3 rfl rfl)
theorem dX4_readCross_98 : decode cX4_readCross 98 = .ok (.iconst 3, 1) := dk_6 (dk_at dksX4_readCross_4 4 rfl rfl)
theorem dX4_readCross_99 : decode cX4_readCross 99 = .ok (.invokevirtual 125, 3) := dk_182 0 125 (dk_at dksX4_readCross_4 5 rfl rfl)
theorem dX4_readCross_102 : decode cX4_readCross 102 = .ok (.iastore, 1) := dk_79 (dk_at dksX4_readCross_4 8 rfl rfl)
theorem dX4_readCross_103 : decode cX4_readCross 103 = .ok (.return_, 1) := dk_177 (dk_at dksX4_readCross_4 9 rfl rfl)
abbrev cX4_readNumber : ByteArray := prog_12_method_18_code
def yX4_readNumber : MethodName := ⟨RX4, "readNumber", "(II)I"⟩
def dkwX4_readNumber_0 : List UInt8 := [42, 27, 28, 182, 0, 118, 62, 42, 182, 0, 122, 29, 172]
abbrev dktX4_readNumber_0 : List UInt8 := dkwX4_readNumber_0 ++ []
theorem dksX4_readNumber_0 : cX4_readNumber.data.toList.drop 0 = dktX4_readNumber_0 := by decide +kernel
theorem dX4_readNumber_0 : decode cX4_readNumber 0 = .ok (.aload_n 0, 1) := dk_42 (dk_at dksX4_readNumber_0 0 rfl rfl)
theorem dX4_readNumber_1 : decode cX4_readNumber 1 = .ok (.iload_n 1, 1) := dk_27 (dk_at dksX4_readNumber_0 1 rfl rfl)
theorem dX4_readNumber_2 : decode cX4_readNumber 2 = .ok (.iload_n 2, 1) := dk_28 (dk_at dksX4_readNumber_0 2 rfl rfl)
theorem dX4_readNumber_3 : decode cX4_readNumber 3 = .ok (.invokevirtual 118, 3) := dk_182 0 118 (dk_at dksX4_readNumber_0 3 rfl rfl)
theorem dX4_readNumber_6 : decode cX4_readNumber 6 = .ok (.istore_n 3, 1) := dk_62 (dk_at dksX4_readNumber_0 6 rfl rfl)
theorem dX4_readNumber_7 : decode cX4_readNumber 7 = .ok (.aload_n 0, 1) := dk_42 (dk_at dksX4_readNumber_0 7 rfl rfl)
theorem dX4_readNumber_8 : decode cX4_readNumber 8 = .ok (.invokevirtual 122, 3) := dk_182 0 122 (dk_at dksX4_readNumber_0 8 rfl rfl)
theorem dX4_readNumber_11 : decode cX4_readNumber 11 = .ok (.iload_n 3, 1) := dk_29 (dk_at dksX4_readNumber_0 11 rfl rfl)
theorem dX4_readNumber_12 : decode cX4_readNumber 12 = .ok (.ireturn, 1) := dk_172 (dk_at dksX4_readNumber_0 12 rfl rfl)
abbrev cX4_looked : ByteArray := prog_12_method_17_code
def yX4_looked : MethodName := ⟨RX4, "looked", "(II)I"⟩
def dkwX4_looked_2 : List UInt8 := [182, 0, 114, 42, 180, 0, 76, 154, 0, 10, 42, 180, 0, 111, 167, 0, 4, 3, 172]
abbrev dktX4_looked_2 : List UInt8 := dkwX4_looked_2 ++ []
def dkwX4_looked_1 : List UInt8 := [182, 0, 114, 42, 180, 0, 76, 154, 0, 20, 42, 42, 180, 0, 111, 133, 27, 133, 28, 133, 184, 0, 69, 6]
abbrev dktX4_looked_1 : List UInt8 := dkwX4_looked_1 ++ dktX4_looked_2
def dkwX4_looked_0 : List UInt8 := [42, 180, 0, 76, 154, 0, 21, 42, 42, 180, 0, 100, 5, 160, 0, 7, 4, 167, 0, 4, 3, 5]
abbrev dktX4_looked_0 : List UInt8 := dkwX4_looked_0 ++ dktX4_looked_1
theorem dksX4_looked_0 : cX4_looked.data.toList.drop 0 = dktX4_looked_0 := by decide +kernel
theorem dksX4_looked_1 : cX4_looked.data.toList.drop 22 = dktX4_looked_1 := dk_seg dksX4_looked_0 22 rfl rfl
theorem dksX4_looked_2 : cX4_looked.data.toList.drop 46 = dktX4_looked_2 := dk_seg dksX4_looked_1 24 rfl rfl
theorem dX4_looked_0 : decode cX4_looked 0 = .ok (.aload_n 0, 1) := dk_42 (dk_at dksX4_looked_0 0 rfl rfl)
theorem dX4_looked_1 : decode cX4_looked 1 = .ok (.getfield 76, 3) := dk_180 0 76 (dk_at dksX4_looked_0 1 rfl rfl)
theorem dX4_looked_4 : decode cX4_looked 4 = .ok (.ifCond .ne 21, 3) := dk_154 0 21 (dk_at dksX4_looked_0 4 rfl rfl)
theorem dX4_looked_7 : decode cX4_looked 7 = .ok (.aload_n 0, 1) := dk_42 (dk_at dksX4_looked_0 7 rfl rfl)
theorem dX4_looked_8 : decode cX4_looked 8 = .ok (.aload_n 0, 1) := dk_42 (dk_at dksX4_looked_0 8 rfl rfl)
theorem dX4_looked_9 : decode cX4_looked 9 = .ok (.getfield 100, 3) := dk_180 0 100 (dk_at dksX4_looked_0 9 rfl rfl)
theorem dX4_looked_12 : decode cX4_looked 12 = .ok (.iconst 2, 1) := dk_5 (dk_at dksX4_looked_0 12 rfl rfl)
theorem dX4_looked_13 : decode cX4_looked 13 = .ok (.if_icmp .ne 7, 3) := dk_160 0 7 (dk_at dksX4_looked_0 13 rfl rfl)
theorem dX4_looked_16 : decode cX4_looked 16 = .ok (.iconst 1, 1) := dk_4 (dk_at dksX4_looked_0 16 rfl rfl)
theorem dX4_looked_17 : decode cX4_looked 17 = .ok (.goto 4, 3) := dk_167 0 4 (dk_at dksX4_looked_0 17 rfl rfl)
theorem dX4_looked_20 : decode cX4_looked 20 = .ok (.iconst 0, 1) := dk_3 (dk_at dksX4_looked_0 20 rfl rfl)
theorem dX4_looked_21 : decode cX4_looked 21 = .ok (.iconst 2, 1) := dk_5 (dk_at dksX4_looked_0 21 rfl rfl)
theorem dX4_looked_22 : decode cX4_looked 22 = .ok (.invokevirtual 114, 3) := dk_182 0 114 (dk_at dksX4_looked_1 0 rfl rfl)
theorem dX4_looked_25 : decode cX4_looked 25 = .ok (.aload_n 0, 1) := dk_42 (dk_at dksX4_looked_1 3 rfl rfl)
theorem dX4_looked_26 : decode cX4_looked 26 = .ok (.getfield 76, 3) := dk_180 0 76 (dk_at dksX4_looked_1 4 rfl rfl)
theorem dX4_looked_29 : decode cX4_looked 29 = .ok (.ifCond .ne 20, 3) := dk_154 0 20 (dk_at dksX4_looked_1 7 rfl rfl)
theorem dX4_looked_32 : decode cX4_looked 32 = .ok (.aload_n 0, 1) := dk_42 (dk_at dksX4_looked_1 10 rfl rfl)
theorem dX4_looked_33 : decode cX4_looked 33 = .ok (.aload_n 0, 1) := dk_42 (dk_at dksX4_looked_1 11 rfl rfl)
theorem dX4_looked_34 : decode cX4_looked 34 = .ok (.getfield 111, 3) := dk_180 0 111 (dk_at dksX4_looked_1 12 rfl rfl)
theorem dX4_looked_37 : decode cX4_looked 37 = .ok (.i2l, 1) := dk_133 (dk_at dksX4_looked_1 15 rfl rfl)
theorem dX4_looked_38 : decode cX4_looked 38 = .ok (.iload_n 1, 1) := dk_27 (dk_at dksX4_looked_1 16 rfl rfl)
theorem dX4_looked_39 : decode cX4_looked 39 = .ok (.i2l, 1) := dk_133 (dk_at dksX4_looked_1 17 rfl rfl)
theorem dX4_looked_40 : decode cX4_looked 40 = .ok (.iload_n 2, 1) := dk_28 (dk_at dksX4_looked_1 18 rfl rfl)
theorem dX4_looked_41 : decode cX4_looked 41 = .ok (.i2l, 1) := dk_133 (dk_at dksX4_looked_1 19 rfl rfl)
theorem dX4_looked_42 : decode cX4_looked 42 = .ok (.invokestatic 69, 3) := dk_184 0 69 (dk_at dksX4_looked_1 20 rfl rfl)
theorem dX4_looked_45 : decode cX4_looked 45 = .ok (.iconst 3, 1) := dk_6 (dk_at dksX4_looked_1 23 rfl rfl)
theorem dX4_looked_46 : decode cX4_looked 46 = .ok (.invokevirtual 114, 3) := dk_182 0 114 (dk_at dksX4_looked_2 0 rfl rfl)
theorem dX4_looked_49 : decode cX4_looked 49 = .ok (.aload_n 0, 1) := dk_42 (dk_at dksX4_looked_2 3 rfl rfl)
theorem dX4_looked_50 : decode cX4_looked 50 = .ok (.getfield 76, 3) := dk_180 0 76 (dk_at dksX4_looked_2 4 rfl rfl)
theorem dX4_looked_53 : decode cX4_looked 53 = .ok (.ifCond .ne 10, 3) := dk_154 0 10 (dk_at dksX4_looked_2 7 rfl rfl)
theorem dX4_looked_56 : decode cX4_looked 56 = .ok (.aload_n 0, 1) := dk_42 (dk_at dksX4_looked_2 10 rfl rfl)
theorem dX4_looked_57 : decode cX4_looked 57 = .ok (.getfield 111, 3) := dk_180 0 111 (dk_at dksX4_looked_2 11 rfl rfl)
theorem dX4_looked_60 : decode cX4_looked 60 = .ok (.goto 4, 3) := dk_167 0 4 (dk_at dksX4_looked_2 14 rfl rfl)
theorem dX4_looked_63 : decode cX4_looked 63 = .ok (.iconst 0, 1) := dk_3 (dk_at dksX4_looked_2 17 rfl rfl)
theorem dX4_looked_64 : decode cX4_looked 64 = .ok (.ireturn, 1) := dk_172 (dk_at dksX4_looked_2 18 rfl rfl)
abbrev cX4_noteHighest : ByteArray := prog_12_method_19_code
def yX4_noteHighest : MethodName := ⟨RX4, "noteHighest", "(I)V"⟩
def dkwX4_noteHighest_0 : List UInt8 := [42, 27, 42, 180, 0, 61, 164, 0, 7, 27, 167, 0, 7, 42, 180, 0, 61, 181, 0, 61, 177]
abbrev dktX4_noteHighest_0 : List UInt8 := dkwX4_noteHighest_0 ++ []
theorem dksX4_noteHighest_0 : cX4_noteHighest.data.toList.drop 0 = dktX4_noteHighest_0 := by decide +kernel
theorem dX4_noteHighest_0 : decode cX4_noteHighest 0 = .ok (.aload_n 0, 1) := dk_42 (dk_at dksX4_noteHighest_0 0 rfl rfl)
theorem dX4_noteHighest_1 : decode cX4_noteHighest 1 = .ok (.iload_n 1, 1) := dk_27 (dk_at dksX4_noteHighest_0 1 rfl rfl)
theorem dX4_noteHighest_2 : decode cX4_noteHighest 2 = .ok (.aload_n 0, 1) := dk_42 (dk_at dksX4_noteHighest_0 2 rfl rfl)
theorem dX4_noteHighest_3 : decode cX4_noteHighest 3 = .ok (.getfield 61, 3) := dk_180 0 61 (dk_at dksX4_noteHighest_0 3 rfl rfl)
theorem dX4_noteHighest_6 : decode cX4_noteHighest 6 = .ok (.if_icmp .le 7, 3) := dk_164 0 7 (dk_at dksX4_noteHighest_0 6 rfl rfl)
theorem dX4_noteHighest_9 : decode cX4_noteHighest 9 = .ok (.iload_n 1, 1) := dk_27 (dk_at dksX4_noteHighest_0 9 rfl rfl)
theorem dX4_noteHighest_10 : decode cX4_noteHighest 10 = .ok (.goto 7, 3) := dk_167 0 7 (dk_at dksX4_noteHighest_0 10 rfl rfl)
theorem dX4_noteHighest_13 : decode cX4_noteHighest 13 = .ok (.aload_n 0, 1) := dk_42 (dk_at dksX4_noteHighest_0 13 rfl rfl)
theorem dX4_noteHighest_14 : decode cX4_noteHighest 14 = .ok (.getfield 61, 3) := dk_180 0 61 (dk_at dksX4_noteHighest_0 14 rfl rfl)
theorem dX4_noteHighest_17 : decode cX4_noteHighest 17 = .ok (.putfield 61, 3) := dk_181 0 61 (dk_at dksX4_noteHighest_0 17 rfl rfl)
theorem dX4_noteHighest_20 : decode cX4_noteHighest 20 = .ok (.return_, 1) := dk_177 (dk_at dksX4_noteHighest_0 20 rfl rfl)
abbrev cX4_readRope : ByteArray := prog_12_method_22_code
def yX4_readRope : MethodName := ⟨RX4, "readRope", "()V"⟩
def dkwX4_readRope_4 : List UInt8 := [4, 96, 79, 177]
abbrev dktX4_readRope_4 : List UInt8 := dkwX4_readRope_4 ++ []
def dkwX4_readRope_3 : List UInt8 := [79, 42, 180, 0, 20, 27, 5, 96, 42, 4, 16, 30, 182, 0, 125, 79, 42, 180, 0, 20, 16, 53, 92, 46]
abbrev dktX4_readRope_3 : List UInt8 := dkwX4_readRope_3 ++ dktX4_readRope_4
def dkwX4_readRope_2 : List UInt8 := [42, 29, 182, 0, 128, 42, 182, 0, 122, 42, 180, 0, 20, 27, 28, 79, 42, 180, 0, 20, 27, 4, 96, 29]
abbrev dktX4_readRope_2 : List UInt8 := dkwX4_readRope_2 ++ dktX4_readRope_3
def dkwX4_readRope_1 : List UInt8 := [182, 0, 118, 62, 42, 28, 29, 159, 0, 7, 4, 167, 0, 4, 3, 6, 182, 0, 114, 42, 28, 182, 0, 128]
abbrev dktX4_readRope_1 : List UInt8 := dkwX4_readRope_1 ++ dktX4_readRope_2
def dkwX4_readRope_0 : List UInt8 := [16, 35, 6, 42, 180, 0, 20, 16, 53, 46, 104, 96, 60, 42, 3, 7, 182, 0, 125, 61, 42, 3, 7]
abbrev dktX4_readRope_0 : List UInt8 := dkwX4_readRope_0 ++ dktX4_readRope_1
theorem dksX4_readRope_0 : cX4_readRope.data.toList.drop 0 = dktX4_readRope_0 := by decide +kernel
theorem dksX4_readRope_1 : cX4_readRope.data.toList.drop 23 = dktX4_readRope_1 := dk_seg dksX4_readRope_0 23 rfl rfl
theorem dksX4_readRope_2 : cX4_readRope.data.toList.drop 47 = dktX4_readRope_2 := dk_seg dksX4_readRope_1 24 rfl rfl
theorem dksX4_readRope_3 : cX4_readRope.data.toList.drop 71 = dktX4_readRope_3 := dk_seg dksX4_readRope_2 24 rfl rfl
theorem dksX4_readRope_4 : cX4_readRope.data.toList.drop 95 = dktX4_readRope_4 := dk_seg dksX4_readRope_3 24 rfl rfl
theorem dX4_readRope_0 : decode cX4_readRope 0 = .ok (.bipush 35, 2) := dk_16 35 (dk_at dksX4_readRope_0 0 rfl rfl)
theorem dX4_readRope_2 : decode cX4_readRope 2 = .ok (.iconst 3, 1) := dk_6 (dk_at dksX4_readRope_0 2 rfl rfl)
theorem dX4_readRope_3 : decode cX4_readRope 3 = .ok (.aload_n 0, 1) := dk_42 (dk_at dksX4_readRope_0 3 rfl rfl)
theorem dX4_readRope_4 : decode cX4_readRope 4 = .ok (.getfield 20, 3) := dk_180 0 20 (dk_at dksX4_readRope_0 4 rfl rfl)
theorem dX4_readRope_7 : decode cX4_readRope 7 = .ok (.bipush 53, 2) := dk_16 53 (dk_at dksX4_readRope_0 7 rfl rfl)
theorem dX4_readRope_9 : decode cX4_readRope 9 = .ok (.iaload, 1) := dk_46 (dk_at dksX4_readRope_0 9 rfl rfl)
theorem dX4_readRope_10 : decode cX4_readRope 10 = .ok (.imul, 1) := dk_104 (dk_at dksX4_readRope_0 10 rfl rfl)
theorem dX4_readRope_11 : decode cX4_readRope 11 = .ok (.iadd, 1) := dk_96 (dk_at dksX4_readRope_0 11 rfl rfl)
theorem dX4_readRope_12 : decode cX4_readRope 12 = .ok (.istore_n 1, 1) := dk_60 (dk_at dksX4_readRope_0 12 rfl rfl)
theorem dX4_readRope_13 : decode cX4_readRope 13 = .ok (.aload_n 0, 1) := dk_42 (dk_at dksX4_readRope_0 13 rfl rfl)
theorem dX4_readRope_14 : decode cX4_readRope 14 = .ok (.iconst 0, 1) := dk_3 (dk_at dksX4_readRope_0 14 rfl rfl)
theorem dX4_readRope_15 : decode cX4_readRope 15 = .ok (.iconst 4, 1) := dk_7 (dk_at dksX4_readRope_0 15 rfl rfl)
theorem dX4_readRope_16 : decode cX4_readRope 16 = .ok (.invokevirtual 125, 3) := dk_182 0 125 (dk_at dksX4_readRope_0 16 rfl rfl)
theorem dX4_readRope_19 : decode cX4_readRope 19 = .ok (.istore_n 2, 1) := dk_61 (dk_at dksX4_readRope_0 19 rfl rfl)
theorem dX4_readRope_20 : decode cX4_readRope 20 = .ok (.aload_n 0, 1) := dk_42 (dk_at dksX4_readRope_0 20 rfl rfl)
theorem dX4_readRope_21 : decode cX4_readRope 21 = .ok (.iconst 0, 1) := dk_3 (dk_at dksX4_readRope_0 21 rfl rfl)
theorem dX4_readRope_22 : decode cX4_readRope 22 = .ok (.iconst 4, 1) := dk_7 (dk_at dksX4_readRope_0 22 rfl rfl)
theorem dX4_readRope_23 : decode cX4_readRope 23 = .ok (.invokevirtual 118, 3) := dk_182 0 118 (dk_at dksX4_readRope_1 0 rfl rfl)
theorem dX4_readRope_26 : decode cX4_readRope 26 = .ok (.istore_n 3, 1) := dk_62 (dk_at dksX4_readRope_1 3 rfl rfl)
theorem dX4_readRope_27 : decode cX4_readRope 27 = .ok (.aload_n 0, 1) := dk_42 (dk_at dksX4_readRope_1 4 rfl rfl)
theorem dX4_readRope_28 : decode cX4_readRope 28 = .ok (.iload_n 2, 1) := dk_28 (dk_at dksX4_readRope_1 5 rfl rfl)
theorem dX4_readRope_29 : decode cX4_readRope 29 = .ok (.iload_n 3, 1) := dk_29 (dk_at dksX4_readRope_1 6 rfl rfl)
theorem dX4_readRope_30 : decode cX4_readRope 30 = .ok (.if_icmp .eq 7, 3) := dk_159 0 7 (dk_at dksX4_readRope_1 7 rfl rfl)
theorem dX4_readRope_33 : decode cX4_readRope 33 = .ok (.iconst 1, 1) := dk_4 (dk_at dksX4_readRope_1 10 rfl rfl)
theorem dX4_readRope_34 : decode cX4_readRope 34 = .ok (.goto 4, 3) := dk_167 0 4 (dk_at dksX4_readRope_1 11 rfl rfl)
theorem dX4_readRope_37 : decode cX4_readRope 37 = .ok (.iconst 0, 1) := dk_3 (dk_at dksX4_readRope_1 14 rfl rfl)
theorem dX4_readRope_38 : decode cX4_readRope 38 = .ok (.iconst 3, 1) := dk_6 (dk_at dksX4_readRope_1 15 rfl rfl)
theorem dX4_readRope_39 : decode cX4_readRope 39 = .ok (.invokevirtual 114, 3) := dk_182 0 114 (dk_at dksX4_readRope_1 16 rfl rfl)
theorem dX4_readRope_42 : decode cX4_readRope 42 = .ok (.aload_n 0, 1) := dk_42 (dk_at dksX4_readRope_1 19 rfl rfl)
theorem dX4_readRope_43 : decode cX4_readRope 43 = .ok (.iload_n 2, 1) := dk_28 (dk_at dksX4_readRope_1 20 rfl rfl)
theorem dX4_readRope_44 : decode cX4_readRope 44 = .ok (.invokevirtual 128, 3) := dk_182 0 128 (dk_at dksX4_readRope_1 21 rfl rfl)
theorem dX4_readRope_47 : decode cX4_readRope 47 = .ok (.aload_n 0, 1) := dk_42 (dk_at dksX4_readRope_2 0 rfl rfl)
theorem dX4_readRope_48 : decode cX4_readRope 48 = .ok (.iload_n 3, 1) := dk_29 (dk_at dksX4_readRope_2 1 rfl rfl)
theorem dX4_readRope_49 : decode cX4_readRope 49 = .ok (.invokevirtual 128, 3) := dk_182 0 128 (dk_at dksX4_readRope_2 2 rfl rfl)
theorem dX4_readRope_52 : decode cX4_readRope 52 = .ok (.aload_n 0, 1) := dk_42 (dk_at dksX4_readRope_2 5 rfl rfl)
theorem dX4_readRope_53 : decode cX4_readRope 53 = .ok (.invokevirtual 122, 3) := dk_182 0 122 (dk_at dksX4_readRope_2 6 rfl rfl)
theorem dX4_readRope_56 : decode cX4_readRope 56 = .ok (.aload_n 0, 1) := dk_42 (dk_at dksX4_readRope_2 9 rfl rfl)
theorem dX4_readRope_57 : decode cX4_readRope 57 = .ok (.getfield 20, 3) := dk_180 0 20 (dk_at dksX4_readRope_2 10 rfl rfl)
theorem dX4_readRope_60 : decode cX4_readRope 60 = .ok (.iload_n 1, 1) := dk_27 (dk_at dksX4_readRope_2 13 rfl rfl)
theorem dX4_readRope_61 : decode cX4_readRope 61 = .ok (.iload_n 2, 1) := dk_28 (dk_at dksX4_readRope_2 14 rfl rfl)
theorem dX4_readRope_62 : decode cX4_readRope 62 = .ok (.iastore, 1) := dk_79 (dk_at dksX4_readRope_2 15 rfl rfl)
theorem dX4_readRope_63 : decode cX4_readRope 63 = .ok (.aload_n 0, 1) := dk_42 (dk_at dksX4_readRope_2 16 rfl rfl)
theorem dX4_readRope_64 : decode cX4_readRope 64 = .ok (.getfield 20, 3) := dk_180 0 20 (dk_at dksX4_readRope_2 17 rfl rfl)
theorem dX4_readRope_67 : decode cX4_readRope 67 = .ok (.iload_n 1, 1) := dk_27 (dk_at dksX4_readRope_2 20 rfl rfl)
theorem dX4_readRope_68 : decode cX4_readRope 68 = .ok (.iconst 1, 1) := dk_4 (dk_at dksX4_readRope_2 21 rfl rfl)
theorem dX4_readRope_69 : decode cX4_readRope 69 = .ok (.iadd, 1) := dk_96 (dk_at dksX4_readRope_2 22 rfl rfl)
theorem dX4_readRope_70 : decode cX4_readRope 70 = .ok (.iload_n 3, 1) := dk_29 (dk_at dksX4_readRope_2 23 rfl rfl)
theorem dX4_readRope_71 : decode cX4_readRope 71 = .ok (.iastore, 1) := dk_79 (dk_at dksX4_readRope_3 0 rfl rfl)
theorem dX4_readRope_72 : decode cX4_readRope 72 = .ok (.aload_n 0, 1) := dk_42 (dk_at dksX4_readRope_3 1 rfl rfl)
theorem dX4_readRope_73 : decode cX4_readRope 73 = .ok (.getfield 20, 3) := dk_180 0 20 (dk_at dksX4_readRope_3 2 rfl rfl)
theorem dX4_readRope_76 : decode cX4_readRope 76 = .ok (.iload_n 1, 1) := dk_27 (dk_at dksX4_readRope_3 5 rfl rfl)
theorem dX4_readRope_77 : decode cX4_readRope 77 = .ok (.iconst 2, 1) := dk_5 (dk_at dksX4_readRope_3 6 rfl rfl)
theorem dX4_readRope_78 : decode cX4_readRope 78 = .ok (.iadd, 1) := dk_96 (dk_at dksX4_readRope_3 7 rfl rfl)
theorem dX4_readRope_79 : decode cX4_readRope 79 = .ok (.aload_n 0, 1) := dk_42 (dk_at dksX4_readRope_3 8 rfl rfl)
theorem dX4_readRope_80 : decode cX4_readRope 80 = .ok (.iconst 1, 1) := dk_4 (dk_at dksX4_readRope_3 9 rfl rfl)
theorem dX4_readRope_81 : decode cX4_readRope 81 = .ok (.bipush 30, 2) := dk_16 30 (dk_at dksX4_readRope_3 10 rfl rfl)
theorem dX4_readRope_83 : decode cX4_readRope 83 = .ok (.invokevirtual 125, 3) := dk_182 0 125 (dk_at dksX4_readRope_3 12 rfl rfl)
theorem dX4_readRope_86 : decode cX4_readRope 86 = .ok (.iastore, 1) := dk_79 (dk_at dksX4_readRope_3 15 rfl rfl)
theorem dX4_readRope_87 : decode cX4_readRope 87 = .ok (.aload_n 0, 1) := dk_42 (dk_at dksX4_readRope_3 16 rfl rfl)
theorem dX4_readRope_88 : decode cX4_readRope 88 = .ok (.getfield 20, 3) := dk_180 0 20 (dk_at dksX4_readRope_3 17 rfl rfl)
theorem dX4_readRope_91 : decode cX4_readRope 91 = .ok (.bipush 53, 2) := dk_16 53 (dk_at dksX4_readRope_3 20 rfl rfl)
theorem dX4_readRope_93 : decode cX4_readRope 93 = .ok (.dup2, 1) := dk_92 (dk_at dksX4_readRope_3 22 rfl rfl)
theorem dX4_readRope_94 : decode cX4_readRope 94 = .ok (.iaload, 1) := dk_46 (dk_at dksX4_readRope_3 23 rfl rfl)
theorem dX4_readRope_95 : decode cX4_readRope 95 = .ok (.iconst 1, 1) := dk_4 (dk_at dksX4_readRope_4 0 rfl rfl)
theorem dX4_readRope_96 : decode cX4_readRope 96 = .ok (.iadd, 1) := dk_96 (dk_at dksX4_readRope_4 1 rfl rfl)
theorem dX4_readRope_97 : decode cX4_readRope 97 = .ok (.iastore, 1) := dk_79 (dk_at dksX4_readRope_4 2 rfl rfl)
theorem dX4_readRope_98 : decode cX4_readRope 98 = .ok (.return_, 1) := dk_177 (dk_at dksX4_readRope_4 3 rfl rfl)
abbrev cX4_readIsle : ByteArray := prog_12_method_20_code
def yX4_readIsle : MethodName := ⟨RX4, "readIsle", "(I)V"⟩
def dkwX4_readIsle_3 : List UInt8 := [4, 96, 28, 79, 42, 89, 180, 0, 50, 4, 96, 181, 0, 50, 42, 182, 0, 122, 177]
abbrev dktX4_readIsle_3 : List UInt8 := dkwX4_readIsle_3 ++ []
def dkwX4_readIsle_2 : List UInt8 := [42, 180, 0, 20, 5, 42, 180, 0, 50, 104, 3, 96, 27, 79, 42, 180, 0, 20, 5, 42, 180, 0, 50, 104]
abbrev dktX4_readIsle_2 : List UInt8 := dkwX4_readIsle_2 ++ dktX4_readIsle_3
def dkwX4_readIsle_1 : List UInt8 := [29, 104, 4, 96, 46, 28, 159, 0, 7, 4, 167, 0, 4, 3, 7, 182, 0, 114, 132, 3, 1, 167, 255, 221]
abbrev dktX4_readIsle_1 : List UInt8 := dkwX4_readIsle_1 ++ dktX4_readIsle_2
def dkwX4_readIsle_0 : List UInt8 := [42, 3, 16, 99, 182, 0, 118, 61, 3, 62, 29, 42, 180, 0, 50, 162, 0, 33, 42, 42, 180, 0, 20, 5]
abbrev dktX4_readIsle_0 : List UInt8 := dkwX4_readIsle_0 ++ dktX4_readIsle_1
theorem dksX4_readIsle_0 : cX4_readIsle.data.toList.drop 0 = dktX4_readIsle_0 := by decide +kernel
theorem dksX4_readIsle_1 : cX4_readIsle.data.toList.drop 24 = dktX4_readIsle_1 := dk_seg dksX4_readIsle_0 24 rfl rfl
theorem dksX4_readIsle_2 : cX4_readIsle.data.toList.drop 48 = dktX4_readIsle_2 := dk_seg dksX4_readIsle_1 24 rfl rfl
theorem dksX4_readIsle_3 : cX4_readIsle.data.toList.drop 72 = dktX4_readIsle_3 := dk_seg dksX4_readIsle_2 24 rfl rfl
theorem dX4_readIsle_0 : decode cX4_readIsle 0 = .ok (.aload_n 0, 1) := dk_42 (dk_at dksX4_readIsle_0 0 rfl rfl)
theorem dX4_readIsle_1 : decode cX4_readIsle 1 = .ok (.iconst 0, 1) := dk_3 (dk_at dksX4_readIsle_0 1 rfl rfl)
theorem dX4_readIsle_2 : decode cX4_readIsle 2 = .ok (.bipush 99, 2) := dk_16 99 (dk_at dksX4_readIsle_0 2 rfl rfl)
theorem dX4_readIsle_4 : decode cX4_readIsle 4 = .ok (.invokevirtual 118, 3) := dk_182 0 118 (dk_at dksX4_readIsle_0 4 rfl rfl)
theorem dX4_readIsle_7 : decode cX4_readIsle 7 = .ok (.istore_n 2, 1) := dk_61 (dk_at dksX4_readIsle_0 7 rfl rfl)
theorem dX4_readIsle_8 : decode cX4_readIsle 8 = .ok (.iconst 0, 1) := dk_3 (dk_at dksX4_readIsle_0 8 rfl rfl)
theorem dX4_readIsle_9 : decode cX4_readIsle 9 = .ok (.istore_n 3, 1) := dk_62 (dk_at dksX4_readIsle_0 9 rfl rfl)
theorem dX4_readIsle_10 : decode cX4_readIsle 10 = .ok (.iload_n 3, 1) := dk_29 (dk_at dksX4_readIsle_0 10 rfl rfl)
theorem dX4_readIsle_11 : decode cX4_readIsle 11 = .ok (.aload_n 0, 1) := dk_42 (dk_at dksX4_readIsle_0 11 rfl rfl)
theorem dX4_readIsle_12 : decode cX4_readIsle 12 = .ok (.getfield 50, 3) := dk_180 0 50 (dk_at dksX4_readIsle_0 12 rfl rfl)
theorem dX4_readIsle_15 : decode cX4_readIsle 15 = .ok (.if_icmp .ge 33, 3) := dk_162 0 33 (dk_at dksX4_readIsle_0 15 rfl rfl)
theorem dX4_readIsle_18 : decode cX4_readIsle 18 = .ok (.aload_n 0, 1) := dk_42 (dk_at dksX4_readIsle_0 18 rfl rfl)
theorem dX4_readIsle_19 : decode cX4_readIsle 19 = .ok (.aload_n 0, 1) := dk_42 (dk_at dksX4_readIsle_0 19 rfl rfl)
theorem dX4_readIsle_20 : decode cX4_readIsle 20 = .ok (.getfield 20, 3) := dk_180 0 20 (dk_at dksX4_readIsle_0 20 rfl rfl)
theorem dX4_readIsle_23 : decode cX4_readIsle 23 = .ok (.iconst 2, 1) := dk_5 (dk_at dksX4_readIsle_0 23 rfl rfl)
theorem dX4_readIsle_24 : decode cX4_readIsle 24 = .ok (.iload_n 3, 1) := dk_29 (dk_at dksX4_readIsle_1 0 rfl rfl)
theorem dX4_readIsle_25 : decode cX4_readIsle 25 = .ok (.imul, 1) := dk_104 (dk_at dksX4_readIsle_1 1 rfl rfl)
theorem dX4_readIsle_26 : decode cX4_readIsle 26 = .ok (.iconst 1, 1) := dk_4 (dk_at dksX4_readIsle_1 2 rfl rfl)
theorem dX4_readIsle_27 : decode cX4_readIsle 27 = .ok (.iadd, 1) := dk_96 (dk_at dksX4_readIsle_1 3 rfl rfl)
theorem dX4_readIsle_28 : decode cX4_readIsle 28 = .ok (.iaload, 1) := dk_46 (dk_at dksX4_readIsle_1 4 rfl rfl)
theorem dX4_readIsle_29 : decode cX4_readIsle 29 = .ok (.iload_n 2, 1) := dk_28 (dk_at dksX4_readIsle_1 5 rfl rfl)
theorem dX4_readIsle_30 : decode cX4_readIsle 30 = .ok (.if_icmp .eq 7, 3) := dk_159 0 7 (dk_at dksX4_readIsle_1 6 rfl rfl)
theorem dX4_readIsle_33 : decode cX4_readIsle 33 = .ok (.iconst 1, 1) := dk_4 (dk_at dksX4_readIsle_1 9 rfl rfl)
theorem dX4_readIsle_34 : decode cX4_readIsle 34 = .ok (.goto 4, 3) := dk_167 0 4 (dk_at dksX4_readIsle_1 10 rfl rfl)
theorem dX4_readIsle_37 : decode cX4_readIsle 37 = .ok (.iconst 0, 1) := dk_3 (dk_at dksX4_readIsle_1 13 rfl rfl)
theorem dX4_readIsle_38 : decode cX4_readIsle 38 = .ok (.iconst 4, 1) := dk_7 (dk_at dksX4_readIsle_1 14 rfl rfl)
theorem dX4_readIsle_39 : decode cX4_readIsle 39 = .ok (.invokevirtual 114, 3) := dk_182 0 114 (dk_at dksX4_readIsle_1 15 rfl rfl)
theorem dX4_readIsle_42 : decode cX4_readIsle 42 = .ok (.iinc 3 1, 3) := dk_132 3 1 (dk_at dksX4_readIsle_1 18 rfl rfl)
theorem dX4_readIsle_45 : decode cX4_readIsle 45 = .ok (.goto (-35), 3) := dk_167 255 221 (dk_at dksX4_readIsle_1 21 rfl rfl)
theorem dX4_readIsle_48 : decode cX4_readIsle 48 = .ok (.aload_n 0, 1) := dk_42 (dk_at dksX4_readIsle_2 0 rfl rfl)
theorem dX4_readIsle_49 : decode cX4_readIsle 49 = .ok (.getfield 20, 3) := dk_180 0 20 (dk_at dksX4_readIsle_2 1 rfl rfl)
theorem dX4_readIsle_52 : decode cX4_readIsle 52 = .ok (.iconst 2, 1) := dk_5 (dk_at dksX4_readIsle_2 4 rfl rfl)
theorem dX4_readIsle_53 : decode cX4_readIsle 53 = .ok (.aload_n 0, 1) := dk_42 (dk_at dksX4_readIsle_2 5 rfl rfl)
theorem dX4_readIsle_54 : decode cX4_readIsle 54 = .ok (.getfield 50, 3) := dk_180 0 50 (dk_at dksX4_readIsle_2 6 rfl rfl)
theorem dX4_readIsle_57 : decode cX4_readIsle 57 = .ok (.imul, 1) := dk_104 (dk_at dksX4_readIsle_2 9 rfl rfl)
theorem dX4_readIsle_58 : decode cX4_readIsle 58 = .ok (.iconst 0, 1) := dk_3 (dk_at dksX4_readIsle_2 10 rfl rfl)
theorem dX4_readIsle_59 : decode cX4_readIsle 59 = .ok (.iadd, 1) := dk_96 (dk_at dksX4_readIsle_2 11 rfl rfl)
theorem dX4_readIsle_60 : decode cX4_readIsle 60 = .ok (.iload_n 1, 1) := dk_27 (dk_at dksX4_readIsle_2 12 rfl rfl)
theorem dX4_readIsle_61 : decode cX4_readIsle 61 = .ok (.iastore, 1) := dk_79 (dk_at dksX4_readIsle_2 13 rfl rfl)
theorem dX4_readIsle_62 : decode cX4_readIsle 62 = .ok (.aload_n 0, 1) := dk_42 (dk_at dksX4_readIsle_2 14 rfl rfl)
theorem dX4_readIsle_63 : decode cX4_readIsle 63 = .ok (.getfield 20, 3) := dk_180 0 20 (dk_at dksX4_readIsle_2 15 rfl rfl)
theorem dX4_readIsle_66 : decode cX4_readIsle 66 = .ok (.iconst 2, 1) := dk_5 (dk_at dksX4_readIsle_2 18 rfl rfl)
theorem dX4_readIsle_67 : decode cX4_readIsle 67 = .ok (.aload_n 0, 1) := dk_42 (dk_at dksX4_readIsle_2 19 rfl rfl)
theorem dX4_readIsle_68 : decode cX4_readIsle 68 = .ok (.getfield 50, 3) := dk_180 0 50 (dk_at dksX4_readIsle_2 20 rfl rfl)
theorem dX4_readIsle_71 : decode cX4_readIsle 71 = .ok (.imul, 1) := dk_104 (dk_at dksX4_readIsle_2 23 rfl rfl)
theorem dX4_readIsle_72 : decode cX4_readIsle 72 = .ok (.iconst 1, 1) := dk_4 (dk_at dksX4_readIsle_3 0 rfl rfl)
theorem dX4_readIsle_73 : decode cX4_readIsle 73 = .ok (.iadd, 1) := dk_96 (dk_at dksX4_readIsle_3 1 rfl rfl)
theorem dX4_readIsle_74 : decode cX4_readIsle 74 = .ok (.iload_n 2, 1) := dk_28 (dk_at dksX4_readIsle_3 2 rfl rfl)
theorem dX4_readIsle_75 : decode cX4_readIsle 75 = .ok (.iastore, 1) := dk_79 (dk_at dksX4_readIsle_3 3 rfl rfl)
theorem dX4_readIsle_76 : decode cX4_readIsle 76 = .ok (.aload_n 0, 1) := dk_42 (dk_at dksX4_readIsle_3 4 rfl rfl)
theorem dX4_readIsle_77 : decode cX4_readIsle 77 = .ok (.dup, 1) := dk_89 (dk_at dksX4_readIsle_3 5 rfl rfl)
theorem dX4_readIsle_78 : decode cX4_readIsle 78 = .ok (.getfield 50, 3) := dk_180 0 50 (dk_at dksX4_readIsle_3 6 rfl rfl)
theorem dX4_readIsle_81 : decode cX4_readIsle 81 = .ok (.iconst 1, 1) := dk_4 (dk_at dksX4_readIsle_3 9 rfl rfl)
theorem dX4_readIsle_82 : decode cX4_readIsle 82 = .ok (.iadd, 1) := dk_96 (dk_at dksX4_readIsle_3 10 rfl rfl)
theorem dX4_readIsle_83 : decode cX4_readIsle 83 = .ok (.putfield 50, 3) := dk_181 0 50 (dk_at dksX4_readIsle_3 11 rfl rfl)
theorem dX4_readIsle_86 : decode cX4_readIsle 86 = .ok (.aload_n 0, 1) := dk_42 (dk_at dksX4_readIsle_3 14 rfl rfl)
theorem dX4_readIsle_87 : decode cX4_readIsle 87 = .ok (.invokevirtual 122, 3) := dk_182 0 122 (dk_at dksX4_readIsle_3 15 rfl rfl)
theorem dX4_readIsle_90 : decode cX4_readIsle 90 = .ok (.return_, 1) := dk_177 (dk_at dksX4_readIsle_3 18 rfl rfl)
abbrev cX4_fault : ByteArray := prog_12_method_26_code
def yX4_fault : MethodName := ⟨RX4, "fault", "()I"⟩
theorem dX4_fault_0 : decode cX4_fault 0 = .ok (.aload_n 0, 1) := by decide +kernel
theorem dX4_fault_1 : decode cX4_fault 1 = .ok (.getfield 76, 3) := by decide +kernel
theorem dX4_fault_4 : decode cX4_fault 4 = .ok (.ireturn, 1) := by decide +kernel
abbrev cX4_rule : ByteArray := prog_12_method_47_code
def yX4_rule : MethodName := ⟨RX4, "rule", "(I)I"⟩
def dkwX4_rule_3 : List UInt8 := [180, 0, 7, 16, 55, 46, 172, 42, 180, 0, 7, 16, 56, 46, 172, 42, 182, 0, 197, 172, 2, 172]
abbrev dktX4_rule_3 : List UInt8 := dkwX4_rule_3 ++ []
def dkwX4_rule_2 : List UInt8 := [42, 180, 0, 64, 172, 42, 180, 0, 7, 16, 53, 46, 172, 42, 180, 0, 7, 16, 54, 46, 172, 42]
abbrev dktX4_rule_2 : List UInt8 := dkwX4_rule_2 ++ dktX4_rule_3
def dkwX4_rule_1 : List UInt8 := [170, 0, 0, 0, 0, 0, 81, 0, 0, 0, 0, 0, 0, 0, 5, 0, 0, 0, 39, 0, 0, 0, 44, 0, 0, 0, 52, 0, 0, 0, 60, 0, 0, 0, 68, 0, 0, 0, 76]
abbrev dktX4_rule_1 : List UInt8 := dkwX4_rule_1 ++ dktX4_rule_2
def dkwX4_rule_0 : List UInt8 := [42, 182, 0, 194, 27]
abbrev dktX4_rule_0 : List UInt8 := dkwX4_rule_0 ++ dktX4_rule_1
theorem dksX4_rule_0 : cX4_rule.data.toList.drop 0 = dktX4_rule_0 := by decide +kernel
theorem dksX4_rule_1 : cX4_rule.data.toList.drop 5 = dktX4_rule_1 := dk_seg dksX4_rule_0 5 rfl rfl
theorem dksX4_rule_2 : cX4_rule.data.toList.drop 44 = dktX4_rule_2 := dk_seg dksX4_rule_1 39 rfl rfl
theorem dksX4_rule_3 : cX4_rule.data.toList.drop 66 = dktX4_rule_3 := dk_seg dksX4_rule_2 22 rfl rfl
theorem dX4_rule_0 : decode cX4_rule 0 = .ok (.aload_n 0, 1) := dk_42 (dk_at dksX4_rule_0 0 rfl rfl)
theorem dX4_rule_1 : decode cX4_rule 1 = .ok (.invokevirtual 194, 3) := dk_182 0 194 (dk_at dksX4_rule_0 1 rfl rfl)
theorem dX4_rule_4 : decode cX4_rule 4 = .ok (.iload_n 1, 1) := dk_27 (dk_at dksX4_rule_0 4 rfl rfl)
theorem dX4_rule_5 : decode cX4_rule 5 = .ok (.tableswitch 81 0 5 #[39, 44, 52, 60, 68, 76], 39) := by decide +kernel
theorem dX4_rule_44 : decode cX4_rule 44 = .ok (.aload_n 0, 1) := dk_42 (dk_at dksX4_rule_2 0 rfl rfl)
theorem dX4_rule_45 : decode cX4_rule 45 = .ok (.getfield 64, 3) := dk_180 0 64 (dk_at dksX4_rule_2 1 rfl rfl)
theorem dX4_rule_48 : decode cX4_rule 48 = .ok (.ireturn, 1) := dk_172 (dk_at dksX4_rule_2 4 rfl rfl)
theorem dX4_rule_49 : decode cX4_rule 49 = .ok (.aload_n 0, 1) := dk_42 (dk_at dksX4_rule_2 5 rfl rfl)
theorem dX4_rule_50 : decode cX4_rule 50 = .ok (.getfield 7, 3) := dk_180 0 7 (dk_at dksX4_rule_2 6 rfl rfl)
theorem dX4_rule_53 : decode cX4_rule 53 = .ok (.bipush 53, 2) := dk_16 53 (dk_at dksX4_rule_2 9 rfl rfl)
theorem dX4_rule_55 : decode cX4_rule 55 = .ok (.iaload, 1) := dk_46 (dk_at dksX4_rule_2 11 rfl rfl)
theorem dX4_rule_56 : decode cX4_rule 56 = .ok (.ireturn, 1) := dk_172 (dk_at dksX4_rule_2 12 rfl rfl)
theorem dX4_rule_57 : decode cX4_rule 57 = .ok (.aload_n 0, 1) := dk_42 (dk_at dksX4_rule_2 13 rfl rfl)
theorem dX4_rule_58 : decode cX4_rule 58 = .ok (.getfield 7, 3) := dk_180 0 7 (dk_at dksX4_rule_2 14 rfl rfl)
theorem dX4_rule_61 : decode cX4_rule 61 = .ok (.bipush 54, 2) := dk_16 54 (dk_at dksX4_rule_2 17 rfl rfl)
theorem dX4_rule_63 : decode cX4_rule 63 = .ok (.iaload, 1) := dk_46 (dk_at dksX4_rule_2 19 rfl rfl)
theorem dX4_rule_64 : decode cX4_rule 64 = .ok (.ireturn, 1) := dk_172 (dk_at dksX4_rule_2 20 rfl rfl)
theorem dX4_rule_65 : decode cX4_rule 65 = .ok (.aload_n 0, 1) := dk_42 (dk_at dksX4_rule_2 21 rfl rfl)
theorem dX4_rule_66 : decode cX4_rule 66 = .ok (.getfield 7, 3) := dk_180 0 7 (dk_at dksX4_rule_3 0 rfl rfl)
theorem dX4_rule_69 : decode cX4_rule 69 = .ok (.bipush 55, 2) := dk_16 55 (dk_at dksX4_rule_3 3 rfl rfl)
theorem dX4_rule_71 : decode cX4_rule 71 = .ok (.iaload, 1) := dk_46 (dk_at dksX4_rule_3 5 rfl rfl)
theorem dX4_rule_72 : decode cX4_rule 72 = .ok (.ireturn, 1) := dk_172 (dk_at dksX4_rule_3 6 rfl rfl)
theorem dX4_rule_73 : decode cX4_rule 73 = .ok (.aload_n 0, 1) := dk_42 (dk_at dksX4_rule_3 7 rfl rfl)
theorem dX4_rule_74 : decode cX4_rule 74 = .ok (.getfield 7, 3) := dk_180 0 7 (dk_at dksX4_rule_3 8 rfl rfl)
theorem dX4_rule_77 : decode cX4_rule 77 = .ok (.bipush 56, 2) := dk_16 56 (dk_at dksX4_rule_3 11 rfl rfl)
theorem dX4_rule_79 : decode cX4_rule 79 = .ok (.iaload, 1) := dk_46 (dk_at dksX4_rule_3 13 rfl rfl)
theorem dX4_rule_80 : decode cX4_rule 80 = .ok (.ireturn, 1) := dk_172 (dk_at dksX4_rule_3 14 rfl rfl)
theorem dX4_rule_81 : decode cX4_rule 81 = .ok (.aload_n 0, 1) := dk_42 (dk_at dksX4_rule_3 15 rfl rfl)
theorem dX4_rule_82 : decode cX4_rule 82 = .ok (.invokevirtual 197, 3) := dk_182 0 197 (dk_at dksX4_rule_3 16 rfl rfl)
theorem dX4_rule_85 : decode cX4_rule 85 = .ok (.ireturn, 1) := dk_172 (dk_at dksX4_rule_3 19 rfl rfl)
theorem dX4_rule_86 : decode cX4_rule 86 = .ok (.iconst (-1), 1) := dk_2 (dk_at dksX4_rule_3 20 rfl rfl)
theorem dX4_rule_87 : decode cX4_rule 87 = .ok (.ireturn, 1) := dk_172 (dk_at dksX4_rule_3 21 rfl rfl)
abbrev cX4_starts : ByteArray := prog_12_method_32_code
def yX4_starts : MethodName := ⟨RX4, "starts", "()V"⟩
def dkwX4_starts_1 : List UInt8 := [167, 255, 235, 177]
abbrev dktX4_starts_1 : List UInt8 := dkwX4_starts_1 ++ []
def dkwX4_starts_0 : List UInt8 := [3, 60, 27, 16, 76, 162, 0, 21, 42, 180, 0, 13, 27, 42, 180, 0, 7, 27, 46, 79, 132, 1, 1]
abbrev dktX4_starts_0 : List UInt8 := dkwX4_starts_0 ++ dktX4_starts_1
theorem dksX4_starts_0 : cX4_starts.data.toList.drop 0 = dktX4_starts_0 := by decide +kernel
theorem dksX4_starts_1 : cX4_starts.data.toList.drop 23 = dktX4_starts_1 := dk_seg dksX4_starts_0 23 rfl rfl
theorem dX4_starts_0 : decode cX4_starts 0 = .ok (.iconst 0, 1) := dk_3 (dk_at dksX4_starts_0 0 rfl rfl)
theorem dX4_starts_1 : decode cX4_starts 1 = .ok (.istore_n 1, 1) := dk_60 (dk_at dksX4_starts_0 1 rfl rfl)
theorem dX4_starts_2 : decode cX4_starts 2 = .ok (.iload_n 1, 1) := dk_27 (dk_at dksX4_starts_0 2 rfl rfl)
theorem dX4_starts_3 : decode cX4_starts 3 = .ok (.bipush 76, 2) := dk_16 76 (dk_at dksX4_starts_0 3 rfl rfl)
theorem dX4_starts_5 : decode cX4_starts 5 = .ok (.if_icmp .ge 21, 3) := dk_162 0 21 (dk_at dksX4_starts_0 5 rfl rfl)
theorem dX4_starts_8 : decode cX4_starts 8 = .ok (.aload_n 0, 1) := dk_42 (dk_at dksX4_starts_0 8 rfl rfl)
theorem dX4_starts_9 : decode cX4_starts 9 = .ok (.getfield 13, 3) := dk_180 0 13 (dk_at dksX4_starts_0 9 rfl rfl)
theorem dX4_starts_12 : decode cX4_starts 12 = .ok (.iload_n 1, 1) := dk_27 (dk_at dksX4_starts_0 12 rfl rfl)
theorem dX4_starts_13 : decode cX4_starts 13 = .ok (.aload_n 0, 1) := dk_42 (dk_at dksX4_starts_0 13 rfl rfl)
theorem dX4_starts_14 : decode cX4_starts 14 = .ok (.getfield 7, 3) := dk_180 0 7 (dk_at dksX4_starts_0 14 rfl rfl)
theorem dX4_starts_17 : decode cX4_starts 17 = .ok (.iload_n 1, 1) := dk_27 (dk_at dksX4_starts_0 17 rfl rfl)
theorem dX4_starts_18 : decode cX4_starts 18 = .ok (.iaload, 1) := dk_46 (dk_at dksX4_starts_0 18 rfl rfl)
theorem dX4_starts_19 : decode cX4_starts 19 = .ok (.iastore, 1) := dk_79 (dk_at dksX4_starts_0 19 rfl rfl)
theorem dX4_starts_20 : decode cX4_starts 20 = .ok (.iinc 1 1, 3) := dk_132 1 1 (dk_at dksX4_starts_0 20 rfl rfl)
theorem dX4_starts_23 : decode cX4_starts 23 = .ok (.goto (-21), 3) := dk_167 255 235 (dk_at dksX4_starts_1 0 rfl rfl)
theorem dX4_starts_26 : decode cX4_starts 26 = .ok (.return_, 1) := dk_177 (dk_at dksX4_starts_1 3 rfl rfl)
abbrev cX4_spread : ByteArray := prog_12_method_36_code
def yX4_spread : MethodName := ⟨RX4, "spread", "()I"⟩
def dkwX4_spread_2 : List UInt8 := [132, 2, 1, 167, 255, 211, 27, 172]
abbrev dktX4_spread_2 : List UInt8 := dkwX4_spread_2 ++ []
def dkwX4_spread_1 : List UInt8 := [182, 0, 162, 27, 164, 0, 12, 42, 28, 29, 182, 0, 162, 167, 0, 4, 27, 60, 132, 3, 1, 167, 255, 227]
abbrev dktX4_spread_1 : List UInt8 := dkwX4_spread_1 ++ dktX4_spread_2
def dkwX4_spread_0 : List UInt8 := [3, 60, 3, 61, 28, 42, 180, 0, 64, 162, 0, 43, 3, 62, 29, 28, 162, 0, 30, 42, 28, 29]
abbrev dktX4_spread_0 : List UInt8 := dkwX4_spread_0 ++ dktX4_spread_1
theorem dksX4_spread_0 : cX4_spread.data.toList.drop 0 = dktX4_spread_0 := by decide +kernel
theorem dksX4_spread_1 : cX4_spread.data.toList.drop 22 = dktX4_spread_1 := dk_seg dksX4_spread_0 22 rfl rfl
theorem dksX4_spread_2 : cX4_spread.data.toList.drop 46 = dktX4_spread_2 := dk_seg dksX4_spread_1 24 rfl rfl
theorem dX4_spread_0 : decode cX4_spread 0 = .ok (.iconst 0, 1) := dk_3 (dk_at dksX4_spread_0 0 rfl rfl)
theorem dX4_spread_1 : decode cX4_spread 1 = .ok (.istore_n 1, 1) := dk_60 (dk_at dksX4_spread_0 1 rfl rfl)
theorem dX4_spread_2 : decode cX4_spread 2 = .ok (.iconst 0, 1) := dk_3 (dk_at dksX4_spread_0 2 rfl rfl)
theorem dX4_spread_3 : decode cX4_spread 3 = .ok (.istore_n 2, 1) := dk_61 (dk_at dksX4_spread_0 3 rfl rfl)
theorem dX4_spread_4 : decode cX4_spread 4 = .ok (.iload_n 2, 1) := dk_28 (dk_at dksX4_spread_0 4 rfl rfl)
theorem dX4_spread_5 : decode cX4_spread 5 = .ok (.aload_n 0, 1) := dk_42 (dk_at dksX4_spread_0 5 rfl rfl)
theorem dX4_spread_6 : decode cX4_spread 6 = .ok (.getfield 64, 3) := dk_180 0 64 (dk_at dksX4_spread_0 6 rfl rfl)
theorem dX4_spread_9 : decode cX4_spread 9 = .ok (.if_icmp .ge 43, 3) := dk_162 0 43 (dk_at dksX4_spread_0 9 rfl rfl)
theorem dX4_spread_12 : decode cX4_spread 12 = .ok (.iconst 0, 1) := dk_3 (dk_at dksX4_spread_0 12 rfl rfl)
theorem dX4_spread_13 : decode cX4_spread 13 = .ok (.istore_n 3, 1) := dk_62 (dk_at dksX4_spread_0 13 rfl rfl)
theorem dX4_spread_14 : decode cX4_spread 14 = .ok (.iload_n 3, 1) := dk_29 (dk_at dksX4_spread_0 14 rfl rfl)
theorem dX4_spread_15 : decode cX4_spread 15 = .ok (.iload_n 2, 1) := dk_28 (dk_at dksX4_spread_0 15 rfl rfl)
theorem dX4_spread_16 : decode cX4_spread 16 = .ok (.if_icmp .ge 30, 3) := dk_162 0 30 (dk_at dksX4_spread_0 16 rfl rfl)
theorem dX4_spread_19 : decode cX4_spread 19 = .ok (.aload_n 0, 1) := dk_42 (dk_at dksX4_spread_0 19 rfl rfl)
theorem dX4_spread_20 : decode cX4_spread 20 = .ok (.iload_n 2, 1) := dk_28 (dk_at dksX4_spread_0 20 rfl rfl)
theorem dX4_spread_21 : decode cX4_spread 21 = .ok (.iload_n 3, 1) := dk_29 (dk_at dksX4_spread_0 21 rfl rfl)
theorem dX4_spread_22 : decode cX4_spread 22 = .ok (.invokevirtual 162, 3) := dk_182 0 162 (dk_at dksX4_spread_1 0 rfl rfl)
theorem dX4_spread_25 : decode cX4_spread 25 = .ok (.iload_n 1, 1) := dk_27 (dk_at dksX4_spread_1 3 rfl rfl)
theorem dX4_spread_26 : decode cX4_spread 26 = .ok (.if_icmp .le 12, 3) := dk_164 0 12 (dk_at dksX4_spread_1 4 rfl rfl)
theorem dX4_spread_29 : decode cX4_spread 29 = .ok (.aload_n 0, 1) := dk_42 (dk_at dksX4_spread_1 7 rfl rfl)
theorem dX4_spread_30 : decode cX4_spread 30 = .ok (.iload_n 2, 1) := dk_28 (dk_at dksX4_spread_1 8 rfl rfl)
theorem dX4_spread_31 : decode cX4_spread 31 = .ok (.iload_n 3, 1) := dk_29 (dk_at dksX4_spread_1 9 rfl rfl)
theorem dX4_spread_32 : decode cX4_spread 32 = .ok (.invokevirtual 162, 3) := dk_182 0 162 (dk_at dksX4_spread_1 10 rfl rfl)
theorem dX4_spread_35 : decode cX4_spread 35 = .ok (.goto 4, 3) := dk_167 0 4 (dk_at dksX4_spread_1 13 rfl rfl)
theorem dX4_spread_38 : decode cX4_spread 38 = .ok (.iload_n 1, 1) := dk_27 (dk_at dksX4_spread_1 16 rfl rfl)
theorem dX4_spread_39 : decode cX4_spread 39 = .ok (.istore_n 1, 1) := dk_60 (dk_at dksX4_spread_1 17 rfl rfl)
theorem dX4_spread_40 : decode cX4_spread 40 = .ok (.iinc 3 1, 3) := dk_132 3 1 (dk_at dksX4_spread_1 18 rfl rfl)
theorem dX4_spread_43 : decode cX4_spread 43 = .ok (.goto (-29), 3) := dk_167 255 227 (dk_at dksX4_spread_1 21 rfl rfl)
theorem dX4_spread_46 : decode cX4_spread 46 = .ok (.iinc 2 1, 3) := dk_132 2 1 (dk_at dksX4_spread_2 0 rfl rfl)
theorem dX4_spread_49 : decode cX4_spread 49 = .ok (.goto (-45), 3) := dk_167 255 211 (dk_at dksX4_spread_2 3 rfl rfl)
theorem dX4_spread_52 : decode cX4_spread 52 = .ok (.iload_n 1, 1) := dk_27 (dk_at dksX4_spread_2 6 rfl rfl)
theorem dX4_spread_53 : decode cX4_spread 53 = .ok (.ireturn, 1) := dk_172 (dk_at dksX4_spread_2 7 rfl rfl)
abbrev cX4_apart : ByteArray := prog_12_method_35_code
def yX4_apart : MethodName := ⟨RX4, "apart", "(II)I"⟩
def dkwX4_apart_0 : List UInt8 := [42, 27, 182, 0, 156, 42, 28, 182, 0, 156, 100, 184, 0, 159, 172]
abbrev dktX4_apart_0 : List UInt8 := dkwX4_apart_0 ++ []
theorem dksX4_apart_0 : cX4_apart.data.toList.drop 0 = dktX4_apart_0 := by decide +kernel
theorem dX4_apart_0 : decode cX4_apart 0 = .ok (.aload_n 0, 1) := dk_42 (dk_at dksX4_apart_0 0 rfl rfl)
theorem dX4_apart_1 : decode cX4_apart 1 = .ok (.iload_n 1, 1) := dk_27 (dk_at dksX4_apart_0 1 rfl rfl)
theorem dX4_apart_2 : decode cX4_apart 2 = .ok (.invokevirtual 156, 3) := dk_182 0 156 (dk_at dksX4_apart_0 2 rfl rfl)
theorem dX4_apart_5 : decode cX4_apart 5 = .ok (.aload_n 0, 1) := dk_42 (dk_at dksX4_apart_0 5 rfl rfl)
theorem dX4_apart_6 : decode cX4_apart 6 = .ok (.iload_n 2, 1) := dk_28 (dk_at dksX4_apart_0 6 rfl rfl)
theorem dX4_apart_7 : decode cX4_apart 7 = .ok (.invokevirtual 156, 3) := dk_182 0 156 (dk_at dksX4_apart_0 7 rfl rfl)
theorem dX4_apart_10 : decode cX4_apart 10 = .ok (.isub, 1) := dk_100 (dk_at dksX4_apart_0 10 rfl rfl)
theorem dX4_apart_11 : decode cX4_apart 11 = .ok (.invokestatic 159, 3) := dk_184 0 159 (dk_at dksX4_apart_0 11 rfl rfl)
theorem dX4_apart_14 : decode cX4_apart 14 = .ok (.ireturn, 1) := dk_172 (dk_at dksX4_apart_0 14 rfl rfl)
abbrev cX4_place : ByteArray := prog_12_method_34_code
def yX4_place : MethodName := ⟨RX4, "place", "(I)I"⟩
def dkwX4_place_0 : List UInt8 := [42, 180, 0, 13, 5, 27, 104, 4, 96, 46, 172]
abbrev dktX4_place_0 : List UInt8 := dkwX4_place_0 ++ []
theorem dksX4_place_0 : cX4_place.data.toList.drop 0 = dktX4_place_0 := by decide +kernel
theorem dX4_place_0 : decode cX4_place 0 = .ok (.aload_n 0, 1) := dk_42 (dk_at dksX4_place_0 0 rfl rfl)
theorem dX4_place_1 : decode cX4_place 1 = .ok (.getfield 13, 3) := dk_180 0 13 (dk_at dksX4_place_0 1 rfl rfl)
theorem dX4_place_4 : decode cX4_place 4 = .ok (.iconst 2, 1) := dk_5 (dk_at dksX4_place_0 4 rfl rfl)
theorem dX4_place_5 : decode cX4_place 5 = .ok (.iload_n 1, 1) := dk_27 (dk_at dksX4_place_0 5 rfl rfl)
theorem dX4_place_6 : decode cX4_place 6 = .ok (.imul, 1) := dk_104 (dk_at dksX4_place_0 6 rfl rfl)
theorem dX4_place_7 : decode cX4_place 7 = .ok (.iconst 1, 1) := dk_4 (dk_at dksX4_place_0 7 rfl rfl)
theorem dX4_place_8 : decode cX4_place 8 = .ok (.iadd, 1) := dk_96 (dk_at dksX4_place_0 8 rfl rfl)
theorem dX4_place_9 : decode cX4_place 9 = .ok (.iaload, 1) := dk_46 (dk_at dksX4_place_0 9 rfl rfl)
theorem dX4_place_10 : decode cX4_place 10 = .ok (.ireturn, 1) := dk_172 (dk_at dksX4_place_0 10 rfl rfl)
abbrev cX4_sizeOf : ByteArray := prog_12_method_6_code
def yX4_sizeOf : MethodName := ⟨RX4, "sizeOf", "(I)I"⟩
def dkwX4_sizeOf_0 : List UInt8 := [26, 156, 0, 8, 26, 116, 167, 0, 4, 26, 172]
abbrev dktX4_sizeOf_0 : List UInt8 := dkwX4_sizeOf_0 ++ []
theorem dksX4_sizeOf_0 : cX4_sizeOf.data.toList.drop 0 = dktX4_sizeOf_0 := by decide +kernel
theorem dX4_sizeOf_0 : decode cX4_sizeOf 0 = .ok (.iload_n 0, 1) := dk_26 (dk_at dksX4_sizeOf_0 0 rfl rfl)
theorem dX4_sizeOf_1 : decode cX4_sizeOf 1 = .ok (.ifCond .ge 8, 3) := dk_156 0 8 (dk_at dksX4_sizeOf_0 1 rfl rfl)
theorem dX4_sizeOf_4 : decode cX4_sizeOf 4 = .ok (.iload_n 0, 1) := dk_26 (dk_at dksX4_sizeOf_0 4 rfl rfl)
theorem dX4_sizeOf_5 : decode cX4_sizeOf 5 = .ok (.ineg, 1) := dk_116 (dk_at dksX4_sizeOf_0 5 rfl rfl)
theorem dX4_sizeOf_6 : decode cX4_sizeOf 6 = .ok (.goto 4, 3) := dk_167 0 4 (dk_at dksX4_sizeOf_0 6 rfl rfl)
theorem dX4_sizeOf_9 : decode cX4_sizeOf 9 = .ok (.iload_n 0, 1) := dk_26 (dk_at dksX4_sizeOf_0 9 rfl rfl)
theorem dX4_sizeOf_10 : decode cX4_sizeOf 10 = .ok (.ireturn, 1) := dk_172 (dk_at dksX4_sizeOf_0 10 rfl rfl)
abbrev cX4_isle : ByteArray := prog_12_method_49_code
def yX4_isle : MethodName := ⟨RX4, "isle", "(II)I"⟩
def dkwX4_isle_4 : List UInt8 := [182, 0, 181, 172, 2, 172]
abbrev dktX4_isle_4 : List UInt8 := dkwX4_isle_4 ++ []
def dkwX4_isle_3 : List UInt8 := [184, 0, 159, 172, 42, 27, 182, 0, 168, 158, 0, 7, 4, 167, 0, 4, 3, 184, 0, 200, 172, 42, 27]
abbrev dktX4_isle_3 : List UInt8 := dkwX4_isle_3 ++ dktX4_isle_4
def dkwX4_isle_2 : List UInt8 := [42, 180, 0, 13, 5, 27, 104, 28, 96, 46, 172, 42, 27, 182, 0, 204, 172, 42, 27, 182, 0, 168]
abbrev dktX4_isle_2 : List UInt8 := dkwX4_isle_2 ++ dktX4_isle_3
def dkwX4_isle_1 : List UInt8 := [170, 0, 0, 0, 86, 0, 0, 0, 0, 0, 0, 0, 5, 0, 0, 0, 37, 0, 0, 0, 37, 0, 0, 0, 48, 0, 0, 0, 54, 0, 0, 0, 63, 0, 0, 0, 80]
abbrev dktX4_isle_1 : List UInt8 := dkwX4_isle_1 ++ dktX4_isle_2
def dkwX4_isle_0 : List UInt8 := [42, 27, 182, 0, 151, 154, 0, 5, 2, 172, 42, 182, 0, 194, 28]
abbrev dktX4_isle_0 : List UInt8 := dkwX4_isle_0 ++ dktX4_isle_1
theorem dksX4_isle_0 : cX4_isle.data.toList.drop 0 = dktX4_isle_0 := by decide +kernel
theorem dksX4_isle_1 : cX4_isle.data.toList.drop 15 = dktX4_isle_1 := dk_seg dksX4_isle_0 15 rfl rfl
theorem dksX4_isle_2 : cX4_isle.data.toList.drop 52 = dktX4_isle_2 := dk_seg dksX4_isle_1 37 rfl rfl
theorem dksX4_isle_3 : cX4_isle.data.toList.drop 74 = dktX4_isle_3 := dk_seg dksX4_isle_2 22 rfl rfl
theorem dksX4_isle_4 : cX4_isle.data.toList.drop 97 = dktX4_isle_4 := dk_seg dksX4_isle_3 23 rfl rfl
theorem dX4_isle_0 : decode cX4_isle 0 = .ok (.aload_n 0, 1) := dk_42 (dk_at dksX4_isle_0 0 rfl rfl)
theorem dX4_isle_1 : decode cX4_isle 1 = .ok (.iload_n 1, 1) := dk_27 (dk_at dksX4_isle_0 1 rfl rfl)
theorem dX4_isle_2 : decode cX4_isle 2 = .ok (.invokevirtual 151, 3) := dk_182 0 151 (dk_at dksX4_isle_0 2 rfl rfl)
theorem dX4_isle_5 : decode cX4_isle 5 = .ok (.ifCond .ne 5, 3) := dk_154 0 5 (dk_at dksX4_isle_0 5 rfl rfl)
theorem dX4_isle_8 : decode cX4_isle 8 = .ok (.iconst (-1), 1) := dk_2 (dk_at dksX4_isle_0 8 rfl rfl)
theorem dX4_isle_9 : decode cX4_isle 9 = .ok (.ireturn, 1) := dk_172 (dk_at dksX4_isle_0 9 rfl rfl)
theorem dX4_isle_10 : decode cX4_isle 10 = .ok (.aload_n 0, 1) := dk_42 (dk_at dksX4_isle_0 10 rfl rfl)
theorem dX4_isle_11 : decode cX4_isle 11 = .ok (.invokevirtual 194, 3) := dk_182 0 194 (dk_at dksX4_isle_0 11 rfl rfl)
theorem dX4_isle_14 : decode cX4_isle 14 = .ok (.iload_n 2, 1) := dk_28 (dk_at dksX4_isle_0 14 rfl rfl)
theorem dX4_isle_15 : decode cX4_isle 15 = .ok (.tableswitch 86 0 5 #[37, 37, 48, 54, 63, 80], 37) := by decide +kernel
theorem dX4_isle_52 : decode cX4_isle 52 = .ok (.aload_n 0, 1) := dk_42 (dk_at dksX4_isle_2 0 rfl rfl)
theorem dX4_isle_53 : decode cX4_isle 53 = .ok (.getfield 13, 3) := dk_180 0 13 (dk_at dksX4_isle_2 1 rfl rfl)
theorem dX4_isle_56 : decode cX4_isle 56 = .ok (.iconst 2, 1) := dk_5 (dk_at dksX4_isle_2 4 rfl rfl)
theorem dX4_isle_57 : decode cX4_isle 57 = .ok (.iload_n 1, 1) := dk_27 (dk_at dksX4_isle_2 5 rfl rfl)
theorem dX4_isle_58 : decode cX4_isle 58 = .ok (.imul, 1) := dk_104 (dk_at dksX4_isle_2 6 rfl rfl)
theorem dX4_isle_59 : decode cX4_isle 59 = .ok (.iload_n 2, 1) := dk_28 (dk_at dksX4_isle_2 7 rfl rfl)
theorem dX4_isle_60 : decode cX4_isle 60 = .ok (.iadd, 1) := dk_96 (dk_at dksX4_isle_2 8 rfl rfl)
theorem dX4_isle_61 : decode cX4_isle 61 = .ok (.iaload, 1) := dk_46 (dk_at dksX4_isle_2 9 rfl rfl)
theorem dX4_isle_62 : decode cX4_isle 62 = .ok (.ireturn, 1) := dk_172 (dk_at dksX4_isle_2 10 rfl rfl)
theorem dX4_isle_63 : decode cX4_isle 63 = .ok (.aload_n 0, 1) := dk_42 (dk_at dksX4_isle_2 11 rfl rfl)
theorem dX4_isle_64 : decode cX4_isle 64 = .ok (.iload_n 1, 1) := dk_27 (dk_at dksX4_isle_2 12 rfl rfl)
theorem dX4_isle_65 : decode cX4_isle 65 = .ok (.invokevirtual 204, 3) := dk_182 0 204 (dk_at dksX4_isle_2 13 rfl rfl)
theorem dX4_isle_68 : decode cX4_isle 68 = .ok (.ireturn, 1) := dk_172 (dk_at dksX4_isle_2 16 rfl rfl)
theorem dX4_isle_69 : decode cX4_isle 69 = .ok (.aload_n 0, 1) := dk_42 (dk_at dksX4_isle_2 17 rfl rfl)
theorem dX4_isle_70 : decode cX4_isle 70 = .ok (.iload_n 1, 1) := dk_27 (dk_at dksX4_isle_2 18 rfl rfl)
theorem dX4_isle_71 : decode cX4_isle 71 = .ok (.invokevirtual 168, 3) := dk_182 0 168 (dk_at dksX4_isle_2 19 rfl rfl)
theorem dX4_isle_74 : decode cX4_isle 74 = .ok (.invokestatic 159, 3) := dk_184 0 159 (dk_at dksX4_isle_3 0 rfl rfl)
theorem dX4_isle_77 : decode cX4_isle 77 = .ok (.ireturn, 1) := dk_172 (dk_at dksX4_isle_3 3 rfl rfl)
theorem dX4_isle_78 : decode cX4_isle 78 = .ok (.aload_n 0, 1) := dk_42 (dk_at dksX4_isle_3 4 rfl rfl)
theorem dX4_isle_79 : decode cX4_isle 79 = .ok (.iload_n 1, 1) := dk_27 (dk_at dksX4_isle_3 5 rfl rfl)
theorem dX4_isle_80 : decode cX4_isle 80 = .ok (.invokevirtual 168, 3) := dk_182 0 168 (dk_at dksX4_isle_3 6 rfl rfl)
theorem dX4_isle_83 : decode cX4_isle 83 = .ok (.ifCond .le 7, 3) := dk_158 0 7 (dk_at dksX4_isle_3 9 rfl rfl)
theorem dX4_isle_86 : decode cX4_isle 86 = .ok (.iconst 1, 1) := dk_4 (dk_at dksX4_isle_3 12 rfl rfl)
theorem dX4_isle_87 : decode cX4_isle 87 = .ok (.goto 4, 3) := dk_167 0 4 (dk_at dksX4_isle_3 13 rfl rfl)
theorem dX4_isle_90 : decode cX4_isle 90 = .ok (.iconst 0, 1) := dk_3 (dk_at dksX4_isle_3 16 rfl rfl)
theorem dX4_isle_91 : decode cX4_isle 91 = .ok (.invokestatic 200, 3) := dk_184 0 200 (dk_at dksX4_isle_3 17 rfl rfl)
theorem dX4_isle_94 : decode cX4_isle 94 = .ok (.ireturn, 1) := dk_172 (dk_at dksX4_isle_3 20 rfl rfl)
theorem dX4_isle_95 : decode cX4_isle 95 = .ok (.aload_n 0, 1) := dk_42 (dk_at dksX4_isle_3 21 rfl rfl)
theorem dX4_isle_96 : decode cX4_isle 96 = .ok (.iload_n 1, 1) := dk_27 (dk_at dksX4_isle_3 22 rfl rfl)
theorem dX4_isle_97 : decode cX4_isle 97 = .ok (.invokevirtual 181, 3) := dk_182 0 181 (dk_at dksX4_isle_4 0 rfl rfl)
theorem dX4_isle_100 : decode cX4_isle 100 = .ok (.ireturn, 1) := dk_172 (dk_at dksX4_isle_4 3 rfl rfl)
theorem dX4_isle_101 : decode cX4_isle 101 = .ok (.iconst (-1), 1) := dk_2 (dk_at dksX4_isle_4 4 rfl rfl)
theorem dX4_isle_102 : decode cX4_isle 102 = .ok (.ireturn, 1) := dk_172 (dk_at dksX4_isle_4 5 rfl rfl)
abbrev cX4_isIsle : ByteArray := prog_12_method_27_code
def yX4_isIsle : MethodName := ⟨RX4, "isIsle", "(I)Z"⟩
def dkwX4_isIsle_0 : List UInt8 := [27, 133, 9, 42, 180, 0, 64, 4, 100, 133, 184, 0, 69, 172]
abbrev dktX4_isIsle_0 : List UInt8 := dkwX4_isIsle_0 ++ []
theorem dksX4_isIsle_0 : cX4_isIsle.data.toList.drop 0 = dktX4_isIsle_0 := by decide +kernel
theorem dX4_isIsle_0 : decode cX4_isIsle 0 = .ok (.iload_n 1, 1) := dk_27 (dk_at dksX4_isIsle_0 0 rfl rfl)
theorem dX4_isIsle_1 : decode cX4_isIsle 1 = .ok (.i2l, 1) := dk_133 (dk_at dksX4_isIsle_0 1 rfl rfl)
theorem dX4_isIsle_2 : decode cX4_isIsle 2 = .ok (.lconst 0, 1) := dk_9 (dk_at dksX4_isIsle_0 2 rfl rfl)
theorem dX4_isIsle_3 : decode cX4_isIsle 3 = .ok (.aload_n 0, 1) := dk_42 (dk_at dksX4_isIsle_0 3 rfl rfl)
theorem dX4_isIsle_4 : decode cX4_isIsle 4 = .ok (.getfield 64, 3) := dk_180 0 64 (dk_at dksX4_isIsle_0 4 rfl rfl)
theorem dX4_isIsle_7 : decode cX4_isIsle 7 = .ok (.iconst 1, 1) := dk_4 (dk_at dksX4_isIsle_0 7 rfl rfl)
theorem dX4_isIsle_8 : decode cX4_isIsle 8 = .ok (.isub, 1) := dk_100 (dk_at dksX4_isIsle_0 8 rfl rfl)
theorem dX4_isIsle_9 : decode cX4_isIsle 9 = .ok (.i2l, 1) := dk_133 (dk_at dksX4_isIsle_0 9 rfl rfl)
theorem dX4_isIsle_10 : decode cX4_isIsle 10 = .ok (.invokestatic 69, 3) := dk_184 0 69 (dk_at dksX4_isIsle_0 10 rfl rfl)
theorem dX4_isIsle_13 : decode cX4_isIsle 13 = .ok (.ireturn, 1) := dk_172 (dk_at dksX4_isIsle_0 13 rfl rfl)
abbrev cX4_ropesOf : ByteArray := prog_12_method_48_code
def yX4_ropesOf : MethodName := ⟨RX4, "ropesOf", "(I)I"⟩
def dkwX4_ropesOf_2 : List UInt8 := [4, 167, 0, 4, 3, 184, 0, 200, 96, 61, 132, 3, 1, 167, 255, 199, 28, 172]
abbrev dktX4_ropesOf_2 : List UInt8 := dkwX4_ropesOf_2 ++ []
def dkwX4_ropesOf_1 : List UInt8 := [42, 180, 0, 7, 21, 4, 46, 27, 159, 0, 16, 42, 180, 0, 7, 21, 4, 4, 96, 46, 27, 160, 0, 7]
abbrev dktX4_ropesOf_1 : List UInt8 := dkwX4_ropesOf_1 ++ dktX4_ropesOf_2
def dkwX4_ropesOf_0 : List UInt8 := [3, 61, 3, 62, 29, 42, 180, 0, 7, 16, 53, 46, 162, 0, 52, 16, 35, 6, 29, 104, 96, 54, 4, 28]
abbrev dktX4_ropesOf_0 : List UInt8 := dkwX4_ropesOf_0 ++ dktX4_ropesOf_1
theorem dksX4_ropesOf_0 : cX4_ropesOf.data.toList.drop 0 = dktX4_ropesOf_0 := by decide +kernel
theorem dksX4_ropesOf_1 : cX4_ropesOf.data.toList.drop 24 = dktX4_ropesOf_1 := dk_seg dksX4_ropesOf_0 24 rfl rfl
theorem dksX4_ropesOf_2 : cX4_ropesOf.data.toList.drop 48 = dktX4_ropesOf_2 := dk_seg dksX4_ropesOf_1 24 rfl rfl
theorem dX4_ropesOf_0 : decode cX4_ropesOf 0 = .ok (.iconst 0, 1) := dk_3 (dk_at dksX4_ropesOf_0 0 rfl rfl)
theorem dX4_ropesOf_1 : decode cX4_ropesOf 1 = .ok (.istore_n 2, 1) := dk_61 (dk_at dksX4_ropesOf_0 1 rfl rfl)
theorem dX4_ropesOf_2 : decode cX4_ropesOf 2 = .ok (.iconst 0, 1) := dk_3 (dk_at dksX4_ropesOf_0 2 rfl rfl)
theorem dX4_ropesOf_3 : decode cX4_ropesOf 3 = .ok (.istore_n 3, 1) := dk_62 (dk_at dksX4_ropesOf_0 3 rfl rfl)
theorem dX4_ropesOf_4 : decode cX4_ropesOf 4 = .ok (.iload_n 3, 1) := dk_29 (dk_at dksX4_ropesOf_0 4 rfl rfl)
theorem dX4_ropesOf_5 : decode cX4_ropesOf 5 = .ok (.aload_n 0, 1) := dk_42 (dk_at dksX4_ropesOf_0 5 rfl rfl)
theorem dX4_ropesOf_6 : decode cX4_ropesOf 6 = .ok (.getfield 7, 3) := dk_180 0 7 (dk_at dksX4_ropesOf_0 6 rfl rfl)
theorem dX4_ropesOf_9 : decode cX4_ropesOf 9 = .ok (.bipush 53, 2) := dk_16 53 (dk_at dksX4_ropesOf_0 9 rfl rfl)
theorem dX4_ropesOf_11 : decode cX4_ropesOf 11 = .ok (.iaload, 1) := dk_46 (dk_at dksX4_ropesOf_0 11 rfl rfl)
theorem dX4_ropesOf_12 : decode cX4_ropesOf 12 = .ok (.if_icmp .ge 52, 3) := dk_162 0 52 (dk_at dksX4_ropesOf_0 12 rfl rfl)
theorem dX4_ropesOf_15 : decode cX4_ropesOf 15 = .ok (.bipush 35, 2) := dk_16 35 (dk_at dksX4_ropesOf_0 15 rfl rfl)
theorem dX4_ropesOf_17 : decode cX4_ropesOf 17 = .ok (.iconst 3, 1) := dk_6 (dk_at dksX4_ropesOf_0 17 rfl rfl)
theorem dX4_ropesOf_18 : decode cX4_ropesOf 18 = .ok (.iload_n 3, 1) := dk_29 (dk_at dksX4_ropesOf_0 18 rfl rfl)
theorem dX4_ropesOf_19 : decode cX4_ropesOf 19 = .ok (.imul, 1) := dk_104 (dk_at dksX4_ropesOf_0 19 rfl rfl)
theorem dX4_ropesOf_20 : decode cX4_ropesOf 20 = .ok (.iadd, 1) := dk_96 (dk_at dksX4_ropesOf_0 20 rfl rfl)
theorem dX4_ropesOf_21 : decode cX4_ropesOf 21 = .ok (.istore 4, 2) := dk_54 4 (dk_at dksX4_ropesOf_0 21 rfl rfl)
theorem dX4_ropesOf_23 : decode cX4_ropesOf 23 = .ok (.iload_n 2, 1) := dk_28 (dk_at dksX4_ropesOf_0 23 rfl rfl)
theorem dX4_ropesOf_24 : decode cX4_ropesOf 24 = .ok (.aload_n 0, 1) := dk_42 (dk_at dksX4_ropesOf_1 0 rfl rfl)
theorem dX4_ropesOf_25 : decode cX4_ropesOf 25 = .ok (.getfield 7, 3) := dk_180 0 7 (dk_at dksX4_ropesOf_1 1 rfl rfl)
theorem dX4_ropesOf_28 : decode cX4_ropesOf 28 = .ok (.iload 4, 2) := dk_21 4 (dk_at dksX4_ropesOf_1 4 rfl rfl)
theorem dX4_ropesOf_30 : decode cX4_ropesOf 30 = .ok (.iaload, 1) := dk_46 (dk_at dksX4_ropesOf_1 6 rfl rfl)
theorem dX4_ropesOf_31 : decode cX4_ropesOf 31 = .ok (.iload_n 1, 1) := dk_27 (dk_at dksX4_ropesOf_1 7 rfl rfl)
theorem dX4_ropesOf_32 : decode cX4_ropesOf 32 = .ok (.if_icmp .eq 16, 3) := dk_159 0 16 (dk_at dksX4_ropesOf_1 8 rfl rfl)
theorem dX4_ropesOf_35 : decode cX4_ropesOf 35 = .ok (.aload_n 0, 1) := dk_42 (dk_at dksX4_ropesOf_1 11 rfl rfl)
theorem dX4_ropesOf_36 : decode cX4_ropesOf 36 = .ok (.getfield 7, 3) := dk_180 0 7 (dk_at dksX4_ropesOf_1 12 rfl rfl)
theorem dX4_ropesOf_39 : decode cX4_ropesOf 39 = .ok (.iload 4, 2) := dk_21 4 (dk_at dksX4_ropesOf_1 15 rfl rfl)
theorem dX4_ropesOf_41 : decode cX4_ropesOf 41 = .ok (.iconst 1, 1) := dk_4 (dk_at dksX4_ropesOf_1 17 rfl rfl)
theorem dX4_ropesOf_42 : decode cX4_ropesOf 42 = .ok (.iadd, 1) := dk_96 (dk_at dksX4_ropesOf_1 18 rfl rfl)
theorem dX4_ropesOf_43 : decode cX4_ropesOf 43 = .ok (.iaload, 1) := dk_46 (dk_at dksX4_ropesOf_1 19 rfl rfl)
theorem dX4_ropesOf_44 : decode cX4_ropesOf 44 = .ok (.iload_n 1, 1) := dk_27 (dk_at dksX4_ropesOf_1 20 rfl rfl)
theorem dX4_ropesOf_45 : decode cX4_ropesOf 45 = .ok (.if_icmp .ne 7, 3) := dk_160 0 7 (dk_at dksX4_ropesOf_1 21 rfl rfl)
theorem dX4_ropesOf_48 : decode cX4_ropesOf 48 = .ok (.iconst 1, 1) := dk_4 (dk_at dksX4_ropesOf_2 0 rfl rfl)
theorem dX4_ropesOf_49 : decode cX4_ropesOf 49 = .ok (.goto 4, 3) := dk_167 0 4 (dk_at dksX4_ropesOf_2 1 rfl rfl)
theorem dX4_ropesOf_52 : decode cX4_ropesOf 52 = .ok (.iconst 0, 1) := dk_3 (dk_at dksX4_ropesOf_2 4 rfl rfl)
theorem dX4_ropesOf_53 : decode cX4_ropesOf 53 = .ok (.invokestatic 200, 3) := dk_184 0 200 (dk_at dksX4_ropesOf_2 5 rfl rfl)
theorem dX4_ropesOf_56 : decode cX4_ropesOf 56 = .ok (.iadd, 1) := dk_96 (dk_at dksX4_ropesOf_2 8 rfl rfl)
theorem dX4_ropesOf_57 : decode cX4_ropesOf 57 = .ok (.istore_n 2, 1) := dk_61 (dk_at dksX4_ropesOf_2 9 rfl rfl)
theorem dX4_ropesOf_58 : decode cX4_ropesOf 58 = .ok (.iinc 3 1, 3) := dk_132 3 1 (dk_at dksX4_ropesOf_2 10 rfl rfl)
theorem dX4_ropesOf_61 : decode cX4_ropesOf 61 = .ok (.goto (-57), 3) := dk_167 255 199 (dk_at dksX4_ropesOf_2 13 rfl rfl)
theorem dX4_ropesOf_64 : decode cX4_ropesOf 64 = .ok (.iload_n 2, 1) := dk_28 (dk_at dksX4_ropesOf_2 16 rfl rfl)
theorem dX4_ropesOf_65 : decode cX4_ropesOf 65 = .ok (.ireturn, 1) := dk_172 (dk_at dksX4_ropesOf_2 17 rfl rfl)
abbrev cX4_flag : ByteArray := prog_12_method_4_code
def yX4_flag : MethodName := ⟨RX4, "flag", "(Z)I"⟩
def dkwX4_flag_0 : List UInt8 := [26, 153, 0, 7, 4, 167, 0, 4, 3, 172]
abbrev dktX4_flag_0 : List UInt8 := dkwX4_flag_0 ++ []
theorem dksX4_flag_0 : cX4_flag.data.toList.drop 0 = dktX4_flag_0 := by decide +kernel
theorem dX4_flag_0 : decode cX4_flag 0 = .ok (.iload_n 0, 1) := dk_26 (dk_at dksX4_flag_0 0 rfl rfl)
theorem dX4_flag_1 : decode cX4_flag 1 = .ok (.ifCond .eq 7, 3) := dk_153 0 7 (dk_at dksX4_flag_0 1 rfl rfl)
theorem dX4_flag_4 : decode cX4_flag 4 = .ok (.iconst 1, 1) := dk_4 (dk_at dksX4_flag_0 4 rfl rfl)
theorem dX4_flag_5 : decode cX4_flag 5 = .ok (.goto 4, 3) := dk_167 0 4 (dk_at dksX4_flag_0 5 rfl rfl)
theorem dX4_flag_8 : decode cX4_flag 8 = .ok (.iconst 0, 1) := dk_3 (dk_at dksX4_flag_0 8 rfl rfl)
theorem dX4_flag_9 : decode cX4_flag 9 = .ok (.ireturn, 1) := dk_172 (dk_at dksX4_flag_0 9 rfl rfl)
abbrev cX4_driftOf : ByteArray := prog_12_method_38_code
def yX4_driftOf : MethodName := ⟨RX4, "driftOf", "(I)I"⟩
def dkwX4_driftOf_3 : List UInt8 := [100, 167, 0, 14, 29, 156, 0, 9, 29, 4, 96, 167, 0, 4, 3, 172, 28, 172]
abbrev dktX4_driftOf_3 : List UInt8 := dkwX4_driftOf_3 ++ []
def dkwX4_driftOf_2 : List UInt8 := [29, 172, 28, 156, 0, 11, 28, 116, 5, 108, 116, 167, 0, 6, 28, 5, 108, 172, 29, 158, 0, 9, 29, 4]
abbrev dktX4_driftOf_2 : List UInt8 := dkwX4_driftOf_2 ++ dktX4_driftOf_3
def dkwX4_driftOf_1 : List UInt8 := [170, 0, 0, 0, 0, 0, 0, 68, 0, 0, 0, 1, 0, 0, 0, 3, 0, 0, 0, 28, 0, 0, 0, 30, 0, 0, 0, 46]
abbrev dktX4_driftOf_1 : List UInt8 := dkwX4_driftOf_1 ++ dktX4_driftOf_2
def dkwX4_driftOf_0 : List UInt8 := [42, 27, 182, 0, 165, 61, 5, 28, 104, 62, 42, 180, 0, 13, 5, 27, 104, 3, 96, 46]
abbrev dktX4_driftOf_0 : List UInt8 := dkwX4_driftOf_0 ++ dktX4_driftOf_1
theorem dksX4_driftOf_0 : cX4_driftOf.data.toList.drop 0 = dktX4_driftOf_0 := by decide +kernel
theorem dksX4_driftOf_1 : cX4_driftOf.data.toList.drop 20 = dktX4_driftOf_1 := dk_seg dksX4_driftOf_0 20 rfl rfl
theorem dksX4_driftOf_2 : cX4_driftOf.data.toList.drop 48 = dktX4_driftOf_2 := dk_seg dksX4_driftOf_1 28 rfl rfl
theorem dksX4_driftOf_3 : cX4_driftOf.data.toList.drop 72 = dktX4_driftOf_3 := dk_seg dksX4_driftOf_2 24 rfl rfl
theorem dX4_driftOf_0 : decode cX4_driftOf 0 = .ok (.aload_n 0, 1) := dk_42 (dk_at dksX4_driftOf_0 0 rfl rfl)
theorem dX4_driftOf_1 : decode cX4_driftOf 1 = .ok (.iload_n 1, 1) := dk_27 (dk_at dksX4_driftOf_0 1 rfl rfl)
theorem dX4_driftOf_2 : decode cX4_driftOf 2 = .ok (.invokevirtual 165, 3) := dk_182 0 165 (dk_at dksX4_driftOf_0 2 rfl rfl)
theorem dX4_driftOf_5 : decode cX4_driftOf 5 = .ok (.istore_n 2, 1) := dk_61 (dk_at dksX4_driftOf_0 5 rfl rfl)
theorem dX4_driftOf_6 : decode cX4_driftOf 6 = .ok (.iconst 2, 1) := dk_5 (dk_at dksX4_driftOf_0 6 rfl rfl)
theorem dX4_driftOf_7 : decode cX4_driftOf 7 = .ok (.iload_n 2, 1) := dk_28 (dk_at dksX4_driftOf_0 7 rfl rfl)
theorem dX4_driftOf_8 : decode cX4_driftOf 8 = .ok (.imul, 1) := dk_104 (dk_at dksX4_driftOf_0 8 rfl rfl)
theorem dX4_driftOf_9 : decode cX4_driftOf 9 = .ok (.istore_n 3, 1) := dk_62 (dk_at dksX4_driftOf_0 9 rfl rfl)
theorem dX4_driftOf_10 : decode cX4_driftOf 10 = .ok (.aload_n 0, 1) := dk_42 (dk_at dksX4_driftOf_0 10 rfl rfl)
theorem dX4_driftOf_11 : decode cX4_driftOf 11 = .ok (.getfield 13, 3) := dk_180 0 13 (dk_at dksX4_driftOf_0 11 rfl rfl)
theorem dX4_driftOf_14 : decode cX4_driftOf 14 = .ok (.iconst 2, 1) := dk_5 (dk_at dksX4_driftOf_0 14 rfl rfl)
theorem dX4_driftOf_15 : decode cX4_driftOf 15 = .ok (.iload_n 1, 1) := dk_27 (dk_at dksX4_driftOf_0 15 rfl rfl)
theorem dX4_driftOf_16 : decode cX4_driftOf 16 = .ok (.imul, 1) := dk_104 (dk_at dksX4_driftOf_0 16 rfl rfl)
theorem dX4_driftOf_17 : decode cX4_driftOf 17 = .ok (.iconst 0, 1) := dk_3 (dk_at dksX4_driftOf_0 17 rfl rfl)
theorem dX4_driftOf_18 : decode cX4_driftOf 18 = .ok (.iadd, 1) := dk_96 (dk_at dksX4_driftOf_0 18 rfl rfl)
theorem dX4_driftOf_19 : decode cX4_driftOf 19 = .ok (.iaload, 1) := dk_46 (dk_at dksX4_driftOf_0 19 rfl rfl)
theorem dX4_driftOf_20 : decode cX4_driftOf 20 = .ok (.tableswitch 68 1 3 #[28, 30, 46], 28) := by decide +kernel
theorem dX4_driftOf_48 : decode cX4_driftOf 48 = .ok (.iload_n 3, 1) := dk_29 (dk_at dksX4_driftOf_2 0 rfl rfl)
theorem dX4_driftOf_49 : decode cX4_driftOf 49 = .ok (.ireturn, 1) := dk_172 (dk_at dksX4_driftOf_2 1 rfl rfl)
theorem dX4_driftOf_50 : decode cX4_driftOf 50 = .ok (.iload_n 2, 1) := dk_28 (dk_at dksX4_driftOf_2 2 rfl rfl)
theorem dX4_driftOf_51 : decode cX4_driftOf 51 = .ok (.ifCond .ge 11, 3) := dk_156 0 11 (dk_at dksX4_driftOf_2 3 rfl rfl)
theorem dX4_driftOf_54 : decode cX4_driftOf 54 = .ok (.iload_n 2, 1) := dk_28 (dk_at dksX4_driftOf_2 6 rfl rfl)
theorem dX4_driftOf_55 : decode cX4_driftOf 55 = .ok (.ineg, 1) := dk_116 (dk_at dksX4_driftOf_2 7 rfl rfl)
theorem dX4_driftOf_56 : decode cX4_driftOf 56 = .ok (.iconst 2, 1) := dk_5 (dk_at dksX4_driftOf_2 8 rfl rfl)
theorem dX4_driftOf_57 : decode cX4_driftOf 57 = .ok (.idiv, 1) := dk_108 (dk_at dksX4_driftOf_2 9 rfl rfl)
theorem dX4_driftOf_58 : decode cX4_driftOf 58 = .ok (.ineg, 1) := dk_116 (dk_at dksX4_driftOf_2 10 rfl rfl)
theorem dX4_driftOf_59 : decode cX4_driftOf 59 = .ok (.goto 6, 3) := dk_167 0 6 (dk_at dksX4_driftOf_2 11 rfl rfl)
theorem dX4_driftOf_62 : decode cX4_driftOf 62 = .ok (.iload_n 2, 1) := dk_28 (dk_at dksX4_driftOf_2 14 rfl rfl)
theorem dX4_driftOf_63 : decode cX4_driftOf 63 = .ok (.iconst 2, 1) := dk_5 (dk_at dksX4_driftOf_2 15 rfl rfl)
theorem dX4_driftOf_64 : decode cX4_driftOf 64 = .ok (.idiv, 1) := dk_108 (dk_at dksX4_driftOf_2 16 rfl rfl)
theorem dX4_driftOf_65 : decode cX4_driftOf 65 = .ok (.ireturn, 1) := dk_172 (dk_at dksX4_driftOf_2 17 rfl rfl)
theorem dX4_driftOf_66 : decode cX4_driftOf 66 = .ok (.iload_n 3, 1) := dk_29 (dk_at dksX4_driftOf_2 18 rfl rfl)
theorem dX4_driftOf_67 : decode cX4_driftOf 67 = .ok (.ifCond .le 9, 3) := dk_158 0 9 (dk_at dksX4_driftOf_2 19 rfl rfl)
theorem dX4_driftOf_70 : decode cX4_driftOf 70 = .ok (.iload_n 3, 1) := dk_29 (dk_at dksX4_driftOf_2 22 rfl rfl)
theorem dX4_driftOf_71 : decode cX4_driftOf 71 = .ok (.iconst 1, 1) := dk_4 (dk_at dksX4_driftOf_2 23 rfl rfl)
theorem dX4_driftOf_72 : decode cX4_driftOf 72 = .ok (.isub, 1) := dk_100 (dk_at dksX4_driftOf_3 0 rfl rfl)
theorem dX4_driftOf_73 : decode cX4_driftOf 73 = .ok (.goto 14, 3) := dk_167 0 14 (dk_at dksX4_driftOf_3 1 rfl rfl)
theorem dX4_driftOf_76 : decode cX4_driftOf 76 = .ok (.iload_n 3, 1) := dk_29 (dk_at dksX4_driftOf_3 4 rfl rfl)
theorem dX4_driftOf_77 : decode cX4_driftOf 77 = .ok (.ifCond .ge 9, 3) := dk_156 0 9 (dk_at dksX4_driftOf_3 5 rfl rfl)
theorem dX4_driftOf_80 : decode cX4_driftOf 80 = .ok (.iload_n 3, 1) := dk_29 (dk_at dksX4_driftOf_3 8 rfl rfl)
theorem dX4_driftOf_81 : decode cX4_driftOf 81 = .ok (.iconst 1, 1) := dk_4 (dk_at dksX4_driftOf_3 9 rfl rfl)
theorem dX4_driftOf_82 : decode cX4_driftOf 82 = .ok (.iadd, 1) := dk_96 (dk_at dksX4_driftOf_3 10 rfl rfl)
theorem dX4_driftOf_83 : decode cX4_driftOf 83 = .ok (.goto 4, 3) := dk_167 0 4 (dk_at dksX4_driftOf_3 11 rfl rfl)
theorem dX4_driftOf_86 : decode cX4_driftOf 86 = .ok (.iconst 0, 1) := dk_3 (dk_at dksX4_driftOf_3 14 rfl rfl)
theorem dX4_driftOf_87 : decode cX4_driftOf 87 = .ok (.ireturn, 1) := dk_172 (dk_at dksX4_driftOf_3 15 rfl rfl)
theorem dX4_driftOf_88 : decode cX4_driftOf 88 = .ok (.iload_n 2, 1) := dk_28 (dk_at dksX4_driftOf_3 16 rfl rfl)
theorem dX4_driftOf_89 : decode cX4_driftOf 89 = .ok (.ireturn, 1) := dk_172 (dk_at dksX4_driftOf_3 17 rfl rfl)
abbrev cX4_sulkOf : ByteArray := prog_12_method_37_code
def yX4_sulkOf : MethodName := ⟨RX4, "sulkOf", "(I)I"⟩
def dkwX4_sulkOf_2 : List UInt8 := [164, 0, 8, 21, 4, 167, 0, 6, 21, 4, 116, 96, 61, 132, 3, 1, 167, 255, 197, 28, 172]
abbrev dktX4_sulkOf_2 : List UInt8 := dkwX4_sulkOf_2 ++ []
def dkwX4_sulkOf_1 : List UInt8 := [46, 54, 4, 28, 29, 27, 160, 0, 7, 3, 167, 0, 24, 42, 27, 182, 0, 156, 42, 29, 182, 0, 156]
abbrev dktX4_sulkOf_1 : List UInt8 := dkwX4_sulkOf_1 ++ dktX4_sulkOf_2
def dkwX4_sulkOf_0 : List UInt8 := [3, 61, 3, 62, 29, 42, 180, 0, 64, 162, 0, 57, 42, 180, 0, 13, 16, 10, 8, 27, 104, 96, 29, 96]
abbrev dktX4_sulkOf_0 : List UInt8 := dkwX4_sulkOf_0 ++ dktX4_sulkOf_1
theorem dksX4_sulkOf_0 : cX4_sulkOf.data.toList.drop 0 = dktX4_sulkOf_0 := by decide +kernel
theorem dksX4_sulkOf_1 : cX4_sulkOf.data.toList.drop 24 = dktX4_sulkOf_1 := dk_seg dksX4_sulkOf_0 24 rfl rfl
theorem dksX4_sulkOf_2 : cX4_sulkOf.data.toList.drop 47 = dktX4_sulkOf_2 := dk_seg dksX4_sulkOf_1 23 rfl rfl
theorem dX4_sulkOf_0 : decode cX4_sulkOf 0 = .ok (.iconst 0, 1) := dk_3 (dk_at dksX4_sulkOf_0 0 rfl rfl)
theorem dX4_sulkOf_1 : decode cX4_sulkOf 1 = .ok (.istore_n 2, 1) := dk_61 (dk_at dksX4_sulkOf_0 1 rfl rfl)
theorem dX4_sulkOf_2 : decode cX4_sulkOf 2 = .ok (.iconst 0, 1) := dk_3 (dk_at dksX4_sulkOf_0 2 rfl rfl)
theorem dX4_sulkOf_3 : decode cX4_sulkOf 3 = .ok (.istore_n 3, 1) := dk_62 (dk_at dksX4_sulkOf_0 3 rfl rfl)
theorem dX4_sulkOf_4 : decode cX4_sulkOf 4 = .ok (.iload_n 3, 1) := dk_29 (dk_at dksX4_sulkOf_0 4 rfl rfl)
theorem dX4_sulkOf_5 : decode cX4_sulkOf 5 = .ok (.aload_n 0, 1) := dk_42 (dk_at dksX4_sulkOf_0 5 rfl rfl)
theorem dX4_sulkOf_6 : decode cX4_sulkOf 6 = .ok (.getfield 64, 3) := dk_180 0 64 (dk_at dksX4_sulkOf_0 6 rfl rfl)
theorem dX4_sulkOf_9 : decode cX4_sulkOf 9 = .ok (.if_icmp .ge 57, 3) := dk_162 0 57 (dk_at dksX4_sulkOf_0 9 rfl rfl)
theorem dX4_sulkOf_12 : decode cX4_sulkOf 12 = .ok (.aload_n 0, 1) := dk_42 (dk_at dksX4_sulkOf_0 12 rfl rfl)
theorem dX4_sulkOf_13 : decode cX4_sulkOf 13 = .ok (.getfield 13, 3) := dk_180 0 13 (dk_at dksX4_sulkOf_0 13 rfl rfl)
theorem dX4_sulkOf_16 : decode cX4_sulkOf 16 = .ok (.bipush 10, 2) := dk_16 10 (dk_at dksX4_sulkOf_0 16 rfl rfl)
theorem dX4_sulkOf_18 : decode cX4_sulkOf 18 = .ok (.iconst 5, 1) := dk_8 (dk_at dksX4_sulkOf_0 18 rfl rfl)
theorem dX4_sulkOf_19 : decode cX4_sulkOf 19 = .ok (.iload_n 1, 1) := dk_27 (dk_at dksX4_sulkOf_0 19 rfl rfl)
theorem dX4_sulkOf_20 : decode cX4_sulkOf 20 = .ok (.imul, 1) := dk_104 (dk_at dksX4_sulkOf_0 20 rfl rfl)
theorem dX4_sulkOf_21 : decode cX4_sulkOf 21 = .ok (.iadd, 1) := dk_96 (dk_at dksX4_sulkOf_0 21 rfl rfl)
theorem dX4_sulkOf_22 : decode cX4_sulkOf 22 = .ok (.iload_n 3, 1) := dk_29 (dk_at dksX4_sulkOf_0 22 rfl rfl)
theorem dX4_sulkOf_23 : decode cX4_sulkOf 23 = .ok (.iadd, 1) := dk_96 (dk_at dksX4_sulkOf_0 23 rfl rfl)
theorem dX4_sulkOf_24 : decode cX4_sulkOf 24 = .ok (.iaload, 1) := dk_46 (dk_at dksX4_sulkOf_1 0 rfl rfl)
theorem dX4_sulkOf_25 : decode cX4_sulkOf 25 = .ok (.istore 4, 2) := dk_54 4 (dk_at dksX4_sulkOf_1 1 rfl rfl)
theorem dX4_sulkOf_27 : decode cX4_sulkOf 27 = .ok (.iload_n 2, 1) := dk_28 (dk_at dksX4_sulkOf_1 3 rfl rfl)
theorem dX4_sulkOf_28 : decode cX4_sulkOf 28 = .ok (.iload_n 3, 1) := dk_29 (dk_at dksX4_sulkOf_1 4 rfl rfl)
theorem dX4_sulkOf_29 : decode cX4_sulkOf 29 = .ok (.iload_n 1, 1) := dk_27 (dk_at dksX4_sulkOf_1 5 rfl rfl)
theorem dX4_sulkOf_30 : decode cX4_sulkOf 30 = .ok (.if_icmp .ne 7, 3) := dk_160 0 7 (dk_at dksX4_sulkOf_1 6 rfl rfl)
theorem dX4_sulkOf_33 : decode cX4_sulkOf 33 = .ok (.iconst 0, 1) := dk_3 (dk_at dksX4_sulkOf_1 9 rfl rfl)
theorem dX4_sulkOf_34 : decode cX4_sulkOf 34 = .ok (.goto 24, 3) := dk_167 0 24 (dk_at dksX4_sulkOf_1 10 rfl rfl)
theorem dX4_sulkOf_37 : decode cX4_sulkOf 37 = .ok (.aload_n 0, 1) := dk_42 (dk_at dksX4_sulkOf_1 13 rfl rfl)
theorem dX4_sulkOf_38 : decode cX4_sulkOf 38 = .ok (.iload_n 1, 1) := dk_27 (dk_at dksX4_sulkOf_1 14 rfl rfl)
theorem dX4_sulkOf_39 : decode cX4_sulkOf 39 = .ok (.invokevirtual 156, 3) := dk_182 0 156 (dk_at dksX4_sulkOf_1 15 rfl rfl)
theorem dX4_sulkOf_42 : decode cX4_sulkOf 42 = .ok (.aload_n 0, 1) := dk_42 (dk_at dksX4_sulkOf_1 18 rfl rfl)
theorem dX4_sulkOf_43 : decode cX4_sulkOf 43 = .ok (.iload_n 3, 1) := dk_29 (dk_at dksX4_sulkOf_1 19 rfl rfl)
theorem dX4_sulkOf_44 : decode cX4_sulkOf 44 = .ok (.invokevirtual 156, 3) := dk_182 0 156 (dk_at dksX4_sulkOf_1 20 rfl rfl)
theorem dX4_sulkOf_47 : decode cX4_sulkOf 47 = .ok (.if_icmp .le 8, 3) := dk_164 0 8 (dk_at dksX4_sulkOf_2 0 rfl rfl)
theorem dX4_sulkOf_50 : decode cX4_sulkOf 50 = .ok (.iload 4, 2) := dk_21 4 (dk_at dksX4_sulkOf_2 3 rfl rfl)
theorem dX4_sulkOf_52 : decode cX4_sulkOf 52 = .ok (.goto 6, 3) := dk_167 0 6 (dk_at dksX4_sulkOf_2 5 rfl rfl)
theorem dX4_sulkOf_55 : decode cX4_sulkOf 55 = .ok (.iload 4, 2) := dk_21 4 (dk_at dksX4_sulkOf_2 8 rfl rfl)
theorem dX4_sulkOf_57 : decode cX4_sulkOf 57 = .ok (.ineg, 1) := dk_116 (dk_at dksX4_sulkOf_2 10 rfl rfl)
theorem dX4_sulkOf_58 : decode cX4_sulkOf 58 = .ok (.iadd, 1) := dk_96 (dk_at dksX4_sulkOf_2 11 rfl rfl)
theorem dX4_sulkOf_59 : decode cX4_sulkOf 59 = .ok (.istore_n 2, 1) := dk_61 (dk_at dksX4_sulkOf_2 12 rfl rfl)
theorem dX4_sulkOf_60 : decode cX4_sulkOf 60 = .ok (.iinc 3 1, 3) := dk_132 3 1 (dk_at dksX4_sulkOf_2 13 rfl rfl)
theorem dX4_sulkOf_63 : decode cX4_sulkOf 63 = .ok (.goto (-59), 3) := dk_167 255 197 (dk_at dksX4_sulkOf_2 16 rfl rfl)
theorem dX4_sulkOf_66 : decode cX4_sulkOf 66 = .ok (.iload_n 2, 1) := dk_28 (dk_at dksX4_sulkOf_2 19 rfl rfl)
theorem dX4_sulkOf_67 : decode cX4_sulkOf 67 = .ok (.ireturn, 1) := dk_172 (dk_at dksX4_sulkOf_2 20 rfl rfl)
abbrev cX4_nearest : ByteArray := prog_12_method_41_code
def yX4_nearest : MethodName := ⟨RX4, "nearest", "(I)I"⟩
def dkwX4_nearest_2 : List UInt8 := [167, 255, 213, 28, 172]
abbrev dktX4_nearest_2 : List UInt8 := dkwX4_nearest_2 ++ []
def dkwX4_nearest_1 : List UInt8 := [42, 27, 29, 182, 0, 162, 42, 27, 28, 182, 0, 162, 162, 0, 7, 29, 167, 0, 4, 28, 61, 132, 3, 1]
abbrev dktX4_nearest_1 : List UInt8 := dkwX4_nearest_1 ++ dktX4_nearest_2
def dkwX4_nearest_0 : List UInt8 := [16, 252, 61, 3, 62, 29, 42, 180, 0, 64, 162, 0, 41, 29, 27, 159, 0, 28, 28, 16, 252, 159, 0, 18]
abbrev dktX4_nearest_0 : List UInt8 := dkwX4_nearest_0 ++ dktX4_nearest_1
theorem dksX4_nearest_0 : cX4_nearest.data.toList.drop 0 = dktX4_nearest_0 := by decide +kernel
theorem dksX4_nearest_1 : cX4_nearest.data.toList.drop 24 = dktX4_nearest_1 := dk_seg dksX4_nearest_0 24 rfl rfl
theorem dksX4_nearest_2 : cX4_nearest.data.toList.drop 48 = dktX4_nearest_2 := dk_seg dksX4_nearest_1 24 rfl rfl
theorem dX4_nearest_0 : decode cX4_nearest 0 = .ok (.bipush (-4), 2) := dk_16 252 (dk_at dksX4_nearest_0 0 rfl rfl)
theorem dX4_nearest_2 : decode cX4_nearest 2 = .ok (.istore_n 2, 1) := dk_61 (dk_at dksX4_nearest_0 2 rfl rfl)
theorem dX4_nearest_3 : decode cX4_nearest 3 = .ok (.iconst 0, 1) := dk_3 (dk_at dksX4_nearest_0 3 rfl rfl)
theorem dX4_nearest_4 : decode cX4_nearest 4 = .ok (.istore_n 3, 1) := dk_62 (dk_at dksX4_nearest_0 4 rfl rfl)
theorem dX4_nearest_5 : decode cX4_nearest 5 = .ok (.iload_n 3, 1) := dk_29 (dk_at dksX4_nearest_0 5 rfl rfl)
theorem dX4_nearest_6 : decode cX4_nearest 6 = .ok (.aload_n 0, 1) := dk_42 (dk_at dksX4_nearest_0 6 rfl rfl)
theorem dX4_nearest_7 : decode cX4_nearest 7 = .ok (.getfield 64, 3) := dk_180 0 64 (dk_at dksX4_nearest_0 7 rfl rfl)
theorem dX4_nearest_10 : decode cX4_nearest 10 = .ok (.if_icmp .ge 41, 3) := dk_162 0 41 (dk_at dksX4_nearest_0 10 rfl rfl)
theorem dX4_nearest_13 : decode cX4_nearest 13 = .ok (.iload_n 3, 1) := dk_29 (dk_at dksX4_nearest_0 13 rfl rfl)
theorem dX4_nearest_14 : decode cX4_nearest 14 = .ok (.iload_n 1, 1) := dk_27 (dk_at dksX4_nearest_0 14 rfl rfl)
theorem dX4_nearest_15 : decode cX4_nearest 15 = .ok (.if_icmp .eq 28, 3) := dk_159 0 28 (dk_at dksX4_nearest_0 15 rfl rfl)
theorem dX4_nearest_18 : decode cX4_nearest 18 = .ok (.iload_n 2, 1) := dk_28 (dk_at dksX4_nearest_0 18 rfl rfl)
theorem dX4_nearest_19 : decode cX4_nearest 19 = .ok (.bipush (-4), 2) := dk_16 252 (dk_at dksX4_nearest_0 19 rfl rfl)
theorem dX4_nearest_21 : decode cX4_nearest 21 = .ok (.if_icmp .eq 18, 3) := dk_159 0 18 (dk_at dksX4_nearest_0 21 rfl rfl)
theorem dX4_nearest_24 : decode cX4_nearest 24 = .ok (.aload_n 0, 1) := dk_42 (dk_at dksX4_nearest_1 0 rfl rfl)
theorem dX4_nearest_25 : decode cX4_nearest 25 = .ok (.iload_n 1, 1) := dk_27 (dk_at dksX4_nearest_1 1 rfl rfl)
theorem dX4_nearest_26 : decode cX4_nearest 26 = .ok (.iload_n 3, 1) := dk_29 (dk_at dksX4_nearest_1 2 rfl rfl)
theorem dX4_nearest_27 : decode cX4_nearest 27 = .ok (.invokevirtual 162, 3) := dk_182 0 162 (dk_at dksX4_nearest_1 3 rfl rfl)
theorem dX4_nearest_30 : decode cX4_nearest 30 = .ok (.aload_n 0, 1) := dk_42 (dk_at dksX4_nearest_1 6 rfl rfl)
theorem dX4_nearest_31 : decode cX4_nearest 31 = .ok (.iload_n 1, 1) := dk_27 (dk_at dksX4_nearest_1 7 rfl rfl)
theorem dX4_nearest_32 : decode cX4_nearest 32 = .ok (.iload_n 2, 1) := dk_28 (dk_at dksX4_nearest_1 8 rfl rfl)
theorem dX4_nearest_33 : decode cX4_nearest 33 = .ok (.invokevirtual 162, 3) := dk_182 0 162 (dk_at dksX4_nearest_1 9 rfl rfl)
theorem dX4_nearest_36 : decode cX4_nearest 36 = .ok (.if_icmp .ge 7, 3) := dk_162 0 7 (dk_at dksX4_nearest_1 12 rfl rfl)
theorem dX4_nearest_39 : decode cX4_nearest 39 = .ok (.iload_n 3, 1) := dk_29 (dk_at dksX4_nearest_1 15 rfl rfl)
theorem dX4_nearest_40 : decode cX4_nearest 40 = .ok (.goto 4, 3) := dk_167 0 4 (dk_at dksX4_nearest_1 16 rfl rfl)
theorem dX4_nearest_43 : decode cX4_nearest 43 = .ok (.iload_n 2, 1) := dk_28 (dk_at dksX4_nearest_1 19 rfl rfl)
theorem dX4_nearest_44 : decode cX4_nearest 44 = .ok (.istore_n 2, 1) := dk_61 (dk_at dksX4_nearest_1 20 rfl rfl)
theorem dX4_nearest_45 : decode cX4_nearest 45 = .ok (.iinc 3 1, 3) := dk_132 3 1 (dk_at dksX4_nearest_1 21 rfl rfl)
theorem dX4_nearest_48 : decode cX4_nearest 48 = .ok (.goto (-43), 3) := dk_167 255 213 (dk_at dksX4_nearest_2 0 rfl rfl)
theorem dX4_nearest_51 : decode cX4_nearest 51 = .ok (.iload_n 2, 1) := dk_28 (dk_at dksX4_nearest_2 3 rfl rfl)
theorem dX4_nearest_52 : decode cX4_nearest 52 = .ok (.ireturn, 1) := dk_172 (dk_at dksX4_nearest_2 4 rfl rfl)
abbrev cX4_cross : ByteArray := prog_12_method_50_code
def yX4_cross : MethodName := ⟨RX4, "cross", "(II)I"⟩
def dkwX4_cross_1 : List UInt8 := [167, 0, 4, 2, 172]
abbrev dktX4_cross_1 : List UInt8 := dkwX4_cross_1 ++ []
def dkwX4_cross_0 : List UInt8 := [42, 27, 28, 182, 0, 207, 153, 0, 19, 42, 180, 0, 7, 16, 10, 8, 27, 104, 96, 28, 96, 46]
abbrev dktX4_cross_0 : List UInt8 := dkwX4_cross_0 ++ dktX4_cross_1
theorem dksX4_cross_0 : cX4_cross.data.toList.drop 0 = dktX4_cross_0 := by decide +kernel
theorem dksX4_cross_1 : cX4_cross.data.toList.drop 22 = dktX4_cross_1 := dk_seg dksX4_cross_0 22 rfl rfl
theorem dX4_cross_0 : decode cX4_cross 0 = .ok (.aload_n 0, 1) := dk_42 (dk_at dksX4_cross_0 0 rfl rfl)
theorem dX4_cross_1 : decode cX4_cross 1 = .ok (.iload_n 1, 1) := dk_27 (dk_at dksX4_cross_0 1 rfl rfl)
theorem dX4_cross_2 : decode cX4_cross 2 = .ok (.iload_n 2, 1) := dk_28 (dk_at dksX4_cross_0 2 rfl rfl)
theorem dX4_cross_3 : decode cX4_cross 3 = .ok (.invokevirtual 207, 3) := dk_182 0 207 (dk_at dksX4_cross_0 3 rfl rfl)
theorem dX4_cross_6 : decode cX4_cross 6 = .ok (.ifCond .eq 19, 3) := dk_153 0 19 (dk_at dksX4_cross_0 6 rfl rfl)
theorem dX4_cross_9 : decode cX4_cross 9 = .ok (.aload_n 0, 1) := dk_42 (dk_at dksX4_cross_0 9 rfl rfl)
theorem dX4_cross_10 : decode cX4_cross 10 = .ok (.getfield 7, 3) := dk_180 0 7 (dk_at dksX4_cross_0 10 rfl rfl)
theorem dX4_cross_13 : decode cX4_cross 13 = .ok (.bipush 10, 2) := dk_16 10 (dk_at dksX4_cross_0 13 rfl rfl)
theorem dX4_cross_15 : decode cX4_cross 15 = .ok (.iconst 5, 1) := dk_8 (dk_at dksX4_cross_0 15 rfl rfl)
theorem dX4_cross_16 : decode cX4_cross 16 = .ok (.iload_n 1, 1) := dk_27 (dk_at dksX4_cross_0 16 rfl rfl)
theorem dX4_cross_17 : decode cX4_cross 17 = .ok (.imul, 1) := dk_104 (dk_at dksX4_cross_0 17 rfl rfl)
theorem dX4_cross_18 : decode cX4_cross 18 = .ok (.iadd, 1) := dk_96 (dk_at dksX4_cross_0 18 rfl rfl)
theorem dX4_cross_19 : decode cX4_cross 19 = .ok (.iload_n 2, 1) := dk_28 (dk_at dksX4_cross_0 19 rfl rfl)
theorem dX4_cross_20 : decode cX4_cross 20 = .ok (.iadd, 1) := dk_96 (dk_at dksX4_cross_0 20 rfl rfl)
theorem dX4_cross_21 : decode cX4_cross 21 = .ok (.iaload, 1) := dk_46 (dk_at dksX4_cross_0 21 rfl rfl)
theorem dX4_cross_22 : decode cX4_cross 22 = .ok (.goto 4, 3) := dk_167 0 4 (dk_at dksX4_cross_1 0 rfl rfl)
theorem dX4_cross_25 : decode cX4_cross 25 = .ok (.iconst (-1), 1) := dk_2 (dk_at dksX4_cross_1 3 rfl rfl)
theorem dX4_cross_26 : decode cX4_cross 26 = .ok (.ireturn, 1) := dk_172 (dk_at dksX4_cross_1 4 rfl rfl)
abbrev cX4_areTwo : ByteArray := prog_12_method_28_code
def yX4_areTwo : MethodName := ⟨RX4, "areTwo", "(II)Z"⟩
def dkwX4_areTwo_1 : List UInt8 := [167, 0, 4, 3, 172]
abbrev dktX4_areTwo_1 : List UInt8 := dkwX4_areTwo_1 ++ []
def dkwX4_areTwo_0 : List UInt8 := [42, 27, 182, 0, 151, 153, 0, 20, 42, 28, 182, 0, 151, 153, 0, 12, 27, 28, 159, 0, 7, 4]
abbrev dktX4_areTwo_0 : List UInt8 := dkwX4_areTwo_0 ++ dktX4_areTwo_1
theorem dksX4_areTwo_0 : cX4_areTwo.data.toList.drop 0 = dktX4_areTwo_0 := by decide +kernel
theorem dksX4_areTwo_1 : cX4_areTwo.data.toList.drop 22 = dktX4_areTwo_1 := dk_seg dksX4_areTwo_0 22 rfl rfl
theorem dX4_areTwo_0 : decode cX4_areTwo 0 = .ok (.aload_n 0, 1) := dk_42 (dk_at dksX4_areTwo_0 0 rfl rfl)
theorem dX4_areTwo_1 : decode cX4_areTwo 1 = .ok (.iload_n 1, 1) := dk_27 (dk_at dksX4_areTwo_0 1 rfl rfl)
theorem dX4_areTwo_2 : decode cX4_areTwo 2 = .ok (.invokevirtual 151, 3) := dk_182 0 151 (dk_at dksX4_areTwo_0 2 rfl rfl)
theorem dX4_areTwo_5 : decode cX4_areTwo 5 = .ok (.ifCond .eq 20, 3) := dk_153 0 20 (dk_at dksX4_areTwo_0 5 rfl rfl)
theorem dX4_areTwo_8 : decode cX4_areTwo 8 = .ok (.aload_n 0, 1) := dk_42 (dk_at dksX4_areTwo_0 8 rfl rfl)
theorem dX4_areTwo_9 : decode cX4_areTwo 9 = .ok (.iload_n 2, 1) := dk_28 (dk_at dksX4_areTwo_0 9 rfl rfl)
theorem dX4_areTwo_10 : decode cX4_areTwo 10 = .ok (.invokevirtual 151, 3) := dk_182 0 151 (dk_at dksX4_areTwo_0 10 rfl rfl)
theorem dX4_areTwo_13 : decode cX4_areTwo 13 = .ok (.ifCond .eq 12, 3) := dk_153 0 12 (dk_at dksX4_areTwo_0 13 rfl rfl)
theorem dX4_areTwo_16 : decode cX4_areTwo 16 = .ok (.iload_n 1, 1) := dk_27 (dk_at dksX4_areTwo_0 16 rfl rfl)
theorem dX4_areTwo_17 : decode cX4_areTwo 17 = .ok (.iload_n 2, 1) := dk_28 (dk_at dksX4_areTwo_0 17 rfl rfl)
theorem dX4_areTwo_18 : decode cX4_areTwo 18 = .ok (.if_icmp .eq 7, 3) := dk_159 0 7 (dk_at dksX4_areTwo_0 18 rfl rfl)
theorem dX4_areTwo_21 : decode cX4_areTwo 21 = .ok (.iconst 1, 1) := dk_4 (dk_at dksX4_areTwo_0 21 rfl rfl)
theorem dX4_areTwo_22 : decode cX4_areTwo 22 = .ok (.goto 4, 3) := dk_167 0 4 (dk_at dksX4_areTwo_1 0 rfl rfl)
theorem dX4_areTwo_25 : decode cX4_areTwo 25 = .ok (.iconst 0, 1) := dk_3 (dk_at dksX4_areTwo_1 3 rfl rfl)
theorem dX4_areTwo_26 : decode cX4_areTwo 26 = .ok (.ireturn, 1) := dk_172 (dk_at dksX4_areTwo_1 4 rfl rfl)
abbrev cX4_rope : ByteArray := prog_12_method_51_code
def yX4_rope : MethodName := ⟨RX4, "rope", "(II)I"⟩
def dkwX4_rope_1 : List UInt8 := [16, 35, 6, 27, 104, 96, 28, 96, 46, 167, 0, 4, 2, 172]
abbrev dktX4_rope_1 : List UInt8 := dkwX4_rope_1 ++ []
def dkwX4_rope_0 : List UInt8 := [42, 27, 182, 0, 210, 153, 0, 31, 28, 133, 9, 20, 0, 213, 184, 0, 69, 153, 0, 19, 42, 180, 0, 7]
abbrev dktX4_rope_0 : List UInt8 := dkwX4_rope_0 ++ dktX4_rope_1
theorem dksX4_rope_0 : cX4_rope.data.toList.drop 0 = dktX4_rope_0 := by decide +kernel
theorem dksX4_rope_1 : cX4_rope.data.toList.drop 24 = dktX4_rope_1 := dk_seg dksX4_rope_0 24 rfl rfl
theorem dX4_rope_0 : decode cX4_rope 0 = .ok (.aload_n 0, 1) := dk_42 (dk_at dksX4_rope_0 0 rfl rfl)
theorem dX4_rope_1 : decode cX4_rope 1 = .ok (.iload_n 1, 1) := dk_27 (dk_at dksX4_rope_0 1 rfl rfl)
theorem dX4_rope_2 : decode cX4_rope 2 = .ok (.invokevirtual 210, 3) := dk_182 0 210 (dk_at dksX4_rope_0 2 rfl rfl)
theorem dX4_rope_5 : decode cX4_rope 5 = .ok (.ifCond .eq 31, 3) := dk_153 0 31 (dk_at dksX4_rope_0 5 rfl rfl)
theorem dX4_rope_8 : decode cX4_rope 8 = .ok (.iload_n 2, 1) := dk_28 (dk_at dksX4_rope_0 8 rfl rfl)
theorem dX4_rope_9 : decode cX4_rope 9 = .ok (.i2l, 1) := dk_133 (dk_at dksX4_rope_0 9 rfl rfl)
theorem dX4_rope_10 : decode cX4_rope 10 = .ok (.lconst 0, 1) := dk_9 (dk_at dksX4_rope_0 10 rfl rfl)
theorem dX4_rope_11 : decode cX4_rope 11 = .ok (.ldc2_w 213, 3) := dk_20 0 213 (dk_at dksX4_rope_0 11 rfl rfl)
theorem dX4_rope_14 : decode cX4_rope 14 = .ok (.invokestatic 69, 3) := dk_184 0 69 (dk_at dksX4_rope_0 14 rfl rfl)
theorem dX4_rope_17 : decode cX4_rope 17 = .ok (.ifCond .eq 19, 3) := dk_153 0 19 (dk_at dksX4_rope_0 17 rfl rfl)
theorem dX4_rope_20 : decode cX4_rope 20 = .ok (.aload_n 0, 1) := dk_42 (dk_at dksX4_rope_0 20 rfl rfl)
theorem dX4_rope_21 : decode cX4_rope 21 = .ok (.getfield 7, 3) := dk_180 0 7 (dk_at dksX4_rope_0 21 rfl rfl)
theorem dX4_rope_24 : decode cX4_rope 24 = .ok (.bipush 35, 2) := dk_16 35 (dk_at dksX4_rope_1 0 rfl rfl)
theorem dX4_rope_26 : decode cX4_rope 26 = .ok (.iconst 3, 1) := dk_6 (dk_at dksX4_rope_1 2 rfl rfl)
theorem dX4_rope_27 : decode cX4_rope 27 = .ok (.iload_n 1, 1) := dk_27 (dk_at dksX4_rope_1 3 rfl rfl)
theorem dX4_rope_28 : decode cX4_rope 28 = .ok (.imul, 1) := dk_104 (dk_at dksX4_rope_1 4 rfl rfl)
theorem dX4_rope_29 : decode cX4_rope 29 = .ok (.iadd, 1) := dk_96 (dk_at dksX4_rope_1 5 rfl rfl)
theorem dX4_rope_30 : decode cX4_rope 30 = .ok (.iload_n 2, 1) := dk_28 (dk_at dksX4_rope_1 6 rfl rfl)
theorem dX4_rope_31 : decode cX4_rope 31 = .ok (.iadd, 1) := dk_96 (dk_at dksX4_rope_1 7 rfl rfl)
theorem dX4_rope_32 : decode cX4_rope 32 = .ok (.iaload, 1) := dk_46 (dk_at dksX4_rope_1 8 rfl rfl)
theorem dX4_rope_33 : decode cX4_rope 33 = .ok (.goto 4, 3) := dk_167 0 4 (dk_at dksX4_rope_1 9 rfl rfl)
theorem dX4_rope_36 : decode cX4_rope 36 = .ok (.iconst (-1), 1) := dk_2 (dk_at dksX4_rope_1 12 rfl rfl)
theorem dX4_rope_37 : decode cX4_rope 37 = .ok (.ireturn, 1) := dk_172 (dk_at dksX4_rope_1 13 rfl rfl)
abbrev cX4_isRope : ByteArray := prog_12_method_29_code
def yX4_isRope : MethodName := ⟨RX4, "isRope", "(I)Z"⟩
def dkwX4_isRope_0 : List UInt8 := [27, 133, 9, 42, 180, 0, 7, 16, 53, 46, 4, 100, 133, 184, 0, 69, 172]
abbrev dktX4_isRope_0 : List UInt8 := dkwX4_isRope_0 ++ []
theorem dksX4_isRope_0 : cX4_isRope.data.toList.drop 0 = dktX4_isRope_0 := by decide +kernel
theorem dX4_isRope_0 : decode cX4_isRope 0 = .ok (.iload_n 1, 1) := dk_27 (dk_at dksX4_isRope_0 0 rfl rfl)
theorem dX4_isRope_1 : decode cX4_isRope 1 = .ok (.i2l, 1) := dk_133 (dk_at dksX4_isRope_0 1 rfl rfl)
theorem dX4_isRope_2 : decode cX4_isRope 2 = .ok (.lconst 0, 1) := dk_9 (dk_at dksX4_isRope_0 2 rfl rfl)
theorem dX4_isRope_3 : decode cX4_isRope 3 = .ok (.aload_n 0, 1) := dk_42 (dk_at dksX4_isRope_0 3 rfl rfl)
theorem dX4_isRope_4 : decode cX4_isRope 4 = .ok (.getfield 7, 3) := dk_180 0 7 (dk_at dksX4_isRope_0 4 rfl rfl)
theorem dX4_isRope_7 : decode cX4_isRope 7 = .ok (.bipush 53, 2) := dk_16 53 (dk_at dksX4_isRope_0 7 rfl rfl)
theorem dX4_isRope_9 : decode cX4_isRope 9 = .ok (.iaload, 1) := dk_46 (dk_at dksX4_isRope_0 9 rfl rfl)
theorem dX4_isRope_10 : decode cX4_isRope 10 = .ok (.iconst 1, 1) := dk_4 (dk_at dksX4_isRope_0 10 rfl rfl)
theorem dX4_isRope_11 : decode cX4_isRope 11 = .ok (.isub, 1) := dk_100 (dk_at dksX4_isRope_0 11 rfl rfl)
theorem dX4_isRope_12 : decode cX4_isRope 12 = .ok (.i2l, 1) := dk_133 (dk_at dksX4_isRope_0 12 rfl rfl)
theorem dX4_isRope_13 : decode cX4_isRope 13 = .ok (.invokestatic 69, 3) := dk_184 0 69 (dk_at dksX4_isRope_0 13 rfl rfl)
theorem dX4_isRope_16 : decode cX4_isRope 16 = .ok (.ireturn, 1) := dk_172 (dk_at dksX4_isRope_0 16 rfl rfl)
abbrev cX4_far : ByteArray := prog_12_method_52_code
def yX4_far : MethodName := ⟨RX4, "far", "(II)I"⟩
def dkwX4_far_0 : List UInt8 := [42, 27, 28, 182, 0, 207, 154, 0, 5, 2, 172, 42, 182, 0, 194, 42, 27, 28, 182, 0, 162, 172]
abbrev dktX4_far_0 : List UInt8 := dkwX4_far_0 ++ []
theorem dksX4_far_0 : cX4_far.data.toList.drop 0 = dktX4_far_0 := by decide +kernel
theorem dX4_far_0 : decode cX4_far 0 = .ok (.aload_n 0, 1) := dk_42 (dk_at dksX4_far_0 0 rfl rfl)
theorem dX4_far_1 : decode cX4_far 1 = .ok (.iload_n 1, 1) := dk_27 (dk_at dksX4_far_0 1 rfl rfl)
theorem dX4_far_2 : decode cX4_far 2 = .ok (.iload_n 2, 1) := dk_28 (dk_at dksX4_far_0 2 rfl rfl)
theorem dX4_far_3 : decode cX4_far 3 = .ok (.invokevirtual 207, 3) := dk_182 0 207 (dk_at dksX4_far_0 3 rfl rfl)
theorem dX4_far_6 : decode cX4_far 6 = .ok (.ifCond .ne 5, 3) := dk_154 0 5 (dk_at dksX4_far_0 6 rfl rfl)
theorem dX4_far_9 : decode cX4_far 9 = .ok (.iconst (-1), 1) := dk_2 (dk_at dksX4_far_0 9 rfl rfl)
theorem dX4_far_10 : decode cX4_far 10 = .ok (.ireturn, 1) := dk_172 (dk_at dksX4_far_0 10 rfl rfl)
theorem dX4_far_11 : decode cX4_far 11 = .ok (.aload_n 0, 1) := dk_42 (dk_at dksX4_far_0 11 rfl rfl)
theorem dX4_far_12 : decode cX4_far 12 = .ok (.invokevirtual 194, 3) := dk_182 0 194 (dk_at dksX4_far_0 12 rfl rfl)
theorem dX4_far_15 : decode cX4_far 15 = .ok (.aload_n 0, 1) := dk_42 (dk_at dksX4_far_0 15 rfl rfl)
theorem dX4_far_16 : decode cX4_far 16 = .ok (.iload_n 1, 1) := dk_27 (dk_at dksX4_far_0 16 rfl rfl)
theorem dX4_far_17 : decode cX4_far 17 = .ok (.iload_n 2, 1) := dk_28 (dk_at dksX4_far_0 17 rfl rfl)
theorem dX4_far_18 : decode cX4_far 18 = .ok (.invokevirtual 162, 3) := dk_182 0 162 (dk_at dksX4_far_0 18 rfl rfl)
theorem dX4_far_21 : decode cX4_far 21 = .ok (.ireturn, 1) := dk_172 (dk_at dksX4_far_0 21 rfl rfl)
abbrev cX4_alter : ByteArray := prog_12_method_54_code
def yX4_alter : MethodName := ⟨RX4, "alter", "(III)I"⟩
def dkwX4_alter_3 : List UInt8 := [182, 0, 178, 153, 0, 5, 2, 172, 42, 5, 27, 104, 28, 96, 29, 182, 0, 217, 172]
abbrev dktX4_alter_3 : List UInt8 := dkwX4_alter_3 ++ []
def dkwX4_alter_2 : List UInt8 := [153, 0, 30, 21, 4, 153, 0, 25, 28, 4, 160, 0, 22, 42, 27, 182, 0, 156, 29, 159, 0, 13, 42, 29]
abbrev dktX4_alter_2 : List UInt8 := dkwX4_alter_2 ++ dktX4_alter_3
def dkwX4_alter_1 : List UInt8 := [160, 0, 14, 29, 184, 0, 171, 153, 0, 7, 4, 167, 0, 4, 3, 54, 4, 42, 27, 182, 0, 151]
abbrev dktX4_alter_1 : List UInt8 := dkwX4_alter_1 ++ dktX4_alter_2
def dkwX4_alter_0 : List UInt8 := [42, 182, 0, 194, 28, 154, 0, 15, 29, 133, 9, 20, 0, 215, 184, 0, 69, 167, 0, 20, 28, 4]
abbrev dktX4_alter_0 : List UInt8 := dkwX4_alter_0 ++ dktX4_alter_1
theorem dksX4_alter_0 : cX4_alter.data.toList.drop 0 = dktX4_alter_0 := by decide +kernel
theorem dksX4_alter_1 : cX4_alter.data.toList.drop 22 = dktX4_alter_1 := dk_seg dksX4_alter_0 22 rfl rfl
theorem dksX4_alter_2 : cX4_alter.data.toList.drop 44 = dktX4_alter_2 := dk_seg dksX4_alter_1 22 rfl rfl
theorem dksX4_alter_3 : cX4_alter.data.toList.drop 68 = dktX4_alter_3 := dk_seg dksX4_alter_2 24 rfl rfl
theorem dX4_alter_0 : decode cX4_alter 0 = .ok (.aload_n 0, 1) := dk_42 (dk_at dksX4_alter_0 0 rfl rfl)
theorem dX4_alter_1 : decode cX4_alter 1 = .ok (.invokevirtual 194, 3) := dk_182 0 194 (dk_at dksX4_alter_0 1 rfl rfl)
theorem dX4_alter_4 : decode cX4_alter 4 = .ok (.iload_n 2, 1) := dk_28 (dk_at dksX4_alter_0 4 rfl rfl)
theorem dX4_alter_5 : decode cX4_alter 5 = .ok (.ifCond .ne 15, 3) := dk_154 0 15 (dk_at dksX4_alter_0 5 rfl rfl)
theorem dX4_alter_8 : decode cX4_alter 8 = .ok (.iload_n 3, 1) := dk_29 (dk_at dksX4_alter_0 8 rfl rfl)
theorem dX4_alter_9 : decode cX4_alter 9 = .ok (.i2l, 1) := dk_133 (dk_at dksX4_alter_0 9 rfl rfl)
theorem dX4_alter_10 : decode cX4_alter 10 = .ok (.lconst 0, 1) := dk_9 (dk_at dksX4_alter_0 10 rfl rfl)
theorem dX4_alter_11 : decode cX4_alter 11 = .ok (.ldc2_w 215, 3) := dk_20 0 215 (dk_at dksX4_alter_0 11 rfl rfl)
theorem dX4_alter_14 : decode cX4_alter 14 = .ok (.invokestatic 69, 3) := dk_184 0 69 (dk_at dksX4_alter_0 14 rfl rfl)
theorem dX4_alter_17 : decode cX4_alter 17 = .ok (.goto 20, 3) := dk_167 0 20 (dk_at dksX4_alter_0 17 rfl rfl)
theorem dX4_alter_20 : decode cX4_alter 20 = .ok (.iload_n 2, 1) := dk_28 (dk_at dksX4_alter_0 20 rfl rfl)
theorem dX4_alter_21 : decode cX4_alter 21 = .ok (.iconst 1, 1) := dk_4 (dk_at dksX4_alter_0 21 rfl rfl)
theorem dX4_alter_22 : decode cX4_alter 22 = .ok (.if_icmp .ne 14, 3) := dk_160 0 14 (dk_at dksX4_alter_1 0 rfl rfl)
theorem dX4_alter_25 : decode cX4_alter 25 = .ok (.iload_n 3, 1) := dk_29 (dk_at dksX4_alter_1 3 rfl rfl)
theorem dX4_alter_26 : decode cX4_alter 26 = .ok (.invokestatic 171, 3) := dk_184 0 171 (dk_at dksX4_alter_1 4 rfl rfl)
theorem dX4_alter_29 : decode cX4_alter 29 = .ok (.ifCond .eq 7, 3) := dk_153 0 7 (dk_at dksX4_alter_1 7 rfl rfl)
theorem dX4_alter_32 : decode cX4_alter 32 = .ok (.iconst 1, 1) := dk_4 (dk_at dksX4_alter_1 10 rfl rfl)
theorem dX4_alter_33 : decode cX4_alter 33 = .ok (.goto 4, 3) := dk_167 0 4 (dk_at dksX4_alter_1 11 rfl rfl)
theorem dX4_alter_36 : decode cX4_alter 36 = .ok (.iconst 0, 1) := dk_3 (dk_at dksX4_alter_1 14 rfl rfl)
theorem dX4_alter_37 : decode cX4_alter 37 = .ok (.istore 4, 2) := dk_54 4 (dk_at dksX4_alter_1 15 rfl rfl)
theorem dX4_alter_39 : decode cX4_alter 39 = .ok (.aload_n 0, 1) := dk_42 (dk_at dksX4_alter_1 17 rfl rfl)
theorem dX4_alter_40 : decode cX4_alter 40 = .ok (.iload_n 1, 1) := dk_27 (dk_at dksX4_alter_1 18 rfl rfl)
theorem dX4_alter_41 : decode cX4_alter 41 = .ok (.invokevirtual 151, 3) := dk_182 0 151 (dk_at dksX4_alter_1 19 rfl rfl)
theorem dX4_alter_44 : decode cX4_alter 44 = .ok (.ifCond .eq 30, 3) := dk_153 0 30 (dk_at dksX4_alter_2 0 rfl rfl)
theorem dX4_alter_47 : decode cX4_alter 47 = .ok (.iload 4, 2) := dk_21 4 (dk_at dksX4_alter_2 3 rfl rfl)
theorem dX4_alter_49 : decode cX4_alter 49 = .ok (.ifCond .eq 25, 3) := dk_153 0 25 (dk_at dksX4_alter_2 5 rfl rfl)
theorem dX4_alter_52 : decode cX4_alter 52 = .ok (.iload_n 2, 1) := dk_28 (dk_at dksX4_alter_2 8 rfl rfl)
theorem dX4_alter_53 : decode cX4_alter 53 = .ok (.iconst 1, 1) := dk_4 (dk_at dksX4_alter_2 9 rfl rfl)
theorem dX4_alter_54 : decode cX4_alter 54 = .ok (.if_icmp .ne 22, 3) := dk_160 0 22 (dk_at dksX4_alter_2 10 rfl rfl)
theorem dX4_alter_57 : decode cX4_alter 57 = .ok (.aload_n 0, 1) := dk_42 (dk_at dksX4_alter_2 13 rfl rfl)
theorem dX4_alter_58 : decode cX4_alter 58 = .ok (.iload_n 1, 1) := dk_27 (dk_at dksX4_alter_2 14 rfl rfl)
theorem dX4_alter_59 : decode cX4_alter 59 = .ok (.invokevirtual 156, 3) := dk_182 0 156 (dk_at dksX4_alter_2 15 rfl rfl)
theorem dX4_alter_62 : decode cX4_alter 62 = .ok (.iload_n 3, 1) := dk_29 (dk_at dksX4_alter_2 18 rfl rfl)
theorem dX4_alter_63 : decode cX4_alter 63 = .ok (.if_icmp .eq 13, 3) := dk_159 0 13 (dk_at dksX4_alter_2 19 rfl rfl)
theorem dX4_alter_66 : decode cX4_alter 66 = .ok (.aload_n 0, 1) := dk_42 (dk_at dksX4_alter_2 22 rfl rfl)
theorem dX4_alter_67 : decode cX4_alter 67 = .ok (.iload_n 3, 1) := dk_29 (dk_at dksX4_alter_2 23 rfl rfl)
theorem dX4_alter_68 : decode cX4_alter 68 = .ok (.invokevirtual 178, 3) := dk_182 0 178 (dk_at dksX4_alter_3 0 rfl rfl)
theorem dX4_alter_71 : decode cX4_alter 71 = .ok (.ifCond .eq 5, 3) := dk_153 0 5 (dk_at dksX4_alter_3 3 rfl rfl)
theorem dX4_alter_74 : decode cX4_alter 74 = .ok (.iconst (-1), 1) := dk_2 (dk_at dksX4_alter_3 6 rfl rfl)
theorem dX4_alter_75 : decode cX4_alter 75 = .ok (.ireturn, 1) := dk_172 (dk_at dksX4_alter_3 7 rfl rfl)
theorem dX4_alter_76 : decode cX4_alter 76 = .ok (.aload_n 0, 1) := dk_42 (dk_at dksX4_alter_3 8 rfl rfl)
theorem dX4_alter_77 : decode cX4_alter 77 = .ok (.iconst 2, 1) := dk_5 (dk_at dksX4_alter_3 9 rfl rfl)
theorem dX4_alter_78 : decode cX4_alter 78 = .ok (.iload_n 1, 1) := dk_27 (dk_at dksX4_alter_3 10 rfl rfl)
theorem dX4_alter_79 : decode cX4_alter 79 = .ok (.imul, 1) := dk_104 (dk_at dksX4_alter_3 11 rfl rfl)
theorem dX4_alter_80 : decode cX4_alter 80 = .ok (.iload_n 2, 1) := dk_28 (dk_at dksX4_alter_3 12 rfl rfl)
theorem dX4_alter_81 : decode cX4_alter 81 = .ok (.iadd, 1) := dk_96 (dk_at dksX4_alter_3 13 rfl rfl)
theorem dX4_alter_82 : decode cX4_alter 82 = .ok (.iload_n 3, 1) := dk_29 (dk_at dksX4_alter_3 14 rfl rfl)
theorem dX4_alter_83 : decode cX4_alter 83 = .ok (.invokevirtual 217, 3) := dk_182 0 217 (dk_at dksX4_alter_3 15 rfl rfl)
theorem dX4_alter_86 : decode cX4_alter 86 = .ok (.ireturn, 1) := dk_172 (dk_at dksX4_alter_3 18 rfl rfl)
abbrev cX4_isFathom : ByteArray := prog_12_method_30_code
def yX4_isFathom : MethodName := ⟨RX4, "isFathom", "(I)Z"⟩
def dkwX4_isFathom_0 : List UInt8 := [26, 133, 9, 20, 0, 154, 184, 0, 69, 172]
abbrev dktX4_isFathom_0 : List UInt8 := dkwX4_isFathom_0 ++ []
theorem dksX4_isFathom_0 : cX4_isFathom.data.toList.drop 0 = dktX4_isFathom_0 := by decide +kernel
theorem dX4_isFathom_0 : decode cX4_isFathom 0 = .ok (.iload_n 0, 1) := dk_26 (dk_at dksX4_isFathom_0 0 rfl rfl)
theorem dX4_isFathom_1 : decode cX4_isFathom 1 = .ok (.i2l, 1) := dk_133 (dk_at dksX4_isFathom_0 1 rfl rfl)
theorem dX4_isFathom_2 : decode cX4_isFathom 2 = .ok (.lconst 0, 1) := dk_9 (dk_at dksX4_isFathom_0 2 rfl rfl)
theorem dX4_isFathom_3 : decode cX4_isFathom 3 = .ok (.ldc2_w 154, 3) := dk_20 0 154 (dk_at dksX4_isFathom_0 3 rfl rfl)
theorem dX4_isFathom_6 : decode cX4_isFathom 6 = .ok (.invokestatic 69, 3) := dk_184 0 69 (dk_at dksX4_isFathom_0 6 rfl rfl)
theorem dX4_isFathom_9 : decode cX4_isFathom 9 = .ok (.ireturn, 1) := dk_172 (dk_at dksX4_isFathom_0 9 rfl rfl)
abbrev cX4_isTaken : ByteArray := prog_12_method_40_code
def yX4_isTaken : MethodName := ⟨RX4, "isTaken", "(I)Z"⟩
def dkwX4_isTaken_1 : List UInt8 := [160, 0, 7, 4, 167, 0, 4, 3, 61, 132, 3, 1, 167, 255, 226, 28, 172]
abbrev dktX4_isTaken_1 : List UInt8 := dkwX4_isTaken_1 ++ []
def dkwX4_isTaken_0 : List UInt8 := [3, 61, 3, 62, 29, 42, 180, 0, 64, 162, 0, 28, 28, 154, 0, 12, 42, 29, 182, 0, 156, 27]
abbrev dktX4_isTaken_0 : List UInt8 := dkwX4_isTaken_0 ++ dktX4_isTaken_1
theorem dksX4_isTaken_0 : cX4_isTaken.data.toList.drop 0 = dktX4_isTaken_0 := by decide +kernel
theorem dksX4_isTaken_1 : cX4_isTaken.data.toList.drop 22 = dktX4_isTaken_1 := dk_seg dksX4_isTaken_0 22 rfl rfl
theorem dX4_isTaken_0 : decode cX4_isTaken 0 = .ok (.iconst 0, 1) := dk_3 (dk_at dksX4_isTaken_0 0 rfl rfl)
theorem dX4_isTaken_1 : decode cX4_isTaken 1 = .ok (.istore_n 2, 1) := dk_61 (dk_at dksX4_isTaken_0 1 rfl rfl)
theorem dX4_isTaken_2 : decode cX4_isTaken 2 = .ok (.iconst 0, 1) := dk_3 (dk_at dksX4_isTaken_0 2 rfl rfl)
theorem dX4_isTaken_3 : decode cX4_isTaken 3 = .ok (.istore_n 3, 1) := dk_62 (dk_at dksX4_isTaken_0 3 rfl rfl)
theorem dX4_isTaken_4 : decode cX4_isTaken 4 = .ok (.iload_n 3, 1) := dk_29 (dk_at dksX4_isTaken_0 4 rfl rfl)
theorem dX4_isTaken_5 : decode cX4_isTaken 5 = .ok (.aload_n 0, 1) := dk_42 (dk_at dksX4_isTaken_0 5 rfl rfl)
theorem dX4_isTaken_6 : decode cX4_isTaken 6 = .ok (.getfield 64, 3) := dk_180 0 64 (dk_at dksX4_isTaken_0 6 rfl rfl)
theorem dX4_isTaken_9 : decode cX4_isTaken 9 = .ok (.if_icmp .ge 28, 3) := dk_162 0 28 (dk_at dksX4_isTaken_0 9 rfl rfl)
theorem dX4_isTaken_12 : decode cX4_isTaken 12 = .ok (.iload_n 2, 1) := dk_28 (dk_at dksX4_isTaken_0 12 rfl rfl)
theorem dX4_isTaken_13 : decode cX4_isTaken 13 = .ok (.ifCond .ne 12, 3) := dk_154 0 12 (dk_at dksX4_isTaken_0 13 rfl rfl)
theorem dX4_isTaken_16 : decode cX4_isTaken 16 = .ok (.aload_n 0, 1) := dk_42 (dk_at dksX4_isTaken_0 16 rfl rfl)
theorem dX4_isTaken_17 : decode cX4_isTaken 17 = .ok (.iload_n 3, 1) := dk_29 (dk_at dksX4_isTaken_0 17 rfl rfl)
theorem dX4_isTaken_18 : decode cX4_isTaken 18 = .ok (.invokevirtual 156, 3) := dk_182 0 156 (dk_at dksX4_isTaken_0 18 rfl rfl)
theorem dX4_isTaken_21 : decode cX4_isTaken 21 = .ok (.iload_n 1, 1) := dk_27 (dk_at dksX4_isTaken_0 21 rfl rfl)
theorem dX4_isTaken_22 : decode cX4_isTaken 22 = .ok (.if_icmp .ne 7, 3) := dk_160 0 7 (dk_at dksX4_isTaken_1 0 rfl rfl)
theorem dX4_isTaken_25 : decode cX4_isTaken 25 = .ok (.iconst 1, 1) := dk_4 (dk_at dksX4_isTaken_1 3 rfl rfl)
theorem dX4_isTaken_26 : decode cX4_isTaken 26 = .ok (.goto 4, 3) := dk_167 0 4 (dk_at dksX4_isTaken_1 4 rfl rfl)
theorem dX4_isTaken_29 : decode cX4_isTaken 29 = .ok (.iconst 0, 1) := dk_3 (dk_at dksX4_isTaken_1 7 rfl rfl)
theorem dX4_isTaken_30 : decode cX4_isTaken 30 = .ok (.istore_n 2, 1) := dk_61 (dk_at dksX4_isTaken_1 8 rfl rfl)
theorem dX4_isTaken_31 : decode cX4_isTaken 31 = .ok (.iinc 3 1, 3) := dk_132 3 1 (dk_at dksX4_isTaken_1 9 rfl rfl)
theorem dX4_isTaken_34 : decode cX4_isTaken 34 = .ok (.goto (-30), 3) := dk_167 255 226 (dk_at dksX4_isTaken_1 12 rfl rfl)
theorem dX4_isTaken_37 : decode cX4_isTaken 37 = .ok (.iload_n 2, 1) := dk_28 (dk_at dksX4_isTaken_1 15 rfl rfl)
theorem dX4_isTaken_38 : decode cX4_isTaken 38 = .ok (.ireturn, 1) := dk_172 (dk_at dksX4_isTaken_1 16 rfl rfl)
abbrev cX4_becomes : ByteArray := prog_12_method_53_code
def yX4_becomes : MethodName := ⟨RX4, "becomes", "(II)I"⟩
def dkwX4_becomes_0 : List UInt8 := [42, 180, 0, 7, 27, 46, 62, 42, 180, 0, 7, 27, 28, 79, 29, 172]
abbrev dktX4_becomes_0 : List UInt8 := dkwX4_becomes_0 ++ []
theorem dksX4_becomes_0 : cX4_becomes.data.toList.drop 0 = dktX4_becomes_0 := by decide +kernel
theorem dX4_becomes_0 : decode cX4_becomes 0 = .ok (.aload_n 0, 1) := dk_42 (dk_at dksX4_becomes_0 0 rfl rfl)
theorem dX4_becomes_1 : decode cX4_becomes 1 = .ok (.getfield 7, 3) := dk_180 0 7 (dk_at dksX4_becomes_0 1 rfl rfl)
theorem dX4_becomes_4 : decode cX4_becomes 4 = .ok (.iload_n 1, 1) := dk_27 (dk_at dksX4_becomes_0 4 rfl rfl)
theorem dX4_becomes_5 : decode cX4_becomes 5 = .ok (.iaload, 1) := dk_46 (dk_at dksX4_becomes_0 5 rfl rfl)
theorem dX4_becomes_6 : decode cX4_becomes 6 = .ok (.istore_n 3, 1) := dk_62 (dk_at dksX4_becomes_0 6 rfl rfl)
theorem dX4_becomes_7 : decode cX4_becomes 7 = .ok (.aload_n 0, 1) := dk_42 (dk_at dksX4_becomes_0 7 rfl rfl)
theorem dX4_becomes_8 : decode cX4_becomes 8 = .ok (.getfield 7, 3) := dk_180 0 7 (dk_at dksX4_becomes_0 8 rfl rfl)
theorem dX4_becomes_11 : decode cX4_becomes 11 = .ok (.iload_n 1, 1) := dk_27 (dk_at dksX4_becomes_0 11 rfl rfl)
theorem dX4_becomes_12 : decode cX4_becomes 12 = .ok (.iload_n 2, 1) := dk_28 (dk_at dksX4_becomes_0 12 rfl rfl)
theorem dX4_becomes_13 : decode cX4_becomes 13 = .ok (.iastore, 1) := dk_79 (dk_at dksX4_becomes_0 13 rfl rfl)
theorem dX4_becomes_14 : decode cX4_becomes 14 = .ok (.iload_n 3, 1) := dk_29 (dk_at dksX4_becomes_0 14 rfl rfl)
theorem dX4_becomes_15 : decode cX4_becomes 15 = .ok (.ireturn, 1) := dk_172 (dk_at dksX4_becomes_0 15 rfl rfl)
abbrev cX4_sulk : ByteArray := prog_12_method_55_code
def yX4_sulk : MethodName := ⟨RX4, "sulk", "(III)I"⟩
def dkwX4_sulk_1 : List UInt8 := [8, 27, 104, 96, 28, 96, 29, 182, 0, 217, 167, 0, 4, 2, 172]
abbrev dktX4_sulk_1 : List UInt8 := dkwX4_sulk_1 ++ []
def dkwX4_sulk_0 : List UInt8 := [42, 27, 28, 182, 0, 207, 153, 0, 31, 29, 133, 9, 20, 0, 215, 184, 0, 69, 153, 0, 19, 42, 16, 10]
abbrev dktX4_sulk_0 : List UInt8 := dkwX4_sulk_0 ++ dktX4_sulk_1
theorem dksX4_sulk_0 : cX4_sulk.data.toList.drop 0 = dktX4_sulk_0 := by decide +kernel
theorem dksX4_sulk_1 : cX4_sulk.data.toList.drop 24 = dktX4_sulk_1 := dk_seg dksX4_sulk_0 24 rfl rfl
theorem dX4_sulk_0 : decode cX4_sulk 0 = .ok (.aload_n 0, 1) := dk_42 (dk_at dksX4_sulk_0 0 rfl rfl)
theorem dX4_sulk_1 : decode cX4_sulk 1 = .ok (.iload_n 1, 1) := dk_27 (dk_at dksX4_sulk_0 1 rfl rfl)
theorem dX4_sulk_2 : decode cX4_sulk 2 = .ok (.iload_n 2, 1) := dk_28 (dk_at dksX4_sulk_0 2 rfl rfl)
theorem dX4_sulk_3 : decode cX4_sulk 3 = .ok (.invokevirtual 207, 3) := dk_182 0 207 (dk_at dksX4_sulk_0 3 rfl rfl)
theorem dX4_sulk_6 : decode cX4_sulk 6 = .ok (.ifCond .eq 31, 3) := dk_153 0 31 (dk_at dksX4_sulk_0 6 rfl rfl)
theorem dX4_sulk_9 : decode cX4_sulk 9 = .ok (.iload_n 3, 1) := dk_29 (dk_at dksX4_sulk_0 9 rfl rfl)
theorem dX4_sulk_10 : decode cX4_sulk 10 = .ok (.i2l, 1) := dk_133 (dk_at dksX4_sulk_0 10 rfl rfl)
theorem dX4_sulk_11 : decode cX4_sulk 11 = .ok (.lconst 0, 1) := dk_9 (dk_at dksX4_sulk_0 11 rfl rfl)
theorem dX4_sulk_12 : decode cX4_sulk 12 = .ok (.ldc2_w 215, 3) := dk_20 0 215 (dk_at dksX4_sulk_0 12 rfl rfl)
theorem dX4_sulk_15 : decode cX4_sulk 15 = .ok (.invokestatic 69, 3) := dk_184 0 69 (dk_at dksX4_sulk_0 15 rfl rfl)
theorem dX4_sulk_18 : decode cX4_sulk 18 = .ok (.ifCond .eq 19, 3) := dk_153 0 19 (dk_at dksX4_sulk_0 18 rfl rfl)
theorem dX4_sulk_21 : decode cX4_sulk 21 = .ok (.aload_n 0, 1) := dk_42 (dk_at dksX4_sulk_0 21 rfl rfl)
theorem dX4_sulk_22 : decode cX4_sulk 22 = .ok (.bipush 10, 2) := dk_16 10 (dk_at dksX4_sulk_0 22 rfl rfl)
theorem dX4_sulk_24 : decode cX4_sulk 24 = .ok (.iconst 5, 1) := dk_8 (dk_at dksX4_sulk_1 0 rfl rfl)
theorem dX4_sulk_25 : decode cX4_sulk 25 = .ok (.iload_n 1, 1) := dk_27 (dk_at dksX4_sulk_1 1 rfl rfl)
theorem dX4_sulk_26 : decode cX4_sulk 26 = .ok (.imul, 1) := dk_104 (dk_at dksX4_sulk_1 2 rfl rfl)
theorem dX4_sulk_27 : decode cX4_sulk 27 = .ok (.iadd, 1) := dk_96 (dk_at dksX4_sulk_1 3 rfl rfl)
theorem dX4_sulk_28 : decode cX4_sulk 28 = .ok (.iload_n 2, 1) := dk_28 (dk_at dksX4_sulk_1 4 rfl rfl)
theorem dX4_sulk_29 : decode cX4_sulk 29 = .ok (.iadd, 1) := dk_96 (dk_at dksX4_sulk_1 5 rfl rfl)
theorem dX4_sulk_30 : decode cX4_sulk 30 = .ok (.iload_n 3, 1) := dk_29 (dk_at dksX4_sulk_1 6 rfl rfl)
theorem dX4_sulk_31 : decode cX4_sulk 31 = .ok (.invokevirtual 217, 3) := dk_182 0 217 (dk_at dksX4_sulk_1 7 rfl rfl)
theorem dX4_sulk_34 : decode cX4_sulk 34 = .ok (.goto 4, 3) := dk_167 0 4 (dk_at dksX4_sulk_1 10 rfl rfl)
theorem dX4_sulk_37 : decode cX4_sulk 37 = .ok (.iconst (-1), 1) := dk_2 (dk_at dksX4_sulk_1 13 rfl rfl)
theorem dX4_sulk_38 : decode cX4_sulk 38 = .ok (.ireturn, 1) := dk_172 (dk_at dksX4_sulk_1 14 rfl rfl)
abbrev cX4_haul : ByteArray := prog_12_method_56_code
def yX4_haul : MethodName := ⟨RX4, "haul", "(II)I"⟩
def dkwX4_haul_1 : List UInt8 := [27, 104, 96, 5, 96, 28, 182, 0, 217, 167, 0, 4, 2, 172]
abbrev dktX4_haul_1 : List UInt8 := dkwX4_haul_1 ++ []
def dkwX4_haul_0 : List UInt8 := [42, 27, 182, 0, 210, 153, 0, 31, 28, 133, 10, 20, 0, 220, 184, 0, 69, 153, 0, 19, 42, 16, 35, 6]
abbrev dktX4_haul_0 : List UInt8 := dkwX4_haul_0 ++ dktX4_haul_1
theorem dksX4_haul_0 : cX4_haul.data.toList.drop 0 = dktX4_haul_0 := by decide +kernel
theorem dksX4_haul_1 : cX4_haul.data.toList.drop 24 = dktX4_haul_1 := dk_seg dksX4_haul_0 24 rfl rfl
theorem dX4_haul_0 : decode cX4_haul 0 = .ok (.aload_n 0, 1) := dk_42 (dk_at dksX4_haul_0 0 rfl rfl)
theorem dX4_haul_1 : decode cX4_haul 1 = .ok (.iload_n 1, 1) := dk_27 (dk_at dksX4_haul_0 1 rfl rfl)
theorem dX4_haul_2 : decode cX4_haul 2 = .ok (.invokevirtual 210, 3) := dk_182 0 210 (dk_at dksX4_haul_0 2 rfl rfl)
theorem dX4_haul_5 : decode cX4_haul 5 = .ok (.ifCond .eq 31, 3) := dk_153 0 31 (dk_at dksX4_haul_0 5 rfl rfl)
theorem dX4_haul_8 : decode cX4_haul 8 = .ok (.iload_n 2, 1) := dk_28 (dk_at dksX4_haul_0 8 rfl rfl)
theorem dX4_haul_9 : decode cX4_haul 9 = .ok (.i2l, 1) := dk_133 (dk_at dksX4_haul_0 9 rfl rfl)
theorem dX4_haul_10 : decode cX4_haul 10 = .ok (.lconst 1, 1) := dk_10 (dk_at dksX4_haul_0 10 rfl rfl)
theorem dX4_haul_11 : decode cX4_haul 11 = .ok (.ldc2_w 220, 3) := dk_20 0 220 (dk_at dksX4_haul_0 11 rfl rfl)
theorem dX4_haul_14 : decode cX4_haul 14 = .ok (.invokestatic 69, 3) := dk_184 0 69 (dk_at dksX4_haul_0 14 rfl rfl)
theorem dX4_haul_17 : decode cX4_haul 17 = .ok (.ifCond .eq 19, 3) := dk_153 0 19 (dk_at dksX4_haul_0 17 rfl rfl)
theorem dX4_haul_20 : decode cX4_haul 20 = .ok (.aload_n 0, 1) := dk_42 (dk_at dksX4_haul_0 20 rfl rfl)
theorem dX4_haul_21 : decode cX4_haul 21 = .ok (.bipush 35, 2) := dk_16 35 (dk_at dksX4_haul_0 21 rfl rfl)
theorem dX4_haul_23 : decode cX4_haul 23 = .ok (.iconst 3, 1) := dk_6 (dk_at dksX4_haul_0 23 rfl rfl)
theorem dX4_haul_24 : decode cX4_haul 24 = .ok (.iload_n 1, 1) := dk_27 (dk_at dksX4_haul_1 0 rfl rfl)
theorem dX4_haul_25 : decode cX4_haul 25 = .ok (.imul, 1) := dk_104 (dk_at dksX4_haul_1 1 rfl rfl)
theorem dX4_haul_26 : decode cX4_haul 26 = .ok (.iadd, 1) := dk_96 (dk_at dksX4_haul_1 2 rfl rfl)
theorem dX4_haul_27 : decode cX4_haul 27 = .ok (.iconst 2, 1) := dk_5 (dk_at dksX4_haul_1 3 rfl rfl)
theorem dX4_haul_28 : decode cX4_haul 28 = .ok (.iadd, 1) := dk_96 (dk_at dksX4_haul_1 4 rfl rfl)
theorem dX4_haul_29 : decode cX4_haul 29 = .ok (.iload_n 2, 1) := dk_28 (dk_at dksX4_haul_1 5 rfl rfl)
theorem dX4_haul_30 : decode cX4_haul 30 = .ok (.invokevirtual 217, 3) := dk_182 0 217 (dk_at dksX4_haul_1 6 rfl rfl)
theorem dX4_haul_33 : decode cX4_haul 33 = .ok (.goto 4, 3) := dk_167 0 4 (dk_at dksX4_haul_1 9 rfl rfl)
theorem dX4_haul_36 : decode cX4_haul 36 = .ok (.iconst (-1), 1) := dk_2 (dk_at dksX4_haul_1 12 rfl rfl)
theorem dX4_haul_37 : decode cX4_haul 37 = .ok (.ireturn, 1) := dk_172 (dk_at dksX4_haul_1 13 rfl rfl)
abbrev cX4_wed : ByteArray := prog_12_method_58_code
def yX4_wed : MethodName := ⟨RX4, "wed", "(III)I"⟩
def dkwX4_wed_2 : List UInt8 := [182, 0, 222, 42, 182, 0, 226, 42, 180, 0, 7, 16, 53, 46, 172]
abbrev dktX4_wed_2 : List UInt8 := dkwX4_wed_2 ++ []
def dkwX4_wed_1 : List UInt8 := [180, 0, 7, 16, 53, 46, 16, 6, 160, 0, 6, 16, 253, 172, 42, 182, 0, 194, 42, 27, 28, 29]
abbrev dktX4_wed_1 : List UInt8 := dkwX4_wed_1 ++ dktX4_wed_2
def dkwX4_wed_0 : List UInt8 := [42, 27, 28, 182, 0, 207, 153, 0, 15, 29, 133, 10, 20, 0, 220, 184, 0, 69, 154, 0, 5, 2, 172, 42]
abbrev dktX4_wed_0 : List UInt8 := dkwX4_wed_0 ++ dktX4_wed_1
theorem dksX4_wed_0 : cX4_wed.data.toList.drop 0 = dktX4_wed_0 := by decide +kernel
theorem dksX4_wed_1 : cX4_wed.data.toList.drop 24 = dktX4_wed_1 := dk_seg dksX4_wed_0 24 rfl rfl
theorem dksX4_wed_2 : cX4_wed.data.toList.drop 46 = dktX4_wed_2 := dk_seg dksX4_wed_1 22 rfl rfl
theorem dX4_wed_0 : decode cX4_wed 0 = .ok (.aload_n 0, 1) := dk_42 (dk_at dksX4_wed_0 0 rfl rfl)
theorem dX4_wed_1 : decode cX4_wed 1 = .ok (.iload_n 1, 1) := dk_27 (dk_at dksX4_wed_0 1 rfl rfl)
theorem dX4_wed_2 : decode cX4_wed 2 = .ok (.iload_n 2, 1) := dk_28 (dk_at dksX4_wed_0 2 rfl rfl)
theorem dX4_wed_3 : decode cX4_wed 3 = .ok (.invokevirtual 207, 3) := dk_182 0 207 (dk_at dksX4_wed_0 3 rfl rfl)
theorem dX4_wed_6 : decode cX4_wed 6 = .ok (.ifCond .eq 15, 3) := dk_153 0 15 (dk_at dksX4_wed_0 6 rfl rfl)
theorem dX4_wed_9 : decode cX4_wed 9 = .ok (.iload_n 3, 1) := dk_29 (dk_at dksX4_wed_0 9 rfl rfl)
theorem dX4_wed_10 : decode cX4_wed 10 = .ok (.i2l, 1) := dk_133 (dk_at dksX4_wed_0 10 rfl rfl)
theorem dX4_wed_11 : decode cX4_wed 11 = .ok (.lconst 1, 1) := dk_10 (dk_at dksX4_wed_0 11 rfl rfl)
theorem dX4_wed_12 : decode cX4_wed 12 = .ok (.ldc2_w 220, 3) := dk_20 0 220 (dk_at dksX4_wed_0 12 rfl rfl)
theorem dX4_wed_15 : decode cX4_wed 15 = .ok (.invokestatic 69, 3) := dk_184 0 69 (dk_at dksX4_wed_0 15 rfl rfl)
theorem dX4_wed_18 : decode cX4_wed 18 = .ok (.ifCond .ne 5, 3) := dk_154 0 5 (dk_at dksX4_wed_0 18 rfl rfl)
theorem dX4_wed_21 : decode cX4_wed 21 = .ok (.iconst (-1), 1) := dk_2 (dk_at dksX4_wed_0 21 rfl rfl)
theorem dX4_wed_22 : decode cX4_wed 22 = .ok (.ireturn, 1) := dk_172 (dk_at dksX4_wed_0 22 rfl rfl)
theorem dX4_wed_23 : decode cX4_wed 23 = .ok (.aload_n 0, 1) := dk_42 (dk_at dksX4_wed_0 23 rfl rfl)
theorem dX4_wed_24 : decode cX4_wed 24 = .ok (.getfield 7, 3) := dk_180 0 7 (dk_at dksX4_wed_1 0 rfl rfl)
theorem dX4_wed_27 : decode cX4_wed 27 = .ok (.bipush 53, 2) := dk_16 53 (dk_at dksX4_wed_1 3 rfl rfl)
theorem dX4_wed_29 : decode cX4_wed 29 = .ok (.iaload, 1) := dk_46 (dk_at dksX4_wed_1 5 rfl rfl)
theorem dX4_wed_30 : decode cX4_wed 30 = .ok (.bipush 6, 2) := dk_16 6 (dk_at dksX4_wed_1 6 rfl rfl)
theorem dX4_wed_32 : decode cX4_wed 32 = .ok (.if_icmp .ne 6, 3) := dk_160 0 6 (dk_at dksX4_wed_1 8 rfl rfl)
theorem dX4_wed_35 : decode cX4_wed 35 = .ok (.bipush (-3), 2) := dk_16 253 (dk_at dksX4_wed_1 11 rfl rfl)
theorem dX4_wed_37 : decode cX4_wed 37 = .ok (.ireturn, 1) := dk_172 (dk_at dksX4_wed_1 13 rfl rfl)
theorem dX4_wed_38 : decode cX4_wed 38 = .ok (.aload_n 0, 1) := dk_42 (dk_at dksX4_wed_1 14 rfl rfl)
theorem dX4_wed_39 : decode cX4_wed 39 = .ok (.invokevirtual 194, 3) := dk_182 0 194 (dk_at dksX4_wed_1 15 rfl rfl)
theorem dX4_wed_42 : decode cX4_wed 42 = .ok (.aload_n 0, 1) := dk_42 (dk_at dksX4_wed_1 18 rfl rfl)
theorem dX4_wed_43 : decode cX4_wed 43 = .ok (.iload_n 1, 1) := dk_27 (dk_at dksX4_wed_1 19 rfl rfl)
theorem dX4_wed_44 : decode cX4_wed 44 = .ok (.iload_n 2, 1) := dk_28 (dk_at dksX4_wed_1 20 rfl rfl)
theorem dX4_wed_45 : decode cX4_wed 45 = .ok (.iload_n 3, 1) := dk_29 (dk_at dksX4_wed_1 21 rfl rfl)
theorem dX4_wed_46 : decode cX4_wed 46 = .ok (.invokevirtual 222, 3) := dk_182 0 222 (dk_at dksX4_wed_2 0 rfl rfl)
theorem dX4_wed_49 : decode cX4_wed 49 = .ok (.aload_n 0, 1) := dk_42 (dk_at dksX4_wed_2 3 rfl rfl)
theorem dX4_wed_50 : decode cX4_wed 50 = .ok (.invokevirtual 226, 3) := dk_182 0 226 (dk_at dksX4_wed_2 4 rfl rfl)
theorem dX4_wed_53 : decode cX4_wed 53 = .ok (.aload_n 0, 1) := dk_42 (dk_at dksX4_wed_2 7 rfl rfl)
theorem dX4_wed_54 : decode cX4_wed 54 = .ok (.getfield 7, 3) := dk_180 0 7 (dk_at dksX4_wed_2 8 rfl rfl)
theorem dX4_wed_57 : decode cX4_wed 57 = .ok (.bipush 53, 2) := dk_16 53 (dk_at dksX4_wed_2 11 rfl rfl)
theorem dX4_wed_59 : decode cX4_wed 59 = .ok (.iaload, 1) := dk_46 (dk_at dksX4_wed_2 13 rfl rfl)
theorem dX4_wed_60 : decode cX4_wed 60 = .ok (.ireturn, 1) := dk_172 (dk_at dksX4_wed_2 14 rfl rfl)
abbrev cX4_ties : ByteArray := prog_12_method_57_code
def yX4_ties : MethodName := ⟨RX4, "ties", "(III)V"⟩
def dkwX4_ties_2 : List UInt8 := [16, 53, 92, 46, 4, 96, 79, 177]
abbrev dktX4_ties_2 : List UInt8 := dkwX4_ties_2 ++ []
def dkwX4_ties_1 : List UInt8 := [180, 0, 13, 21, 4, 4, 96, 28, 79, 42, 180, 0, 13, 21, 4, 5, 96, 29, 79, 42, 180, 0, 13]
abbrev dktX4_ties_1 : List UInt8 := dkwX4_ties_1 ++ dktX4_ties_2
def dkwX4_ties_0 : List UInt8 := [16, 35, 6, 42, 180, 0, 13, 16, 53, 46, 104, 96, 54, 4, 42, 180, 0, 13, 21, 4, 27, 79, 42]
abbrev dktX4_ties_0 : List UInt8 := dkwX4_ties_0 ++ dktX4_ties_1
theorem dksX4_ties_0 : cX4_ties.data.toList.drop 0 = dktX4_ties_0 := by decide +kernel
theorem dksX4_ties_1 : cX4_ties.data.toList.drop 23 = dktX4_ties_1 := dk_seg dksX4_ties_0 23 rfl rfl
theorem dksX4_ties_2 : cX4_ties.data.toList.drop 46 = dktX4_ties_2 := dk_seg dksX4_ties_1 23 rfl rfl
theorem dX4_ties_0 : decode cX4_ties 0 = .ok (.bipush 35, 2) := dk_16 35 (dk_at dksX4_ties_0 0 rfl rfl)
theorem dX4_ties_2 : decode cX4_ties 2 = .ok (.iconst 3, 1) := dk_6 (dk_at dksX4_ties_0 2 rfl rfl)
theorem dX4_ties_3 : decode cX4_ties 3 = .ok (.aload_n 0, 1) := dk_42 (dk_at dksX4_ties_0 3 rfl rfl)
theorem dX4_ties_4 : decode cX4_ties 4 = .ok (.getfield 13, 3) := dk_180 0 13 (dk_at dksX4_ties_0 4 rfl rfl)
theorem dX4_ties_7 : decode cX4_ties 7 = .ok (.bipush 53, 2) := dk_16 53 (dk_at dksX4_ties_0 7 rfl rfl)
theorem dX4_ties_9 : decode cX4_ties 9 = .ok (.iaload, 1) := dk_46 (dk_at dksX4_ties_0 9 rfl rfl)
theorem dX4_ties_10 : decode cX4_ties 10 = .ok (.imul, 1) := dk_104 (dk_at dksX4_ties_0 10 rfl rfl)
theorem dX4_ties_11 : decode cX4_ties 11 = .ok (.iadd, 1) := dk_96 (dk_at dksX4_ties_0 11 rfl rfl)
theorem dX4_ties_12 : decode cX4_ties 12 = .ok (.istore 4, 2) := dk_54 4 (dk_at dksX4_ties_0 12 rfl rfl)
theorem dX4_ties_14 : decode cX4_ties 14 = .ok (.aload_n 0, 1) := dk_42 (dk_at dksX4_ties_0 14 rfl rfl)
theorem dX4_ties_15 : decode cX4_ties 15 = .ok (.getfield 13, 3) := dk_180 0 13 (dk_at dksX4_ties_0 15 rfl rfl)
theorem dX4_ties_18 : decode cX4_ties 18 = .ok (.iload 4, 2) := dk_21 4 (dk_at dksX4_ties_0 18 rfl rfl)
theorem dX4_ties_20 : decode cX4_ties 20 = .ok (.iload_n 1, 1) := dk_27 (dk_at dksX4_ties_0 20 rfl rfl)
theorem dX4_ties_21 : decode cX4_ties 21 = .ok (.iastore, 1) := dk_79 (dk_at dksX4_ties_0 21 rfl rfl)
theorem dX4_ties_22 : decode cX4_ties 22 = .ok (.aload_n 0, 1) := dk_42 (dk_at dksX4_ties_0 22 rfl rfl)
theorem dX4_ties_23 : decode cX4_ties 23 = .ok (.getfield 13, 3) := dk_180 0 13 (dk_at dksX4_ties_1 0 rfl rfl)
theorem dX4_ties_26 : decode cX4_ties 26 = .ok (.iload 4, 2) := dk_21 4 (dk_at dksX4_ties_1 3 rfl rfl)
theorem dX4_ties_28 : decode cX4_ties 28 = .ok (.iconst 1, 1) := dk_4 (dk_at dksX4_ties_1 5 rfl rfl)
theorem dX4_ties_29 : decode cX4_ties 29 = .ok (.iadd, 1) := dk_96 (dk_at dksX4_ties_1 6 rfl rfl)
theorem dX4_ties_30 : decode cX4_ties 30 = .ok (.iload_n 2, 1) := dk_28 (dk_at dksX4_ties_1 7 rfl rfl)
theorem dX4_ties_31 : decode cX4_ties 31 = .ok (.iastore, 1) := dk_79 (dk_at dksX4_ties_1 8 rfl rfl)
theorem dX4_ties_32 : decode cX4_ties 32 = .ok (.aload_n 0, 1) := dk_42 (dk_at dksX4_ties_1 9 rfl rfl)
theorem dX4_ties_33 : decode cX4_ties 33 = .ok (.getfield 13, 3) := dk_180 0 13 (dk_at dksX4_ties_1 10 rfl rfl)
theorem dX4_ties_36 : decode cX4_ties 36 = .ok (.iload 4, 2) := dk_21 4 (dk_at dksX4_ties_1 13 rfl rfl)
theorem dX4_ties_38 : decode cX4_ties 38 = .ok (.iconst 2, 1) := dk_5 (dk_at dksX4_ties_1 15 rfl rfl)
theorem dX4_ties_39 : decode cX4_ties 39 = .ok (.iadd, 1) := dk_96 (dk_at dksX4_ties_1 16 rfl rfl)
theorem dX4_ties_40 : decode cX4_ties 40 = .ok (.iload_n 3, 1) := dk_29 (dk_at dksX4_ties_1 17 rfl rfl)
theorem dX4_ties_41 : decode cX4_ties 41 = .ok (.iastore, 1) := dk_79 (dk_at dksX4_ties_1 18 rfl rfl)
theorem dX4_ties_42 : decode cX4_ties 42 = .ok (.aload_n 0, 1) := dk_42 (dk_at dksX4_ties_1 19 rfl rfl)
theorem dX4_ties_43 : decode cX4_ties 43 = .ok (.getfield 13, 3) := dk_180 0 13 (dk_at dksX4_ties_1 20 rfl rfl)
theorem dX4_ties_46 : decode cX4_ties 46 = .ok (.bipush 53, 2) := dk_16 53 (dk_at dksX4_ties_2 0 rfl rfl)
theorem dX4_ties_48 : decode cX4_ties 48 = .ok (.dup2, 1) := dk_92 (dk_at dksX4_ties_2 2 rfl rfl)
theorem dX4_ties_49 : decode cX4_ties 49 = .ok (.iaload, 1) := dk_46 (dk_at dksX4_ties_2 3 rfl rfl)
theorem dX4_ties_50 : decode cX4_ties 50 = .ok (.iconst 1, 1) := dk_4 (dk_at dksX4_ties_2 4 rfl rfl)
theorem dX4_ties_51 : decode cX4_ties 51 = .ok (.iadd, 1) := dk_96 (dk_at dksX4_ties_2 5 rfl rfl)
theorem dX4_ties_52 : decode cX4_ties 52 = .ok (.iastore, 1) := dk_79 (dk_at dksX4_ties_2 6 rfl rfl)
theorem dX4_ties_53 : decode cX4_ties 53 = .ok (.return_, 1) := dk_177 (dk_at dksX4_ties_2 7 rfl rfl)
abbrev cX4_settles : ByteArray := prog_12_method_33_code
def yX4_settles : MethodName := ⟨RX4, "settles", "()V"⟩
def dkwX4_settles_1 : List UInt8 := [167, 255, 235, 177]
abbrev dktX4_settles_1 : List UInt8 := dkwX4_settles_1 ++ []
def dkwX4_settles_0 : List UInt8 := [3, 60, 27, 16, 76, 162, 0, 21, 42, 180, 0, 7, 27, 42, 180, 0, 13, 27, 46, 79, 132, 1, 1]
abbrev dktX4_settles_0 : List UInt8 := dkwX4_settles_0 ++ dktX4_settles_1
theorem dksX4_settles_0 : cX4_settles.data.toList.drop 0 = dktX4_settles_0 := by decide +kernel
theorem dksX4_settles_1 : cX4_settles.data.toList.drop 23 = dktX4_settles_1 := dk_seg dksX4_settles_0 23 rfl rfl
theorem dX4_settles_0 : decode cX4_settles 0 = .ok (.iconst 0, 1) := dk_3 (dk_at dksX4_settles_0 0 rfl rfl)
theorem dX4_settles_1 : decode cX4_settles 1 = .ok (.istore_n 1, 1) := dk_60 (dk_at dksX4_settles_0 1 rfl rfl)
theorem dX4_settles_2 : decode cX4_settles 2 = .ok (.iload_n 1, 1) := dk_27 (dk_at dksX4_settles_0 2 rfl rfl)
theorem dX4_settles_3 : decode cX4_settles 3 = .ok (.bipush 76, 2) := dk_16 76 (dk_at dksX4_settles_0 3 rfl rfl)
theorem dX4_settles_5 : decode cX4_settles 5 = .ok (.if_icmp .ge 21, 3) := dk_162 0 21 (dk_at dksX4_settles_0 5 rfl rfl)
theorem dX4_settles_8 : decode cX4_settles 8 = .ok (.aload_n 0, 1) := dk_42 (dk_at dksX4_settles_0 8 rfl rfl)
theorem dX4_settles_9 : decode cX4_settles 9 = .ok (.getfield 7, 3) := dk_180 0 7 (dk_at dksX4_settles_0 9 rfl rfl)
theorem dX4_settles_12 : decode cX4_settles 12 = .ok (.iload_n 1, 1) := dk_27 (dk_at dksX4_settles_0 12 rfl rfl)
theorem dX4_settles_13 : decode cX4_settles 13 = .ok (.aload_n 0, 1) := dk_42 (dk_at dksX4_settles_0 13 rfl rfl)
theorem dX4_settles_14 : decode cX4_settles 14 = .ok (.getfield 13, 3) := dk_180 0 13 (dk_at dksX4_settles_0 14 rfl rfl)
theorem dX4_settles_17 : decode cX4_settles 17 = .ok (.iload_n 1, 1) := dk_27 (dk_at dksX4_settles_0 17 rfl rfl)
theorem dX4_settles_18 : decode cX4_settles 18 = .ok (.iaload, 1) := dk_46 (dk_at dksX4_settles_0 18 rfl rfl)
theorem dX4_settles_19 : decode cX4_settles 19 = .ok (.iastore, 1) := dk_79 (dk_at dksX4_settles_0 19 rfl rfl)
theorem dX4_settles_20 : decode cX4_settles 20 = .ok (.iinc 1 1, 3) := dk_132 1 1 (dk_at dksX4_settles_0 20 rfl rfl)
theorem dX4_settles_23 : decode cX4_settles 23 = .ok (.goto (-21), 3) := dk_167 255 235 (dk_at dksX4_settles_1 0 rfl rfl)
theorem dX4_settles_26 : decode cX4_settles 26 = .ok (.return_, 1) := dk_177 (dk_at dksX4_settles_1 3 rfl rfl)
abbrev cX4_loose : ByteArray := prog_12_method_59_code
def yX4_loose : MethodName := ⟨RX4, "loose", "(I)I"⟩
def dkwX4_loose_1 : List UInt8 := [167, 0, 4, 2, 172]
abbrev dktX4_loose_1 : List UInt8 := dkwX4_loose_1 ++ []
def dkwX4_loose_0 : List UInt8 := [27, 133, 9, 42, 180, 0, 7, 16, 53, 46, 133, 184, 0, 69, 153, 0, 13, 42, 16, 53, 27, 182, 0, 217]
abbrev dktX4_loose_0 : List UInt8 := dkwX4_loose_0 ++ dktX4_loose_1
theorem dksX4_loose_0 : cX4_loose.data.toList.drop 0 = dktX4_loose_0 := by decide +kernel
theorem dksX4_loose_1 : cX4_loose.data.toList.drop 24 = dktX4_loose_1 := dk_seg dksX4_loose_0 24 rfl rfl
theorem dX4_loose_0 : decode cX4_loose 0 = .ok (.iload_n 1, 1) := dk_27 (dk_at dksX4_loose_0 0 rfl rfl)
theorem dX4_loose_1 : decode cX4_loose 1 = .ok (.i2l, 1) := dk_133 (dk_at dksX4_loose_0 1 rfl rfl)
theorem dX4_loose_2 : decode cX4_loose 2 = .ok (.lconst 0, 1) := dk_9 (dk_at dksX4_loose_0 2 rfl rfl)
theorem dX4_loose_3 : decode cX4_loose 3 = .ok (.aload_n 0, 1) := dk_42 (dk_at dksX4_loose_0 3 rfl rfl)
theorem dX4_loose_4 : decode cX4_loose 4 = .ok (.getfield 7, 3) := dk_180 0 7 (dk_at dksX4_loose_0 4 rfl rfl)
theorem dX4_loose_7 : decode cX4_loose 7 = .ok (.bipush 53, 2) := dk_16 53 (dk_at dksX4_loose_0 7 rfl rfl)
theorem dX4_loose_9 : decode cX4_loose 9 = .ok (.iaload, 1) := dk_46 (dk_at dksX4_loose_0 9 rfl rfl)
theorem dX4_loose_10 : decode cX4_loose 10 = .ok (.i2l, 1) := dk_133 (dk_at dksX4_loose_0 10 rfl rfl)
theorem dX4_loose_11 : decode cX4_loose 11 = .ok (.invokestatic 69, 3) := dk_184 0 69 (dk_at dksX4_loose_0 11 rfl rfl)
theorem dX4_loose_14 : decode cX4_loose 14 = .ok (.ifCond .eq 13, 3) := dk_153 0 13 (dk_at dksX4_loose_0 14 rfl rfl)
theorem dX4_loose_17 : decode cX4_loose 17 = .ok (.aload_n 0, 1) := dk_42 (dk_at dksX4_loose_0 17 rfl rfl)
theorem dX4_loose_18 : decode cX4_loose 18 = .ok (.bipush 53, 2) := dk_16 53 (dk_at dksX4_loose_0 18 rfl rfl)
theorem dX4_loose_20 : decode cX4_loose 20 = .ok (.iload_n 1, 1) := dk_27 (dk_at dksX4_loose_0 20 rfl rfl)
theorem dX4_loose_21 : decode cX4_loose 21 = .ok (.invokevirtual 217, 3) := dk_182 0 217 (dk_at dksX4_loose_0 21 rfl rfl)
theorem dX4_loose_24 : decode cX4_loose 24 = .ok (.goto 4, 3) := dk_167 0 4 (dk_at dksX4_loose_1 0 rfl rfl)
theorem dX4_loose_27 : decode cX4_loose 27 = .ok (.iconst (-1), 1) := dk_2 (dk_at dksX4_loose_1 3 rfl rfl)
theorem dX4_loose_28 : decode cX4_loose 28 = .ok (.ireturn, 1) := dk_172 (dk_at dksX4_loose_1 4 rfl rfl)
abbrev cX4_feast : ByteArray := prog_12_method_60_code
def yX4_feast : MethodName := ⟨RX4, "feast", "(I)I"⟩
def dkwX4_feast_0 : List UInt8 := [27, 133, 9, 20, 0, 229, 184, 0, 69, 153, 0, 13, 42, 16, 55, 27, 182, 0, 217, 167, 0, 4, 2, 172]
abbrev dktX4_feast_0 : List UInt8 := dkwX4_feast_0 ++ []
theorem dksX4_feast_0 : cX4_feast.data.toList.drop 0 = dktX4_feast_0 := by decide +kernel
theorem dX4_feast_0 : decode cX4_feast 0 = .ok (.iload_n 1, 1) := dk_27 (dk_at dksX4_feast_0 0 rfl rfl)
theorem dX4_feast_1 : decode cX4_feast 1 = .ok (.i2l, 1) := dk_133 (dk_at dksX4_feast_0 1 rfl rfl)
theorem dX4_feast_2 : decode cX4_feast 2 = .ok (.lconst 0, 1) := dk_9 (dk_at dksX4_feast_0 2 rfl rfl)
theorem dX4_feast_3 : decode cX4_feast 3 = .ok (.ldc2_w 229, 3) := dk_20 0 229 (dk_at dksX4_feast_0 3 rfl rfl)
theorem dX4_feast_6 : decode cX4_feast 6 = .ok (.invokestatic 69, 3) := dk_184 0 69 (dk_at dksX4_feast_0 6 rfl rfl)
theorem dX4_feast_9 : decode cX4_feast 9 = .ok (.ifCond .eq 13, 3) := dk_153 0 13 (dk_at dksX4_feast_0 9 rfl rfl)
theorem dX4_feast_12 : decode cX4_feast 12 = .ok (.aload_n 0, 1) := dk_42 (dk_at dksX4_feast_0 12 rfl rfl)
theorem dX4_feast_13 : decode cX4_feast 13 = .ok (.bipush 55, 2) := dk_16 55 (dk_at dksX4_feast_0 13 rfl rfl)
theorem dX4_feast_15 : decode cX4_feast 15 = .ok (.iload_n 1, 1) := dk_27 (dk_at dksX4_feast_0 15 rfl rfl)
theorem dX4_feast_16 : decode cX4_feast 16 = .ok (.invokevirtual 217, 3) := dk_182 0 217 (dk_at dksX4_feast_0 16 rfl rfl)
theorem dX4_feast_19 : decode cX4_feast 19 = .ok (.goto 4, 3) := dk_167 0 4 (dk_at dksX4_feast_0 19 rfl rfl)
theorem dX4_feast_22 : decode cX4_feast 22 = .ok (.iconst (-1), 1) := dk_2 (dk_at dksX4_feast_0 22 rfl rfl)
theorem dX4_feast_23 : decode cX4_feast 23 = .ok (.ireturn, 1) := dk_172 (dk_at dksX4_feast_0 23 rfl rfl)
abbrev cX4_days : ByteArray := prog_12_method_61_code
def yX4_days : MethodName := ⟨RX4, "days", "(I)I"⟩
def dkwX4_days_2 : List UInt8 := [182, 0, 226, 28, 172]
abbrev dktX4_days_2 : List UInt8 := dkwX4_days_2 ++ []
def dkwX4_days_1 : List UInt8 := [17, 3, 231, 164, 0, 6, 16, 253, 172, 42, 182, 0, 194, 42, 27, 182, 0, 231, 42, 182, 0, 234, 61, 42]
abbrev dktX4_days_1 : List UInt8 := dkwX4_days_1 ++ dktX4_days_2
def dkwX4_days_0 : List UInt8 := [27, 133, 9, 20, 0, 220, 184, 0, 69, 154, 0, 5, 2, 172, 42, 180, 0, 7, 16, 54, 46, 27, 96]
abbrev dktX4_days_0 : List UInt8 := dkwX4_days_0 ++ dktX4_days_1
theorem dksX4_days_0 : cX4_days.data.toList.drop 0 = dktX4_days_0 := by decide +kernel
theorem dksX4_days_1 : cX4_days.data.toList.drop 23 = dktX4_days_1 := dk_seg dksX4_days_0 23 rfl rfl
theorem dksX4_days_2 : cX4_days.data.toList.drop 47 = dktX4_days_2 := dk_seg dksX4_days_1 24 rfl rfl
theorem dX4_days_0 : decode cX4_days 0 = .ok (.iload_n 1, 1) := dk_27 (dk_at dksX4_days_0 0 rfl rfl)
theorem dX4_days_1 : decode cX4_days 1 = .ok (.i2l, 1) := dk_133 (dk_at dksX4_days_0 1 rfl rfl)
theorem dX4_days_2 : decode cX4_days 2 = .ok (.lconst 0, 1) := dk_9 (dk_at dksX4_days_0 2 rfl rfl)
theorem dX4_days_3 : decode cX4_days 3 = .ok (.ldc2_w 220, 3) := dk_20 0 220 (dk_at dksX4_days_0 3 rfl rfl)
theorem dX4_days_6 : decode cX4_days 6 = .ok (.invokestatic 69, 3) := dk_184 0 69 (dk_at dksX4_days_0 6 rfl rfl)
theorem dX4_days_9 : decode cX4_days 9 = .ok (.ifCond .ne 5, 3) := dk_154 0 5 (dk_at dksX4_days_0 9 rfl rfl)
theorem dX4_days_12 : decode cX4_days 12 = .ok (.iconst (-1), 1) := dk_2 (dk_at dksX4_days_0 12 rfl rfl)
theorem dX4_days_13 : decode cX4_days 13 = .ok (.ireturn, 1) := dk_172 (dk_at dksX4_days_0 13 rfl rfl)
theorem dX4_days_14 : decode cX4_days 14 = .ok (.aload_n 0, 1) := dk_42 (dk_at dksX4_days_0 14 rfl rfl)
theorem dX4_days_15 : decode cX4_days 15 = .ok (.getfield 7, 3) := dk_180 0 7 (dk_at dksX4_days_0 15 rfl rfl)
theorem dX4_days_18 : decode cX4_days 18 = .ok (.bipush 54, 2) := dk_16 54 (dk_at dksX4_days_0 18 rfl rfl)
theorem dX4_days_20 : decode cX4_days 20 = .ok (.iaload, 1) := dk_46 (dk_at dksX4_days_0 20 rfl rfl)
theorem dX4_days_21 : decode cX4_days 21 = .ok (.iload_n 1, 1) := dk_27 (dk_at dksX4_days_0 21 rfl rfl)
theorem dX4_days_22 : decode cX4_days 22 = .ok (.iadd, 1) := dk_96 (dk_at dksX4_days_0 22 rfl rfl)
theorem dX4_days_23 : decode cX4_days 23 = .ok (.sipush 999, 3) := dk_17 3 231 (dk_at dksX4_days_1 0 rfl rfl)
theorem dX4_days_26 : decode cX4_days 26 = .ok (.if_icmp .le 6, 3) := dk_164 0 6 (dk_at dksX4_days_1 3 rfl rfl)
theorem dX4_days_29 : decode cX4_days 29 = .ok (.bipush (-3), 2) := dk_16 253 (dk_at dksX4_days_1 6 rfl rfl)
theorem dX4_days_31 : decode cX4_days 31 = .ok (.ireturn, 1) := dk_172 (dk_at dksX4_days_1 8 rfl rfl)
theorem dX4_days_32 : decode cX4_days 32 = .ok (.aload_n 0, 1) := dk_42 (dk_at dksX4_days_1 9 rfl rfl)
theorem dX4_days_33 : decode cX4_days 33 = .ok (.invokevirtual 194, 3) := dk_182 0 194 (dk_at dksX4_days_1 10 rfl rfl)
theorem dX4_days_36 : decode cX4_days 36 = .ok (.aload_n 0, 1) := dk_42 (dk_at dksX4_days_1 13 rfl rfl)
theorem dX4_days_37 : decode cX4_days 37 = .ok (.iload_n 1, 1) := dk_27 (dk_at dksX4_days_1 14 rfl rfl)
theorem dX4_days_38 : decode cX4_days 38 = .ok (.invokevirtual 231, 3) := dk_182 0 231 (dk_at dksX4_days_1 15 rfl rfl)
theorem dX4_days_41 : decode cX4_days 41 = .ok (.aload_n 0, 1) := dk_42 (dk_at dksX4_days_1 18 rfl rfl)
theorem dX4_days_42 : decode cX4_days 42 = .ok (.invokevirtual 234, 3) := dk_182 0 234 (dk_at dksX4_days_1 19 rfl rfl)
theorem dX4_days_45 : decode cX4_days 45 = .ok (.istore_n 2, 1) := dk_61 (dk_at dksX4_days_1 22 rfl rfl)
theorem dX4_days_46 : decode cX4_days 46 = .ok (.aload_n 0, 1) := dk_42 (dk_at dksX4_days_1 23 rfl rfl)
theorem dX4_days_47 : decode cX4_days 47 = .ok (.invokevirtual 226, 3) := dk_182 0 226 (dk_at dksX4_days_2 0 rfl rfl)
theorem dX4_days_50 : decode cX4_days 50 = .ok (.iload_n 2, 1) := dk_28 (dk_at dksX4_days_2 3 rfl rfl)
theorem dX4_days_51 : decode cX4_days 51 = .ok (.ireturn, 1) := dk_172 (dk_at dksX4_days_2 4 rfl rfl)
abbrev cX4_daysGo : ByteArray := prog_12_method_45_code
def yX4_daysGo : MethodName := ⟨RX4, "daysGo", "(I)V"⟩
def dkwX4_daysGo_0 : List UInt8 := [3, 61, 28, 27, 162, 0, 14, 42, 3, 182, 0, 190, 132, 2, 1, 167, 255, 243, 177]
abbrev dktX4_daysGo_0 : List UInt8 := dkwX4_daysGo_0 ++ []
theorem dksX4_daysGo_0 : cX4_daysGo.data.toList.drop 0 = dktX4_daysGo_0 := by decide +kernel
theorem dX4_daysGo_0 : decode cX4_daysGo 0 = .ok (.iconst 0, 1) := dk_3 (dk_at dksX4_daysGo_0 0 rfl rfl)
theorem dX4_daysGo_1 : decode cX4_daysGo 1 = .ok (.istore_n 2, 1) := dk_61 (dk_at dksX4_daysGo_0 1 rfl rfl)
theorem dX4_daysGo_2 : decode cX4_daysGo 2 = .ok (.iload_n 2, 1) := dk_28 (dk_at dksX4_daysGo_0 2 rfl rfl)
theorem dX4_daysGo_3 : decode cX4_daysGo 3 = .ok (.iload_n 1, 1) := dk_27 (dk_at dksX4_daysGo_0 3 rfl rfl)
theorem dX4_daysGo_4 : decode cX4_daysGo 4 = .ok (.if_icmp .ge 14, 3) := dk_162 0 14 (dk_at dksX4_daysGo_0 4 rfl rfl)
theorem dX4_daysGo_7 : decode cX4_daysGo 7 = .ok (.aload_n 0, 1) := dk_42 (dk_at dksX4_daysGo_0 7 rfl rfl)
theorem dX4_daysGo_8 : decode cX4_daysGo 8 = .ok (.iconst 0, 1) := dk_3 (dk_at dksX4_daysGo_0 8 rfl rfl)
theorem dX4_daysGo_9 : decode cX4_daysGo 9 = .ok (.invokevirtual 190, 3) := dk_182 0 190 (dk_at dksX4_daysGo_0 9 rfl rfl)
theorem dX4_daysGo_12 : decode cX4_daysGo 12 = .ok (.iinc 2 1, 3) := dk_132 2 1 (dk_at dksX4_daysGo_0 12 rfl rfl)
theorem dX4_daysGo_15 : decode cX4_daysGo 15 = .ok (.goto (-13), 3) := dk_167 255 243 (dk_at dksX4_daysGo_0 15 rfl rfl)
theorem dX4_daysGo_18 : decode cX4_daysGo 18 = .ok (.return_, 1) := dk_177 (dk_at dksX4_daysGo_0 18 rfl rfl)
abbrev cX4_dayGoes : ByteArray := prog_12_method_44_code
def yX4_dayGoes : MethodName := ⟨RX4, "dayGoes", "(Z)V"⟩
def dkwX4_dayGoes_3 : List UInt8 := [46, 4, 96, 79, 177]
abbrev dktX4_dayGoes_3 : List UInt8 := dkwX4_dayGoes_3 ++ []
def dkwX4_dayGoes_2 : List UInt8 := [182, 0, 184, 167, 0, 8, 42, 29, 182, 0, 187, 132, 3, 1, 167, 255, 224, 42, 180, 0, 13, 16, 54, 92]
abbrev dktX4_dayGoes_2 : List UInt8 := dkwX4_dayGoes_2 ++ dktX4_dayGoes_3
def dkwX4_dayGoes_1 : List UInt8 := [3, 61, 3, 62, 29, 42, 180, 0, 64, 162, 0, 30, 27, 154, 0, 26, 28, 153, 0, 11, 42, 29]
abbrev dktX4_dayGoes_1 : List UInt8 := dkwX4_dayGoes_1 ++ dktX4_dayGoes_2
def dkwX4_dayGoes_0 : List UInt8 := [42, 180, 0, 13, 16, 54, 46, 16, 7, 112, 42, 180, 0, 13, 16, 55, 46, 160, 0, 7, 4, 167, 0, 4]
abbrev dktX4_dayGoes_0 : List UInt8 := dkwX4_dayGoes_0 ++ dktX4_dayGoes_1
theorem dksX4_dayGoes_0 : cX4_dayGoes.data.toList.drop 0 = dktX4_dayGoes_0 := by decide +kernel
theorem dksX4_dayGoes_1 : cX4_dayGoes.data.toList.drop 24 = dktX4_dayGoes_1 := dk_seg dksX4_dayGoes_0 24 rfl rfl
theorem dksX4_dayGoes_2 : cX4_dayGoes.data.toList.drop 46 = dktX4_dayGoes_2 := dk_seg dksX4_dayGoes_1 22 rfl rfl
theorem dksX4_dayGoes_3 : cX4_dayGoes.data.toList.drop 70 = dktX4_dayGoes_3 := dk_seg dksX4_dayGoes_2 24 rfl rfl
theorem dX4_dayGoes_0 : decode cX4_dayGoes 0 = .ok (.aload_n 0, 1) := dk_42 (dk_at dksX4_dayGoes_0 0 rfl rfl)
theorem dX4_dayGoes_1 : decode cX4_dayGoes 1 = .ok (.getfield 13, 3) := dk_180 0 13 (dk_at dksX4_dayGoes_0 1 rfl rfl)
theorem dX4_dayGoes_4 : decode cX4_dayGoes 4 = .ok (.bipush 54, 2) := dk_16 54 (dk_at dksX4_dayGoes_0 4 rfl rfl)
theorem dX4_dayGoes_6 : decode cX4_dayGoes 6 = .ok (.iaload, 1) := dk_46 (dk_at dksX4_dayGoes_0 6 rfl rfl)
theorem dX4_dayGoes_7 : decode cX4_dayGoes 7 = .ok (.bipush 7, 2) := dk_16 7 (dk_at dksX4_dayGoes_0 7 rfl rfl)
theorem dX4_dayGoes_9 : decode cX4_dayGoes 9 = .ok (.irem, 1) := dk_112 (dk_at dksX4_dayGoes_0 9 rfl rfl)
theorem dX4_dayGoes_10 : decode cX4_dayGoes 10 = .ok (.aload_n 0, 1) := dk_42 (dk_at dksX4_dayGoes_0 10 rfl rfl)
theorem dX4_dayGoes_11 : decode cX4_dayGoes 11 = .ok (.getfield 13, 3) := dk_180 0 13 (dk_at dksX4_dayGoes_0 11 rfl rfl)
theorem dX4_dayGoes_14 : decode cX4_dayGoes 14 = .ok (.bipush 55, 2) := dk_16 55 (dk_at dksX4_dayGoes_0 14 rfl rfl)
theorem dX4_dayGoes_16 : decode cX4_dayGoes 16 = .ok (.iaload, 1) := dk_46 (dk_at dksX4_dayGoes_0 16 rfl rfl)
theorem dX4_dayGoes_17 : decode cX4_dayGoes 17 = .ok (.if_icmp .ne 7, 3) := dk_160 0 7 (dk_at dksX4_dayGoes_0 17 rfl rfl)
theorem dX4_dayGoes_20 : decode cX4_dayGoes 20 = .ok (.iconst 1, 1) := dk_4 (dk_at dksX4_dayGoes_0 20 rfl rfl)
theorem dX4_dayGoes_21 : decode cX4_dayGoes 21 = .ok (.goto 4, 3) := dk_167 0 4 (dk_at dksX4_dayGoes_0 21 rfl rfl)
theorem dX4_dayGoes_24 : decode cX4_dayGoes 24 = .ok (.iconst 0, 1) := dk_3 (dk_at dksX4_dayGoes_1 0 rfl rfl)
theorem dX4_dayGoes_25 : decode cX4_dayGoes 25 = .ok (.istore_n 2, 1) := dk_61 (dk_at dksX4_dayGoes_1 1 rfl rfl)
theorem dX4_dayGoes_26 : decode cX4_dayGoes 26 = .ok (.iconst 0, 1) := dk_3 (dk_at dksX4_dayGoes_1 2 rfl rfl)
theorem dX4_dayGoes_27 : decode cX4_dayGoes 27 = .ok (.istore_n 3, 1) := dk_62 (dk_at dksX4_dayGoes_1 3 rfl rfl)
theorem dX4_dayGoes_28 : decode cX4_dayGoes 28 = .ok (.iload_n 3, 1) := dk_29 (dk_at dksX4_dayGoes_1 4 rfl rfl)
theorem dX4_dayGoes_29 : decode cX4_dayGoes 29 = .ok (.aload_n 0, 1) := dk_42 (dk_at dksX4_dayGoes_1 5 rfl rfl)
theorem dX4_dayGoes_30 : decode cX4_dayGoes 30 = .ok (.getfield 64, 3) := dk_180 0 64 (dk_at dksX4_dayGoes_1 6 rfl rfl)
theorem dX4_dayGoes_33 : decode cX4_dayGoes 33 = .ok (.if_icmp .ge 30, 3) := dk_162 0 30 (dk_at dksX4_dayGoes_1 9 rfl rfl)
theorem dX4_dayGoes_36 : decode cX4_dayGoes 36 = .ok (.iload_n 1, 1) := dk_27 (dk_at dksX4_dayGoes_1 12 rfl rfl)
theorem dX4_dayGoes_37 : decode cX4_dayGoes 37 = .ok (.ifCond .ne 26, 3) := dk_154 0 26 (dk_at dksX4_dayGoes_1 13 rfl rfl)
theorem dX4_dayGoes_40 : decode cX4_dayGoes 40 = .ok (.iload_n 2, 1) := dk_28 (dk_at dksX4_dayGoes_1 16 rfl rfl)
theorem dX4_dayGoes_41 : decode cX4_dayGoes 41 = .ok (.ifCond .eq 11, 3) := dk_153 0 11 (dk_at dksX4_dayGoes_1 17 rfl rfl)
theorem dX4_dayGoes_44 : decode cX4_dayGoes 44 = .ok (.aload_n 0, 1) := dk_42 (dk_at dksX4_dayGoes_1 20 rfl rfl)
theorem dX4_dayGoes_45 : decode cX4_dayGoes 45 = .ok (.iload_n 3, 1) := dk_29 (dk_at dksX4_dayGoes_1 21 rfl rfl)
theorem dX4_dayGoes_46 : decode cX4_dayGoes 46 = .ok (.invokevirtual 184, 3) := dk_182 0 184 (dk_at dksX4_dayGoes_2 0 rfl rfl)
theorem dX4_dayGoes_49 : decode cX4_dayGoes 49 = .ok (.goto 8, 3) := dk_167 0 8 (dk_at dksX4_dayGoes_2 3 rfl rfl)
theorem dX4_dayGoes_52 : decode cX4_dayGoes 52 = .ok (.aload_n 0, 1) := dk_42 (dk_at dksX4_dayGoes_2 6 rfl rfl)
theorem dX4_dayGoes_53 : decode cX4_dayGoes 53 = .ok (.iload_n 3, 1) := dk_29 (dk_at dksX4_dayGoes_2 7 rfl rfl)
theorem dX4_dayGoes_54 : decode cX4_dayGoes 54 = .ok (.invokevirtual 187, 3) := dk_182 0 187 (dk_at dksX4_dayGoes_2 8 rfl rfl)
theorem dX4_dayGoes_57 : decode cX4_dayGoes 57 = .ok (.iinc 3 1, 3) := dk_132 3 1 (dk_at dksX4_dayGoes_2 11 rfl rfl)
theorem dX4_dayGoes_60 : decode cX4_dayGoes 60 = .ok (.goto (-32), 3) := dk_167 255 224 (dk_at dksX4_dayGoes_2 14 rfl rfl)
theorem dX4_dayGoes_63 : decode cX4_dayGoes 63 = .ok (.aload_n 0, 1) := dk_42 (dk_at dksX4_dayGoes_2 17 rfl rfl)
theorem dX4_dayGoes_64 : decode cX4_dayGoes 64 = .ok (.getfield 13, 3) := dk_180 0 13 (dk_at dksX4_dayGoes_2 18 rfl rfl)
theorem dX4_dayGoes_67 : decode cX4_dayGoes 67 = .ok (.bipush 54, 2) := dk_16 54 (dk_at dksX4_dayGoes_2 21 rfl rfl)
theorem dX4_dayGoes_69 : decode cX4_dayGoes 69 = .ok (.dup2, 1) := dk_92 (dk_at dksX4_dayGoes_2 23 rfl rfl)
theorem dX4_dayGoes_70 : decode cX4_dayGoes 70 = .ok (.iaload, 1) := dk_46 (dk_at dksX4_dayGoes_3 0 rfl rfl)
theorem dX4_dayGoes_71 : decode cX4_dayGoes 71 = .ok (.iconst 1, 1) := dk_4 (dk_at dksX4_dayGoes_3 1 rfl rfl)
theorem dX4_dayGoes_72 : decode cX4_dayGoes 72 = .ok (.iadd, 1) := dk_96 (dk_at dksX4_dayGoes_3 2 rfl rfl)
theorem dX4_dayGoes_73 : decode cX4_dayGoes 73 = .ok (.iastore, 1) := dk_79 (dk_at dksX4_dayGoes_3 3 rfl rfl)
theorem dX4_dayGoes_74 : decode cX4_dayGoes 74 = .ok (.return_, 1) := dk_177 (dk_at dksX4_dayGoes_3 4 rfl rfl)
abbrev cX4_feasts : ByteArray := prog_12_method_43_code
def yX4_feasts : MethodName := ⟨RX4, "feasts", "(I)V"⟩
def dkwX4_feasts_3 : List UInt8 := [167, 0, 4, 29, 79, 177]
abbrev dktX4_feasts_3 : List UInt8 := dkwX4_feasts_3 ++ []
def dkwX4_feasts_2 : List UInt8 := [180, 0, 13, 5, 27, 104, 4, 96, 42, 27, 29, 182, 0, 174, 153, 0, 11, 42, 27, 182, 0, 156]
abbrev dktX4_feasts_2 : List UInt8 := dkwX4_feasts_2 ++ dktX4_feasts_3
def dkwX4_feasts_1 : List UInt8 := [182, 0, 156, 42, 28, 182, 0, 156, 42, 27, 182, 0, 156, 164, 0, 7, 4, 167, 0, 4, 2, 96, 62, 42]
abbrev dktX4_feasts_1 : List UInt8 := dkwX4_feasts_1 ++ dktX4_feasts_2
def dkwX4_feasts_0 : List UInt8 := [42, 27, 182, 0, 181, 61, 28, 16, 252, 159, 0, 66, 42, 27, 28, 182, 0, 162, 4, 164, 0, 56, 42, 27]
abbrev dktX4_feasts_0 : List UInt8 := dkwX4_feasts_0 ++ dktX4_feasts_1
theorem dksX4_feasts_0 : cX4_feasts.data.toList.drop 0 = dktX4_feasts_0 := by decide +kernel
theorem dksX4_feasts_1 : cX4_feasts.data.toList.drop 24 = dktX4_feasts_1 := dk_seg dksX4_feasts_0 24 rfl rfl
theorem dksX4_feasts_2 : cX4_feasts.data.toList.drop 48 = dktX4_feasts_2 := dk_seg dksX4_feasts_1 24 rfl rfl
theorem dksX4_feasts_3 : cX4_feasts.data.toList.drop 70 = dktX4_feasts_3 := dk_seg dksX4_feasts_2 22 rfl rfl
theorem dX4_feasts_0 : decode cX4_feasts 0 = .ok (.aload_n 0, 1) := dk_42 (dk_at dksX4_feasts_0 0 rfl rfl)
theorem dX4_feasts_1 : decode cX4_feasts 1 = .ok (.iload_n 1, 1) := dk_27 (dk_at dksX4_feasts_0 1 rfl rfl)
theorem dX4_feasts_2 : decode cX4_feasts 2 = .ok (.invokevirtual 181, 3) := dk_182 0 181 (dk_at dksX4_feasts_0 2 rfl rfl)
theorem dX4_feasts_5 : decode cX4_feasts 5 = .ok (.istore_n 2, 1) := dk_61 (dk_at dksX4_feasts_0 5 rfl rfl)
theorem dX4_feasts_6 : decode cX4_feasts 6 = .ok (.iload_n 2, 1) := dk_28 (dk_at dksX4_feasts_0 6 rfl rfl)
theorem dX4_feasts_7 : decode cX4_feasts 7 = .ok (.bipush (-4), 2) := dk_16 252 (dk_at dksX4_feasts_0 7 rfl rfl)
theorem dX4_feasts_9 : decode cX4_feasts 9 = .ok (.if_icmp .eq 66, 3) := dk_159 0 66 (dk_at dksX4_feasts_0 9 rfl rfl)
theorem dX4_feasts_12 : decode cX4_feasts 12 = .ok (.aload_n 0, 1) := dk_42 (dk_at dksX4_feasts_0 12 rfl rfl)
theorem dX4_feasts_13 : decode cX4_feasts 13 = .ok (.iload_n 1, 1) := dk_27 (dk_at dksX4_feasts_0 13 rfl rfl)
theorem dX4_feasts_14 : decode cX4_feasts 14 = .ok (.iload_n 2, 1) := dk_28 (dk_at dksX4_feasts_0 14 rfl rfl)
theorem dX4_feasts_15 : decode cX4_feasts 15 = .ok (.invokevirtual 162, 3) := dk_182 0 162 (dk_at dksX4_feasts_0 15 rfl rfl)
theorem dX4_feasts_18 : decode cX4_feasts 18 = .ok (.iconst 1, 1) := dk_4 (dk_at dksX4_feasts_0 18 rfl rfl)
theorem dX4_feasts_19 : decode cX4_feasts 19 = .ok (.if_icmp .le 56, 3) := dk_164 0 56 (dk_at dksX4_feasts_0 19 rfl rfl)
theorem dX4_feasts_22 : decode cX4_feasts 22 = .ok (.aload_n 0, 1) := dk_42 (dk_at dksX4_feasts_0 22 rfl rfl)
theorem dX4_feasts_23 : decode cX4_feasts 23 = .ok (.iload_n 1, 1) := dk_27 (dk_at dksX4_feasts_0 23 rfl rfl)
theorem dX4_feasts_24 : decode cX4_feasts 24 = .ok (.invokevirtual 156, 3) := dk_182 0 156 (dk_at dksX4_feasts_1 0 rfl rfl)
theorem dX4_feasts_27 : decode cX4_feasts 27 = .ok (.aload_n 0, 1) := dk_42 (dk_at dksX4_feasts_1 3 rfl rfl)
theorem dX4_feasts_28 : decode cX4_feasts 28 = .ok (.iload_n 2, 1) := dk_28 (dk_at dksX4_feasts_1 4 rfl rfl)
theorem dX4_feasts_29 : decode cX4_feasts 29 = .ok (.invokevirtual 156, 3) := dk_182 0 156 (dk_at dksX4_feasts_1 5 rfl rfl)
theorem dX4_feasts_32 : decode cX4_feasts 32 = .ok (.aload_n 0, 1) := dk_42 (dk_at dksX4_feasts_1 8 rfl rfl)
theorem dX4_feasts_33 : decode cX4_feasts 33 = .ok (.iload_n 1, 1) := dk_27 (dk_at dksX4_feasts_1 9 rfl rfl)
theorem dX4_feasts_34 : decode cX4_feasts 34 = .ok (.invokevirtual 156, 3) := dk_182 0 156 (dk_at dksX4_feasts_1 10 rfl rfl)
theorem dX4_feasts_37 : decode cX4_feasts 37 = .ok (.if_icmp .le 7, 3) := dk_164 0 7 (dk_at dksX4_feasts_1 13 rfl rfl)
theorem dX4_feasts_40 : decode cX4_feasts 40 = .ok (.iconst 1, 1) := dk_4 (dk_at dksX4_feasts_1 16 rfl rfl)
theorem dX4_feasts_41 : decode cX4_feasts 41 = .ok (.goto 4, 3) := dk_167 0 4 (dk_at dksX4_feasts_1 17 rfl rfl)
theorem dX4_feasts_44 : decode cX4_feasts 44 = .ok (.iconst (-1), 1) := dk_2 (dk_at dksX4_feasts_1 20 rfl rfl)
theorem dX4_feasts_45 : decode cX4_feasts 45 = .ok (.iadd, 1) := dk_96 (dk_at dksX4_feasts_1 21 rfl rfl)
theorem dX4_feasts_46 : decode cX4_feasts 46 = .ok (.istore_n 3, 1) := dk_62 (dk_at dksX4_feasts_1 22 rfl rfl)
theorem dX4_feasts_47 : decode cX4_feasts 47 = .ok (.aload_n 0, 1) := dk_42 (dk_at dksX4_feasts_1 23 rfl rfl)
theorem dX4_feasts_48 : decode cX4_feasts 48 = .ok (.getfield 13, 3) := dk_180 0 13 (dk_at dksX4_feasts_2 0 rfl rfl)
theorem dX4_feasts_51 : decode cX4_feasts 51 = .ok (.iconst 2, 1) := dk_5 (dk_at dksX4_feasts_2 3 rfl rfl)
theorem dX4_feasts_52 : decode cX4_feasts 52 = .ok (.iload_n 1, 1) := dk_27 (dk_at dksX4_feasts_2 4 rfl rfl)
theorem dX4_feasts_53 : decode cX4_feasts 53 = .ok (.imul, 1) := dk_104 (dk_at dksX4_feasts_2 5 rfl rfl)
theorem dX4_feasts_54 : decode cX4_feasts 54 = .ok (.iconst 1, 1) := dk_4 (dk_at dksX4_feasts_2 6 rfl rfl)
theorem dX4_feasts_55 : decode cX4_feasts 55 = .ok (.iadd, 1) := dk_96 (dk_at dksX4_feasts_2 7 rfl rfl)
theorem dX4_feasts_56 : decode cX4_feasts 56 = .ok (.aload_n 0, 1) := dk_42 (dk_at dksX4_feasts_2 8 rfl rfl)
theorem dX4_feasts_57 : decode cX4_feasts 57 = .ok (.iload_n 1, 1) := dk_27 (dk_at dksX4_feasts_2 9 rfl rfl)
theorem dX4_feasts_58 : decode cX4_feasts 58 = .ok (.iload_n 3, 1) := dk_29 (dk_at dksX4_feasts_2 10 rfl rfl)
theorem dX4_feasts_59 : decode cX4_feasts 59 = .ok (.invokevirtual 174, 3) := dk_182 0 174 (dk_at dksX4_feasts_2 11 rfl rfl)
theorem dX4_feasts_62 : decode cX4_feasts 62 = .ok (.ifCond .eq 11, 3) := dk_153 0 11 (dk_at dksX4_feasts_2 14 rfl rfl)
theorem dX4_feasts_65 : decode cX4_feasts 65 = .ok (.aload_n 0, 1) := dk_42 (dk_at dksX4_feasts_2 17 rfl rfl)
theorem dX4_feasts_66 : decode cX4_feasts 66 = .ok (.iload_n 1, 1) := dk_27 (dk_at dksX4_feasts_2 18 rfl rfl)
theorem dX4_feasts_67 : decode cX4_feasts 67 = .ok (.invokevirtual 156, 3) := dk_182 0 156 (dk_at dksX4_feasts_2 19 rfl rfl)
theorem dX4_feasts_70 : decode cX4_feasts 70 = .ok (.goto 4, 3) := dk_167 0 4 (dk_at dksX4_feasts_3 0 rfl rfl)
theorem dX4_feasts_73 : decode cX4_feasts 73 = .ok (.iload_n 3, 1) := dk_29 (dk_at dksX4_feasts_3 3 rfl rfl)
theorem dX4_feasts_74 : decode cX4_feasts 74 = .ok (.iastore, 1) := dk_79 (dk_at dksX4_feasts_3 4 rfl rfl)
theorem dX4_feasts_75 : decode cX4_feasts 75 = .ok (.return_, 1) := dk_177 (dk_at dksX4_feasts_3 5 rfl rfl)
abbrev cX4_isHeld : ByteArray := prog_12_method_39_code
def yX4_isHeld : MethodName := ⟨RX4, "isHeld", "(II)Z"⟩
def dkwX4_isHeld_6 : List UInt8 := [29, 172]
abbrev dktX4_isHeld_6 : List UInt8 := dkwX4_isHeld_6 ++ []
def dkwX4_isHeld_5 : List UInt8 := [21, 7, 42, 27, 21, 6, 182, 0, 162, 164, 0, 7, 4, 167, 0, 4, 3, 62, 132, 4, 1, 167, 255, 126]
abbrev dktX4_isHeld_5 : List UInt8 := dkwX4_isHeld_5 ++ dktX4_isHeld_6
def dkwX4_isHeld_4 : List UInt8 := [184, 0, 159, 54, 7, 29, 154, 0, 29, 21, 7, 42, 180, 0, 13, 21, 5, 5, 96, 46, 164, 0, 19]
abbrev dktX4_isHeld_4 : List UInt8 := dkwX4_isHeld_4 ++ dktX4_isHeld_5
def dkwX4_isHeld_3 : List UInt8 := [167, 0, 5, 16, 252, 54, 6, 21, 6, 16, 252, 159, 0, 52, 28, 42, 21, 6, 182, 0, 156, 100]
abbrev dktX4_isHeld_3 : List UInt8 := dkwX4_isHeld_3 ++ dktX4_isHeld_4
def dkwX4_isHeld_2 : List UInt8 := [167, 0, 28, 42, 180, 0, 13, 21, 5, 4, 96, 46, 27, 160, 0, 13, 42, 180, 0, 13, 21, 5, 46]
abbrev dktX4_isHeld_2 : List UInt8 := dkwX4_isHeld_2 ++ dktX4_isHeld_3
def dkwX4_isHeld_1 : List UInt8 := [54, 5, 42, 180, 0, 13, 21, 5, 46, 27, 160, 0, 15, 42, 180, 0, 13, 21, 5, 4, 96, 46]
abbrev dktX4_isHeld_1 : List UInt8 := dkwX4_isHeld_1 ++ dktX4_isHeld_2
def dkwX4_isHeld_0 : List UInt8 := [3, 62, 3, 54, 4, 21, 4, 42, 180, 0, 13, 16, 53, 46, 162, 0, 124, 16, 35, 6, 21, 4, 104, 96]
abbrev dktX4_isHeld_0 : List UInt8 := dkwX4_isHeld_0 ++ dktX4_isHeld_1
theorem dksX4_isHeld_0 : cX4_isHeld.data.toList.drop 0 = dktX4_isHeld_0 := by decide +kernel
theorem dksX4_isHeld_1 : cX4_isHeld.data.toList.drop 24 = dktX4_isHeld_1 := dk_seg dksX4_isHeld_0 24 rfl rfl
theorem dksX4_isHeld_2 : cX4_isHeld.data.toList.drop 46 = dktX4_isHeld_2 := dk_seg dksX4_isHeld_1 22 rfl rfl
theorem dksX4_isHeld_3 : cX4_isHeld.data.toList.drop 69 = dktX4_isHeld_3 := dk_seg dksX4_isHeld_2 23 rfl rfl
theorem dksX4_isHeld_4 : cX4_isHeld.data.toList.drop 91 = dktX4_isHeld_4 := dk_seg dksX4_isHeld_3 22 rfl rfl
theorem dksX4_isHeld_5 : cX4_isHeld.data.toList.drop 114 = dktX4_isHeld_5 := dk_seg dksX4_isHeld_4 23 rfl rfl
theorem dksX4_isHeld_6 : cX4_isHeld.data.toList.drop 138 = dktX4_isHeld_6 := dk_seg dksX4_isHeld_5 24 rfl rfl
theorem dX4_isHeld_0 : decode cX4_isHeld 0 = .ok (.iconst 0, 1) := dk_3 (dk_at dksX4_isHeld_0 0 rfl rfl)
theorem dX4_isHeld_1 : decode cX4_isHeld 1 = .ok (.istore_n 3, 1) := dk_62 (dk_at dksX4_isHeld_0 1 rfl rfl)
theorem dX4_isHeld_2 : decode cX4_isHeld 2 = .ok (.iconst 0, 1) := dk_3 (dk_at dksX4_isHeld_0 2 rfl rfl)
theorem dX4_isHeld_3 : decode cX4_isHeld 3 = .ok (.istore 4, 2) := dk_54 4 (dk_at dksX4_isHeld_0 3 rfl rfl)
theorem dX4_isHeld_5 : decode cX4_isHeld 5 = .ok (.iload 4, 2) := dk_21 4 (dk_at dksX4_isHeld_0 5 rfl rfl)
theorem dX4_isHeld_7 : decode cX4_isHeld 7 = .ok (.aload_n 0, 1) := dk_42 (dk_at dksX4_isHeld_0 7 rfl rfl)
theorem dX4_isHeld_8 : decode cX4_isHeld 8 = .ok (.getfield 13, 3) := dk_180 0 13 (dk_at dksX4_isHeld_0 8 rfl rfl)
theorem dX4_isHeld_11 : decode cX4_isHeld 11 = .ok (.bipush 53, 2) := dk_16 53 (dk_at dksX4_isHeld_0 11 rfl rfl)
theorem dX4_isHeld_13 : decode cX4_isHeld 13 = .ok (.iaload, 1) := dk_46 (dk_at dksX4_isHeld_0 13 rfl rfl)
theorem dX4_isHeld_14 : decode cX4_isHeld 14 = .ok (.if_icmp .ge 124, 3) := dk_162 0 124 (dk_at dksX4_isHeld_0 14 rfl rfl)
theorem dX4_isHeld_17 : decode cX4_isHeld 17 = .ok (.bipush 35, 2) := dk_16 35 (dk_at dksX4_isHeld_0 17 rfl rfl)
theorem dX4_isHeld_19 : decode cX4_isHeld 19 = .ok (.iconst 3, 1) := dk_6 (dk_at dksX4_isHeld_0 19 rfl rfl)
theorem dX4_isHeld_20 : decode cX4_isHeld 20 = .ok (.iload 4, 2) := dk_21 4 (dk_at dksX4_isHeld_0 20 rfl rfl)
theorem dX4_isHeld_22 : decode cX4_isHeld 22 = .ok (.imul, 1) := dk_104 (dk_at dksX4_isHeld_0 22 rfl rfl)
theorem dX4_isHeld_23 : decode cX4_isHeld 23 = .ok (.iadd, 1) := dk_96 (dk_at dksX4_isHeld_0 23 rfl rfl)
theorem dX4_isHeld_24 : decode cX4_isHeld 24 = .ok (.istore 5, 2) := dk_54 5 (dk_at dksX4_isHeld_1 0 rfl rfl)
theorem dX4_isHeld_26 : decode cX4_isHeld 26 = .ok (.aload_n 0, 1) := dk_42 (dk_at dksX4_isHeld_1 2 rfl rfl)
theorem dX4_isHeld_27 : decode cX4_isHeld 27 = .ok (.getfield 13, 3) := dk_180 0 13 (dk_at dksX4_isHeld_1 3 rfl rfl)
theorem dX4_isHeld_30 : decode cX4_isHeld 30 = .ok (.iload 5, 2) := dk_21 5 (dk_at dksX4_isHeld_1 6 rfl rfl)
theorem dX4_isHeld_32 : decode cX4_isHeld 32 = .ok (.iaload, 1) := dk_46 (dk_at dksX4_isHeld_1 8 rfl rfl)
theorem dX4_isHeld_33 : decode cX4_isHeld 33 = .ok (.iload_n 1, 1) := dk_27 (dk_at dksX4_isHeld_1 9 rfl rfl)
theorem dX4_isHeld_34 : decode cX4_isHeld 34 = .ok (.if_icmp .ne 15, 3) := dk_160 0 15 (dk_at dksX4_isHeld_1 10 rfl rfl)
theorem dX4_isHeld_37 : decode cX4_isHeld 37 = .ok (.aload_n 0, 1) := dk_42 (dk_at dksX4_isHeld_1 13 rfl rfl)
theorem dX4_isHeld_38 : decode cX4_isHeld 38 = .ok (.getfield 13, 3) := dk_180 0 13 (dk_at dksX4_isHeld_1 14 rfl rfl)
theorem dX4_isHeld_41 : decode cX4_isHeld 41 = .ok (.iload 5, 2) := dk_21 5 (dk_at dksX4_isHeld_1 17 rfl rfl)
theorem dX4_isHeld_43 : decode cX4_isHeld 43 = .ok (.iconst 1, 1) := dk_4 (dk_at dksX4_isHeld_1 19 rfl rfl)
theorem dX4_isHeld_44 : decode cX4_isHeld 44 = .ok (.iadd, 1) := dk_96 (dk_at dksX4_isHeld_1 20 rfl rfl)
theorem dX4_isHeld_45 : decode cX4_isHeld 45 = .ok (.iaload, 1) := dk_46 (dk_at dksX4_isHeld_1 21 rfl rfl)
theorem dX4_isHeld_46 : decode cX4_isHeld 46 = .ok (.goto 28, 3) := dk_167 0 28 (dk_at dksX4_isHeld_2 0 rfl rfl)
theorem dX4_isHeld_49 : decode cX4_isHeld 49 = .ok (.aload_n 0, 1) := dk_42 (dk_at dksX4_isHeld_2 3 rfl rfl)
theorem dX4_isHeld_50 : decode cX4_isHeld 50 = .ok (.getfield 13, 3) := dk_180 0 13 (dk_at dksX4_isHeld_2 4 rfl rfl)
theorem dX4_isHeld_53 : decode cX4_isHeld 53 = .ok (.iload 5, 2) := dk_21 5 (dk_at dksX4_isHeld_2 7 rfl rfl)
theorem dX4_isHeld_55 : decode cX4_isHeld 55 = .ok (.iconst 1, 1) := dk_4 (dk_at dksX4_isHeld_2 9 rfl rfl)
theorem dX4_isHeld_56 : decode cX4_isHeld 56 = .ok (.iadd, 1) := dk_96 (dk_at dksX4_isHeld_2 10 rfl rfl)
theorem dX4_isHeld_57 : decode cX4_isHeld 57 = .ok (.iaload, 1) := dk_46 (dk_at dksX4_isHeld_2 11 rfl rfl)
theorem dX4_isHeld_58 : decode cX4_isHeld 58 = .ok (.iload_n 1, 1) := dk_27 (dk_at dksX4_isHeld_2 12 rfl rfl)
theorem dX4_isHeld_59 : decode cX4_isHeld 59 = .ok (.if_icmp .ne 13, 3) := dk_160 0 13 (dk_at dksX4_isHeld_2 13 rfl rfl)
theorem dX4_isHeld_62 : decode cX4_isHeld 62 = .ok (.aload_n 0, 1) := dk_42 (dk_at dksX4_isHeld_2 16 rfl rfl)
theorem dX4_isHeld_63 : decode cX4_isHeld 63 = .ok (.getfield 13, 3) := dk_180 0 13 (dk_at dksX4_isHeld_2 17 rfl rfl)
theorem dX4_isHeld_66 : decode cX4_isHeld 66 = .ok (.iload 5, 2) := dk_21 5 (dk_at dksX4_isHeld_2 20 rfl rfl)
theorem dX4_isHeld_68 : decode cX4_isHeld 68 = .ok (.iaload, 1) := dk_46 (dk_at dksX4_isHeld_2 22 rfl rfl)
theorem dX4_isHeld_69 : decode cX4_isHeld 69 = .ok (.goto 5, 3) := dk_167 0 5 (dk_at dksX4_isHeld_3 0 rfl rfl)
theorem dX4_isHeld_72 : decode cX4_isHeld 72 = .ok (.bipush (-4), 2) := dk_16 252 (dk_at dksX4_isHeld_3 3 rfl rfl)
theorem dX4_isHeld_74 : decode cX4_isHeld 74 = .ok (.istore 6, 2) := dk_54 6 (dk_at dksX4_isHeld_3 5 rfl rfl)
theorem dX4_isHeld_76 : decode cX4_isHeld 76 = .ok (.iload 6, 2) := dk_21 6 (dk_at dksX4_isHeld_3 7 rfl rfl)
theorem dX4_isHeld_78 : decode cX4_isHeld 78 = .ok (.bipush (-4), 2) := dk_16 252 (dk_at dksX4_isHeld_3 9 rfl rfl)
theorem dX4_isHeld_80 : decode cX4_isHeld 80 = .ok (.if_icmp .eq 52, 3) := dk_159 0 52 (dk_at dksX4_isHeld_3 11 rfl rfl)
theorem dX4_isHeld_83 : decode cX4_isHeld 83 = .ok (.iload_n 2, 1) := dk_28 (dk_at dksX4_isHeld_3 14 rfl rfl)
theorem dX4_isHeld_84 : decode cX4_isHeld 84 = .ok (.aload_n 0, 1) := dk_42 (dk_at dksX4_isHeld_3 15 rfl rfl)
theorem dX4_isHeld_85 : decode cX4_isHeld 85 = .ok (.iload 6, 2) := dk_21 6 (dk_at dksX4_isHeld_3 16 rfl rfl)
theorem dX4_isHeld_87 : decode cX4_isHeld 87 = .ok (.invokevirtual 156, 3) := dk_182 0 156 (dk_at dksX4_isHeld_3 18 rfl rfl)
theorem dX4_isHeld_90 : decode cX4_isHeld 90 = .ok (.isub, 1) := dk_100 (dk_at dksX4_isHeld_3 21 rfl rfl)
theorem dX4_isHeld_91 : decode cX4_isHeld 91 = .ok (.invokestatic 159, 3) := dk_184 0 159 (dk_at dksX4_isHeld_4 0 rfl rfl)
theorem dX4_isHeld_94 : decode cX4_isHeld 94 = .ok (.istore 7, 2) := dk_54 7 (dk_at dksX4_isHeld_4 3 rfl rfl)
theorem dX4_isHeld_96 : decode cX4_isHeld 96 = .ok (.iload_n 3, 1) := dk_29 (dk_at dksX4_isHeld_4 5 rfl rfl)
theorem dX4_isHeld_97 : decode cX4_isHeld 97 = .ok (.ifCond .ne 29, 3) := dk_154 0 29 (dk_at dksX4_isHeld_4 6 rfl rfl)
theorem dX4_isHeld_100 : decode cX4_isHeld 100 = .ok (.iload 7, 2) := dk_21 7 (dk_at dksX4_isHeld_4 9 rfl rfl)
theorem dX4_isHeld_102 : decode cX4_isHeld 102 = .ok (.aload_n 0, 1) := dk_42 (dk_at dksX4_isHeld_4 11 rfl rfl)
theorem dX4_isHeld_103 : decode cX4_isHeld 103 = .ok (.getfield 13, 3) := dk_180 0 13 (dk_at dksX4_isHeld_4 12 rfl rfl)
theorem dX4_isHeld_106 : decode cX4_isHeld 106 = .ok (.iload 5, 2) := dk_21 5 (dk_at dksX4_isHeld_4 15 rfl rfl)
theorem dX4_isHeld_108 : decode cX4_isHeld 108 = .ok (.iconst 2, 1) := dk_5 (dk_at dksX4_isHeld_4 17 rfl rfl)
theorem dX4_isHeld_109 : decode cX4_isHeld 109 = .ok (.iadd, 1) := dk_96 (dk_at dksX4_isHeld_4 18 rfl rfl)
theorem dX4_isHeld_110 : decode cX4_isHeld 110 = .ok (.iaload, 1) := dk_46 (dk_at dksX4_isHeld_4 19 rfl rfl)
theorem dX4_isHeld_111 : decode cX4_isHeld 111 = .ok (.if_icmp .le 19, 3) := dk_164 0 19 (dk_at dksX4_isHeld_4 20 rfl rfl)
theorem dX4_isHeld_114 : decode cX4_isHeld 114 = .ok (.iload 7, 2) := dk_21 7 (dk_at dksX4_isHeld_5 0 rfl rfl)
theorem dX4_isHeld_116 : decode cX4_isHeld 116 = .ok (.aload_n 0, 1) := dk_42 (dk_at dksX4_isHeld_5 2 rfl rfl)
theorem dX4_isHeld_117 : decode cX4_isHeld 117 = .ok (.iload_n 1, 1) := dk_27 (dk_at dksX4_isHeld_5 3 rfl rfl)
theorem dX4_isHeld_118 : decode cX4_isHeld 118 = .ok (.iload 6, 2) := dk_21 6 (dk_at dksX4_isHeld_5 4 rfl rfl)
theorem dX4_isHeld_120 : decode cX4_isHeld 120 = .ok (.invokevirtual 162, 3) := dk_182 0 162 (dk_at dksX4_isHeld_5 6 rfl rfl)
theorem dX4_isHeld_123 : decode cX4_isHeld 123 = .ok (.if_icmp .le 7, 3) := dk_164 0 7 (dk_at dksX4_isHeld_5 9 rfl rfl)
theorem dX4_isHeld_126 : decode cX4_isHeld 126 = .ok (.iconst 1, 1) := dk_4 (dk_at dksX4_isHeld_5 12 rfl rfl)
theorem dX4_isHeld_127 : decode cX4_isHeld 127 = .ok (.goto 4, 3) := dk_167 0 4 (dk_at dksX4_isHeld_5 13 rfl rfl)
theorem dX4_isHeld_130 : decode cX4_isHeld 130 = .ok (.iconst 0, 1) := dk_3 (dk_at dksX4_isHeld_5 16 rfl rfl)
theorem dX4_isHeld_131 : decode cX4_isHeld 131 = .ok (.istore_n 3, 1) := dk_62 (dk_at dksX4_isHeld_5 17 rfl rfl)
theorem dX4_isHeld_132 : decode cX4_isHeld 132 = .ok (.iinc 4 1, 3) := dk_132 4 1 (dk_at dksX4_isHeld_5 18 rfl rfl)
theorem dX4_isHeld_135 : decode cX4_isHeld 135 = .ok (.goto (-130), 3) := dk_167 255 126 (dk_at dksX4_isHeld_5 21 rfl rfl)
theorem dX4_isHeld_138 : decode cX4_isHeld 138 = .ok (.iload_n 3, 1) := dk_29 (dk_at dksX4_isHeld_6 0 rfl rfl)
theorem dX4_isHeld_139 : decode cX4_isHeld 139 = .ok (.ireturn, 1) := dk_172 (dk_at dksX4_isHeld_6 1 rfl rfl)
abbrev cX4_drifts : ByteArray := prog_12_method_42_code
def yX4_drifts : MethodName := ⟨RX4, "drifts", "(I)V"⟩
def dkwX4_drifts_5 : List UInt8 := [29, 96, 79, 132, 5, 1, 167, 255, 154, 177]
abbrev dktX4_drifts_5 : List UInt8 := dkwX4_drifts_5 ++ []
def dkwX4_drifts_4 : List UInt8 := [46, 4, 96, 79, 42, 180, 0, 13, 5, 27, 104, 4, 96, 92, 46, 21, 4, 153, 0, 7, 3, 167, 0, 4]
abbrev dktX4_drifts_4 : List UInt8 := dkwX4_drifts_4 ++ dktX4_drifts_5
def dkwX4_drifts_3 : List UInt8 := [21, 4, 154, 0, 26, 42, 21, 6, 182, 0, 178, 153, 0, 17, 4, 54, 4, 42, 180, 0, 13, 16, 56, 92]
abbrev dktX4_drifts_3 : List UInt8 := dkwX4_drifts_3 ++ dktX4_drifts_4
def dkwX4_drifts_2 : List UInt8 := [184, 0, 171, 153, 0, 13, 42, 27, 21, 6, 182, 0, 174, 153, 0, 7, 4, 167, 0, 4, 3, 54, 4]
abbrev dktX4_drifts_2 : List UInt8 := dkwX4_drifts_2 ++ dktX4_drifts_3
def dkwX4_drifts_1 : List UInt8 := [28, 184, 0, 159, 162, 0, 99, 21, 4, 154, 0, 94, 42, 27, 182, 0, 156, 29, 96, 54, 6, 21, 6]
abbrev dktX4_drifts_1 : List UInt8 := dkwX4_drifts_1 ++ dktX4_drifts_2
def dkwX4_drifts_0 : List UInt8 := [42, 27, 182, 0, 168, 61, 28, 156, 0, 7, 2, 167, 0, 4, 4, 62, 3, 54, 4, 3, 54, 5, 21, 5]
abbrev dktX4_drifts_0 : List UInt8 := dkwX4_drifts_0 ++ dktX4_drifts_1
theorem dksX4_drifts_0 : cX4_drifts.data.toList.drop 0 = dktX4_drifts_0 := by decide +kernel
theorem dksX4_drifts_1 : cX4_drifts.data.toList.drop 24 = dktX4_drifts_1 := dk_seg dksX4_drifts_0 24 rfl rfl
theorem dksX4_drifts_2 : cX4_drifts.data.toList.drop 47 = dktX4_drifts_2 := dk_seg dksX4_drifts_1 23 rfl rfl
theorem dksX4_drifts_3 : cX4_drifts.data.toList.drop 70 = dktX4_drifts_3 := dk_seg dksX4_drifts_2 23 rfl rfl
theorem dksX4_drifts_4 : cX4_drifts.data.toList.drop 94 = dktX4_drifts_4 := dk_seg dksX4_drifts_3 24 rfl rfl
theorem dksX4_drifts_5 : cX4_drifts.data.toList.drop 118 = dktX4_drifts_5 := dk_seg dksX4_drifts_4 24 rfl rfl
theorem dX4_drifts_0 : decode cX4_drifts 0 = .ok (.aload_n 0, 1) := dk_42 (dk_at dksX4_drifts_0 0 rfl rfl)
theorem dX4_drifts_1 : decode cX4_drifts 1 = .ok (.iload_n 1, 1) := dk_27 (dk_at dksX4_drifts_0 1 rfl rfl)
theorem dX4_drifts_2 : decode cX4_drifts 2 = .ok (.invokevirtual 168, 3) := dk_182 0 168 (dk_at dksX4_drifts_0 2 rfl rfl)
theorem dX4_drifts_5 : decode cX4_drifts 5 = .ok (.istore_n 2, 1) := dk_61 (dk_at dksX4_drifts_0 5 rfl rfl)
theorem dX4_drifts_6 : decode cX4_drifts 6 = .ok (.iload_n 2, 1) := dk_28 (dk_at dksX4_drifts_0 6 rfl rfl)
theorem dX4_drifts_7 : decode cX4_drifts 7 = .ok (.ifCond .ge 7, 3) := dk_156 0 7 (dk_at dksX4_drifts_0 7 rfl rfl)
theorem dX4_drifts_10 : decode cX4_drifts 10 = .ok (.iconst (-1), 1) := dk_2 (dk_at dksX4_drifts_0 10 rfl rfl)
theorem dX4_drifts_11 : decode cX4_drifts 11 = .ok (.goto 4, 3) := dk_167 0 4 (dk_at dksX4_drifts_0 11 rfl rfl)
theorem dX4_drifts_14 : decode cX4_drifts 14 = .ok (.iconst 1, 1) := dk_4 (dk_at dksX4_drifts_0 14 rfl rfl)
theorem dX4_drifts_15 : decode cX4_drifts 15 = .ok (.istore_n 3, 1) := dk_62 (dk_at dksX4_drifts_0 15 rfl rfl)
theorem dX4_drifts_16 : decode cX4_drifts 16 = .ok (.iconst 0, 1) := dk_3 (dk_at dksX4_drifts_0 16 rfl rfl)
theorem dX4_drifts_17 : decode cX4_drifts 17 = .ok (.istore 4, 2) := dk_54 4 (dk_at dksX4_drifts_0 17 rfl rfl)
theorem dX4_drifts_19 : decode cX4_drifts 19 = .ok (.iconst 0, 1) := dk_3 (dk_at dksX4_drifts_0 19 rfl rfl)
theorem dX4_drifts_20 : decode cX4_drifts 20 = .ok (.istore 5, 2) := dk_54 5 (dk_at dksX4_drifts_0 20 rfl rfl)
theorem dX4_drifts_22 : decode cX4_drifts 22 = .ok (.iload 5, 2) := dk_21 5 (dk_at dksX4_drifts_0 22 rfl rfl)
theorem dX4_drifts_24 : decode cX4_drifts 24 = .ok (.iload_n 2, 1) := dk_28 (dk_at dksX4_drifts_1 0 rfl rfl)
theorem dX4_drifts_25 : decode cX4_drifts 25 = .ok (.invokestatic 159, 3) := dk_184 0 159 (dk_at dksX4_drifts_1 1 rfl rfl)
theorem dX4_drifts_28 : decode cX4_drifts 28 = .ok (.if_icmp .ge 99, 3) := dk_162 0 99 (dk_at dksX4_drifts_1 4 rfl rfl)
theorem dX4_drifts_31 : decode cX4_drifts 31 = .ok (.iload 4, 2) := dk_21 4 (dk_at dksX4_drifts_1 7 rfl rfl)
theorem dX4_drifts_33 : decode cX4_drifts 33 = .ok (.ifCond .ne 94, 3) := dk_154 0 94 (dk_at dksX4_drifts_1 9 rfl rfl)
theorem dX4_drifts_36 : decode cX4_drifts 36 = .ok (.aload_n 0, 1) := dk_42 (dk_at dksX4_drifts_1 12 rfl rfl)
theorem dX4_drifts_37 : decode cX4_drifts 37 = .ok (.iload_n 1, 1) := dk_27 (dk_at dksX4_drifts_1 13 rfl rfl)
theorem dX4_drifts_38 : decode cX4_drifts 38 = .ok (.invokevirtual 156, 3) := dk_182 0 156 (dk_at dksX4_drifts_1 14 rfl rfl)
theorem dX4_drifts_41 : decode cX4_drifts 41 = .ok (.iload_n 3, 1) := dk_29 (dk_at dksX4_drifts_1 17 rfl rfl)
theorem dX4_drifts_42 : decode cX4_drifts 42 = .ok (.iadd, 1) := dk_96 (dk_at dksX4_drifts_1 18 rfl rfl)
theorem dX4_drifts_43 : decode cX4_drifts 43 = .ok (.istore 6, 2) := dk_54 6 (dk_at dksX4_drifts_1 19 rfl rfl)
theorem dX4_drifts_45 : decode cX4_drifts 45 = .ok (.iload 6, 2) := dk_21 6 (dk_at dksX4_drifts_1 21 rfl rfl)
theorem dX4_drifts_47 : decode cX4_drifts 47 = .ok (.invokestatic 171, 3) := dk_184 0 171 (dk_at dksX4_drifts_2 0 rfl rfl)
theorem dX4_drifts_50 : decode cX4_drifts 50 = .ok (.ifCond .eq 13, 3) := dk_153 0 13 (dk_at dksX4_drifts_2 3 rfl rfl)
theorem dX4_drifts_53 : decode cX4_drifts 53 = .ok (.aload_n 0, 1) := dk_42 (dk_at dksX4_drifts_2 6 rfl rfl)
theorem dX4_drifts_54 : decode cX4_drifts 54 = .ok (.iload_n 1, 1) := dk_27 (dk_at dksX4_drifts_2 7 rfl rfl)
theorem dX4_drifts_55 : decode cX4_drifts 55 = .ok (.iload 6, 2) := dk_21 6 (dk_at dksX4_drifts_2 8 rfl rfl)
theorem dX4_drifts_57 : decode cX4_drifts 57 = .ok (.invokevirtual 174, 3) := dk_182 0 174 (dk_at dksX4_drifts_2 10 rfl rfl)
theorem dX4_drifts_60 : decode cX4_drifts 60 = .ok (.ifCond .eq 7, 3) := dk_153 0 7 (dk_at dksX4_drifts_2 13 rfl rfl)
theorem dX4_drifts_63 : decode cX4_drifts 63 = .ok (.iconst 1, 1) := dk_4 (dk_at dksX4_drifts_2 16 rfl rfl)
theorem dX4_drifts_64 : decode cX4_drifts 64 = .ok (.goto 4, 3) := dk_167 0 4 (dk_at dksX4_drifts_2 17 rfl rfl)
theorem dX4_drifts_67 : decode cX4_drifts 67 = .ok (.iconst 0, 1) := dk_3 (dk_at dksX4_drifts_2 20 rfl rfl)
theorem dX4_drifts_68 : decode cX4_drifts 68 = .ok (.istore 4, 2) := dk_54 4 (dk_at dksX4_drifts_2 21 rfl rfl)
theorem dX4_drifts_70 : decode cX4_drifts 70 = .ok (.iload 4, 2) := dk_21 4 (dk_at dksX4_drifts_3 0 rfl rfl)
theorem dX4_drifts_72 : decode cX4_drifts 72 = .ok (.ifCond .ne 26, 3) := dk_154 0 26 (dk_at dksX4_drifts_3 2 rfl rfl)
theorem dX4_drifts_75 : decode cX4_drifts 75 = .ok (.aload_n 0, 1) := dk_42 (dk_at dksX4_drifts_3 5 rfl rfl)
theorem dX4_drifts_76 : decode cX4_drifts 76 = .ok (.iload 6, 2) := dk_21 6 (dk_at dksX4_drifts_3 6 rfl rfl)
theorem dX4_drifts_78 : decode cX4_drifts 78 = .ok (.invokevirtual 178, 3) := dk_182 0 178 (dk_at dksX4_drifts_3 8 rfl rfl)
theorem dX4_drifts_81 : decode cX4_drifts 81 = .ok (.ifCond .eq 17, 3) := dk_153 0 17 (dk_at dksX4_drifts_3 11 rfl rfl)
theorem dX4_drifts_84 : decode cX4_drifts 84 = .ok (.iconst 1, 1) := dk_4 (dk_at dksX4_drifts_3 14 rfl rfl)
theorem dX4_drifts_85 : decode cX4_drifts 85 = .ok (.istore 4, 2) := dk_54 4 (dk_at dksX4_drifts_3 15 rfl rfl)
theorem dX4_drifts_87 : decode cX4_drifts 87 = .ok (.aload_n 0, 1) := dk_42 (dk_at dksX4_drifts_3 17 rfl rfl)
theorem dX4_drifts_88 : decode cX4_drifts 88 = .ok (.getfield 13, 3) := dk_180 0 13 (dk_at dksX4_drifts_3 18 rfl rfl)
theorem dX4_drifts_91 : decode cX4_drifts 91 = .ok (.bipush 56, 2) := dk_16 56 (dk_at dksX4_drifts_3 21 rfl rfl)
theorem dX4_drifts_93 : decode cX4_drifts 93 = .ok (.dup2, 1) := dk_92 (dk_at dksX4_drifts_3 23 rfl rfl)
theorem dX4_drifts_94 : decode cX4_drifts 94 = .ok (.iaload, 1) := dk_46 (dk_at dksX4_drifts_4 0 rfl rfl)
theorem dX4_drifts_95 : decode cX4_drifts 95 = .ok (.iconst 1, 1) := dk_4 (dk_at dksX4_drifts_4 1 rfl rfl)
theorem dX4_drifts_96 : decode cX4_drifts 96 = .ok (.iadd, 1) := dk_96 (dk_at dksX4_drifts_4 2 rfl rfl)
theorem dX4_drifts_97 : decode cX4_drifts 97 = .ok (.iastore, 1) := dk_79 (dk_at dksX4_drifts_4 3 rfl rfl)
theorem dX4_drifts_98 : decode cX4_drifts 98 = .ok (.aload_n 0, 1) := dk_42 (dk_at dksX4_drifts_4 4 rfl rfl)
theorem dX4_drifts_99 : decode cX4_drifts 99 = .ok (.getfield 13, 3) := dk_180 0 13 (dk_at dksX4_drifts_4 5 rfl rfl)
theorem dX4_drifts_102 : decode cX4_drifts 102 = .ok (.iconst 2, 1) := dk_5 (dk_at dksX4_drifts_4 8 rfl rfl)
theorem dX4_drifts_103 : decode cX4_drifts 103 = .ok (.iload_n 1, 1) := dk_27 (dk_at dksX4_drifts_4 9 rfl rfl)
theorem dX4_drifts_104 : decode cX4_drifts 104 = .ok (.imul, 1) := dk_104 (dk_at dksX4_drifts_4 10 rfl rfl)
theorem dX4_drifts_105 : decode cX4_drifts 105 = .ok (.iconst 1, 1) := dk_4 (dk_at dksX4_drifts_4 11 rfl rfl)
theorem dX4_drifts_106 : decode cX4_drifts 106 = .ok (.iadd, 1) := dk_96 (dk_at dksX4_drifts_4 12 rfl rfl)
theorem dX4_drifts_107 : decode cX4_drifts 107 = .ok (.dup2, 1) := dk_92 (dk_at dksX4_drifts_4 13 rfl rfl)
theorem dX4_drifts_108 : decode cX4_drifts 108 = .ok (.iaload, 1) := dk_46 (dk_at dksX4_drifts_4 14 rfl rfl)
theorem dX4_drifts_109 : decode cX4_drifts 109 = .ok (.iload 4, 2) := dk_21 4 (dk_at dksX4_drifts_4 15 rfl rfl)
theorem dX4_drifts_111 : decode cX4_drifts 111 = .ok (.ifCond .eq 7, 3) := dk_153 0 7 (dk_at dksX4_drifts_4 17 rfl rfl)
theorem dX4_drifts_114 : decode cX4_drifts 114 = .ok (.iconst 0, 1) := dk_3 (dk_at dksX4_drifts_4 20 rfl rfl)
theorem dX4_drifts_115 : decode cX4_drifts 115 = .ok (.goto 4, 3) := dk_167 0 4 (dk_at dksX4_drifts_4 21 rfl rfl)
theorem dX4_drifts_118 : decode cX4_drifts 118 = .ok (.iload_n 3, 1) := dk_29 (dk_at dksX4_drifts_5 0 rfl rfl)
theorem dX4_drifts_119 : decode cX4_drifts 119 = .ok (.iadd, 1) := dk_96 (dk_at dksX4_drifts_5 1 rfl rfl)
theorem dX4_drifts_120 : decode cX4_drifts 120 = .ok (.iastore, 1) := dk_79 (dk_at dksX4_drifts_5 2 rfl rfl)
theorem dX4_drifts_121 : decode cX4_drifts 121 = .ok (.iinc 5 1, 3) := dk_132 5 1 (dk_at dksX4_drifts_5 3 rfl rfl)
theorem dX4_drifts_124 : decode cX4_drifts 124 = .ok (.goto (-102), 3) := dk_167 255 154 (dk_at dksX4_drifts_5 6 rfl rfl)
theorem dX4_drifts_127 : decode cX4_drifts 127 = .ok (.return_, 1) := dk_177 (dk_at dksX4_drifts_5 9 rfl rfl)
abbrev cX4_bumpsSince : ByteArray := prog_12_method_46_code
def yX4_bumpsSince : MethodName := ⟨RX4, "bumpsSince", "()I"⟩
def dkwX4_bumpsSince_0 : List UInt8 := [42, 180, 0, 13, 16, 56, 46, 42, 180, 0, 7, 16, 56, 46, 100, 172]
abbrev dktX4_bumpsSince_0 : List UInt8 := dkwX4_bumpsSince_0 ++ []
theorem dksX4_bumpsSince_0 : cX4_bumpsSince.data.toList.drop 0 = dktX4_bumpsSince_0 := by decide +kernel
theorem dX4_bumpsSince_0 : decode cX4_bumpsSince 0 = .ok (.aload_n 0, 1) := dk_42 (dk_at dksX4_bumpsSince_0 0 rfl rfl)
theorem dX4_bumpsSince_1 : decode cX4_bumpsSince 1 = .ok (.getfield 13, 3) := dk_180 0 13 (dk_at dksX4_bumpsSince_0 1 rfl rfl)
theorem dX4_bumpsSince_4 : decode cX4_bumpsSince 4 = .ok (.bipush 56, 2) := dk_16 56 (dk_at dksX4_bumpsSince_0 4 rfl rfl)
theorem dX4_bumpsSince_6 : decode cX4_bumpsSince 6 = .ok (.iaload, 1) := dk_46 (dk_at dksX4_bumpsSince_0 6 rfl rfl)
theorem dX4_bumpsSince_7 : decode cX4_bumpsSince 7 = .ok (.aload_n 0, 1) := dk_42 (dk_at dksX4_bumpsSince_0 7 rfl rfl)
theorem dX4_bumpsSince_8 : decode cX4_bumpsSince 8 = .ok (.getfield 7, 3) := dk_180 0 7 (dk_at dksX4_bumpsSince_0 8 rfl rfl)
theorem dX4_bumpsSince_11 : decode cX4_bumpsSince 11 = .ok (.bipush 56, 2) := dk_16 56 (dk_at dksX4_bumpsSince_0 11 rfl rfl)
theorem dX4_bumpsSince_13 : decode cX4_bumpsSince 13 = .ok (.iaload, 1) := dk_46 (dk_at dksX4_bumpsSince_0 13 rfl rfl)
theorem dX4_bumpsSince_14 : decode cX4_bumpsSince 14 = .ok (.isub, 1) := dk_100 (dk_at dksX4_bumpsSince_0 14 rfl rfl)
theorem dX4_bumpsSince_15 : decode cX4_bumpsSince 15 = .ok (.ireturn, 1) := dk_172 (dk_at dksX4_bumpsSince_0 15 rfl rfl)
abbrev cX4_runs : ByteArray := prog_12_method_63_code
def yX4_runs : MethodName := ⟨RX4, "runs", "(II)I"⟩
def dkwX4_runs_6 : List UInt8 := [160, 0, 7, 29, 167, 0, 5, 21, 4, 172]
abbrev dktX4_runs_6 : List UInt8 := dkwX4_runs_6 ++ []
def dkwX4_runs_5 : List UInt8 := [154, 0, 10, 42, 182, 0, 197, 167, 0, 26, 28, 4, 160, 0, 10, 42, 182, 0, 234, 167, 0, 14, 28, 5]
abbrev dktX4_runs_5 : List UInt8 := dkwX4_runs_5 ++ dktX4_runs_6
def dkwX4_runs_4 : List UInt8 := [46, 159, 0, 7, 4, 167, 0, 4, 3, 184, 0, 200, 96, 54, 4, 132, 5, 1, 167, 255, 211, 28]
abbrev dktX4_runs_4 : List UInt8 := dkwX4_runs_4 ++ dktX4_runs_5
def dkwX4_runs_3 : List UInt8 := [180, 0, 64, 162, 0, 42, 21, 4, 42, 21, 5, 182, 0, 156, 42, 180, 0, 7, 5, 21, 5, 104, 4, 96]
abbrev dktX4_runs_3 : List UInt8 := dkwX4_runs_3 ++ dktX4_runs_4
def dkwX4_runs_2 : List UInt8 := [182, 0, 190, 29, 42, 182, 0, 197, 184, 0, 242, 62, 132, 5, 1, 167, 255, 233, 3, 54, 5, 21, 5, 42]
abbrev dktX4_runs_2 : List UInt8 := dkwX4_runs_2 ++ dktX4_runs_3
def dkwX4_runs_1 : List UInt8 := [182, 0, 194, 42, 182, 0, 197, 62, 3, 54, 4, 3, 54, 5, 21, 5, 27, 162, 0, 23, 42, 3]
abbrev dktX4_runs_1 : List UInt8 := dkwX4_runs_1 ++ dktX4_runs_2
def dkwX4_runs_0 : List UInt8 := [27, 184, 0, 239, 153, 0, 15, 28, 133, 9, 20, 0, 215, 184, 0, 69, 154, 0, 5, 2, 172, 42]
abbrev dktX4_runs_0 : List UInt8 := dkwX4_runs_0 ++ dktX4_runs_1
theorem dksX4_runs_0 : cX4_runs.data.toList.drop 0 = dktX4_runs_0 := by decide +kernel
theorem dksX4_runs_1 : cX4_runs.data.toList.drop 22 = dktX4_runs_1 := dk_seg dksX4_runs_0 22 rfl rfl
theorem dksX4_runs_2 : cX4_runs.data.toList.drop 44 = dktX4_runs_2 := dk_seg dksX4_runs_1 22 rfl rfl
theorem dksX4_runs_3 : cX4_runs.data.toList.drop 68 = dktX4_runs_3 := dk_seg dksX4_runs_2 24 rfl rfl
theorem dksX4_runs_4 : cX4_runs.data.toList.drop 92 = dktX4_runs_4 := dk_seg dksX4_runs_3 24 rfl rfl
theorem dksX4_runs_5 : cX4_runs.data.toList.drop 114 = dktX4_runs_5 := dk_seg dksX4_runs_4 22 rfl rfl
theorem dksX4_runs_6 : cX4_runs.data.toList.drop 138 = dktX4_runs_6 := dk_seg dksX4_runs_5 24 rfl rfl
theorem dX4_runs_0 : decode cX4_runs 0 = .ok (.iload_n 1, 1) := dk_27 (dk_at dksX4_runs_0 0 rfl rfl)
theorem dX4_runs_1 : decode cX4_runs 1 = .ok (.invokestatic 239, 3) := dk_184 0 239 (dk_at dksX4_runs_0 1 rfl rfl)
theorem dX4_runs_4 : decode cX4_runs 4 = .ok (.ifCond .eq 15, 3) := dk_153 0 15 (dk_at dksX4_runs_0 4 rfl rfl)
theorem dX4_runs_7 : decode cX4_runs 7 = .ok (.iload_n 2, 1) := dk_28 (dk_at dksX4_runs_0 7 rfl rfl)
theorem dX4_runs_8 : decode cX4_runs 8 = .ok (.i2l, 1) := dk_133 (dk_at dksX4_runs_0 8 rfl rfl)
theorem dX4_runs_9 : decode cX4_runs 9 = .ok (.lconst 0, 1) := dk_9 (dk_at dksX4_runs_0 9 rfl rfl)
theorem dX4_runs_10 : decode cX4_runs 10 = .ok (.ldc2_w 215, 3) := dk_20 0 215 (dk_at dksX4_runs_0 10 rfl rfl)
theorem dX4_runs_13 : decode cX4_runs 13 = .ok (.invokestatic 69, 3) := dk_184 0 69 (dk_at dksX4_runs_0 13 rfl rfl)
theorem dX4_runs_16 : decode cX4_runs 16 = .ok (.ifCond .ne 5, 3) := dk_154 0 5 (dk_at dksX4_runs_0 16 rfl rfl)
theorem dX4_runs_19 : decode cX4_runs 19 = .ok (.iconst (-1), 1) := dk_2 (dk_at dksX4_runs_0 19 rfl rfl)
theorem dX4_runs_20 : decode cX4_runs 20 = .ok (.ireturn, 1) := dk_172 (dk_at dksX4_runs_0 20 rfl rfl)
theorem dX4_runs_21 : decode cX4_runs 21 = .ok (.aload_n 0, 1) := dk_42 (dk_at dksX4_runs_0 21 rfl rfl)
theorem dX4_runs_22 : decode cX4_runs 22 = .ok (.invokevirtual 194, 3) := dk_182 0 194 (dk_at dksX4_runs_1 0 rfl rfl)
theorem dX4_runs_25 : decode cX4_runs 25 = .ok (.aload_n 0, 1) := dk_42 (dk_at dksX4_runs_1 3 rfl rfl)
theorem dX4_runs_26 : decode cX4_runs 26 = .ok (.invokevirtual 197, 3) := dk_182 0 197 (dk_at dksX4_runs_1 4 rfl rfl)
theorem dX4_runs_29 : decode cX4_runs 29 = .ok (.istore_n 3, 1) := dk_62 (dk_at dksX4_runs_1 7 rfl rfl)
theorem dX4_runs_30 : decode cX4_runs 30 = .ok (.iconst 0, 1) := dk_3 (dk_at dksX4_runs_1 8 rfl rfl)
theorem dX4_runs_31 : decode cX4_runs 31 = .ok (.istore 4, 2) := dk_54 4 (dk_at dksX4_runs_1 9 rfl rfl)
theorem dX4_runs_33 : decode cX4_runs 33 = .ok (.iconst 0, 1) := dk_3 (dk_at dksX4_runs_1 11 rfl rfl)
theorem dX4_runs_34 : decode cX4_runs 34 = .ok (.istore 5, 2) := dk_54 5 (dk_at dksX4_runs_1 12 rfl rfl)
theorem dX4_runs_36 : decode cX4_runs 36 = .ok (.iload 5, 2) := dk_21 5 (dk_at dksX4_runs_1 14 rfl rfl)
theorem dX4_runs_38 : decode cX4_runs 38 = .ok (.iload_n 1, 1) := dk_27 (dk_at dksX4_runs_1 16 rfl rfl)
theorem dX4_runs_39 : decode cX4_runs 39 = .ok (.if_icmp .ge 23, 3) := dk_162 0 23 (dk_at dksX4_runs_1 17 rfl rfl)
theorem dX4_runs_42 : decode cX4_runs 42 = .ok (.aload_n 0, 1) := dk_42 (dk_at dksX4_runs_1 20 rfl rfl)
theorem dX4_runs_43 : decode cX4_runs 43 = .ok (.iconst 0, 1) := dk_3 (dk_at dksX4_runs_1 21 rfl rfl)
theorem dX4_runs_44 : decode cX4_runs 44 = .ok (.invokevirtual 190, 3) := dk_182 0 190 (dk_at dksX4_runs_2 0 rfl rfl)
theorem dX4_runs_47 : decode cX4_runs 47 = .ok (.iload_n 3, 1) := dk_29 (dk_at dksX4_runs_2 3 rfl rfl)
theorem dX4_runs_48 : decode cX4_runs 48 = .ok (.aload_n 0, 1) := dk_42 (dk_at dksX4_runs_2 4 rfl rfl)
theorem dX4_runs_49 : decode cX4_runs 49 = .ok (.invokevirtual 197, 3) := dk_182 0 197 (dk_at dksX4_runs_2 5 rfl rfl)
theorem dX4_runs_52 : decode cX4_runs 52 = .ok (.invokestatic 242, 3) := dk_184 0 242 (dk_at dksX4_runs_2 8 rfl rfl)
theorem dX4_runs_55 : decode cX4_runs 55 = .ok (.istore_n 3, 1) := dk_62 (dk_at dksX4_runs_2 11 rfl rfl)
theorem dX4_runs_56 : decode cX4_runs 56 = .ok (.iinc 5 1, 3) := dk_132 5 1 (dk_at dksX4_runs_2 12 rfl rfl)
theorem dX4_runs_59 : decode cX4_runs 59 = .ok (.goto (-23), 3) := dk_167 255 233 (dk_at dksX4_runs_2 15 rfl rfl)
theorem dX4_runs_62 : decode cX4_runs 62 = .ok (.iconst 0, 1) := dk_3 (dk_at dksX4_runs_2 18 rfl rfl)
theorem dX4_runs_63 : decode cX4_runs 63 = .ok (.istore 5, 2) := dk_54 5 (dk_at dksX4_runs_2 19 rfl rfl)
theorem dX4_runs_65 : decode cX4_runs 65 = .ok (.iload 5, 2) := dk_21 5 (dk_at dksX4_runs_2 21 rfl rfl)
theorem dX4_runs_67 : decode cX4_runs 67 = .ok (.aload_n 0, 1) := dk_42 (dk_at dksX4_runs_2 23 rfl rfl)
theorem dX4_runs_68 : decode cX4_runs 68 = .ok (.getfield 64, 3) := dk_180 0 64 (dk_at dksX4_runs_3 0 rfl rfl)
theorem dX4_runs_71 : decode cX4_runs 71 = .ok (.if_icmp .ge 42, 3) := dk_162 0 42 (dk_at dksX4_runs_3 3 rfl rfl)
theorem dX4_runs_74 : decode cX4_runs 74 = .ok (.iload 4, 2) := dk_21 4 (dk_at dksX4_runs_3 6 rfl rfl)
theorem dX4_runs_76 : decode cX4_runs 76 = .ok (.aload_n 0, 1) := dk_42 (dk_at dksX4_runs_3 8 rfl rfl)
theorem dX4_runs_77 : decode cX4_runs 77 = .ok (.iload 5, 2) := dk_21 5 (dk_at dksX4_runs_3 9 rfl rfl)
theorem dX4_runs_79 : decode cX4_runs 79 = .ok (.invokevirtual 156, 3) := dk_182 0 156 (dk_at dksX4_runs_3 11 rfl rfl)
theorem dX4_runs_82 : decode cX4_runs 82 = .ok (.aload_n 0, 1) := dk_42 (dk_at dksX4_runs_3 14 rfl rfl)
theorem dX4_runs_83 : decode cX4_runs 83 = .ok (.getfield 7, 3) := dk_180 0 7 (dk_at dksX4_runs_3 15 rfl rfl)
theorem dX4_runs_86 : decode cX4_runs 86 = .ok (.iconst 2, 1) := dk_5 (dk_at dksX4_runs_3 18 rfl rfl)
theorem dX4_runs_87 : decode cX4_runs 87 = .ok (.iload 5, 2) := dk_21 5 (dk_at dksX4_runs_3 19 rfl rfl)
theorem dX4_runs_89 : decode cX4_runs 89 = .ok (.imul, 1) := dk_104 (dk_at dksX4_runs_3 21 rfl rfl)
theorem dX4_runs_90 : decode cX4_runs 90 = .ok (.iconst 1, 1) := dk_4 (dk_at dksX4_runs_3 22 rfl rfl)
theorem dX4_runs_91 : decode cX4_runs 91 = .ok (.iadd, 1) := dk_96 (dk_at dksX4_runs_3 23 rfl rfl)
theorem dX4_runs_92 : decode cX4_runs 92 = .ok (.iaload, 1) := dk_46 (dk_at dksX4_runs_4 0 rfl rfl)
theorem dX4_runs_93 : decode cX4_runs 93 = .ok (.if_icmp .eq 7, 3) := dk_159 0 7 (dk_at dksX4_runs_4 1 rfl rfl)
theorem dX4_runs_96 : decode cX4_runs 96 = .ok (.iconst 1, 1) := dk_4 (dk_at dksX4_runs_4 4 rfl rfl)
theorem dX4_runs_97 : decode cX4_runs 97 = .ok (.goto 4, 3) := dk_167 0 4 (dk_at dksX4_runs_4 5 rfl rfl)
theorem dX4_runs_100 : decode cX4_runs 100 = .ok (.iconst 0, 1) := dk_3 (dk_at dksX4_runs_4 8 rfl rfl)
theorem dX4_runs_101 : decode cX4_runs 101 = .ok (.invokestatic 200, 3) := dk_184 0 200 (dk_at dksX4_runs_4 9 rfl rfl)
theorem dX4_runs_104 : decode cX4_runs 104 = .ok (.iadd, 1) := dk_96 (dk_at dksX4_runs_4 12 rfl rfl)
theorem dX4_runs_105 : decode cX4_runs 105 = .ok (.istore 4, 2) := dk_54 4 (dk_at dksX4_runs_4 13 rfl rfl)
theorem dX4_runs_107 : decode cX4_runs 107 = .ok (.iinc 5 1, 3) := dk_132 5 1 (dk_at dksX4_runs_4 15 rfl rfl)
theorem dX4_runs_110 : decode cX4_runs 110 = .ok (.goto (-45), 3) := dk_167 255 211 (dk_at dksX4_runs_4 18 rfl rfl)
theorem dX4_runs_113 : decode cX4_runs 113 = .ok (.iload_n 2, 1) := dk_28 (dk_at dksX4_runs_4 21 rfl rfl)
theorem dX4_runs_114 : decode cX4_runs 114 = .ok (.ifCond .ne 10, 3) := dk_154 0 10 (dk_at dksX4_runs_5 0 rfl rfl)
theorem dX4_runs_117 : decode cX4_runs 117 = .ok (.aload_n 0, 1) := dk_42 (dk_at dksX4_runs_5 3 rfl rfl)
theorem dX4_runs_118 : decode cX4_runs 118 = .ok (.invokevirtual 197, 3) := dk_182 0 197 (dk_at dksX4_runs_5 4 rfl rfl)
theorem dX4_runs_121 : decode cX4_runs 121 = .ok (.goto 26, 3) := dk_167 0 26 (dk_at dksX4_runs_5 7 rfl rfl)
theorem dX4_runs_124 : decode cX4_runs 124 = .ok (.iload_n 2, 1) := dk_28 (dk_at dksX4_runs_5 10 rfl rfl)
theorem dX4_runs_125 : decode cX4_runs 125 = .ok (.iconst 1, 1) := dk_4 (dk_at dksX4_runs_5 11 rfl rfl)
theorem dX4_runs_126 : decode cX4_runs 126 = .ok (.if_icmp .ne 10, 3) := dk_160 0 10 (dk_at dksX4_runs_5 12 rfl rfl)
theorem dX4_runs_129 : decode cX4_runs 129 = .ok (.aload_n 0, 1) := dk_42 (dk_at dksX4_runs_5 15 rfl rfl)
theorem dX4_runs_130 : decode cX4_runs 130 = .ok (.invokevirtual 234, 3) := dk_182 0 234 (dk_at dksX4_runs_5 16 rfl rfl)
theorem dX4_runs_133 : decode cX4_runs 133 = .ok (.goto 14, 3) := dk_167 0 14 (dk_at dksX4_runs_5 19 rfl rfl)
theorem dX4_runs_136 : decode cX4_runs 136 = .ok (.iload_n 2, 1) := dk_28 (dk_at dksX4_runs_5 22 rfl rfl)
theorem dX4_runs_137 : decode cX4_runs 137 = .ok (.iconst 2, 1) := dk_5 (dk_at dksX4_runs_5 23 rfl rfl)
theorem dX4_runs_138 : decode cX4_runs 138 = .ok (.if_icmp .ne 7, 3) := dk_160 0 7 (dk_at dksX4_runs_6 0 rfl rfl)
theorem dX4_runs_141 : decode cX4_runs 141 = .ok (.iload_n 3, 1) := dk_29 (dk_at dksX4_runs_6 3 rfl rfl)
theorem dX4_runs_142 : decode cX4_runs 142 = .ok (.goto 5, 3) := dk_167 0 5 (dk_at dksX4_runs_6 4 rfl rfl)
theorem dX4_runs_145 : decode cX4_runs 145 = .ok (.iload 4, 2) := dk_21 4 (dk_at dksX4_runs_6 7 rfl rfl)
theorem dX4_runs_147 : decode cX4_runs 147 = .ok (.ireturn, 1) := dk_172 (dk_at dksX4_runs_6 9 rfl rfl)
abbrev cX4_isFar : ByteArray := prog_12_method_62_code
def yX4_isFar : MethodName := ⟨RX4, "isFar", "(I)Z"⟩
def dkwX4_isFar_0 : List UInt8 := [26, 133, 9, 20, 0, 237, 184, 0, 69, 172]
abbrev dktX4_isFar_0 : List UInt8 := dkwX4_isFar_0 ++ []
theorem dksX4_isFar_0 : cX4_isFar.data.toList.drop 0 = dktX4_isFar_0 := by decide +kernel
theorem dX4_isFar_0 : decode cX4_isFar 0 = .ok (.iload_n 0, 1) := dk_26 (dk_at dksX4_isFar_0 0 rfl rfl)
theorem dX4_isFar_1 : decode cX4_isFar 1 = .ok (.i2l, 1) := dk_133 (dk_at dksX4_isFar_0 1 rfl rfl)
theorem dX4_isFar_2 : decode cX4_isFar 2 = .ok (.lconst 0, 1) := dk_9 (dk_at dksX4_isFar_0 2 rfl rfl)
theorem dX4_isFar_3 : decode cX4_isFar 3 = .ok (.ldc2_w 237, 3) := dk_20 0 237 (dk_at dksX4_isFar_0 3 rfl rfl)
theorem dX4_isFar_6 : decode cX4_isFar 6 = .ok (.invokestatic 69, 3) := dk_184 0 69 (dk_at dksX4_isFar_0 6 rfl rfl)
theorem dX4_isFar_9 : decode cX4_isFar 9 = .ok (.ireturn, 1) := dk_172 (dk_at dksX4_isFar_0 9 rfl rfl)
abbrev cX4_lesser : ByteArray := prog_12_method_5_code
def yX4_lesser : MethodName := ⟨RX4, "lesser", "(II)I"⟩
def dkwX4_lesser_0 : List UInt8 := [26, 27, 162, 0, 7, 26, 167, 0, 4, 27, 172]
abbrev dktX4_lesser_0 : List UInt8 := dkwX4_lesser_0 ++ []
theorem dksX4_lesser_0 : cX4_lesser.data.toList.drop 0 = dktX4_lesser_0 := by decide +kernel
theorem dX4_lesser_0 : decode cX4_lesser 0 = .ok (.iload_n 0, 1) := dk_26 (dk_at dksX4_lesser_0 0 rfl rfl)
theorem dX4_lesser_1 : decode cX4_lesser 1 = .ok (.iload_n 1, 1) := dk_27 (dk_at dksX4_lesser_0 1 rfl rfl)
theorem dX4_lesser_2 : decode cX4_lesser 2 = .ok (.if_icmp .ge 7, 3) := dk_162 0 7 (dk_at dksX4_lesser_0 2 rfl rfl)
theorem dX4_lesser_5 : decode cX4_lesser 5 = .ok (.iload_n 0, 1) := dk_26 (dk_at dksX4_lesser_0 5 rfl rfl)
theorem dX4_lesser_6 : decode cX4_lesser 6 = .ok (.goto 4, 3) := dk_167 0 4 (dk_at dksX4_lesser_0 6 rfl rfl)
theorem dX4_lesser_9 : decode cX4_lesser 9 = .ok (.iload_n 1, 1) := dk_27 (dk_at dksX4_lesser_0 9 rfl rfl)
theorem dX4_lesser_10 : decode cX4_lesser 10 = .ok (.ireturn, 1) := dk_172 (dk_at dksX4_lesser_0 10 rfl rfl)
abbrev cX4_ahead : ByteArray := prog_12_method_64_code
def yX4_ahead : MethodName := ⟨RX4, "ahead", "(II)I"⟩
def dkwX4_ahead_1 : List UInt8 := [182, 0, 231, 42, 27, 182, 0, 156, 172]
abbrev dktX4_ahead_1 : List UInt8 := dkwX4_ahead_1 ++ []
def dkwX4_ahead_0 : List UInt8 := [42, 27, 182, 0, 151, 153, 0, 10, 28, 184, 0, 239, 154, 0, 5, 2, 172, 42, 182, 0, 194, 42, 28]
abbrev dktX4_ahead_0 : List UInt8 := dkwX4_ahead_0 ++ dktX4_ahead_1
theorem dksX4_ahead_0 : cX4_ahead.data.toList.drop 0 = dktX4_ahead_0 := by decide +kernel
theorem dksX4_ahead_1 : cX4_ahead.data.toList.drop 23 = dktX4_ahead_1 := dk_seg dksX4_ahead_0 23 rfl rfl
theorem dX4_ahead_0 : decode cX4_ahead 0 = .ok (.aload_n 0, 1) := dk_42 (dk_at dksX4_ahead_0 0 rfl rfl)
theorem dX4_ahead_1 : decode cX4_ahead 1 = .ok (.iload_n 1, 1) := dk_27 (dk_at dksX4_ahead_0 1 rfl rfl)
theorem dX4_ahead_2 : decode cX4_ahead 2 = .ok (.invokevirtual 151, 3) := dk_182 0 151 (dk_at dksX4_ahead_0 2 rfl rfl)
theorem dX4_ahead_5 : decode cX4_ahead 5 = .ok (.ifCond .eq 10, 3) := dk_153 0 10 (dk_at dksX4_ahead_0 5 rfl rfl)
theorem dX4_ahead_8 : decode cX4_ahead 8 = .ok (.iload_n 2, 1) := dk_28 (dk_at dksX4_ahead_0 8 rfl rfl)
theorem dX4_ahead_9 : decode cX4_ahead 9 = .ok (.invokestatic 239, 3) := dk_184 0 239 (dk_at dksX4_ahead_0 9 rfl rfl)
theorem dX4_ahead_12 : decode cX4_ahead 12 = .ok (.ifCond .ne 5, 3) := dk_154 0 5 (dk_at dksX4_ahead_0 12 rfl rfl)
theorem dX4_ahead_15 : decode cX4_ahead 15 = .ok (.iconst (-1), 1) := dk_2 (dk_at dksX4_ahead_0 15 rfl rfl)
theorem dX4_ahead_16 : decode cX4_ahead 16 = .ok (.ireturn, 1) := dk_172 (dk_at dksX4_ahead_0 16 rfl rfl)
theorem dX4_ahead_17 : decode cX4_ahead 17 = .ok (.aload_n 0, 1) := dk_42 (dk_at dksX4_ahead_0 17 rfl rfl)
theorem dX4_ahead_18 : decode cX4_ahead 18 = .ok (.invokevirtual 194, 3) := dk_182 0 194 (dk_at dksX4_ahead_0 18 rfl rfl)
theorem dX4_ahead_21 : decode cX4_ahead 21 = .ok (.aload_n 0, 1) := dk_42 (dk_at dksX4_ahead_0 21 rfl rfl)
theorem dX4_ahead_22 : decode cX4_ahead 22 = .ok (.iload_n 2, 1) := dk_28 (dk_at dksX4_ahead_0 22 rfl rfl)
theorem dX4_ahead_23 : decode cX4_ahead 23 = .ok (.invokevirtual 231, 3) := dk_182 0 231 (dk_at dksX4_ahead_1 0 rfl rfl)
theorem dX4_ahead_26 : decode cX4_ahead 26 = .ok (.aload_n 0, 1) := dk_42 (dk_at dksX4_ahead_1 3 rfl rfl)
theorem dX4_ahead_27 : decode cX4_ahead 27 = .ok (.iload_n 1, 1) := dk_27 (dk_at dksX4_ahead_1 4 rfl rfl)
theorem dX4_ahead_28 : decode cX4_ahead 28 = .ok (.invokevirtual 156, 3) := dk_182 0 156 (dk_at dksX4_ahead_1 5 rfl rfl)
theorem dX4_ahead_31 : decode cX4_ahead 31 = .ok (.ireturn, 1) := dk_172 (dk_at dksX4_ahead_1 8 rfl rfl)
abbrev cX4_within : ByteArray := prog_12_method_65_code
def yX4_within : MethodName := ⟨RX4, "within", "(I)I"⟩
def dkwX4_within_1 : List UInt8 := [182, 0, 197, 27, 163, 0, 5, 28, 172, 42, 3, 182, 0, 190, 132, 2, 1, 167, 255, 232, 16, 252, 172]
abbrev dktX4_within_1 : List UInt8 := dkwX4_within_1 ++ []
def dkwX4_within_0 : List UInt8 := [27, 184, 0, 171, 154, 0, 5, 2, 172, 42, 182, 0, 194, 3, 61, 28, 16, 60, 163, 0, 24, 42]
abbrev dktX4_within_0 : List UInt8 := dkwX4_within_0 ++ dktX4_within_1
theorem dksX4_within_0 : cX4_within.data.toList.drop 0 = dktX4_within_0 := by decide +kernel
theorem dksX4_within_1 : cX4_within.data.toList.drop 22 = dktX4_within_1 := dk_seg dksX4_within_0 22 rfl rfl
theorem dX4_within_0 : decode cX4_within 0 = .ok (.iload_n 1, 1) := dk_27 (dk_at dksX4_within_0 0 rfl rfl)
theorem dX4_within_1 : decode cX4_within 1 = .ok (.invokestatic 171, 3) := dk_184 0 171 (dk_at dksX4_within_0 1 rfl rfl)
theorem dX4_within_4 : decode cX4_within 4 = .ok (.ifCond .ne 5, 3) := dk_154 0 5 (dk_at dksX4_within_0 4 rfl rfl)
theorem dX4_within_7 : decode cX4_within 7 = .ok (.iconst (-1), 1) := dk_2 (dk_at dksX4_within_0 7 rfl rfl)
theorem dX4_within_8 : decode cX4_within 8 = .ok (.ireturn, 1) := dk_172 (dk_at dksX4_within_0 8 rfl rfl)
theorem dX4_within_9 : decode cX4_within 9 = .ok (.aload_n 0, 1) := dk_42 (dk_at dksX4_within_0 9 rfl rfl)
theorem dX4_within_10 : decode cX4_within 10 = .ok (.invokevirtual 194, 3) := dk_182 0 194 (dk_at dksX4_within_0 10 rfl rfl)
theorem dX4_within_13 : decode cX4_within 13 = .ok (.iconst 0, 1) := dk_3 (dk_at dksX4_within_0 13 rfl rfl)
theorem dX4_within_14 : decode cX4_within 14 = .ok (.istore_n 2, 1) := dk_61 (dk_at dksX4_within_0 14 rfl rfl)
theorem dX4_within_15 : decode cX4_within 15 = .ok (.iload_n 2, 1) := dk_28 (dk_at dksX4_within_0 15 rfl rfl)
theorem dX4_within_16 : decode cX4_within 16 = .ok (.bipush 60, 2) := dk_16 60 (dk_at dksX4_within_0 16 rfl rfl)
theorem dX4_within_18 : decode cX4_within 18 = .ok (.if_icmp .gt 24, 3) := dk_163 0 24 (dk_at dksX4_within_0 18 rfl rfl)
theorem dX4_within_21 : decode cX4_within 21 = .ok (.aload_n 0, 1) := dk_42 (dk_at dksX4_within_0 21 rfl rfl)
theorem dX4_within_22 : decode cX4_within 22 = .ok (.invokevirtual 197, 3) := dk_182 0 197 (dk_at dksX4_within_1 0 rfl rfl)
theorem dX4_within_25 : decode cX4_within 25 = .ok (.iload_n 1, 1) := dk_27 (dk_at dksX4_within_1 3 rfl rfl)
theorem dX4_within_26 : decode cX4_within 26 = .ok (.if_icmp .gt 5, 3) := dk_163 0 5 (dk_at dksX4_within_1 4 rfl rfl)
theorem dX4_within_29 : decode cX4_within 29 = .ok (.iload_n 2, 1) := dk_28 (dk_at dksX4_within_1 7 rfl rfl)
theorem dX4_within_30 : decode cX4_within 30 = .ok (.ireturn, 1) := dk_172 (dk_at dksX4_within_1 8 rfl rfl)
theorem dX4_within_31 : decode cX4_within 31 = .ok (.aload_n 0, 1) := dk_42 (dk_at dksX4_within_1 9 rfl rfl)
theorem dX4_within_32 : decode cX4_within 32 = .ok (.iconst 0, 1) := dk_3 (dk_at dksX4_within_1 10 rfl rfl)
theorem dX4_within_33 : decode cX4_within 33 = .ok (.invokevirtual 190, 3) := dk_182 0 190 (dk_at dksX4_within_1 11 rfl rfl)
theorem dX4_within_36 : decode cX4_within 36 = .ok (.iinc 2 1, 3) := dk_132 2 1 (dk_at dksX4_within_1 14 rfl rfl)
theorem dX4_within_39 : decode cX4_within 39 = .ok (.goto (-24), 3) := dk_167 255 232 (dk_at dksX4_within_1 17 rfl rfl)
theorem dX4_within_42 : decode cX4_within 42 = .ok (.bipush (-4), 2) := dk_16 252 (dk_at dksX4_within_1 20 rfl rfl)
theorem dX4_within_44 : decode cX4_within 44 = .ok (.ireturn, 1) := dk_172 (dk_at dksX4_within_1 22 rfl rfl)
abbrev cX4_match : ByteArray := prog_12_method_70_code
def yX4_match : MethodName := ⟨RX4, "match", "(II)I"⟩
def dkwX4_match_5 : List UInt8 := [42, 28, 182, 1, 8, 172]
abbrev dktX4_match_5 : List UInt8 := dkwX4_match_5 ++ []
def dkwX4_match_4 : List UInt8 := [21, 4, 96, 42, 16, 30, 182, 0, 254, 182, 1, 4, 132, 4, 1, 167, 255, 215, 132, 3, 1, 167, 255, 196]
abbrev dktX4_match_4 : List UInt8 := dkwX4_match_4 ++ dktX4_match_5
def dkwX4_match_3 : List UInt8 := [180, 0, 64, 162, 0, 38, 42, 182, 0, 194, 42, 29, 21, 4, 27, 182, 0, 222, 42, 16, 10, 29, 104]
abbrev dktX4_match_3 : List UInt8 := dkwX4_match_3 ++ dktX4_match_4
def dkwX4_match_2 : List UInt8 := [182, 0, 254, 182, 1, 1, 3, 62, 29, 42, 180, 0, 64, 162, 0, 58, 29, 4, 96, 54, 4, 21, 4, 42]
abbrev dktX4_match_2 : List UInt8 := dkwX4_match_2 ++ dktX4_match_3
def dkwX4_match_1 : List UInt8 := [180, 0, 7, 16, 53, 46, 16, 6, 160, 0, 6, 16, 253, 172, 42, 182, 0, 194, 42, 42, 16, 30]
abbrev dktX4_match_1 : List UInt8 := dkwX4_match_1 ++ dktX4_match_2
def dkwX4_match_0 : List UInt8 := [27, 133, 10, 20, 0, 220, 184, 0, 69, 153, 0, 10, 28, 184, 0, 251, 154, 0, 5, 2, 172, 42]
abbrev dktX4_match_0 : List UInt8 := dkwX4_match_0 ++ dktX4_match_1
theorem dksX4_match_0 : cX4_match.data.toList.drop 0 = dktX4_match_0 := by decide +kernel
theorem dksX4_match_1 : cX4_match.data.toList.drop 22 = dktX4_match_1 := dk_seg dksX4_match_0 22 rfl rfl
theorem dksX4_match_2 : cX4_match.data.toList.drop 44 = dktX4_match_2 := dk_seg dksX4_match_1 22 rfl rfl
theorem dksX4_match_3 : cX4_match.data.toList.drop 68 = dktX4_match_3 := dk_seg dksX4_match_2 24 rfl rfl
theorem dksX4_match_4 : cX4_match.data.toList.drop 91 = dktX4_match_4 := dk_seg dksX4_match_3 23 rfl rfl
theorem dksX4_match_5 : cX4_match.data.toList.drop 115 = dktX4_match_5 := dk_seg dksX4_match_4 24 rfl rfl
theorem dX4_match_0 : decode cX4_match 0 = .ok (.iload_n 1, 1) := dk_27 (dk_at dksX4_match_0 0 rfl rfl)
theorem dX4_match_1 : decode cX4_match 1 = .ok (.i2l, 1) := dk_133 (dk_at dksX4_match_0 1 rfl rfl)
theorem dX4_match_2 : decode cX4_match 2 = .ok (.lconst 1, 1) := dk_10 (dk_at dksX4_match_0 2 rfl rfl)
theorem dX4_match_3 : decode cX4_match 3 = .ok (.ldc2_w 220, 3) := dk_20 0 220 (dk_at dksX4_match_0 3 rfl rfl)
theorem dX4_match_6 : decode cX4_match 6 = .ok (.invokestatic 69, 3) := dk_184 0 69 (dk_at dksX4_match_0 6 rfl rfl)
theorem dX4_match_9 : decode cX4_match 9 = .ok (.ifCond .eq 10, 3) := dk_153 0 10 (dk_at dksX4_match_0 9 rfl rfl)
theorem dX4_match_12 : decode cX4_match 12 = .ok (.iload_n 2, 1) := dk_28 (dk_at dksX4_match_0 12 rfl rfl)
theorem dX4_match_13 : decode cX4_match 13 = .ok (.invokestatic 251, 3) := dk_184 0 251 (dk_at dksX4_match_0 13 rfl rfl)
theorem dX4_match_16 : decode cX4_match 16 = .ok (.ifCond .ne 5, 3) := dk_154 0 5 (dk_at dksX4_match_0 16 rfl rfl)
theorem dX4_match_19 : decode cX4_match 19 = .ok (.iconst (-1), 1) := dk_2 (dk_at dksX4_match_0 19 rfl rfl)
theorem dX4_match_20 : decode cX4_match 20 = .ok (.ireturn, 1) := dk_172 (dk_at dksX4_match_0 20 rfl rfl)
theorem dX4_match_21 : decode cX4_match 21 = .ok (.aload_n 0, 1) := dk_42 (dk_at dksX4_match_0 21 rfl rfl)
theorem dX4_match_22 : decode cX4_match 22 = .ok (.getfield 7, 3) := dk_180 0 7 (dk_at dksX4_match_1 0 rfl rfl)
theorem dX4_match_25 : decode cX4_match 25 = .ok (.bipush 53, 2) := dk_16 53 (dk_at dksX4_match_1 3 rfl rfl)
theorem dX4_match_27 : decode cX4_match 27 = .ok (.iaload, 1) := dk_46 (dk_at dksX4_match_1 5 rfl rfl)
theorem dX4_match_28 : decode cX4_match 28 = .ok (.bipush 6, 2) := dk_16 6 (dk_at dksX4_match_1 6 rfl rfl)
theorem dX4_match_30 : decode cX4_match 30 = .ok (.if_icmp .ne 6, 3) := dk_160 0 6 (dk_at dksX4_match_1 8 rfl rfl)
theorem dX4_match_33 : decode cX4_match 33 = .ok (.bipush (-3), 2) := dk_16 253 (dk_at dksX4_match_1 11 rfl rfl)
theorem dX4_match_35 : decode cX4_match 35 = .ok (.ireturn, 1) := dk_172 (dk_at dksX4_match_1 13 rfl rfl)
theorem dX4_match_36 : decode cX4_match 36 = .ok (.aload_n 0, 1) := dk_42 (dk_at dksX4_match_1 14 rfl rfl)
theorem dX4_match_37 : decode cX4_match 37 = .ok (.invokevirtual 194, 3) := dk_182 0 194 (dk_at dksX4_match_1 15 rfl rfl)
theorem dX4_match_40 : decode cX4_match 40 = .ok (.aload_n 0, 1) := dk_42 (dk_at dksX4_match_1 18 rfl rfl)
theorem dX4_match_41 : decode cX4_match 41 = .ok (.aload_n 0, 1) := dk_42 (dk_at dksX4_match_1 19 rfl rfl)
theorem dX4_match_42 : decode cX4_match 42 = .ok (.bipush 30, 2) := dk_16 30 (dk_at dksX4_match_1 20 rfl rfl)
theorem dX4_match_44 : decode cX4_match 44 = .ok (.invokevirtual 254, 3) := dk_182 0 254 (dk_at dksX4_match_2 0 rfl rfl)
theorem dX4_match_47 : decode cX4_match 47 = .ok (.invokevirtual 257, 3) := dk_182 1 1 (dk_at dksX4_match_2 3 rfl rfl)
theorem dX4_match_50 : decode cX4_match 50 = .ok (.iconst 0, 1) := dk_3 (dk_at dksX4_match_2 6 rfl rfl)
theorem dX4_match_51 : decode cX4_match 51 = .ok (.istore_n 3, 1) := dk_62 (dk_at dksX4_match_2 7 rfl rfl)
theorem dX4_match_52 : decode cX4_match 52 = .ok (.iload_n 3, 1) := dk_29 (dk_at dksX4_match_2 8 rfl rfl)
theorem dX4_match_53 : decode cX4_match 53 = .ok (.aload_n 0, 1) := dk_42 (dk_at dksX4_match_2 9 rfl rfl)
theorem dX4_match_54 : decode cX4_match 54 = .ok (.getfield 64, 3) := dk_180 0 64 (dk_at dksX4_match_2 10 rfl rfl)
theorem dX4_match_57 : decode cX4_match 57 = .ok (.if_icmp .ge 58, 3) := dk_162 0 58 (dk_at dksX4_match_2 13 rfl rfl)
theorem dX4_match_60 : decode cX4_match 60 = .ok (.iload_n 3, 1) := dk_29 (dk_at dksX4_match_2 16 rfl rfl)
theorem dX4_match_61 : decode cX4_match 61 = .ok (.iconst 1, 1) := dk_4 (dk_at dksX4_match_2 17 rfl rfl)
theorem dX4_match_62 : decode cX4_match 62 = .ok (.iadd, 1) := dk_96 (dk_at dksX4_match_2 18 rfl rfl)
theorem dX4_match_63 : decode cX4_match 63 = .ok (.istore 4, 2) := dk_54 4 (dk_at dksX4_match_2 19 rfl rfl)
theorem dX4_match_65 : decode cX4_match 65 = .ok (.iload 4, 2) := dk_21 4 (dk_at dksX4_match_2 21 rfl rfl)
theorem dX4_match_67 : decode cX4_match 67 = .ok (.aload_n 0, 1) := dk_42 (dk_at dksX4_match_2 23 rfl rfl)
theorem dX4_match_68 : decode cX4_match 68 = .ok (.getfield 64, 3) := dk_180 0 64 (dk_at dksX4_match_3 0 rfl rfl)
theorem dX4_match_71 : decode cX4_match 71 = .ok (.if_icmp .ge 38, 3) := dk_162 0 38 (dk_at dksX4_match_3 3 rfl rfl)
theorem dX4_match_74 : decode cX4_match 74 = .ok (.aload_n 0, 1) := dk_42 (dk_at dksX4_match_3 6 rfl rfl)
theorem dX4_match_75 : decode cX4_match 75 = .ok (.invokevirtual 194, 3) := dk_182 0 194 (dk_at dksX4_match_3 7 rfl rfl)
theorem dX4_match_78 : decode cX4_match 78 = .ok (.aload_n 0, 1) := dk_42 (dk_at dksX4_match_3 10 rfl rfl)
theorem dX4_match_79 : decode cX4_match 79 = .ok (.iload_n 3, 1) := dk_29 (dk_at dksX4_match_3 11 rfl rfl)
theorem dX4_match_80 : decode cX4_match 80 = .ok (.iload 4, 2) := dk_21 4 (dk_at dksX4_match_3 12 rfl rfl)
theorem dX4_match_82 : decode cX4_match 82 = .ok (.iload_n 1, 1) := dk_27 (dk_at dksX4_match_3 14 rfl rfl)
theorem dX4_match_83 : decode cX4_match 83 = .ok (.invokevirtual 222, 3) := dk_182 0 222 (dk_at dksX4_match_3 15 rfl rfl)
theorem dX4_match_86 : decode cX4_match 86 = .ok (.aload_n 0, 1) := dk_42 (dk_at dksX4_match_3 18 rfl rfl)
theorem dX4_match_87 : decode cX4_match 87 = .ok (.bipush 10, 2) := dk_16 10 (dk_at dksX4_match_3 19 rfl rfl)
theorem dX4_match_89 : decode cX4_match 89 = .ok (.iload_n 3, 1) := dk_29 (dk_at dksX4_match_3 21 rfl rfl)
theorem dX4_match_90 : decode cX4_match 90 = .ok (.imul, 1) := dk_104 (dk_at dksX4_match_3 22 rfl rfl)
theorem dX4_match_91 : decode cX4_match 91 = .ok (.iload 4, 2) := dk_21 4 (dk_at dksX4_match_4 0 rfl rfl)
theorem dX4_match_93 : decode cX4_match 93 = .ok (.iadd, 1) := dk_96 (dk_at dksX4_match_4 2 rfl rfl)
theorem dX4_match_94 : decode cX4_match 94 = .ok (.aload_n 0, 1) := dk_42 (dk_at dksX4_match_4 3 rfl rfl)
theorem dX4_match_95 : decode cX4_match 95 = .ok (.bipush 30, 2) := dk_16 30 (dk_at dksX4_match_4 4 rfl rfl)
theorem dX4_match_97 : decode cX4_match 97 = .ok (.invokevirtual 254, 3) := dk_182 0 254 (dk_at dksX4_match_4 6 rfl rfl)
theorem dX4_match_100 : decode cX4_match 100 = .ok (.invokevirtual 260, 3) := dk_182 1 4 (dk_at dksX4_match_4 9 rfl rfl)
theorem dX4_match_103 : decode cX4_match 103 = .ok (.iinc 4 1, 3) := dk_132 4 1 (dk_at dksX4_match_4 12 rfl rfl)
theorem dX4_match_106 : decode cX4_match 106 = .ok (.goto (-41), 3) := dk_167 255 215 (dk_at dksX4_match_4 15 rfl rfl)
theorem dX4_match_109 : decode cX4_match 109 = .ok (.iinc 3 1, 3) := dk_132 3 1 (dk_at dksX4_match_4 18 rfl rfl)
theorem dX4_match_112 : decode cX4_match 112 = .ok (.goto (-60), 3) := dk_167 255 196 (dk_at dksX4_match_4 21 rfl rfl)
theorem dX4_match_115 : decode cX4_match 115 = .ok (.aload_n 0, 1) := dk_42 (dk_at dksX4_match_5 0 rfl rfl)
theorem dX4_match_116 : decode cX4_match 116 = .ok (.iload_n 2, 1) := dk_28 (dk_at dksX4_match_5 1 rfl rfl)
theorem dX4_match_117 : decode cX4_match 117 = .ok (.invokevirtual 264, 3) := dk_182 1 8 (dk_at dksX4_match_5 2 rfl rfl)
theorem dX4_match_120 : decode cX4_match 120 = .ok (.ireturn, 1) := dk_172 (dk_at dksX4_match_5 5 rfl rfl)
abbrev cX4_isPart : ByteArray := prog_12_method_31_code
def yX4_isPart : MethodName := ⟨RX4, "isPart", "(I)Z"⟩
def dkwX4_isPart_0 : List UInt8 := [26, 133, 9, 10, 184, 0, 69, 172]
abbrev dktX4_isPart_0 : List UInt8 := dkwX4_isPart_0 ++ []
theorem dksX4_isPart_0 : cX4_isPart.data.toList.drop 0 = dktX4_isPart_0 := by decide +kernel
theorem dX4_isPart_0 : decode cX4_isPart 0 = .ok (.iload_n 0, 1) := dk_26 (dk_at dksX4_isPart_0 0 rfl rfl)
theorem dX4_isPart_1 : decode cX4_isPart 1 = .ok (.i2l, 1) := dk_133 (dk_at dksX4_isPart_0 1 rfl rfl)
theorem dX4_isPart_2 : decode cX4_isPart 2 = .ok (.lconst 0, 1) := dk_9 (dk_at dksX4_isPart_0 2 rfl rfl)
theorem dX4_isPart_3 : decode cX4_isPart 3 = .ok (.lconst 1, 1) := dk_10 (dk_at dksX4_isPart_0 3 rfl rfl)
theorem dX4_isPart_4 : decode cX4_isPart 4 = .ok (.invokestatic 69, 3) := dk_184 0 69 (dk_at dksX4_isPart_0 4 rfl rfl)
theorem dX4_isPart_7 : decode cX4_isPart 7 = .ok (.ireturn, 1) := dk_172 (dk_at dksX4_isPart_0 7 rfl rfl)
abbrev cX4_spreadBehind : ByteArray := prog_12_method_69_code
def yX4_spreadBehind : MethodName := ⟨RX4, "spreadBehind", "(I)I"⟩
def dkwX4_spreadBehind_0 : List UInt8 := [42, 27, 182, 0, 231, 42, 182, 0, 197, 172]
abbrev dktX4_spreadBehind_0 : List UInt8 := dkwX4_spreadBehind_0 ++ []
theorem dksX4_spreadBehind_0 : cX4_spreadBehind.data.toList.drop 0 = dktX4_spreadBehind_0 := by decide +kernel
theorem dX4_spreadBehind_0 : decode cX4_spreadBehind 0 = .ok (.aload_n 0, 1) := dk_42 (dk_at dksX4_spreadBehind_0 0 rfl rfl)
theorem dX4_spreadBehind_1 : decode cX4_spreadBehind 1 = .ok (.iload_n 1, 1) := dk_27 (dk_at dksX4_spreadBehind_0 1 rfl rfl)
theorem dX4_spreadBehind_2 : decode cX4_spreadBehind 2 = .ok (.invokevirtual 231, 3) := dk_182 0 231 (dk_at dksX4_spreadBehind_0 2 rfl rfl)
theorem dX4_spreadBehind_5 : decode cX4_spreadBehind 5 = .ok (.aload_n 0, 1) := dk_42 (dk_at dksX4_spreadBehind_0 5 rfl rfl)
theorem dX4_spreadBehind_6 : decode cX4_spreadBehind 6 = .ok (.invokevirtual 197, 3) := dk_182 0 197 (dk_at dksX4_spreadBehind_0 6 rfl rfl)
theorem dX4_spreadBehind_9 : decode cX4_spreadBehind 9 = .ok (.ireturn, 1) := dk_172 (dk_at dksX4_spreadBehind_0 9 rfl rfl)
abbrev cX4_startsJudging : ByteArray := prog_12_method_66_code
def yX4_startsJudging : MethodName := ⟨RX4, "startsJudging", "(I)V"⟩
def dkwX4_startsJudging_0 : List UInt8 := [42, 16, 252, 181, 0, 245, 42, 27, 181, 0, 248, 177]
abbrev dktX4_startsJudging_0 : List UInt8 := dkwX4_startsJudging_0 ++ []
theorem dksX4_startsJudging_0 : cX4_startsJudging.data.toList.drop 0 = dktX4_startsJudging_0 := by decide +kernel
theorem dX4_startsJudging_0 : decode cX4_startsJudging 0 = .ok (.aload_n 0, 1) := dk_42 (dk_at dksX4_startsJudging_0 0 rfl rfl)
theorem dX4_startsJudging_1 : decode cX4_startsJudging 1 = .ok (.bipush (-4), 2) := dk_16 252 (dk_at dksX4_startsJudging_0 1 rfl rfl)
theorem dX4_startsJudging_3 : decode cX4_startsJudging 3 = .ok (.putfield 245, 3) := dk_181 0 245 (dk_at dksX4_startsJudging_0 3 rfl rfl)
theorem dX4_startsJudging_6 : decode cX4_startsJudging 6 = .ok (.aload_n 0, 1) := dk_42 (dk_at dksX4_startsJudging_0 6 rfl rfl)
theorem dX4_startsJudging_7 : decode cX4_startsJudging 7 = .ok (.iload_n 1, 1) := dk_27 (dk_at dksX4_startsJudging_0 7 rfl rfl)
theorem dX4_startsJudging_8 : decode cX4_startsJudging 8 = .ok (.putfield 248, 3) := dk_181 0 248 (dk_at dksX4_startsJudging_0 8 rfl rfl)
theorem dX4_startsJudging_11 : decode cX4_startsJudging 11 = .ok (.return_, 1) := dk_177 (dk_at dksX4_startsJudging_0 11 rfl rfl)
abbrev cX4_judges : ByteArray := prog_12_method_67_code
def yX4_judges : MethodName := ⟨RX4, "judges", "(II)V"⟩
def dkwX4_judges_1 : List UInt8 := [180, 0, 248, 184, 0, 242, 181, 0, 248, 177]
abbrev dktX4_judges_1 : List UInt8 := dkwX4_judges_1 ++ []
def dkwX4_judges_0 : List UInt8 := [42, 28, 42, 180, 0, 248, 162, 0, 7, 27, 167, 0, 7, 42, 180, 0, 245, 181, 0, 245, 42, 28, 42]
abbrev dktX4_judges_0 : List UInt8 := dkwX4_judges_0 ++ dktX4_judges_1
theorem dksX4_judges_0 : cX4_judges.data.toList.drop 0 = dktX4_judges_0 := by decide +kernel
theorem dksX4_judges_1 : cX4_judges.data.toList.drop 23 = dktX4_judges_1 := dk_seg dksX4_judges_0 23 rfl rfl
theorem dX4_judges_0 : decode cX4_judges 0 = .ok (.aload_n 0, 1) := dk_42 (dk_at dksX4_judges_0 0 rfl rfl)
theorem dX4_judges_1 : decode cX4_judges 1 = .ok (.iload_n 2, 1) := dk_28 (dk_at dksX4_judges_0 1 rfl rfl)
theorem dX4_judges_2 : decode cX4_judges 2 = .ok (.aload_n 0, 1) := dk_42 (dk_at dksX4_judges_0 2 rfl rfl)
theorem dX4_judges_3 : decode cX4_judges 3 = .ok (.getfield 248, 3) := dk_180 0 248 (dk_at dksX4_judges_0 3 rfl rfl)
theorem dX4_judges_6 : decode cX4_judges 6 = .ok (.if_icmp .ge 7, 3) := dk_162 0 7 (dk_at dksX4_judges_0 6 rfl rfl)
theorem dX4_judges_9 : decode cX4_judges 9 = .ok (.iload_n 1, 1) := dk_27 (dk_at dksX4_judges_0 9 rfl rfl)
theorem dX4_judges_10 : decode cX4_judges 10 = .ok (.goto 7, 3) := dk_167 0 7 (dk_at dksX4_judges_0 10 rfl rfl)
theorem dX4_judges_13 : decode cX4_judges 13 = .ok (.aload_n 0, 1) := dk_42 (dk_at dksX4_judges_0 13 rfl rfl)
theorem dX4_judges_14 : decode cX4_judges 14 = .ok (.getfield 245, 3) := dk_180 0 245 (dk_at dksX4_judges_0 14 rfl rfl)
theorem dX4_judges_17 : decode cX4_judges 17 = .ok (.putfield 245, 3) := dk_181 0 245 (dk_at dksX4_judges_0 17 rfl rfl)
theorem dX4_judges_20 : decode cX4_judges 20 = .ok (.aload_n 0, 1) := dk_42 (dk_at dksX4_judges_0 20 rfl rfl)
theorem dX4_judges_21 : decode cX4_judges 21 = .ok (.iload_n 2, 1) := dk_28 (dk_at dksX4_judges_0 21 rfl rfl)
theorem dX4_judges_22 : decode cX4_judges 22 = .ok (.aload_n 0, 1) := dk_42 (dk_at dksX4_judges_0 22 rfl rfl)
theorem dX4_judges_23 : decode cX4_judges 23 = .ok (.getfield 248, 3) := dk_180 0 248 (dk_at dksX4_judges_1 0 rfl rfl)
theorem dX4_judges_26 : decode cX4_judges 26 = .ok (.invokestatic 242, 3) := dk_184 0 242 (dk_at dksX4_judges_1 3 rfl rfl)
theorem dX4_judges_29 : decode cX4_judges 29 = .ok (.putfield 248, 3) := dk_181 0 248 (dk_at dksX4_judges_1 6 rfl rfl)
theorem dX4_judges_32 : decode cX4_judges 32 = .ok (.return_, 1) := dk_177 (dk_at dksX4_judges_1 9 rfl rfl)
abbrev cX4_judged : ByteArray := prog_12_method_68_code
def yX4_judged : MethodName := ⟨RX4, "judged", "(I)I"⟩
def dkwX4_judged_1 : List UInt8 := [167, 0, 7, 42, 180, 0, 248, 172]
abbrev dktX4_judged_1 : List UInt8 := dkwX4_judged_1 ++ []
def dkwX4_judged_0 : List UInt8 := [42, 180, 0, 245, 16, 252, 160, 0, 8, 16, 252, 167, 0, 18, 27, 154, 0, 10, 42, 180, 0, 245]
abbrev dktX4_judged_0 : List UInt8 := dkwX4_judged_0 ++ dktX4_judged_1
theorem dksX4_judged_0 : cX4_judged.data.toList.drop 0 = dktX4_judged_0 := by decide +kernel
theorem dksX4_judged_1 : cX4_judged.data.toList.drop 22 = dktX4_judged_1 := dk_seg dksX4_judged_0 22 rfl rfl
theorem dX4_judged_0 : decode cX4_judged 0 = .ok (.aload_n 0, 1) := dk_42 (dk_at dksX4_judged_0 0 rfl rfl)
theorem dX4_judged_1 : decode cX4_judged 1 = .ok (.getfield 245, 3) := dk_180 0 245 (dk_at dksX4_judged_0 1 rfl rfl)
theorem dX4_judged_4 : decode cX4_judged 4 = .ok (.bipush (-4), 2) := dk_16 252 (dk_at dksX4_judged_0 4 rfl rfl)
theorem dX4_judged_6 : decode cX4_judged 6 = .ok (.if_icmp .ne 8, 3) := dk_160 0 8 (dk_at dksX4_judged_0 6 rfl rfl)
theorem dX4_judged_9 : decode cX4_judged 9 = .ok (.bipush (-4), 2) := dk_16 252 (dk_at dksX4_judged_0 9 rfl rfl)
theorem dX4_judged_11 : decode cX4_judged 11 = .ok (.goto 18, 3) := dk_167 0 18 (dk_at dksX4_judged_0 11 rfl rfl)
theorem dX4_judged_14 : decode cX4_judged 14 = .ok (.iload_n 1, 1) := dk_27 (dk_at dksX4_judged_0 14 rfl rfl)
theorem dX4_judged_15 : decode cX4_judged 15 = .ok (.ifCond .ne 10, 3) := dk_154 0 10 (dk_at dksX4_judged_0 15 rfl rfl)
theorem dX4_judged_18 : decode cX4_judged 18 = .ok (.aload_n 0, 1) := dk_42 (dk_at dksX4_judged_0 18 rfl rfl)
theorem dX4_judged_19 : decode cX4_judged 19 = .ok (.getfield 245, 3) := dk_180 0 245 (dk_at dksX4_judged_0 19 rfl rfl)
theorem dX4_judged_22 : decode cX4_judged 22 = .ok (.goto 7, 3) := dk_167 0 7 (dk_at dksX4_judged_1 0 rfl rfl)
theorem dX4_judged_25 : decode cX4_judged 25 = .ok (.aload_n 0, 1) := dk_42 (dk_at dksX4_judged_1 3 rfl rfl)
theorem dX4_judged_26 : decode cX4_judged 26 = .ok (.getfield 248, 3) := dk_180 0 248 (dk_at dksX4_judged_1 4 rfl rfl)
theorem dX4_judged_29 : decode cX4_judged 29 = .ok (.ireturn, 1) := dk_172 (dk_at dksX4_judged_1 7 rfl rfl)
abbrev cX4_fray : ByteArray := prog_12_method_72_code
def yX4_fray : MethodName := ⟨RX4, "fray", "(I)I"⟩
def dkwX4_fray_3 : List UInt8 := [42, 27, 182, 1, 8, 172]
abbrev dktX4_fray_3 : List UInt8 := dkwX4_fray_3 ++ []
def dkwX4_fray_2 : List UInt8 := [182, 1, 11, 42, 16, 30, 182, 0, 231, 42, 28, 42, 182, 0, 234, 182, 1, 4, 132, 2, 1, 167, 255, 218]
abbrev dktX4_fray_2 : List UInt8 := dkwX4_fray_2 ++ dktX4_fray_3
def dkwX4_fray_1 : List UInt8 := [182, 1, 1, 3, 61, 28, 42, 180, 0, 7, 16, 53, 46, 162, 0, 33, 42, 182, 0, 194, 42, 28]
abbrev dktX4_fray_1 : List UInt8 := dkwX4_fray_1 ++ dktX4_fray_2
def dkwX4_fray_0 : List UInt8 := [27, 184, 0, 251, 154, 0, 5, 2, 172, 42, 182, 0, 194, 42, 16, 30, 182, 0, 231, 42, 42, 182, 0, 234]
abbrev dktX4_fray_0 : List UInt8 := dkwX4_fray_0 ++ dktX4_fray_1
theorem dksX4_fray_0 : cX4_fray.data.toList.drop 0 = dktX4_fray_0 := by decide +kernel
theorem dksX4_fray_1 : cX4_fray.data.toList.drop 24 = dktX4_fray_1 := dk_seg dksX4_fray_0 24 rfl rfl
theorem dksX4_fray_2 : cX4_fray.data.toList.drop 46 = dktX4_fray_2 := dk_seg dksX4_fray_1 22 rfl rfl
theorem dksX4_fray_3 : cX4_fray.data.toList.drop 70 = dktX4_fray_3 := dk_seg dksX4_fray_2 24 rfl rfl
theorem dX4_fray_0 : decode cX4_fray 0 = .ok (.iload_n 1, 1) := dk_27 (dk_at dksX4_fray_0 0 rfl rfl)
theorem dX4_fray_1 : decode cX4_fray 1 = .ok (.invokestatic 251, 3) := dk_184 0 251 (dk_at dksX4_fray_0 1 rfl rfl)
theorem dX4_fray_4 : decode cX4_fray 4 = .ok (.ifCond .ne 5, 3) := dk_154 0 5 (dk_at dksX4_fray_0 4 rfl rfl)
theorem dX4_fray_7 : decode cX4_fray 7 = .ok (.iconst (-1), 1) := dk_2 (dk_at dksX4_fray_0 7 rfl rfl)
theorem dX4_fray_8 : decode cX4_fray 8 = .ok (.ireturn, 1) := dk_172 (dk_at dksX4_fray_0 8 rfl rfl)
theorem dX4_fray_9 : decode cX4_fray 9 = .ok (.aload_n 0, 1) := dk_42 (dk_at dksX4_fray_0 9 rfl rfl)
theorem dX4_fray_10 : decode cX4_fray 10 = .ok (.invokevirtual 194, 3) := dk_182 0 194 (dk_at dksX4_fray_0 10 rfl rfl)
theorem dX4_fray_13 : decode cX4_fray 13 = .ok (.aload_n 0, 1) := dk_42 (dk_at dksX4_fray_0 13 rfl rfl)
theorem dX4_fray_14 : decode cX4_fray 14 = .ok (.bipush 30, 2) := dk_16 30 (dk_at dksX4_fray_0 14 rfl rfl)
theorem dX4_fray_16 : decode cX4_fray 16 = .ok (.invokevirtual 231, 3) := dk_182 0 231 (dk_at dksX4_fray_0 16 rfl rfl)
theorem dX4_fray_19 : decode cX4_fray 19 = .ok (.aload_n 0, 1) := dk_42 (dk_at dksX4_fray_0 19 rfl rfl)
theorem dX4_fray_20 : decode cX4_fray 20 = .ok (.aload_n 0, 1) := dk_42 (dk_at dksX4_fray_0 20 rfl rfl)
theorem dX4_fray_21 : decode cX4_fray 21 = .ok (.invokevirtual 234, 3) := dk_182 0 234 (dk_at dksX4_fray_0 21 rfl rfl)
theorem dX4_fray_24 : decode cX4_fray 24 = .ok (.invokevirtual 257, 3) := dk_182 1 1 (dk_at dksX4_fray_1 0 rfl rfl)
theorem dX4_fray_27 : decode cX4_fray 27 = .ok (.iconst 0, 1) := dk_3 (dk_at dksX4_fray_1 3 rfl rfl)
theorem dX4_fray_28 : decode cX4_fray 28 = .ok (.istore_n 2, 1) := dk_61 (dk_at dksX4_fray_1 4 rfl rfl)
theorem dX4_fray_29 : decode cX4_fray 29 = .ok (.iload_n 2, 1) := dk_28 (dk_at dksX4_fray_1 5 rfl rfl)
theorem dX4_fray_30 : decode cX4_fray 30 = .ok (.aload_n 0, 1) := dk_42 (dk_at dksX4_fray_1 6 rfl rfl)
theorem dX4_fray_31 : decode cX4_fray 31 = .ok (.getfield 7, 3) := dk_180 0 7 (dk_at dksX4_fray_1 7 rfl rfl)
theorem dX4_fray_34 : decode cX4_fray 34 = .ok (.bipush 53, 2) := dk_16 53 (dk_at dksX4_fray_1 10 rfl rfl)
theorem dX4_fray_36 : decode cX4_fray 36 = .ok (.iaload, 1) := dk_46 (dk_at dksX4_fray_1 12 rfl rfl)
theorem dX4_fray_37 : decode cX4_fray 37 = .ok (.if_icmp .ge 33, 3) := dk_162 0 33 (dk_at dksX4_fray_1 13 rfl rfl)
theorem dX4_fray_40 : decode cX4_fray 40 = .ok (.aload_n 0, 1) := dk_42 (dk_at dksX4_fray_1 16 rfl rfl)
theorem dX4_fray_41 : decode cX4_fray 41 = .ok (.invokevirtual 194, 3) := dk_182 0 194 (dk_at dksX4_fray_1 17 rfl rfl)
theorem dX4_fray_44 : decode cX4_fray 44 = .ok (.aload_n 0, 1) := dk_42 (dk_at dksX4_fray_1 20 rfl rfl)
theorem dX4_fray_45 : decode cX4_fray 45 = .ok (.iload_n 2, 1) := dk_28 (dk_at dksX4_fray_1 21 rfl rfl)
theorem dX4_fray_46 : decode cX4_fray 46 = .ok (.invokevirtual 267, 3) := dk_182 1 11 (dk_at dksX4_fray_2 0 rfl rfl)
theorem dX4_fray_49 : decode cX4_fray 49 = .ok (.aload_n 0, 1) := dk_42 (dk_at dksX4_fray_2 3 rfl rfl)
theorem dX4_fray_50 : decode cX4_fray 50 = .ok (.bipush 30, 2) := dk_16 30 (dk_at dksX4_fray_2 4 rfl rfl)
theorem dX4_fray_52 : decode cX4_fray 52 = .ok (.invokevirtual 231, 3) := dk_182 0 231 (dk_at dksX4_fray_2 6 rfl rfl)
theorem dX4_fray_55 : decode cX4_fray 55 = .ok (.aload_n 0, 1) := dk_42 (dk_at dksX4_fray_2 9 rfl rfl)
theorem dX4_fray_56 : decode cX4_fray 56 = .ok (.iload_n 2, 1) := dk_28 (dk_at dksX4_fray_2 10 rfl rfl)
theorem dX4_fray_57 : decode cX4_fray 57 = .ok (.aload_n 0, 1) := dk_42 (dk_at dksX4_fray_2 11 rfl rfl)
theorem dX4_fray_58 : decode cX4_fray 58 = .ok (.invokevirtual 234, 3) := dk_182 0 234 (dk_at dksX4_fray_2 12 rfl rfl)
theorem dX4_fray_61 : decode cX4_fray 61 = .ok (.invokevirtual 260, 3) := dk_182 1 4 (dk_at dksX4_fray_2 15 rfl rfl)
theorem dX4_fray_64 : decode cX4_fray 64 = .ok (.iinc 2 1, 3) := dk_132 2 1 (dk_at dksX4_fray_2 18 rfl rfl)
theorem dX4_fray_67 : decode cX4_fray 67 = .ok (.goto (-38), 3) := dk_167 255 218 (dk_at dksX4_fray_2 21 rfl rfl)
theorem dX4_fray_70 : decode cX4_fray 70 = .ok (.aload_n 0, 1) := dk_42 (dk_at dksX4_fray_3 0 rfl rfl)
theorem dX4_fray_71 : decode cX4_fray 71 = .ok (.iload_n 1, 1) := dk_27 (dk_at dksX4_fray_3 1 rfl rfl)
theorem dX4_fray_72 : decode cX4_fray 72 = .ok (.invokevirtual 264, 3) := dk_182 1 8 (dk_at dksX4_fray_3 2 rfl rfl)
theorem dX4_fray_75 : decode cX4_fray 75 = .ok (.ireturn, 1) := dk_172 (dk_at dksX4_fray_3 5 rfl rfl)
abbrev cX4_frays : ByteArray := prog_12_method_71_code
def yX4_frays : MethodName := ⟨RX4, "frays", "(I)V"⟩
def dkwX4_frays_1 : List UInt8 := [96, 46, 79, 132, 2, 1, 167, 255, 233, 42, 180, 0, 13, 16, 53, 92, 46, 4, 100, 79, 177]
abbrev dktX4_frays_1 : List UInt8 := dkwX4_frays_1 ++ []
def dkwX4_frays_0 : List UInt8 := [16, 35, 6, 27, 104, 96, 61, 28, 16, 50, 162, 0, 23, 42, 180, 0, 13, 28, 42, 180, 0, 13, 28, 6]
abbrev dktX4_frays_0 : List UInt8 := dkwX4_frays_0 ++ dktX4_frays_1
theorem dksX4_frays_0 : cX4_frays.data.toList.drop 0 = dktX4_frays_0 := by decide +kernel
theorem dksX4_frays_1 : cX4_frays.data.toList.drop 24 = dktX4_frays_1 := dk_seg dksX4_frays_0 24 rfl rfl
theorem dX4_frays_0 : decode cX4_frays 0 = .ok (.bipush 35, 2) := dk_16 35 (dk_at dksX4_frays_0 0 rfl rfl)
theorem dX4_frays_2 : decode cX4_frays 2 = .ok (.iconst 3, 1) := dk_6 (dk_at dksX4_frays_0 2 rfl rfl)
theorem dX4_frays_3 : decode cX4_frays 3 = .ok (.iload_n 1, 1) := dk_27 (dk_at dksX4_frays_0 3 rfl rfl)
theorem dX4_frays_4 : decode cX4_frays 4 = .ok (.imul, 1) := dk_104 (dk_at dksX4_frays_0 4 rfl rfl)
theorem dX4_frays_5 : decode cX4_frays 5 = .ok (.iadd, 1) := dk_96 (dk_at dksX4_frays_0 5 rfl rfl)
theorem dX4_frays_6 : decode cX4_frays 6 = .ok (.istore_n 2, 1) := dk_61 (dk_at dksX4_frays_0 6 rfl rfl)
theorem dX4_frays_7 : decode cX4_frays 7 = .ok (.iload_n 2, 1) := dk_28 (dk_at dksX4_frays_0 7 rfl rfl)
theorem dX4_frays_8 : decode cX4_frays 8 = .ok (.bipush 50, 2) := dk_16 50 (dk_at dksX4_frays_0 8 rfl rfl)
theorem dX4_frays_10 : decode cX4_frays 10 = .ok (.if_icmp .ge 23, 3) := dk_162 0 23 (dk_at dksX4_frays_0 10 rfl rfl)
theorem dX4_frays_13 : decode cX4_frays 13 = .ok (.aload_n 0, 1) := dk_42 (dk_at dksX4_frays_0 13 rfl rfl)
theorem dX4_frays_14 : decode cX4_frays 14 = .ok (.getfield 13, 3) := dk_180 0 13 (dk_at dksX4_frays_0 14 rfl rfl)
theorem dX4_frays_17 : decode cX4_frays 17 = .ok (.iload_n 2, 1) := dk_28 (dk_at dksX4_frays_0 17 rfl rfl)
theorem dX4_frays_18 : decode cX4_frays 18 = .ok (.aload_n 0, 1) := dk_42 (dk_at dksX4_frays_0 18 rfl rfl)
theorem dX4_frays_19 : decode cX4_frays 19 = .ok (.getfield 13, 3) := dk_180 0 13 (dk_at dksX4_frays_0 19 rfl rfl)
theorem dX4_frays_22 : decode cX4_frays 22 = .ok (.iload_n 2, 1) := dk_28 (dk_at dksX4_frays_0 22 rfl rfl)
theorem dX4_frays_23 : decode cX4_frays 23 = .ok (.iconst 3, 1) := dk_6 (dk_at dksX4_frays_0 23 rfl rfl)
theorem dX4_frays_24 : decode cX4_frays 24 = .ok (.iadd, 1) := dk_96 (dk_at dksX4_frays_1 0 rfl rfl)
theorem dX4_frays_25 : decode cX4_frays 25 = .ok (.iaload, 1) := dk_46 (dk_at dksX4_frays_1 1 rfl rfl)
theorem dX4_frays_26 : decode cX4_frays 26 = .ok (.iastore, 1) := dk_79 (dk_at dksX4_frays_1 2 rfl rfl)
theorem dX4_frays_27 : decode cX4_frays 27 = .ok (.iinc 2 1, 3) := dk_132 2 1 (dk_at dksX4_frays_1 3 rfl rfl)
theorem dX4_frays_30 : decode cX4_frays 30 = .ok (.goto (-23), 3) := dk_167 255 233 (dk_at dksX4_frays_1 6 rfl rfl)
theorem dX4_frays_33 : decode cX4_frays 33 = .ok (.aload_n 0, 1) := dk_42 (dk_at dksX4_frays_1 9 rfl rfl)
theorem dX4_frays_34 : decode cX4_frays 34 = .ok (.getfield 13, 3) := dk_180 0 13 (dk_at dksX4_frays_1 10 rfl rfl)
theorem dX4_frays_37 : decode cX4_frays 37 = .ok (.bipush 53, 2) := dk_16 53 (dk_at dksX4_frays_1 13 rfl rfl)
theorem dX4_frays_39 : decode cX4_frays 39 = .ok (.dup2, 1) := dk_92 (dk_at dksX4_frays_1 15 rfl rfl)
theorem dX4_frays_40 : decode cX4_frays 40 = .ok (.iaload, 1) := dk_46 (dk_at dksX4_frays_1 16 rfl rfl)
theorem dX4_frays_41 : decode cX4_frays 41 = .ok (.iconst 1, 1) := dk_4 (dk_at dksX4_frays_1 17 rfl rfl)
theorem dX4_frays_42 : decode cX4_frays 42 = .ok (.isub, 1) := dk_100 (dk_at dksX4_frays_1 18 rfl rfl)
theorem dX4_frays_43 : decode cX4_frays 43 = .ok (.iastore, 1) := dk_79 (dk_at dksX4_frays_1 19 rfl rfl)
theorem dX4_frays_44 : decode cX4_frays 44 = .ok (.return_, 1) := dk_177 (dk_at dksX4_frays_1 20 rfl rfl)
abbrev cX4_soothe : ByteArray := prog_12_method_73_code
def yX4_soothe : MethodName := ⟨RX4, "soothe", "(I)I"⟩
def dkwX4_soothe_4 : List UInt8 := [182, 1, 8, 172]
abbrev dktX4_soothe_4 : List UInt8 := dkwX4_soothe_4 ++ []
def dkwX4_soothe_3 : List UInt8 := [96, 42, 16, 30, 182, 0, 254, 182, 1, 4, 132, 3, 1, 167, 255, 206, 132, 2, 1, 167, 255, 190, 42, 27]
abbrev dktX4_soothe_3 : List UInt8 := dkwX4_soothe_3 ++ dktX4_soothe_4
def dkwX4_soothe_2 : List UInt8 := [42, 182, 0, 194, 42, 180, 0, 13, 16, 10, 8, 28, 104, 96, 29, 96, 3, 79, 42, 16, 10, 28, 104, 29]
abbrev dktX4_soothe_2 : List UInt8 := dkwX4_soothe_2 ++ dktX4_soothe_3
def dkwX4_soothe_1 : List UInt8 := [61, 28, 42, 180, 0, 64, 162, 0, 64, 3, 62, 29, 42, 180, 0, 64, 162, 0, 48, 28, 29, 159, 0, 37]
abbrev dktX4_soothe_1 : List UInt8 := dkwX4_soothe_1 ++ dktX4_soothe_2
def dkwX4_soothe_0 : List UInt8 := [27, 184, 0, 251, 154, 0, 5, 2, 172, 42, 182, 0, 194, 42, 42, 16, 30, 182, 0, 254, 182, 1, 1, 3]
abbrev dktX4_soothe_0 : List UInt8 := dkwX4_soothe_0 ++ dktX4_soothe_1
theorem dksX4_soothe_0 : cX4_soothe.data.toList.drop 0 = dktX4_soothe_0 := by decide +kernel
theorem dksX4_soothe_1 : cX4_soothe.data.toList.drop 24 = dktX4_soothe_1 := dk_seg dksX4_soothe_0 24 rfl rfl
theorem dksX4_soothe_2 : cX4_soothe.data.toList.drop 48 = dktX4_soothe_2 := dk_seg dksX4_soothe_1 24 rfl rfl
theorem dksX4_soothe_3 : cX4_soothe.data.toList.drop 72 = dktX4_soothe_3 := dk_seg dksX4_soothe_2 24 rfl rfl
theorem dksX4_soothe_4 : cX4_soothe.data.toList.drop 96 = dktX4_soothe_4 := dk_seg dksX4_soothe_3 24 rfl rfl
theorem dX4_soothe_0 : decode cX4_soothe 0 = .ok (.iload_n 1, 1) := dk_27 (dk_at dksX4_soothe_0 0 rfl rfl)
theorem dX4_soothe_1 : decode cX4_soothe 1 = .ok (.invokestatic 251, 3) := dk_184 0 251 (dk_at dksX4_soothe_0 1 rfl rfl)
theorem dX4_soothe_4 : decode cX4_soothe 4 = .ok (.ifCond .ne 5, 3) := dk_154 0 5 (dk_at dksX4_soothe_0 4 rfl rfl)
theorem dX4_soothe_7 : decode cX4_soothe 7 = .ok (.iconst (-1), 1) := dk_2 (dk_at dksX4_soothe_0 7 rfl rfl)
theorem dX4_soothe_8 : decode cX4_soothe 8 = .ok (.ireturn, 1) := dk_172 (dk_at dksX4_soothe_0 8 rfl rfl)
theorem dX4_soothe_9 : decode cX4_soothe 9 = .ok (.aload_n 0, 1) := dk_42 (dk_at dksX4_soothe_0 9 rfl rfl)
theorem dX4_soothe_10 : decode cX4_soothe 10 = .ok (.invokevirtual 194, 3) := dk_182 0 194 (dk_at dksX4_soothe_0 10 rfl rfl)
theorem dX4_soothe_13 : decode cX4_soothe 13 = .ok (.aload_n 0, 1) := dk_42 (dk_at dksX4_soothe_0 13 rfl rfl)
theorem dX4_soothe_14 : decode cX4_soothe 14 = .ok (.aload_n 0, 1) := dk_42 (dk_at dksX4_soothe_0 14 rfl rfl)
theorem dX4_soothe_15 : decode cX4_soothe 15 = .ok (.bipush 30, 2) := dk_16 30 (dk_at dksX4_soothe_0 15 rfl rfl)
theorem dX4_soothe_17 : decode cX4_soothe 17 = .ok (.invokevirtual 254, 3) := dk_182 0 254 (dk_at dksX4_soothe_0 17 rfl rfl)
theorem dX4_soothe_20 : decode cX4_soothe 20 = .ok (.invokevirtual 257, 3) := dk_182 1 1 (dk_at dksX4_soothe_0 20 rfl rfl)
theorem dX4_soothe_23 : decode cX4_soothe 23 = .ok (.iconst 0, 1) := dk_3 (dk_at dksX4_soothe_0 23 rfl rfl)
theorem dX4_soothe_24 : decode cX4_soothe 24 = .ok (.istore_n 2, 1) := dk_61 (dk_at dksX4_soothe_1 0 rfl rfl)
theorem dX4_soothe_25 : decode cX4_soothe 25 = .ok (.iload_n 2, 1) := dk_28 (dk_at dksX4_soothe_1 1 rfl rfl)
theorem dX4_soothe_26 : decode cX4_soothe 26 = .ok (.aload_n 0, 1) := dk_42 (dk_at dksX4_soothe_1 2 rfl rfl)
theorem dX4_soothe_27 : decode cX4_soothe 27 = .ok (.getfield 64, 3) := dk_180 0 64 (dk_at dksX4_soothe_1 3 rfl rfl)
theorem dX4_soothe_30 : decode cX4_soothe 30 = .ok (.if_icmp .ge 64, 3) := dk_162 0 64 (dk_at dksX4_soothe_1 6 rfl rfl)
theorem dX4_soothe_33 : decode cX4_soothe 33 = .ok (.iconst 0, 1) := dk_3 (dk_at dksX4_soothe_1 9 rfl rfl)
theorem dX4_soothe_34 : decode cX4_soothe 34 = .ok (.istore_n 3, 1) := dk_62 (dk_at dksX4_soothe_1 10 rfl rfl)
theorem dX4_soothe_35 : decode cX4_soothe 35 = .ok (.iload_n 3, 1) := dk_29 (dk_at dksX4_soothe_1 11 rfl rfl)
theorem dX4_soothe_36 : decode cX4_soothe 36 = .ok (.aload_n 0, 1) := dk_42 (dk_at dksX4_soothe_1 12 rfl rfl)
theorem dX4_soothe_37 : decode cX4_soothe 37 = .ok (.getfield 64, 3) := dk_180 0 64 (dk_at dksX4_soothe_1 13 rfl rfl)
theorem dX4_soothe_40 : decode cX4_soothe 40 = .ok (.if_icmp .ge 48, 3) := dk_162 0 48 (dk_at dksX4_soothe_1 16 rfl rfl)
theorem dX4_soothe_43 : decode cX4_soothe 43 = .ok (.iload_n 2, 1) := dk_28 (dk_at dksX4_soothe_1 19 rfl rfl)
theorem dX4_soothe_44 : decode cX4_soothe 44 = .ok (.iload_n 3, 1) := dk_29 (dk_at dksX4_soothe_1 20 rfl rfl)
theorem dX4_soothe_45 : decode cX4_soothe 45 = .ok (.if_icmp .eq 37, 3) := dk_159 0 37 (dk_at dksX4_soothe_1 21 rfl rfl)
theorem dX4_soothe_48 : decode cX4_soothe 48 = .ok (.aload_n 0, 1) := dk_42 (dk_at dksX4_soothe_2 0 rfl rfl)
theorem dX4_soothe_49 : decode cX4_soothe 49 = .ok (.invokevirtual 194, 3) := dk_182 0 194 (dk_at dksX4_soothe_2 1 rfl rfl)
theorem dX4_soothe_52 : decode cX4_soothe 52 = .ok (.aload_n 0, 1) := dk_42 (dk_at dksX4_soothe_2 4 rfl rfl)
theorem dX4_soothe_53 : decode cX4_soothe 53 = .ok (.getfield 13, 3) := dk_180 0 13 (dk_at dksX4_soothe_2 5 rfl rfl)
theorem dX4_soothe_56 : decode cX4_soothe 56 = .ok (.bipush 10, 2) := dk_16 10 (dk_at dksX4_soothe_2 8 rfl rfl)
theorem dX4_soothe_58 : decode cX4_soothe 58 = .ok (.iconst 5, 1) := dk_8 (dk_at dksX4_soothe_2 10 rfl rfl)
theorem dX4_soothe_59 : decode cX4_soothe 59 = .ok (.iload_n 2, 1) := dk_28 (dk_at dksX4_soothe_2 11 rfl rfl)
theorem dX4_soothe_60 : decode cX4_soothe 60 = .ok (.imul, 1) := dk_104 (dk_at dksX4_soothe_2 12 rfl rfl)
theorem dX4_soothe_61 : decode cX4_soothe 61 = .ok (.iadd, 1) := dk_96 (dk_at dksX4_soothe_2 13 rfl rfl)
theorem dX4_soothe_62 : decode cX4_soothe 62 = .ok (.iload_n 3, 1) := dk_29 (dk_at dksX4_soothe_2 14 rfl rfl)
theorem dX4_soothe_63 : decode cX4_soothe 63 = .ok (.iadd, 1) := dk_96 (dk_at dksX4_soothe_2 15 rfl rfl)
theorem dX4_soothe_64 : decode cX4_soothe 64 = .ok (.iconst 0, 1) := dk_3 (dk_at dksX4_soothe_2 16 rfl rfl)
theorem dX4_soothe_65 : decode cX4_soothe 65 = .ok (.iastore, 1) := dk_79 (dk_at dksX4_soothe_2 17 rfl rfl)
theorem dX4_soothe_66 : decode cX4_soothe 66 = .ok (.aload_n 0, 1) := dk_42 (dk_at dksX4_soothe_2 18 rfl rfl)
theorem dX4_soothe_67 : decode cX4_soothe 67 = .ok (.bipush 10, 2) := dk_16 10 (dk_at dksX4_soothe_2 19 rfl rfl)
theorem dX4_soothe_69 : decode cX4_soothe 69 = .ok (.iload_n 2, 1) := dk_28 (dk_at dksX4_soothe_2 21 rfl rfl)
theorem dX4_soothe_70 : decode cX4_soothe 70 = .ok (.imul, 1) := dk_104 (dk_at dksX4_soothe_2 22 rfl rfl)
theorem dX4_soothe_71 : decode cX4_soothe 71 = .ok (.iload_n 3, 1) := dk_29 (dk_at dksX4_soothe_2 23 rfl rfl)
theorem dX4_soothe_72 : decode cX4_soothe 72 = .ok (.iadd, 1) := dk_96 (dk_at dksX4_soothe_3 0 rfl rfl)
theorem dX4_soothe_73 : decode cX4_soothe 73 = .ok (.aload_n 0, 1) := dk_42 (dk_at dksX4_soothe_3 1 rfl rfl)
theorem dX4_soothe_74 : decode cX4_soothe 74 = .ok (.bipush 30, 2) := dk_16 30 (dk_at dksX4_soothe_3 2 rfl rfl)
theorem dX4_soothe_76 : decode cX4_soothe 76 = .ok (.invokevirtual 254, 3) := dk_182 0 254 (dk_at dksX4_soothe_3 4 rfl rfl)
theorem dX4_soothe_79 : decode cX4_soothe 79 = .ok (.invokevirtual 260, 3) := dk_182 1 4 (dk_at dksX4_soothe_3 7 rfl rfl)
theorem dX4_soothe_82 : decode cX4_soothe 82 = .ok (.iinc 3 1, 3) := dk_132 3 1 (dk_at dksX4_soothe_3 10 rfl rfl)
theorem dX4_soothe_85 : decode cX4_soothe 85 = .ok (.goto (-50), 3) := dk_167 255 206 (dk_at dksX4_soothe_3 13 rfl rfl)
theorem dX4_soothe_88 : decode cX4_soothe 88 = .ok (.iinc 2 1, 3) := dk_132 2 1 (dk_at dksX4_soothe_3 16 rfl rfl)
theorem dX4_soothe_91 : decode cX4_soothe 91 = .ok (.goto (-66), 3) := dk_167 255 190 (dk_at dksX4_soothe_3 19 rfl rfl)
theorem dX4_soothe_94 : decode cX4_soothe 94 = .ok (.aload_n 0, 1) := dk_42 (dk_at dksX4_soothe_3 22 rfl rfl)
theorem dX4_soothe_95 : decode cX4_soothe 95 = .ok (.iload_n 1, 1) := dk_27 (dk_at dksX4_soothe_3 23 rfl rfl)
theorem dX4_soothe_96 : decode cX4_soothe 96 = .ok (.invokevirtual 264, 3) := dk_182 1 8 (dk_at dksX4_soothe_4 0 rfl rfl)
theorem dX4_soothe_99 : decode cX4_soothe 99 = .ok (.ireturn, 1) := dk_172 (dk_at dksX4_soothe_4 3 rfl rfl)
abbrev cX4_holy : ByteArray := prog_12_method_74_code
def yX4_holy : MethodName := ⟨RX4, "holy", "(II)I"⟩
def dkwX4_holy_2 : List UInt8 := [182, 0, 254, 182, 1, 4, 132, 3, 1, 167, 255, 225, 42, 28, 182, 1, 8, 172]
abbrev dktX4_holy_2 : List UInt8 := dkwX4_holy_2 ++ []
def dkwX4_holy_1 : List UInt8 := [62, 29, 16, 7, 162, 0, 31, 42, 182, 0, 194, 42, 180, 0, 13, 16, 55, 29, 79, 42, 29, 42, 27]
abbrev dktX4_holy_1 : List UInt8 := dkwX4_holy_1 ++ dktX4_holy_2
def dkwX4_holy_0 : List UInt8 := [27, 184, 0, 239, 153, 0, 10, 28, 184, 0, 251, 154, 0, 5, 2, 172, 42, 19, 1, 14, 182, 1, 1, 3]
abbrev dktX4_holy_0 : List UInt8 := dkwX4_holy_0 ++ dktX4_holy_1
theorem dksX4_holy_0 : cX4_holy.data.toList.drop 0 = dktX4_holy_0 := by decide +kernel
theorem dksX4_holy_1 : cX4_holy.data.toList.drop 24 = dktX4_holy_1 := dk_seg dksX4_holy_0 24 rfl rfl
theorem dksX4_holy_2 : cX4_holy.data.toList.drop 47 = dktX4_holy_2 := dk_seg dksX4_holy_1 23 rfl rfl
theorem dX4_holy_0 : decode cX4_holy 0 = .ok (.iload_n 1, 1) := dk_27 (dk_at dksX4_holy_0 0 rfl rfl)
theorem dX4_holy_1 : decode cX4_holy 1 = .ok (.invokestatic 239, 3) := dk_184 0 239 (dk_at dksX4_holy_0 1 rfl rfl)
theorem dX4_holy_4 : decode cX4_holy 4 = .ok (.ifCond .eq 10, 3) := dk_153 0 10 (dk_at dksX4_holy_0 4 rfl rfl)
theorem dX4_holy_7 : decode cX4_holy 7 = .ok (.iload_n 2, 1) := dk_28 (dk_at dksX4_holy_0 7 rfl rfl)
theorem dX4_holy_8 : decode cX4_holy 8 = .ok (.invokestatic 251, 3) := dk_184 0 251 (dk_at dksX4_holy_0 8 rfl rfl)
theorem dX4_holy_11 : decode cX4_holy 11 = .ok (.ifCond .ne 5, 3) := dk_154 0 5 (dk_at dksX4_holy_0 11 rfl rfl)
theorem dX4_holy_14 : decode cX4_holy 14 = .ok (.iconst (-1), 1) := dk_2 (dk_at dksX4_holy_0 14 rfl rfl)
theorem dX4_holy_15 : decode cX4_holy 15 = .ok (.ireturn, 1) := dk_172 (dk_at dksX4_holy_0 15 rfl rfl)
theorem dX4_holy_16 : decode cX4_holy 16 = .ok (.aload_n 0, 1) := dk_42 (dk_at dksX4_holy_0 16 rfl rfl)
theorem dX4_holy_17 : decode cX4_holy 17 = .ok (.ldc_w 270, 3) := dk_19 1 14 (dk_at dksX4_holy_0 17 rfl rfl)
theorem dX4_holy_20 : decode cX4_holy 20 = .ok (.invokevirtual 257, 3) := dk_182 1 1 (dk_at dksX4_holy_0 20 rfl rfl)
theorem dX4_holy_23 : decode cX4_holy 23 = .ok (.iconst 0, 1) := dk_3 (dk_at dksX4_holy_0 23 rfl rfl)
theorem dX4_holy_24 : decode cX4_holy 24 = .ok (.istore_n 3, 1) := dk_62 (dk_at dksX4_holy_1 0 rfl rfl)
theorem dX4_holy_25 : decode cX4_holy 25 = .ok (.iload_n 3, 1) := dk_29 (dk_at dksX4_holy_1 1 rfl rfl)
theorem dX4_holy_26 : decode cX4_holy 26 = .ok (.bipush 7, 2) := dk_16 7 (dk_at dksX4_holy_1 2 rfl rfl)
theorem dX4_holy_28 : decode cX4_holy 28 = .ok (.if_icmp .ge 31, 3) := dk_162 0 31 (dk_at dksX4_holy_1 4 rfl rfl)
theorem dX4_holy_31 : decode cX4_holy 31 = .ok (.aload_n 0, 1) := dk_42 (dk_at dksX4_holy_1 7 rfl rfl)
theorem dX4_holy_32 : decode cX4_holy 32 = .ok (.invokevirtual 194, 3) := dk_182 0 194 (dk_at dksX4_holy_1 8 rfl rfl)
theorem dX4_holy_35 : decode cX4_holy 35 = .ok (.aload_n 0, 1) := dk_42 (dk_at dksX4_holy_1 11 rfl rfl)
theorem dX4_holy_36 : decode cX4_holy 36 = .ok (.getfield 13, 3) := dk_180 0 13 (dk_at dksX4_holy_1 12 rfl rfl)
theorem dX4_holy_39 : decode cX4_holy 39 = .ok (.bipush 55, 2) := dk_16 55 (dk_at dksX4_holy_1 15 rfl rfl)
theorem dX4_holy_41 : decode cX4_holy 41 = .ok (.iload_n 3, 1) := dk_29 (dk_at dksX4_holy_1 17 rfl rfl)
theorem dX4_holy_42 : decode cX4_holy 42 = .ok (.iastore, 1) := dk_79 (dk_at dksX4_holy_1 18 rfl rfl)
theorem dX4_holy_43 : decode cX4_holy 43 = .ok (.aload_n 0, 1) := dk_42 (dk_at dksX4_holy_1 19 rfl rfl)
theorem dX4_holy_44 : decode cX4_holy 44 = .ok (.iload_n 3, 1) := dk_29 (dk_at dksX4_holy_1 20 rfl rfl)
theorem dX4_holy_45 : decode cX4_holy 45 = .ok (.aload_n 0, 1) := dk_42 (dk_at dksX4_holy_1 21 rfl rfl)
theorem dX4_holy_46 : decode cX4_holy 46 = .ok (.iload_n 1, 1) := dk_27 (dk_at dksX4_holy_1 22 rfl rfl)
theorem dX4_holy_47 : decode cX4_holy 47 = .ok (.invokevirtual 254, 3) := dk_182 0 254 (dk_at dksX4_holy_2 0 rfl rfl)
theorem dX4_holy_50 : decode cX4_holy 50 = .ok (.invokevirtual 260, 3) := dk_182 1 4 (dk_at dksX4_holy_2 3 rfl rfl)
theorem dX4_holy_53 : decode cX4_holy 53 = .ok (.iinc 3 1, 3) := dk_132 3 1 (dk_at dksX4_holy_2 6 rfl rfl)
theorem dX4_holy_56 : decode cX4_holy 56 = .ok (.goto (-31), 3) := dk_167 255 225 (dk_at dksX4_holy_2 9 rfl rfl)
theorem dX4_holy_59 : decode cX4_holy 59 = .ok (.aload_n 0, 1) := dk_42 (dk_at dksX4_holy_2 12 rfl rfl)
theorem dX4_holy_60 : decode cX4_holy 60 = .ok (.iload_n 2, 1) := dk_28 (dk_at dksX4_holy_2 13 rfl rfl)
theorem dX4_holy_61 : decode cX4_holy 61 = .ok (.invokevirtual 264, 3) := dk_182 1 8 (dk_at dksX4_holy_2 14 rfl rfl)
theorem dX4_holy_64 : decode cX4_holy 64 = .ok (.ireturn, 1) := dk_172 (dk_at dksX4_holy_2 17 rfl rfl)
abbrev cX4_kind : ByteArray := prog_12_method_75_code
def yX4_kind : MethodName := ⟨RX4, "kind", "(III)I"⟩
def dkwX4_kind_3 : List UInt8 := [167, 255, 220, 42, 29, 182, 1, 8, 172]
abbrev dktX4_kind_3 : List UInt8 := dkwX4_kind_3 ++ []
def dkwX4_kind_2 : List UInt8 := [5, 27, 104, 3, 96, 21, 4, 79, 42, 21, 4, 42, 28, 182, 0, 254, 182, 1, 4, 132, 4, 1]
abbrev dktX4_kind_2 : List UInt8 := dkwX4_kind_2 ++ dktX4_kind_3
def dkwX4_kind_1 : List UInt8 := [42, 19, 1, 14, 182, 1, 1, 3, 54, 4, 21, 4, 7, 162, 0, 36, 42, 182, 0, 194, 42, 180, 0, 13]
abbrev dktX4_kind_1 : List UInt8 := dkwX4_kind_1 ++ dktX4_kind_2
def dkwX4_kind_0 : List UInt8 := [42, 27, 182, 0, 151, 153, 0, 17, 28, 184, 0, 239, 153, 0, 10, 29, 184, 0, 251, 154, 0, 5, 2, 172]
abbrev dktX4_kind_0 : List UInt8 := dkwX4_kind_0 ++ dktX4_kind_1
theorem dksX4_kind_0 : cX4_kind.data.toList.drop 0 = dktX4_kind_0 := by decide +kernel
theorem dksX4_kind_1 : cX4_kind.data.toList.drop 24 = dktX4_kind_1 := dk_seg dksX4_kind_0 24 rfl rfl
theorem dksX4_kind_2 : cX4_kind.data.toList.drop 48 = dktX4_kind_2 := dk_seg dksX4_kind_1 24 rfl rfl
theorem dksX4_kind_3 : cX4_kind.data.toList.drop 70 = dktX4_kind_3 := dk_seg dksX4_kind_2 22 rfl rfl
theorem dX4_kind_0 : decode cX4_kind 0 = .ok (.aload_n 0, 1) := dk_42 (dk_at dksX4_kind_0 0 rfl rfl)
theorem dX4_kind_1 : decode cX4_kind 1 = .ok (.iload_n 1, 1) := dk_27 (dk_at dksX4_kind_0 1 rfl rfl)
theorem dX4_kind_2 : decode cX4_kind 2 = .ok (.invokevirtual 151, 3) := dk_182 0 151 (dk_at dksX4_kind_0 2 rfl rfl)
theorem dX4_kind_5 : decode cX4_kind 5 = .ok (.ifCond .eq 17, 3) := dk_153 0 17 (dk_at dksX4_kind_0 5 rfl rfl)
theorem dX4_kind_8 : decode cX4_kind 8 = .ok (.iload_n 2, 1) := dk_28 (dk_at dksX4_kind_0 8 rfl rfl)
theorem dX4_kind_9 : decode cX4_kind 9 = .ok (.invokestatic 239, 3) := dk_184 0 239 (dk_at dksX4_kind_0 9 rfl rfl)
theorem dX4_kind_12 : decode cX4_kind 12 = .ok (.ifCond .eq 10, 3) := dk_153 0 10 (dk_at dksX4_kind_0 12 rfl rfl)
theorem dX4_kind_15 : decode cX4_kind 15 = .ok (.iload_n 3, 1) := dk_29 (dk_at dksX4_kind_0 15 rfl rfl)
theorem dX4_kind_16 : decode cX4_kind 16 = .ok (.invokestatic 251, 3) := dk_184 0 251 (dk_at dksX4_kind_0 16 rfl rfl)
theorem dX4_kind_19 : decode cX4_kind 19 = .ok (.ifCond .ne 5, 3) := dk_154 0 5 (dk_at dksX4_kind_0 19 rfl rfl)
theorem dX4_kind_22 : decode cX4_kind 22 = .ok (.iconst (-1), 1) := dk_2 (dk_at dksX4_kind_0 22 rfl rfl)
theorem dX4_kind_23 : decode cX4_kind 23 = .ok (.ireturn, 1) := dk_172 (dk_at dksX4_kind_0 23 rfl rfl)
theorem dX4_kind_24 : decode cX4_kind 24 = .ok (.aload_n 0, 1) := dk_42 (dk_at dksX4_kind_1 0 rfl rfl)
theorem dX4_kind_25 : decode cX4_kind 25 = .ok (.ldc_w 270, 3) := dk_19 1 14 (dk_at dksX4_kind_1 1 rfl rfl)
theorem dX4_kind_28 : decode cX4_kind 28 = .ok (.invokevirtual 257, 3) := dk_182 1 1 (dk_at dksX4_kind_1 4 rfl rfl)
theorem dX4_kind_31 : decode cX4_kind 31 = .ok (.iconst 0, 1) := dk_3 (dk_at dksX4_kind_1 7 rfl rfl)
theorem dX4_kind_32 : decode cX4_kind 32 = .ok (.istore 4, 2) := dk_54 4 (dk_at dksX4_kind_1 8 rfl rfl)
theorem dX4_kind_34 : decode cX4_kind 34 = .ok (.iload 4, 2) := dk_21 4 (dk_at dksX4_kind_1 10 rfl rfl)
theorem dX4_kind_36 : decode cX4_kind 36 = .ok (.iconst 4, 1) := dk_7 (dk_at dksX4_kind_1 12 rfl rfl)
theorem dX4_kind_37 : decode cX4_kind 37 = .ok (.if_icmp .ge 36, 3) := dk_162 0 36 (dk_at dksX4_kind_1 13 rfl rfl)
theorem dX4_kind_40 : decode cX4_kind 40 = .ok (.aload_n 0, 1) := dk_42 (dk_at dksX4_kind_1 16 rfl rfl)
theorem dX4_kind_41 : decode cX4_kind 41 = .ok (.invokevirtual 194, 3) := dk_182 0 194 (dk_at dksX4_kind_1 17 rfl rfl)
theorem dX4_kind_44 : decode cX4_kind 44 = .ok (.aload_n 0, 1) := dk_42 (dk_at dksX4_kind_1 20 rfl rfl)
theorem dX4_kind_45 : decode cX4_kind 45 = .ok (.getfield 13, 3) := dk_180 0 13 (dk_at dksX4_kind_1 21 rfl rfl)
theorem dX4_kind_48 : decode cX4_kind 48 = .ok (.iconst 2, 1) := dk_5 (dk_at dksX4_kind_2 0 rfl rfl)
theorem dX4_kind_49 : decode cX4_kind 49 = .ok (.iload_n 1, 1) := dk_27 (dk_at dksX4_kind_2 1 rfl rfl)
theorem dX4_kind_50 : decode cX4_kind 50 = .ok (.imul, 1) := dk_104 (dk_at dksX4_kind_2 2 rfl rfl)
theorem dX4_kind_51 : decode cX4_kind 51 = .ok (.iconst 0, 1) := dk_3 (dk_at dksX4_kind_2 3 rfl rfl)
theorem dX4_kind_52 : decode cX4_kind 52 = .ok (.iadd, 1) := dk_96 (dk_at dksX4_kind_2 4 rfl rfl)
theorem dX4_kind_53 : decode cX4_kind 53 = .ok (.iload 4, 2) := dk_21 4 (dk_at dksX4_kind_2 5 rfl rfl)
theorem dX4_kind_55 : decode cX4_kind 55 = .ok (.iastore, 1) := dk_79 (dk_at dksX4_kind_2 7 rfl rfl)
theorem dX4_kind_56 : decode cX4_kind 56 = .ok (.aload_n 0, 1) := dk_42 (dk_at dksX4_kind_2 8 rfl rfl)
theorem dX4_kind_57 : decode cX4_kind 57 = .ok (.iload 4, 2) := dk_21 4 (dk_at dksX4_kind_2 9 rfl rfl)
theorem dX4_kind_59 : decode cX4_kind 59 = .ok (.aload_n 0, 1) := dk_42 (dk_at dksX4_kind_2 11 rfl rfl)
theorem dX4_kind_60 : decode cX4_kind 60 = .ok (.iload_n 2, 1) := dk_28 (dk_at dksX4_kind_2 12 rfl rfl)
theorem dX4_kind_61 : decode cX4_kind 61 = .ok (.invokevirtual 254, 3) := dk_182 0 254 (dk_at dksX4_kind_2 13 rfl rfl)
theorem dX4_kind_64 : decode cX4_kind 64 = .ok (.invokevirtual 260, 3) := dk_182 1 4 (dk_at dksX4_kind_2 16 rfl rfl)
theorem dX4_kind_67 : decode cX4_kind 67 = .ok (.iinc 4 1, 3) := dk_132 4 1 (dk_at dksX4_kind_2 19 rfl rfl)
theorem dX4_kind_70 : decode cX4_kind 70 = .ok (.goto (-36), 3) := dk_167 255 220 (dk_at dksX4_kind_3 0 rfl rfl)
theorem dX4_kind_73 : decode cX4_kind 73 = .ok (.aload_n 0, 1) := dk_42 (dk_at dksX4_kind_3 3 rfl rfl)
theorem dX4_kind_74 : decode cX4_kind 74 = .ok (.iload_n 3, 1) := dk_29 (dk_at dksX4_kind_3 4 rfl rfl)
theorem dX4_kind_75 : decode cX4_kind 75 = .ok (.invokevirtual 264, 3) := dk_182 1 8 (dk_at dksX4_kind_3 5 rfl rfl)
theorem dX4_kind_78 : decode cX4_kind 78 = .ok (.ireturn, 1) := dk_172 (dk_at dksX4_kind_3 8 rfl rfl)
abbrev cX4_slack : ByteArray := prog_12_method_76_code
def yX4_slack : MethodName := ⟨RX4, "slack", "(III)I"⟩
def dkwX4_slack_3 : List UInt8 := [172]
abbrev dktX4_slack_3 : List UInt8 := dkwX4_slack_3 ++ []
def dkwX4_slack_2 : List UInt8 := [96, 21, 4, 79, 42, 28, 182, 0, 254, 29, 163, 0, 6, 21, 4, 172, 132, 4, 255, 167, 255, 217, 16, 252]
abbrev dktX4_slack_2 : List UInt8 := dkwX4_slack_2 ++ dktX4_slack_3
def dkwX4_slack_1 : List UInt8 := [16, 30, 54, 4, 21, 4, 158, 0, 40, 42, 182, 0, 194, 42, 180, 0, 13, 16, 35, 6, 27, 104, 96, 5]
abbrev dktX4_slack_1 : List UInt8 := dkwX4_slack_1 ++ dktX4_slack_2
def dkwX4_slack_0 : List UInt8 := [42, 27, 182, 0, 210, 153, 0, 17, 28, 184, 0, 239, 153, 0, 10, 29, 184, 0, 171, 154, 0, 5, 2, 172]
abbrev dktX4_slack_0 : List UInt8 := dkwX4_slack_0 ++ dktX4_slack_1
theorem dksX4_slack_0 : cX4_slack.data.toList.drop 0 = dktX4_slack_0 := by decide +kernel
theorem dksX4_slack_1 : cX4_slack.data.toList.drop 24 = dktX4_slack_1 := dk_seg dksX4_slack_0 24 rfl rfl
theorem dksX4_slack_2 : cX4_slack.data.toList.drop 48 = dktX4_slack_2 := dk_seg dksX4_slack_1 24 rfl rfl
theorem dksX4_slack_3 : cX4_slack.data.toList.drop 72 = dktX4_slack_3 := dk_seg dksX4_slack_2 24 rfl rfl
theorem dX4_slack_0 : decode cX4_slack 0 = .ok (.aload_n 0, 1) := dk_42 (dk_at dksX4_slack_0 0 rfl rfl)
theorem dX4_slack_1 : decode cX4_slack 1 = .ok (.iload_n 1, 1) := dk_27 (dk_at dksX4_slack_0 1 rfl rfl)
theorem dX4_slack_2 : decode cX4_slack 2 = .ok (.invokevirtual 210, 3) := dk_182 0 210 (dk_at dksX4_slack_0 2 rfl rfl)
theorem dX4_slack_5 : decode cX4_slack 5 = .ok (.ifCond .eq 17, 3) := dk_153 0 17 (dk_at dksX4_slack_0 5 rfl rfl)
theorem dX4_slack_8 : decode cX4_slack 8 = .ok (.iload_n 2, 1) := dk_28 (dk_at dksX4_slack_0 8 rfl rfl)
theorem dX4_slack_9 : decode cX4_slack 9 = .ok (.invokestatic 239, 3) := dk_184 0 239 (dk_at dksX4_slack_0 9 rfl rfl)
theorem dX4_slack_12 : decode cX4_slack 12 = .ok (.ifCond .eq 10, 3) := dk_153 0 10 (dk_at dksX4_slack_0 12 rfl rfl)
theorem dX4_slack_15 : decode cX4_slack 15 = .ok (.iload_n 3, 1) := dk_29 (dk_at dksX4_slack_0 15 rfl rfl)
theorem dX4_slack_16 : decode cX4_slack 16 = .ok (.invokestatic 171, 3) := dk_184 0 171 (dk_at dksX4_slack_0 16 rfl rfl)
theorem dX4_slack_19 : decode cX4_slack 19 = .ok (.ifCond .ne 5, 3) := dk_154 0 5 (dk_at dksX4_slack_0 19 rfl rfl)
theorem dX4_slack_22 : decode cX4_slack 22 = .ok (.iconst (-1), 1) := dk_2 (dk_at dksX4_slack_0 22 rfl rfl)
theorem dX4_slack_23 : decode cX4_slack 23 = .ok (.ireturn, 1) := dk_172 (dk_at dksX4_slack_0 23 rfl rfl)
theorem dX4_slack_24 : decode cX4_slack 24 = .ok (.bipush 30, 2) := dk_16 30 (dk_at dksX4_slack_1 0 rfl rfl)
theorem dX4_slack_26 : decode cX4_slack 26 = .ok (.istore 4, 2) := dk_54 4 (dk_at dksX4_slack_1 2 rfl rfl)
theorem dX4_slack_28 : decode cX4_slack 28 = .ok (.iload 4, 2) := dk_21 4 (dk_at dksX4_slack_1 4 rfl rfl)
theorem dX4_slack_30 : decode cX4_slack 30 = .ok (.ifCond .le 40, 3) := dk_158 0 40 (dk_at dksX4_slack_1 6 rfl rfl)
theorem dX4_slack_33 : decode cX4_slack 33 = .ok (.aload_n 0, 1) := dk_42 (dk_at dksX4_slack_1 9 rfl rfl)
theorem dX4_slack_34 : decode cX4_slack 34 = .ok (.invokevirtual 194, 3) := dk_182 0 194 (dk_at dksX4_slack_1 10 rfl rfl)
theorem dX4_slack_37 : decode cX4_slack 37 = .ok (.aload_n 0, 1) := dk_42 (dk_at dksX4_slack_1 13 rfl rfl)
theorem dX4_slack_38 : decode cX4_slack 38 = .ok (.getfield 13, 3) := dk_180 0 13 (dk_at dksX4_slack_1 14 rfl rfl)
theorem dX4_slack_41 : decode cX4_slack 41 = .ok (.bipush 35, 2) := dk_16 35 (dk_at dksX4_slack_1 17 rfl rfl)
theorem dX4_slack_43 : decode cX4_slack 43 = .ok (.iconst 3, 1) := dk_6 (dk_at dksX4_slack_1 19 rfl rfl)
theorem dX4_slack_44 : decode cX4_slack 44 = .ok (.iload_n 1, 1) := dk_27 (dk_at dksX4_slack_1 20 rfl rfl)
theorem dX4_slack_45 : decode cX4_slack 45 = .ok (.imul, 1) := dk_104 (dk_at dksX4_slack_1 21 rfl rfl)
theorem dX4_slack_46 : decode cX4_slack 46 = .ok (.iadd, 1) := dk_96 (dk_at dksX4_slack_1 22 rfl rfl)
theorem dX4_slack_47 : decode cX4_slack 47 = .ok (.iconst 2, 1) := dk_5 (dk_at dksX4_slack_1 23 rfl rfl)
theorem dX4_slack_48 : decode cX4_slack 48 = .ok (.iadd, 1) := dk_96 (dk_at dksX4_slack_2 0 rfl rfl)
theorem dX4_slack_49 : decode cX4_slack 49 = .ok (.iload 4, 2) := dk_21 4 (dk_at dksX4_slack_2 1 rfl rfl)
theorem dX4_slack_51 : decode cX4_slack 51 = .ok (.iastore, 1) := dk_79 (dk_at dksX4_slack_2 3 rfl rfl)
theorem dX4_slack_52 : decode cX4_slack 52 = .ok (.aload_n 0, 1) := dk_42 (dk_at dksX4_slack_2 4 rfl rfl)
theorem dX4_slack_53 : decode cX4_slack 53 = .ok (.iload_n 2, 1) := dk_28 (dk_at dksX4_slack_2 5 rfl rfl)
theorem dX4_slack_54 : decode cX4_slack 54 = .ok (.invokevirtual 254, 3) := dk_182 0 254 (dk_at dksX4_slack_2 6 rfl rfl)
theorem dX4_slack_57 : decode cX4_slack 57 = .ok (.iload_n 3, 1) := dk_29 (dk_at dksX4_slack_2 9 rfl rfl)
theorem dX4_slack_58 : decode cX4_slack 58 = .ok (.if_icmp .gt 6, 3) := dk_163 0 6 (dk_at dksX4_slack_2 10 rfl rfl)
theorem dX4_slack_61 : decode cX4_slack 61 = .ok (.iload 4, 2) := dk_21 4 (dk_at dksX4_slack_2 13 rfl rfl)
theorem dX4_slack_63 : decode cX4_slack 63 = .ok (.ireturn, 1) := dk_172 (dk_at dksX4_slack_2 15 rfl rfl)
theorem dX4_slack_64 : decode cX4_slack 64 = .ok (.iinc 4 (-1), 3) := dk_132 4 255 (dk_at dksX4_slack_2 16 rfl rfl)
theorem dX4_slack_67 : decode cX4_slack 67 = .ok (.goto (-39), 3) := dk_167 255 217 (dk_at dksX4_slack_2 19 rfl rfl)
theorem dX4_slack_70 : decode cX4_slack 70 = .ok (.bipush (-4), 2) := dk_16 252 (dk_at dksX4_slack_2 22 rfl rfl)
theorem dX4_slack_72 : decode cX4_slack 72 = .ok (.ireturn, 1) := dk_172 (dk_at dksX4_slack_3 0 rfl rfl)
abbrev cX4_luck : ByteArray := prog_12_method_80_code
def yX4_luck : MethodName := ⟨RX4, "luck", "(IIII)J"⟩
def dkwX4_luck_2 : List UInt8 := [182, 1, 35, 42, 180, 1, 19, 42, 180, 1, 26, 21, 4, 184, 1, 38, 173]
abbrev dktX4_luck_2 : List UInt8 := dkwX4_luck_2 ++ []
def dkwX4_luck_1 : List UInt8 := [29, 184, 0, 171, 153, 0, 11, 21, 4, 184, 0, 251, 154, 0, 7, 20, 1, 33, 173, 42, 27, 28, 29]
abbrev dktX4_luck_1 : List UInt8 := dkwX4_luck_1 ++ dktX4_luck_2
def dkwX4_luck_0 : List UInt8 := [27, 133, 9, 20, 1, 29, 184, 0, 69, 153, 0, 30, 28, 133, 9, 20, 1, 31, 184, 0, 69, 153, 0, 18]
abbrev dktX4_luck_0 : List UInt8 := dkwX4_luck_0 ++ dktX4_luck_1
theorem dksX4_luck_0 : cX4_luck.data.toList.drop 0 = dktX4_luck_0 := by decide +kernel
theorem dksX4_luck_1 : cX4_luck.data.toList.drop 24 = dktX4_luck_1 := dk_seg dksX4_luck_0 24 rfl rfl
theorem dksX4_luck_2 : cX4_luck.data.toList.drop 47 = dktX4_luck_2 := dk_seg dksX4_luck_1 23 rfl rfl
theorem dX4_luck_0 : decode cX4_luck 0 = .ok (.iload_n 1, 1) := dk_27 (dk_at dksX4_luck_0 0 rfl rfl)
theorem dX4_luck_1 : decode cX4_luck 1 = .ok (.i2l, 1) := dk_133 (dk_at dksX4_luck_0 1 rfl rfl)
theorem dX4_luck_2 : decode cX4_luck 2 = .ok (.lconst 0, 1) := dk_9 (dk_at dksX4_luck_0 2 rfl rfl)
theorem dX4_luck_3 : decode cX4_luck 3 = .ok (.ldc2_w 285, 3) := dk_20 1 29 (dk_at dksX4_luck_0 3 rfl rfl)
theorem dX4_luck_6 : decode cX4_luck 6 = .ok (.invokestatic 69, 3) := dk_184 0 69 (dk_at dksX4_luck_0 6 rfl rfl)
theorem dX4_luck_9 : decode cX4_luck 9 = .ok (.ifCond .eq 30, 3) := dk_153 0 30 (dk_at dksX4_luck_0 9 rfl rfl)
theorem dX4_luck_12 : decode cX4_luck 12 = .ok (.iload_n 2, 1) := dk_28 (dk_at dksX4_luck_0 12 rfl rfl)
theorem dX4_luck_13 : decode cX4_luck 13 = .ok (.i2l, 1) := dk_133 (dk_at dksX4_luck_0 13 rfl rfl)
theorem dX4_luck_14 : decode cX4_luck 14 = .ok (.lconst 0, 1) := dk_9 (dk_at dksX4_luck_0 14 rfl rfl)
theorem dX4_luck_15 : decode cX4_luck 15 = .ok (.ldc2_w 287, 3) := dk_20 1 31 (dk_at dksX4_luck_0 15 rfl rfl)
theorem dX4_luck_18 : decode cX4_luck 18 = .ok (.invokestatic 69, 3) := dk_184 0 69 (dk_at dksX4_luck_0 18 rfl rfl)
theorem dX4_luck_21 : decode cX4_luck 21 = .ok (.ifCond .eq 18, 3) := dk_153 0 18 (dk_at dksX4_luck_0 21 rfl rfl)
theorem dX4_luck_24 : decode cX4_luck 24 = .ok (.iload_n 3, 1) := dk_29 (dk_at dksX4_luck_1 0 rfl rfl)
theorem dX4_luck_25 : decode cX4_luck 25 = .ok (.invokestatic 171, 3) := dk_184 0 171 (dk_at dksX4_luck_1 1 rfl rfl)
theorem dX4_luck_28 : decode cX4_luck 28 = .ok (.ifCond .eq 11, 3) := dk_153 0 11 (dk_at dksX4_luck_1 4 rfl rfl)
theorem dX4_luck_31 : decode cX4_luck 31 = .ok (.iload 4, 2) := dk_21 4 (dk_at dksX4_luck_1 7 rfl rfl)
theorem dX4_luck_33 : decode cX4_luck 33 = .ok (.invokestatic 251, 3) := dk_184 0 251 (dk_at dksX4_luck_1 9 rfl rfl)
theorem dX4_luck_36 : decode cX4_luck 36 = .ok (.ifCond .ne 7, 3) := dk_154 0 7 (dk_at dksX4_luck_1 12 rfl rfl)
theorem dX4_luck_39 : decode cX4_luck 39 = .ok (.ldc2_w 289, 3) := dk_20 1 33 (dk_at dksX4_luck_1 15 rfl rfl)
theorem dX4_luck_42 : decode cX4_luck 42 = .ok (.lreturn, 1) := dk_173 (dk_at dksX4_luck_1 18 rfl rfl)
theorem dX4_luck_43 : decode cX4_luck 43 = .ok (.aload_n 0, 1) := dk_42 (dk_at dksX4_luck_1 19 rfl rfl)
theorem dX4_luck_44 : decode cX4_luck 44 = .ok (.iload_n 1, 1) := dk_27 (dk_at dksX4_luck_1 20 rfl rfl)
theorem dX4_luck_45 : decode cX4_luck 45 = .ok (.iload_n 2, 1) := dk_28 (dk_at dksX4_luck_1 21 rfl rfl)
theorem dX4_luck_46 : decode cX4_luck 46 = .ok (.iload_n 3, 1) := dk_29 (dk_at dksX4_luck_1 22 rfl rfl)
theorem dX4_luck_47 : decode cX4_luck 47 = .ok (.invokevirtual 291, 3) := dk_182 1 35 (dk_at dksX4_luck_2 0 rfl rfl)
theorem dX4_luck_50 : decode cX4_luck 50 = .ok (.aload_n 0, 1) := dk_42 (dk_at dksX4_luck_2 3 rfl rfl)
theorem dX4_luck_51 : decode cX4_luck 51 = .ok (.getfield 275, 3) := dk_180 1 19 (dk_at dksX4_luck_2 4 rfl rfl)
theorem dX4_luck_54 : decode cX4_luck 54 = .ok (.aload_n 0, 1) := dk_42 (dk_at dksX4_luck_2 7 rfl rfl)
theorem dX4_luck_55 : decode cX4_luck 55 = .ok (.getfield 282, 3) := dk_180 1 26 (dk_at dksX4_luck_2 8 rfl rfl)
theorem dX4_luck_58 : decode cX4_luck 58 = .ok (.iload 4, 2) := dk_21 4 (dk_at dksX4_luck_2 11 rfl rfl)
theorem dX4_luck_60 : decode cX4_luck 60 = .ok (.invokestatic 294, 3) := dk_184 1 38 (dk_at dksX4_luck_2 13 rfl rfl)
theorem dX4_luck_63 : decode cX4_luck 63 = .ok (.lreturn, 1) := dk_173 (dk_at dksX4_luck_2 16 rfl rfl)
abbrev cX4_findOdds : ByteArray := prog_12_method_79_code
def yX4_findOdds : MethodName := ⟨RX4, "findOdds", "(III)V"⟩
def dkwX4_findOdds_6 : List UInt8 := [89, 180, 1, 23, 22, 5, 42, 182, 0, 197, 133, 105, 97, 181, 1, 23, 132, 4, 1, 167, 255, 139, 177]
abbrev dktX4_findOdds_6 : List UInt8 := dkwX4_findOdds_6 ++ []
def dkwX4_findOdds_5 : List UInt8 := [42, 89, 180, 1, 19, 42, 182, 0, 197, 29, 163, 0, 8, 22, 5, 167, 0, 4, 9, 97, 181, 1, 19, 42]
abbrev dktX4_findOdds_5 : List UInt8 := dkwX4_findOdds_5 ++ dktX4_findOdds_6
def dkwX4_findOdds_4 : List UInt8 := [133, 167, 0, 8, 16, 10, 27, 100, 133, 105, 55, 5, 42, 21, 8, 182, 0, 190, 132, 7, 1, 167, 255, 203]
abbrev dktX4_findOdds_4 : List UInt8 := dkwX4_findOdds_4 ++ dktX4_findOdds_5
def dkwX4_findOdds_3 : List UInt8 := [21, 7, 122, 4, 126, 4, 160, 0, 7, 4, 167, 0, 4, 3, 54, 8, 22, 5, 21, 8, 153, 0, 8, 27]
abbrev dktX4_findOdds_3 : List UInt8 := dkwX4_findOdds_3 ++ dktX4_findOdds_4
def dkwX4_findOdds_2 : List UInt8 := [28, 120, 162, 0, 115, 10, 55, 5, 42, 182, 0, 194, 3, 54, 7, 21, 7, 28, 162, 0, 53, 21, 4]
abbrev dktX4_findOdds_2 : List UInt8 := dkwX4_findOdds_2 ++ dktX4_findOdds_3
def dkwX4_findOdds_1 : List UInt8 := [42, 89, 180, 1, 26, 20, 1, 29, 105, 181, 1, 26, 132, 4, 1, 167, 255, 235, 3, 54, 4, 21, 4, 4]
abbrev dktX4_findOdds_1 : List UInt8 := dkwX4_findOdds_1 ++ dktX4_findOdds_2
def dkwX4_findOdds_0 : List UInt8 := [42, 9, 181, 1, 19, 42, 9, 181, 1, 23, 42, 10, 181, 1, 26, 3, 54, 4, 21, 4, 28, 162, 0, 21]
abbrev dktX4_findOdds_0 : List UInt8 := dkwX4_findOdds_0 ++ dktX4_findOdds_1
theorem dksX4_findOdds_0 : cX4_findOdds.data.toList.drop 0 = dktX4_findOdds_0 := by decide +kernel
theorem dksX4_findOdds_1 : cX4_findOdds.data.toList.drop 24 = dktX4_findOdds_1 := dk_seg dksX4_findOdds_0 24 rfl rfl
theorem dksX4_findOdds_2 : cX4_findOdds.data.toList.drop 48 = dktX4_findOdds_2 := dk_seg dksX4_findOdds_1 24 rfl rfl
theorem dksX4_findOdds_3 : cX4_findOdds.data.toList.drop 71 = dktX4_findOdds_3 := dk_seg dksX4_findOdds_2 23 rfl rfl
theorem dksX4_findOdds_4 : cX4_findOdds.data.toList.drop 95 = dktX4_findOdds_4 := dk_seg dksX4_findOdds_3 24 rfl rfl
theorem dksX4_findOdds_5 : cX4_findOdds.data.toList.drop 119 = dktX4_findOdds_5 := dk_seg dksX4_findOdds_4 24 rfl rfl
theorem dksX4_findOdds_6 : cX4_findOdds.data.toList.drop 143 = dktX4_findOdds_6 := dk_seg dksX4_findOdds_5 24 rfl rfl
theorem dX4_findOdds_0 : decode cX4_findOdds 0 = .ok (.aload_n 0, 1) := dk_42 (dk_at dksX4_findOdds_0 0 rfl rfl)
theorem dX4_findOdds_1 : decode cX4_findOdds 1 = .ok (.lconst 0, 1) := dk_9 (dk_at dksX4_findOdds_0 1 rfl rfl)
theorem dX4_findOdds_2 : decode cX4_findOdds 2 = .ok (.putfield 275, 3) := dk_181 1 19 (dk_at dksX4_findOdds_0 2 rfl rfl)
theorem dX4_findOdds_5 : decode cX4_findOdds 5 = .ok (.aload_n 0, 1) := dk_42 (dk_at dksX4_findOdds_0 5 rfl rfl)
theorem dX4_findOdds_6 : decode cX4_findOdds 6 = .ok (.lconst 0, 1) := dk_9 (dk_at dksX4_findOdds_0 6 rfl rfl)
theorem dX4_findOdds_7 : decode cX4_findOdds 7 = .ok (.putfield 279, 3) := dk_181 1 23 (dk_at dksX4_findOdds_0 7 rfl rfl)
theorem dX4_findOdds_10 : decode cX4_findOdds 10 = .ok (.aload_n 0, 1) := dk_42 (dk_at dksX4_findOdds_0 10 rfl rfl)
theorem dX4_findOdds_11 : decode cX4_findOdds 11 = .ok (.lconst 1, 1) := dk_10 (dk_at dksX4_findOdds_0 11 rfl rfl)
theorem dX4_findOdds_12 : decode cX4_findOdds 12 = .ok (.putfield 282, 3) := dk_181 1 26 (dk_at dksX4_findOdds_0 12 rfl rfl)
theorem dX4_findOdds_15 : decode cX4_findOdds 15 = .ok (.iconst 0, 1) := dk_3 (dk_at dksX4_findOdds_0 15 rfl rfl)
theorem dX4_findOdds_16 : decode cX4_findOdds 16 = .ok (.istore 4, 2) := dk_54 4 (dk_at dksX4_findOdds_0 16 rfl rfl)
theorem dX4_findOdds_18 : decode cX4_findOdds 18 = .ok (.iload 4, 2) := dk_21 4 (dk_at dksX4_findOdds_0 18 rfl rfl)
theorem dX4_findOdds_20 : decode cX4_findOdds 20 = .ok (.iload_n 2, 1) := dk_28 (dk_at dksX4_findOdds_0 20 rfl rfl)
theorem dX4_findOdds_21 : decode cX4_findOdds 21 = .ok (.if_icmp .ge 21, 3) := dk_162 0 21 (dk_at dksX4_findOdds_0 21 rfl rfl)
theorem dX4_findOdds_24 : decode cX4_findOdds 24 = .ok (.aload_n 0, 1) := dk_42 (dk_at dksX4_findOdds_1 0 rfl rfl)
theorem dX4_findOdds_25 : decode cX4_findOdds 25 = .ok (.dup, 1) := dk_89 (dk_at dksX4_findOdds_1 1 rfl rfl)
theorem dX4_findOdds_26 : decode cX4_findOdds 26 = .ok (.getfield 282, 3) := dk_180 1 26 (dk_at dksX4_findOdds_1 2 rfl rfl)
theorem dX4_findOdds_29 : decode cX4_findOdds 29 = .ok (.ldc2_w 285, 3) := dk_20 1 29 (dk_at dksX4_findOdds_1 5 rfl rfl)
theorem dX4_findOdds_32 : decode cX4_findOdds 32 = .ok (.lmul, 1) := dk_105 (dk_at dksX4_findOdds_1 8 rfl rfl)
theorem dX4_findOdds_33 : decode cX4_findOdds 33 = .ok (.putfield 282, 3) := dk_181 1 26 (dk_at dksX4_findOdds_1 9 rfl rfl)
theorem dX4_findOdds_36 : decode cX4_findOdds 36 = .ok (.iinc 4 1, 3) := dk_132 4 1 (dk_at dksX4_findOdds_1 12 rfl rfl)
theorem dX4_findOdds_39 : decode cX4_findOdds 39 = .ok (.goto (-21), 3) := dk_167 255 235 (dk_at dksX4_findOdds_1 15 rfl rfl)
theorem dX4_findOdds_42 : decode cX4_findOdds 42 = .ok (.iconst 0, 1) := dk_3 (dk_at dksX4_findOdds_1 18 rfl rfl)
theorem dX4_findOdds_43 : decode cX4_findOdds 43 = .ok (.istore 4, 2) := dk_54 4 (dk_at dksX4_findOdds_1 19 rfl rfl)
theorem dX4_findOdds_45 : decode cX4_findOdds 45 = .ok (.iload 4, 2) := dk_21 4 (dk_at dksX4_findOdds_1 21 rfl rfl)
theorem dX4_findOdds_47 : decode cX4_findOdds 47 = .ok (.iconst 1, 1) := dk_4 (dk_at dksX4_findOdds_1 23 rfl rfl)
theorem dX4_findOdds_48 : decode cX4_findOdds 48 = .ok (.iload_n 2, 1) := dk_28 (dk_at dksX4_findOdds_2 0 rfl rfl)
theorem dX4_findOdds_49 : decode cX4_findOdds 49 = .ok (.ishl, 1) := dk_120 (dk_at dksX4_findOdds_2 1 rfl rfl)
theorem dX4_findOdds_50 : decode cX4_findOdds 50 = .ok (.if_icmp .ge 115, 3) := dk_162 0 115 (dk_at dksX4_findOdds_2 2 rfl rfl)
theorem dX4_findOdds_53 : decode cX4_findOdds 53 = .ok (.lconst 1, 1) := dk_10 (dk_at dksX4_findOdds_2 5 rfl rfl)
theorem dX4_findOdds_54 : decode cX4_findOdds 54 = .ok (.lstore 5, 2) := dk_55 5 (dk_at dksX4_findOdds_2 6 rfl rfl)
theorem dX4_findOdds_56 : decode cX4_findOdds 56 = .ok (.aload_n 0, 1) := dk_42 (dk_at dksX4_findOdds_2 8 rfl rfl)
theorem dX4_findOdds_57 : decode cX4_findOdds 57 = .ok (.invokevirtual 194, 3) := dk_182 0 194 (dk_at dksX4_findOdds_2 9 rfl rfl)
theorem dX4_findOdds_60 : decode cX4_findOdds 60 = .ok (.iconst 0, 1) := dk_3 (dk_at dksX4_findOdds_2 12 rfl rfl)
theorem dX4_findOdds_61 : decode cX4_findOdds 61 = .ok (.istore 7, 2) := dk_54 7 (dk_at dksX4_findOdds_2 13 rfl rfl)
theorem dX4_findOdds_63 : decode cX4_findOdds 63 = .ok (.iload 7, 2) := dk_21 7 (dk_at dksX4_findOdds_2 15 rfl rfl)
theorem dX4_findOdds_65 : decode cX4_findOdds 65 = .ok (.iload_n 2, 1) := dk_28 (dk_at dksX4_findOdds_2 17 rfl rfl)
theorem dX4_findOdds_66 : decode cX4_findOdds 66 = .ok (.if_icmp .ge 53, 3) := dk_162 0 53 (dk_at dksX4_findOdds_2 18 rfl rfl)
theorem dX4_findOdds_69 : decode cX4_findOdds 69 = .ok (.iload 4, 2) := dk_21 4 (dk_at dksX4_findOdds_2 21 rfl rfl)
theorem dX4_findOdds_71 : decode cX4_findOdds 71 = .ok (.iload 7, 2) := dk_21 7 (dk_at dksX4_findOdds_3 0 rfl rfl)
theorem dX4_findOdds_73 : decode cX4_findOdds 73 = .ok (.ishr, 1) := dk_122 (dk_at dksX4_findOdds_3 2 rfl rfl)
theorem dX4_findOdds_74 : decode cX4_findOdds 74 = .ok (.iconst 1, 1) := dk_4 (dk_at dksX4_findOdds_3 3 rfl rfl)
theorem dX4_findOdds_75 : decode cX4_findOdds 75 = .ok (.iand, 1) := dk_126 (dk_at dksX4_findOdds_3 4 rfl rfl)
theorem dX4_findOdds_76 : decode cX4_findOdds 76 = .ok (.iconst 1, 1) := dk_4 (dk_at dksX4_findOdds_3 5 rfl rfl)
theorem dX4_findOdds_77 : decode cX4_findOdds 77 = .ok (.if_icmp .ne 7, 3) := dk_160 0 7 (dk_at dksX4_findOdds_3 6 rfl rfl)
theorem dX4_findOdds_80 : decode cX4_findOdds 80 = .ok (.iconst 1, 1) := dk_4 (dk_at dksX4_findOdds_3 9 rfl rfl)
theorem dX4_findOdds_81 : decode cX4_findOdds 81 = .ok (.goto 4, 3) := dk_167 0 4 (dk_at dksX4_findOdds_3 10 rfl rfl)
theorem dX4_findOdds_84 : decode cX4_findOdds 84 = .ok (.iconst 0, 1) := dk_3 (dk_at dksX4_findOdds_3 13 rfl rfl)
theorem dX4_findOdds_85 : decode cX4_findOdds 85 = .ok (.istore 8, 2) := dk_54 8 (dk_at dksX4_findOdds_3 14 rfl rfl)
theorem dX4_findOdds_87 : decode cX4_findOdds 87 = .ok (.lload 5, 2) := dk_22 5 (dk_at dksX4_findOdds_3 16 rfl rfl)
theorem dX4_findOdds_89 : decode cX4_findOdds 89 = .ok (.iload 8, 2) := dk_21 8 (dk_at dksX4_findOdds_3 18 rfl rfl)
theorem dX4_findOdds_91 : decode cX4_findOdds 91 = .ok (.ifCond .eq 8, 3) := dk_153 0 8 (dk_at dksX4_findOdds_3 20 rfl rfl)
theorem dX4_findOdds_94 : decode cX4_findOdds 94 = .ok (.iload_n 1, 1) := dk_27 (dk_at dksX4_findOdds_3 23 rfl rfl)
theorem dX4_findOdds_95 : decode cX4_findOdds 95 = .ok (.i2l, 1) := dk_133 (dk_at dksX4_findOdds_4 0 rfl rfl)
theorem dX4_findOdds_96 : decode cX4_findOdds 96 = .ok (.goto 8, 3) := dk_167 0 8 (dk_at dksX4_findOdds_4 1 rfl rfl)
theorem dX4_findOdds_99 : decode cX4_findOdds 99 = .ok (.bipush 10, 2) := dk_16 10 (dk_at dksX4_findOdds_4 4 rfl rfl)
theorem dX4_findOdds_101 : decode cX4_findOdds 101 = .ok (.iload_n 1, 1) := dk_27 (dk_at dksX4_findOdds_4 6 rfl rfl)
theorem dX4_findOdds_102 : decode cX4_findOdds 102 = .ok (.isub, 1) := dk_100 (dk_at dksX4_findOdds_4 7 rfl rfl)
theorem dX4_findOdds_103 : decode cX4_findOdds 103 = .ok (.i2l, 1) := dk_133 (dk_at dksX4_findOdds_4 8 rfl rfl)
theorem dX4_findOdds_104 : decode cX4_findOdds 104 = .ok (.lmul, 1) := dk_105 (dk_at dksX4_findOdds_4 9 rfl rfl)
theorem dX4_findOdds_105 : decode cX4_findOdds 105 = .ok (.lstore 5, 2) := dk_55 5 (dk_at dksX4_findOdds_4 10 rfl rfl)
theorem dX4_findOdds_107 : decode cX4_findOdds 107 = .ok (.aload_n 0, 1) := dk_42 (dk_at dksX4_findOdds_4 12 rfl rfl)
theorem dX4_findOdds_108 : decode cX4_findOdds 108 = .ok (.iload 8, 2) := dk_21 8 (dk_at dksX4_findOdds_4 13 rfl rfl)
theorem dX4_findOdds_110 : decode cX4_findOdds 110 = .ok (.invokevirtual 190, 3) := dk_182 0 190 (dk_at dksX4_findOdds_4 15 rfl rfl)
theorem dX4_findOdds_113 : decode cX4_findOdds 113 = .ok (.iinc 7 1, 3) := dk_132 7 1 (dk_at dksX4_findOdds_4 18 rfl rfl)
theorem dX4_findOdds_116 : decode cX4_findOdds 116 = .ok (.goto (-53), 3) := dk_167 255 203 (dk_at dksX4_findOdds_4 21 rfl rfl)
theorem dX4_findOdds_119 : decode cX4_findOdds 119 = .ok (.aload_n 0, 1) := dk_42 (dk_at dksX4_findOdds_5 0 rfl rfl)
theorem dX4_findOdds_120 : decode cX4_findOdds 120 = .ok (.dup, 1) := dk_89 (dk_at dksX4_findOdds_5 1 rfl rfl)
theorem dX4_findOdds_121 : decode cX4_findOdds 121 = .ok (.getfield 275, 3) := dk_180 1 19 (dk_at dksX4_findOdds_5 2 rfl rfl)
theorem dX4_findOdds_124 : decode cX4_findOdds 124 = .ok (.aload_n 0, 1) := dk_42 (dk_at dksX4_findOdds_5 5 rfl rfl)
theorem dX4_findOdds_125 : decode cX4_findOdds 125 = .ok (.invokevirtual 197, 3) := dk_182 0 197 (dk_at dksX4_findOdds_5 6 rfl rfl)
theorem dX4_findOdds_128 : decode cX4_findOdds 128 = .ok (.iload_n 3, 1) := dk_29 (dk_at dksX4_findOdds_5 9 rfl rfl)
theorem dX4_findOdds_129 : decode cX4_findOdds 129 = .ok (.if_icmp .gt 8, 3) := dk_163 0 8 (dk_at dksX4_findOdds_5 10 rfl rfl)
theorem dX4_findOdds_132 : decode cX4_findOdds 132 = .ok (.lload 5, 2) := dk_22 5 (dk_at dksX4_findOdds_5 13 rfl rfl)
theorem dX4_findOdds_134 : decode cX4_findOdds 134 = .ok (.goto 4, 3) := dk_167 0 4 (dk_at dksX4_findOdds_5 15 rfl rfl)
theorem dX4_findOdds_137 : decode cX4_findOdds 137 = .ok (.lconst 0, 1) := dk_9 (dk_at dksX4_findOdds_5 18 rfl rfl)
theorem dX4_findOdds_138 : decode cX4_findOdds 138 = .ok (.ladd, 1) := dk_97 (dk_at dksX4_findOdds_5 19 rfl rfl)
theorem dX4_findOdds_139 : decode cX4_findOdds 139 = .ok (.putfield 275, 3) := dk_181 1 19 (dk_at dksX4_findOdds_5 20 rfl rfl)
theorem dX4_findOdds_142 : decode cX4_findOdds 142 = .ok (.aload_n 0, 1) := dk_42 (dk_at dksX4_findOdds_5 23 rfl rfl)
theorem dX4_findOdds_143 : decode cX4_findOdds 143 = .ok (.dup, 1) := dk_89 (dk_at dksX4_findOdds_6 0 rfl rfl)
theorem dX4_findOdds_144 : decode cX4_findOdds 144 = .ok (.getfield 279, 3) := dk_180 1 23 (dk_at dksX4_findOdds_6 1 rfl rfl)
theorem dX4_findOdds_147 : decode cX4_findOdds 147 = .ok (.lload 5, 2) := dk_22 5 (dk_at dksX4_findOdds_6 4 rfl rfl)
theorem dX4_findOdds_149 : decode cX4_findOdds 149 = .ok (.aload_n 0, 1) := dk_42 (dk_at dksX4_findOdds_6 6 rfl rfl)
theorem dX4_findOdds_150 : decode cX4_findOdds 150 = .ok (.invokevirtual 197, 3) := dk_182 0 197 (dk_at dksX4_findOdds_6 7 rfl rfl)
theorem dX4_findOdds_153 : decode cX4_findOdds 153 = .ok (.i2l, 1) := dk_133 (dk_at dksX4_findOdds_6 10 rfl rfl)
theorem dX4_findOdds_154 : decode cX4_findOdds 154 = .ok (.lmul, 1) := dk_105 (dk_at dksX4_findOdds_6 11 rfl rfl)
theorem dX4_findOdds_155 : decode cX4_findOdds 155 = .ok (.ladd, 1) := dk_97 (dk_at dksX4_findOdds_6 12 rfl rfl)
theorem dX4_findOdds_156 : decode cX4_findOdds 156 = .ok (.putfield 279, 3) := dk_181 1 23 (dk_at dksX4_findOdds_6 13 rfl rfl)
theorem dX4_findOdds_159 : decode cX4_findOdds 159 = .ok (.iinc 4 1, 3) := dk_132 4 1 (dk_at dksX4_findOdds_6 16 rfl rfl)
theorem dX4_findOdds_162 : decode cX4_findOdds 162 = .ok (.goto (-117), 3) := dk_167 255 139 (dk_at dksX4_findOdds_6 19 rfl rfl)
theorem dX4_findOdds_165 : decode cX4_findOdds 165 = .ok (.return_, 1) := dk_177 (dk_at dksX4_findOdds_6 22 rfl rfl)
abbrev cX4_told : ByteArray := prog_12_method_78_code
def yX4_told : MethodName := ⟨RX4, "told", "(JJI)J"⟩
def dkwX4_told_0 : List UInt8 := [32, 30, 184, 1, 15, 55, 5, 21, 4, 154, 0, 10, 30, 22, 5, 109, 167, 0, 7, 32, 22, 5, 109, 173]
abbrev dktX4_told_0 : List UInt8 := dkwX4_told_0 ++ []
theorem dksX4_told_0 : cX4_told.data.toList.drop 0 = dktX4_told_0 := by decide +kernel
theorem dX4_told_0 : decode cX4_told 0 = .ok (.lload_n 2, 1) := dk_32 (dk_at dksX4_told_0 0 rfl rfl)
theorem dX4_told_1 : decode cX4_told 1 = .ok (.lload_n 0, 1) := dk_30 (dk_at dksX4_told_0 1 rfl rfl)
theorem dX4_told_2 : decode cX4_told 2 = .ok (.invokestatic 271, 3) := dk_184 1 15 (dk_at dksX4_told_0 2 rfl rfl)
theorem dX4_told_5 : decode cX4_told 5 = .ok (.lstore 5, 2) := dk_55 5 (dk_at dksX4_told_0 5 rfl rfl)
theorem dX4_told_7 : decode cX4_told 7 = .ok (.iload 4, 2) := dk_21 4 (dk_at dksX4_told_0 7 rfl rfl)
theorem dX4_told_9 : decode cX4_told 9 = .ok (.ifCond .ne 10, 3) := dk_154 0 10 (dk_at dksX4_told_0 9 rfl rfl)
theorem dX4_told_12 : decode cX4_told 12 = .ok (.lload_n 0, 1) := dk_30 (dk_at dksX4_told_0 12 rfl rfl)
theorem dX4_told_13 : decode cX4_told 13 = .ok (.lload 5, 2) := dk_22 5 (dk_at dksX4_told_0 13 rfl rfl)
theorem dX4_told_15 : decode cX4_told 15 = .ok (.ldiv, 1) := dk_109 (dk_at dksX4_told_0 15 rfl rfl)
theorem dX4_told_16 : decode cX4_told 16 = .ok (.goto 7, 3) := dk_167 0 7 (dk_at dksX4_told_0 16 rfl rfl)
theorem dX4_told_19 : decode cX4_told 19 = .ok (.lload_n 2, 1) := dk_32 (dk_at dksX4_told_0 19 rfl rfl)
theorem dX4_told_20 : decode cX4_told 20 = .ok (.lload 5, 2) := dk_22 5 (dk_at dksX4_told_0 20 rfl rfl)
theorem dX4_told_22 : decode cX4_told 22 = .ok (.ldiv, 1) := dk_109 (dk_at dksX4_told_0 22 rfl rfl)
theorem dX4_told_23 : decode cX4_told 23 = .ok (.lreturn, 1) := dk_173 (dk_at dksX4_told_0 23 rfl rfl)
abbrev cX4_common : ByteArray := prog_12_method_77_code
def yX4_common : MethodName := ⟨RX4, "common", "(JJ)J"⟩
def dkwX4_common_1 : List UInt8 := [22, 8, 55, 6, 167, 255, 234, 22, 4, 173]
abbrev dktX4_common_1 : List UInt8 := dkwX4_common_1 ++ []
def dkwX4_common_0 : List UInt8 := [30, 55, 4, 32, 55, 6, 22, 6, 9, 148, 153, 0, 21, 22, 4, 22, 6, 113, 55, 8, 22, 6, 55, 4]
abbrev dktX4_common_0 : List UInt8 := dkwX4_common_0 ++ dktX4_common_1
theorem dksX4_common_0 : cX4_common.data.toList.drop 0 = dktX4_common_0 := by decide +kernel
theorem dksX4_common_1 : cX4_common.data.toList.drop 24 = dktX4_common_1 := dk_seg dksX4_common_0 24 rfl rfl
theorem dX4_common_0 : decode cX4_common 0 = .ok (.lload_n 0, 1) := dk_30 (dk_at dksX4_common_0 0 rfl rfl)
theorem dX4_common_1 : decode cX4_common 1 = .ok (.lstore 4, 2) := dk_55 4 (dk_at dksX4_common_0 1 rfl rfl)
theorem dX4_common_3 : decode cX4_common 3 = .ok (.lload_n 2, 1) := dk_32 (dk_at dksX4_common_0 3 rfl rfl)
theorem dX4_common_4 : decode cX4_common 4 = .ok (.lstore 6, 2) := dk_55 6 (dk_at dksX4_common_0 4 rfl rfl)
theorem dX4_common_6 : decode cX4_common 6 = .ok (.lload 6, 2) := dk_22 6 (dk_at dksX4_common_0 6 rfl rfl)
theorem dX4_common_8 : decode cX4_common 8 = .ok (.lconst 0, 1) := dk_9 (dk_at dksX4_common_0 8 rfl rfl)
theorem dX4_common_9 : decode cX4_common 9 = .ok (.lcmp, 1) := dk_148 (dk_at dksX4_common_0 9 rfl rfl)
theorem dX4_common_10 : decode cX4_common 10 = .ok (.ifCond .eq 21, 3) := dk_153 0 21 (dk_at dksX4_common_0 10 rfl rfl)
theorem dX4_common_13 : decode cX4_common 13 = .ok (.lload 4, 2) := dk_22 4 (dk_at dksX4_common_0 13 rfl rfl)
theorem dX4_common_15 : decode cX4_common 15 = .ok (.lload 6, 2) := dk_22 6 (dk_at dksX4_common_0 15 rfl rfl)
theorem dX4_common_17 : decode cX4_common 17 = .ok (.lrem, 1) := dk_113 (dk_at dksX4_common_0 17 rfl rfl)
theorem dX4_common_18 : decode cX4_common 18 = .ok (.lstore 8, 2) := dk_55 8 (dk_at dksX4_common_0 18 rfl rfl)
theorem dX4_common_20 : decode cX4_common 20 = .ok (.lload 6, 2) := dk_22 6 (dk_at dksX4_common_0 20 rfl rfl)
theorem dX4_common_22 : decode cX4_common 22 = .ok (.lstore 4, 2) := dk_55 4 (dk_at dksX4_common_0 22 rfl rfl)
theorem dX4_common_24 : decode cX4_common 24 = .ok (.lload 8, 2) := dk_22 8 (dk_at dksX4_common_1 0 rfl rfl)
theorem dX4_common_26 : decode cX4_common 26 = .ok (.lstore 6, 2) := dk_55 6 (dk_at dksX4_common_1 2 rfl rfl)
theorem dX4_common_28 : decode cX4_common 28 = .ok (.goto (-22), 3) := dk_167 255 234 (dk_at dksX4_common_1 4 rfl rfl)
theorem dX4_common_31 : decode cX4_common 31 = .ok (.lload 4, 2) := dk_22 4 (dk_at dksX4_common_1 7 rfl rfl)
theorem dX4_common_33 : decode cX4_common 33 = .ok (.lreturn, 1) := dk_173 (dk_at dksX4_common_1 9 rfl rfl)
abbrev cX4_mean : ByteArray := prog_12_method_81_code
def yX4_mean : MethodName := ⟨RX4, "mean", "(III)J"⟩
def dkwX4_mean_2 : List UInt8 := [180, 1, 26, 29, 184, 1, 38, 173]
abbrev dktX4_mean_2 : List UInt8 := dkwX4_mean_2 ++ []
def dkwX4_mean_1 : List UInt8 := [29, 184, 0, 251, 154, 0, 7, 20, 1, 33, 173, 42, 27, 28, 3, 182, 1, 35, 42, 180, 1, 23, 42]
abbrev dktX4_mean_1 : List UInt8 := dkwX4_mean_1 ++ dktX4_mean_2
def dkwX4_mean_0 : List UInt8 := [27, 133, 9, 20, 1, 29, 184, 0, 69, 153, 0, 22, 28, 133, 9, 20, 1, 31, 184, 0, 69, 153, 0, 10]
abbrev dktX4_mean_0 : List UInt8 := dkwX4_mean_0 ++ dktX4_mean_1
theorem dksX4_mean_0 : cX4_mean.data.toList.drop 0 = dktX4_mean_0 := by decide +kernel
theorem dksX4_mean_1 : cX4_mean.data.toList.drop 24 = dktX4_mean_1 := dk_seg dksX4_mean_0 24 rfl rfl
theorem dksX4_mean_2 : cX4_mean.data.toList.drop 47 = dktX4_mean_2 := dk_seg dksX4_mean_1 23 rfl rfl
theorem dX4_mean_0 : decode cX4_mean 0 = .ok (.iload_n 1, 1) := dk_27 (dk_at dksX4_mean_0 0 rfl rfl)
theorem dX4_mean_1 : decode cX4_mean 1 = .ok (.i2l, 1) := dk_133 (dk_at dksX4_mean_0 1 rfl rfl)
theorem dX4_mean_2 : decode cX4_mean 2 = .ok (.lconst 0, 1) := dk_9 (dk_at dksX4_mean_0 2 rfl rfl)
theorem dX4_mean_3 : decode cX4_mean 3 = .ok (.ldc2_w 285, 3) := dk_20 1 29 (dk_at dksX4_mean_0 3 rfl rfl)
theorem dX4_mean_6 : decode cX4_mean 6 = .ok (.invokestatic 69, 3) := dk_184 0 69 (dk_at dksX4_mean_0 6 rfl rfl)
theorem dX4_mean_9 : decode cX4_mean 9 = .ok (.ifCond .eq 22, 3) := dk_153 0 22 (dk_at dksX4_mean_0 9 rfl rfl)
theorem dX4_mean_12 : decode cX4_mean 12 = .ok (.iload_n 2, 1) := dk_28 (dk_at dksX4_mean_0 12 rfl rfl)
theorem dX4_mean_13 : decode cX4_mean 13 = .ok (.i2l, 1) := dk_133 (dk_at dksX4_mean_0 13 rfl rfl)
theorem dX4_mean_14 : decode cX4_mean 14 = .ok (.lconst 0, 1) := dk_9 (dk_at dksX4_mean_0 14 rfl rfl)
theorem dX4_mean_15 : decode cX4_mean 15 = .ok (.ldc2_w 287, 3) := dk_20 1 31 (dk_at dksX4_mean_0 15 rfl rfl)
theorem dX4_mean_18 : decode cX4_mean 18 = .ok (.invokestatic 69, 3) := dk_184 0 69 (dk_at dksX4_mean_0 18 rfl rfl)
theorem dX4_mean_21 : decode cX4_mean 21 = .ok (.ifCond .eq 10, 3) := dk_153 0 10 (dk_at dksX4_mean_0 21 rfl rfl)
theorem dX4_mean_24 : decode cX4_mean 24 = .ok (.iload_n 3, 1) := dk_29 (dk_at dksX4_mean_1 0 rfl rfl)
theorem dX4_mean_25 : decode cX4_mean 25 = .ok (.invokestatic 251, 3) := dk_184 0 251 (dk_at dksX4_mean_1 1 rfl rfl)
theorem dX4_mean_28 : decode cX4_mean 28 = .ok (.ifCond .ne 7, 3) := dk_154 0 7 (dk_at dksX4_mean_1 4 rfl rfl)
theorem dX4_mean_31 : decode cX4_mean 31 = .ok (.ldc2_w 289, 3) := dk_20 1 33 (dk_at dksX4_mean_1 7 rfl rfl)
theorem dX4_mean_34 : decode cX4_mean 34 = .ok (.lreturn, 1) := dk_173 (dk_at dksX4_mean_1 10 rfl rfl)
theorem dX4_mean_35 : decode cX4_mean 35 = .ok (.aload_n 0, 1) := dk_42 (dk_at dksX4_mean_1 11 rfl rfl)
theorem dX4_mean_36 : decode cX4_mean 36 = .ok (.iload_n 1, 1) := dk_27 (dk_at dksX4_mean_1 12 rfl rfl)
theorem dX4_mean_37 : decode cX4_mean 37 = .ok (.iload_n 2, 1) := dk_28 (dk_at dksX4_mean_1 13 rfl rfl)
theorem dX4_mean_38 : decode cX4_mean 38 = .ok (.iconst 0, 1) := dk_3 (dk_at dksX4_mean_1 14 rfl rfl)
theorem dX4_mean_39 : decode cX4_mean 39 = .ok (.invokevirtual 291, 3) := dk_182 1 35 (dk_at dksX4_mean_1 15 rfl rfl)
theorem dX4_mean_42 : decode cX4_mean 42 = .ok (.aload_n 0, 1) := dk_42 (dk_at dksX4_mean_1 18 rfl rfl)
theorem dX4_mean_43 : decode cX4_mean 43 = .ok (.getfield 279, 3) := dk_180 1 23 (dk_at dksX4_mean_1 19 rfl rfl)
theorem dX4_mean_46 : decode cX4_mean 46 = .ok (.aload_n 0, 1) := dk_42 (dk_at dksX4_mean_1 22 rfl rfl)
theorem dX4_mean_47 : decode cX4_mean 47 = .ok (.getfield 282, 3) := dk_180 1 26 (dk_at dksX4_mean_2 0 rfl rfl)
theorem dX4_mean_50 : decode cX4_mean 50 = .ok (.iload_n 3, 1) := dk_29 (dk_at dksX4_mean_2 3 rfl rfl)
theorem dX4_mean_51 : decode cX4_mean 51 = .ok (.invokestatic 294, 3) := dk_184 1 38 (dk_at dksX4_mean_2 4 rfl rfl)
theorem dX4_mean_54 : decode cX4_mean 54 = .ok (.lreturn, 1) := dk_173 (dk_at dksX4_mean_2 7 rfl rfl)
abbrev cX4_see : ByteArray := prog_12_method_82_code
def yX4_see : MethodName := ⟨RX4, "see", "(III)I"⟩
def dkwX4_see_4 : List UInt8 := [79, 42, 180, 0, 7, 16, 57, 46, 172]
abbrev dktX4_see_4 : List UInt8 := dkwX4_see_4 ++ []
def dkwX4_see_3 : List UInt8 := [4, 96, 28, 79, 42, 180, 0, 7, 21, 4, 5, 96, 29, 79, 42, 180, 0, 7, 16, 57, 92, 46, 4, 96]
abbrev dktX4_see_3 : List UInt8 := dkwX4_see_3 ++ dktX4_see_4
def dkwX4_see_2 : List UInt8 := [180, 0, 7, 16, 57, 46, 104, 96, 54, 4, 42, 180, 0, 7, 21, 4, 27, 79, 42, 180, 0, 7, 21, 4]
abbrev dktX4_see_2 : List UInt8 := dkwX4_see_2 ++ dktX4_see_3
def dkwX4_see_1 : List UInt8 := [154, 0, 5, 2, 172, 42, 180, 0, 7, 16, 57, 46, 16, 6, 160, 0, 6, 16, 253, 172, 16, 58, 6, 42]
abbrev dktX4_see_1 : List UInt8 := dkwX4_see_1 ++ dktX4_see_2
def dkwX4_see_0 : List UInt8 := [27, 133, 9, 20, 1, 42, 184, 0, 69, 153, 0, 18, 42, 28, 182, 0, 151, 153, 0, 10, 29, 184, 0, 171]
abbrev dktX4_see_0 : List UInt8 := dkwX4_see_0 ++ dktX4_see_1
theorem dksX4_see_0 : cX4_see.data.toList.drop 0 = dktX4_see_0 := by decide +kernel
theorem dksX4_see_1 : cX4_see.data.toList.drop 24 = dktX4_see_1 := dk_seg dksX4_see_0 24 rfl rfl
theorem dksX4_see_2 : cX4_see.data.toList.drop 48 = dktX4_see_2 := dk_seg dksX4_see_1 24 rfl rfl
theorem dksX4_see_3 : cX4_see.data.toList.drop 72 = dktX4_see_3 := dk_seg dksX4_see_2 24 rfl rfl
theorem dksX4_see_4 : cX4_see.data.toList.drop 96 = dktX4_see_4 := dk_seg dksX4_see_3 24 rfl rfl
theorem dX4_see_0 : decode cX4_see 0 = .ok (.iload_n 1, 1) := dk_27 (dk_at dksX4_see_0 0 rfl rfl)
theorem dX4_see_1 : decode cX4_see 1 = .ok (.i2l, 1) := dk_133 (dk_at dksX4_see_0 1 rfl rfl)
theorem dX4_see_2 : decode cX4_see 2 = .ok (.lconst 0, 1) := dk_9 (dk_at dksX4_see_0 2 rfl rfl)
theorem dX4_see_3 : decode cX4_see 3 = .ok (.ldc2_w 298, 3) := dk_20 1 42 (dk_at dksX4_see_0 3 rfl rfl)
theorem dX4_see_6 : decode cX4_see 6 = .ok (.invokestatic 69, 3) := dk_184 0 69 (dk_at dksX4_see_0 6 rfl rfl)
theorem dX4_see_9 : decode cX4_see 9 = .ok (.ifCond .eq 18, 3) := dk_153 0 18 (dk_at dksX4_see_0 9 rfl rfl)
theorem dX4_see_12 : decode cX4_see 12 = .ok (.aload_n 0, 1) := dk_42 (dk_at dksX4_see_0 12 rfl rfl)
theorem dX4_see_13 : decode cX4_see 13 = .ok (.iload_n 2, 1) := dk_28 (dk_at dksX4_see_0 13 rfl rfl)
theorem dX4_see_14 : decode cX4_see 14 = .ok (.invokevirtual 151, 3) := dk_182 0 151 (dk_at dksX4_see_0 14 rfl rfl)
theorem dX4_see_17 : decode cX4_see 17 = .ok (.ifCond .eq 10, 3) := dk_153 0 10 (dk_at dksX4_see_0 17 rfl rfl)
theorem dX4_see_20 : decode cX4_see 20 = .ok (.iload_n 3, 1) := dk_29 (dk_at dksX4_see_0 20 rfl rfl)
theorem dX4_see_21 : decode cX4_see 21 = .ok (.invokestatic 171, 3) := dk_184 0 171 (dk_at dksX4_see_0 21 rfl rfl)
theorem dX4_see_24 : decode cX4_see 24 = .ok (.ifCond .ne 5, 3) := dk_154 0 5 (dk_at dksX4_see_1 0 rfl rfl)
theorem dX4_see_27 : decode cX4_see 27 = .ok (.iconst (-1), 1) := dk_2 (dk_at dksX4_see_1 3 rfl rfl)
theorem dX4_see_28 : decode cX4_see 28 = .ok (.ireturn, 1) := dk_172 (dk_at dksX4_see_1 4 rfl rfl)
theorem dX4_see_29 : decode cX4_see 29 = .ok (.aload_n 0, 1) := dk_42 (dk_at dksX4_see_1 5 rfl rfl)
theorem dX4_see_30 : decode cX4_see 30 = .ok (.getfield 7, 3) := dk_180 0 7 (dk_at dksX4_see_1 6 rfl rfl)
theorem dX4_see_33 : decode cX4_see 33 = .ok (.bipush 57, 2) := dk_16 57 (dk_at dksX4_see_1 9 rfl rfl)
theorem dX4_see_35 : decode cX4_see 35 = .ok (.iaload, 1) := dk_46 (dk_at dksX4_see_1 11 rfl rfl)
theorem dX4_see_36 : decode cX4_see 36 = .ok (.bipush 6, 2) := dk_16 6 (dk_at dksX4_see_1 12 rfl rfl)
theorem dX4_see_38 : decode cX4_see 38 = .ok (.if_icmp .ne 6, 3) := dk_160 0 6 (dk_at dksX4_see_1 14 rfl rfl)
theorem dX4_see_41 : decode cX4_see 41 = .ok (.bipush (-3), 2) := dk_16 253 (dk_at dksX4_see_1 17 rfl rfl)
theorem dX4_see_43 : decode cX4_see 43 = .ok (.ireturn, 1) := dk_172 (dk_at dksX4_see_1 19 rfl rfl)
theorem dX4_see_44 : decode cX4_see 44 = .ok (.bipush 58, 2) := dk_16 58 (dk_at dksX4_see_1 20 rfl rfl)
theorem dX4_see_46 : decode cX4_see 46 = .ok (.iconst 3, 1) := dk_6 (dk_at dksX4_see_1 22 rfl rfl)
theorem dX4_see_47 : decode cX4_see 47 = .ok (.aload_n 0, 1) := dk_42 (dk_at dksX4_see_1 23 rfl rfl)
theorem dX4_see_48 : decode cX4_see 48 = .ok (.getfield 7, 3) := dk_180 0 7 (dk_at dksX4_see_2 0 rfl rfl)
theorem dX4_see_51 : decode cX4_see 51 = .ok (.bipush 57, 2) := dk_16 57 (dk_at dksX4_see_2 3 rfl rfl)
theorem dX4_see_53 : decode cX4_see 53 = .ok (.iaload, 1) := dk_46 (dk_at dksX4_see_2 5 rfl rfl)
theorem dX4_see_54 : decode cX4_see 54 = .ok (.imul, 1) := dk_104 (dk_at dksX4_see_2 6 rfl rfl)
theorem dX4_see_55 : decode cX4_see 55 = .ok (.iadd, 1) := dk_96 (dk_at dksX4_see_2 7 rfl rfl)
theorem dX4_see_56 : decode cX4_see 56 = .ok (.istore 4, 2) := dk_54 4 (dk_at dksX4_see_2 8 rfl rfl)
theorem dX4_see_58 : decode cX4_see 58 = .ok (.aload_n 0, 1) := dk_42 (dk_at dksX4_see_2 10 rfl rfl)
theorem dX4_see_59 : decode cX4_see 59 = .ok (.getfield 7, 3) := dk_180 0 7 (dk_at dksX4_see_2 11 rfl rfl)
theorem dX4_see_62 : decode cX4_see 62 = .ok (.iload 4, 2) := dk_21 4 (dk_at dksX4_see_2 14 rfl rfl)
theorem dX4_see_64 : decode cX4_see 64 = .ok (.iload_n 1, 1) := dk_27 (dk_at dksX4_see_2 16 rfl rfl)
theorem dX4_see_65 : decode cX4_see 65 = .ok (.iastore, 1) := dk_79 (dk_at dksX4_see_2 17 rfl rfl)
theorem dX4_see_66 : decode cX4_see 66 = .ok (.aload_n 0, 1) := dk_42 (dk_at dksX4_see_2 18 rfl rfl)
theorem dX4_see_67 : decode cX4_see 67 = .ok (.getfield 7, 3) := dk_180 0 7 (dk_at dksX4_see_2 19 rfl rfl)
theorem dX4_see_70 : decode cX4_see 70 = .ok (.iload 4, 2) := dk_21 4 (dk_at dksX4_see_2 22 rfl rfl)
theorem dX4_see_72 : decode cX4_see 72 = .ok (.iconst 1, 1) := dk_4 (dk_at dksX4_see_3 0 rfl rfl)
theorem dX4_see_73 : decode cX4_see 73 = .ok (.iadd, 1) := dk_96 (dk_at dksX4_see_3 1 rfl rfl)
theorem dX4_see_74 : decode cX4_see 74 = .ok (.iload_n 2, 1) := dk_28 (dk_at dksX4_see_3 2 rfl rfl)
theorem dX4_see_75 : decode cX4_see 75 = .ok (.iastore, 1) := dk_79 (dk_at dksX4_see_3 3 rfl rfl)
theorem dX4_see_76 : decode cX4_see 76 = .ok (.aload_n 0, 1) := dk_42 (dk_at dksX4_see_3 4 rfl rfl)
theorem dX4_see_77 : decode cX4_see 77 = .ok (.getfield 7, 3) := dk_180 0 7 (dk_at dksX4_see_3 5 rfl rfl)
theorem dX4_see_80 : decode cX4_see 80 = .ok (.iload 4, 2) := dk_21 4 (dk_at dksX4_see_3 8 rfl rfl)
theorem dX4_see_82 : decode cX4_see 82 = .ok (.iconst 2, 1) := dk_5 (dk_at dksX4_see_3 10 rfl rfl)
theorem dX4_see_83 : decode cX4_see 83 = .ok (.iadd, 1) := dk_96 (dk_at dksX4_see_3 11 rfl rfl)
theorem dX4_see_84 : decode cX4_see 84 = .ok (.iload_n 3, 1) := dk_29 (dk_at dksX4_see_3 12 rfl rfl)
theorem dX4_see_85 : decode cX4_see 85 = .ok (.iastore, 1) := dk_79 (dk_at dksX4_see_3 13 rfl rfl)
theorem dX4_see_86 : decode cX4_see 86 = .ok (.aload_n 0, 1) := dk_42 (dk_at dksX4_see_3 14 rfl rfl)
theorem dX4_see_87 : decode cX4_see 87 = .ok (.getfield 7, 3) := dk_180 0 7 (dk_at dksX4_see_3 15 rfl rfl)
theorem dX4_see_90 : decode cX4_see 90 = .ok (.bipush 57, 2) := dk_16 57 (dk_at dksX4_see_3 18 rfl rfl)
theorem dX4_see_92 : decode cX4_see 92 = .ok (.dup2, 1) := dk_92 (dk_at dksX4_see_3 20 rfl rfl)
theorem dX4_see_93 : decode cX4_see 93 = .ok (.iaload, 1) := dk_46 (dk_at dksX4_see_3 21 rfl rfl)
theorem dX4_see_94 : decode cX4_see 94 = .ok (.iconst 1, 1) := dk_4 (dk_at dksX4_see_3 22 rfl rfl)
theorem dX4_see_95 : decode cX4_see 95 = .ok (.iadd, 1) := dk_96 (dk_at dksX4_see_3 23 rfl rfl)
theorem dX4_see_96 : decode cX4_see 96 = .ok (.iastore, 1) := dk_79 (dk_at dksX4_see_4 0 rfl rfl)
theorem dX4_see_97 : decode cX4_see 97 = .ok (.aload_n 0, 1) := dk_42 (dk_at dksX4_see_4 1 rfl rfl)
theorem dX4_see_98 : decode cX4_see 98 = .ok (.getfield 7, 3) := dk_180 0 7 (dk_at dksX4_see_4 2 rfl rfl)
theorem dX4_see_101 : decode cX4_see 101 = .ok (.bipush 57, 2) := dk_16 57 (dk_at dksX4_see_4 5 rfl rfl)
theorem dX4_see_103 : decode cX4_see 103 = .ok (.iaload, 1) := dk_46 (dk_at dksX4_see_4 7 rfl rfl)
theorem dX4_see_104 : decode cX4_see 104 = .ok (.ireturn, 1) := dk_172 (dk_at dksX4_see_4 8 rfl rfl)
abbrev cX4_forget : ByteArray := prog_12_method_83_code
def yX4_forget : MethodName := ⟨RX4, "forget", "(I)I"⟩
def dkwX4_forget_1 : List UInt8 := [167, 0, 4, 2, 172]
abbrev dktX4_forget_1 : List UInt8 := dkwX4_forget_1 ++ []
def dkwX4_forget_0 : List UInt8 := [27, 133, 9, 42, 180, 0, 7, 16, 57, 46, 133, 184, 0, 69, 153, 0, 13, 42, 16, 57, 27, 182, 0, 217]
abbrev dktX4_forget_0 : List UInt8 := dkwX4_forget_0 ++ dktX4_forget_1
theorem dksX4_forget_0 : cX4_forget.data.toList.drop 0 = dktX4_forget_0 := by decide +kernel
theorem dksX4_forget_1 : cX4_forget.data.toList.drop 24 = dktX4_forget_1 := dk_seg dksX4_forget_0 24 rfl rfl
theorem dX4_forget_0 : decode cX4_forget 0 = .ok (.iload_n 1, 1) := dk_27 (dk_at dksX4_forget_0 0 rfl rfl)
theorem dX4_forget_1 : decode cX4_forget 1 = .ok (.i2l, 1) := dk_133 (dk_at dksX4_forget_0 1 rfl rfl)
theorem dX4_forget_2 : decode cX4_forget 2 = .ok (.lconst 0, 1) := dk_9 (dk_at dksX4_forget_0 2 rfl rfl)
theorem dX4_forget_3 : decode cX4_forget 3 = .ok (.aload_n 0, 1) := dk_42 (dk_at dksX4_forget_0 3 rfl rfl)
theorem dX4_forget_4 : decode cX4_forget 4 = .ok (.getfield 7, 3) := dk_180 0 7 (dk_at dksX4_forget_0 4 rfl rfl)
theorem dX4_forget_7 : decode cX4_forget 7 = .ok (.bipush 57, 2) := dk_16 57 (dk_at dksX4_forget_0 7 rfl rfl)
theorem dX4_forget_9 : decode cX4_forget 9 = .ok (.iaload, 1) := dk_46 (dk_at dksX4_forget_0 9 rfl rfl)
theorem dX4_forget_10 : decode cX4_forget 10 = .ok (.i2l, 1) := dk_133 (dk_at dksX4_forget_0 10 rfl rfl)
theorem dX4_forget_11 : decode cX4_forget 11 = .ok (.invokestatic 69, 3) := dk_184 0 69 (dk_at dksX4_forget_0 11 rfl rfl)
theorem dX4_forget_14 : decode cX4_forget 14 = .ok (.ifCond .eq 13, 3) := dk_153 0 13 (dk_at dksX4_forget_0 14 rfl rfl)
theorem dX4_forget_17 : decode cX4_forget 17 = .ok (.aload_n 0, 1) := dk_42 (dk_at dksX4_forget_0 17 rfl rfl)
theorem dX4_forget_18 : decode cX4_forget 18 = .ok (.bipush 57, 2) := dk_16 57 (dk_at dksX4_forget_0 18 rfl rfl)
theorem dX4_forget_20 : decode cX4_forget 20 = .ok (.iload_n 1, 1) := dk_27 (dk_at dksX4_forget_0 20 rfl rfl)
theorem dX4_forget_21 : decode cX4_forget 21 = .ok (.invokevirtual 217, 3) := dk_182 0 217 (dk_at dksX4_forget_0 21 rfl rfl)
theorem dX4_forget_24 : decode cX4_forget 24 = .ok (.goto 4, 3) := dk_167 0 4 (dk_at dksX4_forget_1 0 rfl rfl)
theorem dX4_forget_27 : decode cX4_forget 27 = .ok (.iconst (-1), 1) := dk_2 (dk_at dksX4_forget_1 3 rfl rfl)
theorem dX4_forget_28 : decode cX4_forget 28 = .ok (.ireturn, 1) := dk_172 (dk_at dksX4_forget_1 4 rfl rfl)
abbrev cX4_kinds : ByteArray := prog_12_method_86_code
def yX4_kinds : MethodName := ⟨RX4, "kinds", "(I)I"⟩
def dkwX4_kinds_0 : List UInt8 := [42, 27, 182, 0, 151, 153, 0, 16, 42, 5, 27, 104, 3, 96, 6, 182, 1, 47, 167, 0, 4, 2, 172]
abbrev dktX4_kinds_0 : List UInt8 := dkwX4_kinds_0 ++ []
theorem dksX4_kinds_0 : cX4_kinds.data.toList.drop 0 = dktX4_kinds_0 := by decide +kernel
theorem dX4_kinds_0 : decode cX4_kinds 0 = .ok (.aload_n 0, 1) := dk_42 (dk_at dksX4_kinds_0 0 rfl rfl)
theorem dX4_kinds_1 : decode cX4_kinds 1 = .ok (.iload_n 1, 1) := dk_27 (dk_at dksX4_kinds_0 1 rfl rfl)
theorem dX4_kinds_2 : decode cX4_kinds 2 = .ok (.invokevirtual 151, 3) := dk_182 0 151 (dk_at dksX4_kinds_0 2 rfl rfl)
theorem dX4_kinds_5 : decode cX4_kinds 5 = .ok (.ifCond .eq 16, 3) := dk_153 0 16 (dk_at dksX4_kinds_0 5 rfl rfl)
theorem dX4_kinds_8 : decode cX4_kinds 8 = .ok (.aload_n 0, 1) := dk_42 (dk_at dksX4_kinds_0 8 rfl rfl)
theorem dX4_kinds_9 : decode cX4_kinds 9 = .ok (.iconst 2, 1) := dk_5 (dk_at dksX4_kinds_0 9 rfl rfl)
theorem dX4_kinds_10 : decode cX4_kinds 10 = .ok (.iload_n 1, 1) := dk_27 (dk_at dksX4_kinds_0 10 rfl rfl)
theorem dX4_kinds_11 : decode cX4_kinds 11 = .ok (.imul, 1) := dk_104 (dk_at dksX4_kinds_0 11 rfl rfl)
theorem dX4_kinds_12 : decode cX4_kinds 12 = .ok (.iconst 0, 1) := dk_3 (dk_at dksX4_kinds_0 12 rfl rfl)
theorem dX4_kinds_13 : decode cX4_kinds 13 = .ok (.iadd, 1) := dk_96 (dk_at dksX4_kinds_0 13 rfl rfl)
theorem dX4_kinds_14 : decode cX4_kinds 14 = .ok (.iconst 3, 1) := dk_6 (dk_at dksX4_kinds_0 14 rfl rfl)
theorem dX4_kinds_15 : decode cX4_kinds 15 = .ok (.invokevirtual 303, 3) := dk_182 1 47 (dk_at dksX4_kinds_0 15 rfl rfl)
theorem dX4_kinds_18 : decode cX4_kinds 18 = .ok (.goto 4, 3) := dk_167 0 4 (dk_at dksX4_kinds_0 18 rfl rfl)
theorem dX4_kinds_21 : decode cX4_kinds 21 = .ok (.iconst (-1), 1) := dk_2 (dk_at dksX4_kinds_0 21 rfl rfl)
theorem dX4_kinds_22 : decode cX4_kinds 22 = .ok (.ireturn, 1) := dk_172 (dk_at dksX4_kinds_0 22 rfl rfl)
abbrev cX4_which : ByteArray := prog_12_method_85_code
def yX4_which : MethodName := ⟨RX4, "which", "(II)I"⟩
def dkwX4_which_1 : List UInt8 := [120, 128, 62, 132, 4, 1, 167, 255, 231, 29, 172]
abbrev dktX4_which_1 : List UInt8 := dkwX4_which_1 ++ []
def dkwX4_which_0 : List UInt8 := [3, 62, 3, 54, 4, 21, 4, 28, 163, 0, 25, 29, 42, 27, 21, 4, 182, 1, 44, 184, 0, 200, 21, 4]
abbrev dktX4_which_0 : List UInt8 := dkwX4_which_0 ++ dktX4_which_1
theorem dksX4_which_0 : cX4_which.data.toList.drop 0 = dktX4_which_0 := by decide +kernel
theorem dksX4_which_1 : cX4_which.data.toList.drop 24 = dktX4_which_1 := dk_seg dksX4_which_0 24 rfl rfl
theorem dX4_which_0 : decode cX4_which 0 = .ok (.iconst 0, 1) := dk_3 (dk_at dksX4_which_0 0 rfl rfl)
theorem dX4_which_1 : decode cX4_which 1 = .ok (.istore_n 3, 1) := dk_62 (dk_at dksX4_which_0 1 rfl rfl)
theorem dX4_which_2 : decode cX4_which 2 = .ok (.iconst 0, 1) := dk_3 (dk_at dksX4_which_0 2 rfl rfl)
theorem dX4_which_3 : decode cX4_which 3 = .ok (.istore 4, 2) := dk_54 4 (dk_at dksX4_which_0 3 rfl rfl)
theorem dX4_which_5 : decode cX4_which 5 = .ok (.iload 4, 2) := dk_21 4 (dk_at dksX4_which_0 5 rfl rfl)
theorem dX4_which_7 : decode cX4_which 7 = .ok (.iload_n 2, 1) := dk_28 (dk_at dksX4_which_0 7 rfl rfl)
theorem dX4_which_8 : decode cX4_which 8 = .ok (.if_icmp .gt 25, 3) := dk_163 0 25 (dk_at dksX4_which_0 8 rfl rfl)
theorem dX4_which_11 : decode cX4_which 11 = .ok (.iload_n 3, 1) := dk_29 (dk_at dksX4_which_0 11 rfl rfl)
theorem dX4_which_12 : decode cX4_which 12 = .ok (.aload_n 0, 1) := dk_42 (dk_at dksX4_which_0 12 rfl rfl)
theorem dX4_which_13 : decode cX4_which 13 = .ok (.iload_n 1, 1) := dk_27 (dk_at dksX4_which_0 13 rfl rfl)
theorem dX4_which_14 : decode cX4_which 14 = .ok (.iload 4, 2) := dk_21 4 (dk_at dksX4_which_0 14 rfl rfl)
theorem dX4_which_16 : decode cX4_which 16 = .ok (.invokevirtual 300, 3) := dk_182 1 44 (dk_at dksX4_which_0 16 rfl rfl)
theorem dX4_which_19 : decode cX4_which 19 = .ok (.invokestatic 200, 3) := dk_184 0 200 (dk_at dksX4_which_0 19 rfl rfl)
theorem dX4_which_22 : decode cX4_which 22 = .ok (.iload 4, 2) := dk_21 4 (dk_at dksX4_which_0 22 rfl rfl)
theorem dX4_which_24 : decode cX4_which 24 = .ok (.ishl, 1) := dk_120 (dk_at dksX4_which_1 0 rfl rfl)
theorem dX4_which_25 : decode cX4_which 25 = .ok (.ior, 1) := dk_128 (dk_at dksX4_which_1 1 rfl rfl)
theorem dX4_which_26 : decode cX4_which 26 = .ok (.istore_n 3, 1) := dk_62 (dk_at dksX4_which_1 2 rfl rfl)
theorem dX4_which_27 : decode cX4_which 27 = .ok (.iinc 4 1, 3) := dk_132 4 1 (dk_at dksX4_which_1 3 rfl rfl)
theorem dX4_which_30 : decode cX4_which 30 = .ok (.goto (-25), 3) := dk_167 255 231 (dk_at dksX4_which_1 6 rfl rfl)
theorem dX4_which_33 : decode cX4_which 33 = .ok (.iload_n 3, 1) := dk_29 (dk_at dksX4_which_1 9 rfl rfl)
theorem dX4_which_34 : decode cX4_which 34 = .ok (.ireturn, 1) := dk_172 (dk_at dksX4_which_1 10 rfl rfl)
abbrev cX4_isSoWith : ByteArray := prog_12_method_84_code
def yX4_isSoWith : MethodName := ⟨RX4, "isSoWith", "(II)Z"⟩
def dkwX4_isSoWith_6 : List UInt8 := [172]
abbrev dktX4_isSoWith_6 : List UInt8 := dkwX4_isSoWith_6 ++ []
def dkwX4_isSoWith_5 : List UInt8 := [180, 0, 7, 21, 5, 5, 96, 46, 160, 0, 7, 4, 167, 0, 4, 3, 62, 132, 4, 1, 167, 255, 186, 29]
abbrev dktX4_isSoWith_5 : List UInt8 := dkwX4_isSoWith_5 ++ dktX4_isSoWith_6
def dkwX4_isSoWith_4 : List UInt8 := [180, 0, 26, 8, 42, 180, 0, 7, 21, 5, 46, 104, 42, 180, 0, 7, 21, 5, 4, 96, 46, 96, 46, 42]
abbrev dktX4_isSoWith_4 : List UInt8 := dkwX4_isSoWith_4 ++ dktX4_isSoWith_5
def dkwX4_isSoWith_3 : List UInt8 := [42, 180, 0, 7, 16, 57, 46, 162, 0, 64, 16, 58, 6, 21, 4, 104, 96, 54, 5, 29, 153, 0, 43, 42]
abbrev dktX4_isSoWith_3 : List UInt8 := dkwX4_isSoWith_3 ++ dktX4_isSoWith_4
def dkwX4_isSoWith_2 : List UInt8 := [132, 4, 1, 167, 255, 227, 42, 3, 182, 0, 190, 132, 3, 1, 167, 255, 207, 4, 62, 3, 54, 4, 21, 4]
abbrev dktX4_isSoWith_2 : List UInt8 := dkwX4_isSoWith_2 ++ dktX4_isSoWith_3
def dkwX4_isSoWith_1 : List UInt8 := [42, 180, 0, 64, 162, 0, 26, 42, 180, 0, 26, 8, 29, 104, 21, 4, 96, 42, 21, 4, 182, 0, 156, 79]
abbrev dktX4_isSoWith_1 : List UInt8 := dkwX4_isSoWith_1 ++ dktX4_isSoWith_2
def dkwX4_isSoWith_0 : List UInt8 := [42, 182, 0, 194, 42, 180, 0, 13, 27, 28, 79, 3, 62, 29, 16, 20, 163, 0, 49, 3, 54, 4, 21, 4]
abbrev dktX4_isSoWith_0 : List UInt8 := dkwX4_isSoWith_0 ++ dktX4_isSoWith_1
theorem dksX4_isSoWith_0 : cX4_isSoWith.data.toList.drop 0 = dktX4_isSoWith_0 := by decide +kernel
theorem dksX4_isSoWith_1 : cX4_isSoWith.data.toList.drop 24 = dktX4_isSoWith_1 := dk_seg dksX4_isSoWith_0 24 rfl rfl
theorem dksX4_isSoWith_2 : cX4_isSoWith.data.toList.drop 48 = dktX4_isSoWith_2 := dk_seg dksX4_isSoWith_1 24 rfl rfl
theorem dksX4_isSoWith_3 : cX4_isSoWith.data.toList.drop 72 = dktX4_isSoWith_3 := dk_seg dksX4_isSoWith_2 24 rfl rfl
theorem dksX4_isSoWith_4 : cX4_isSoWith.data.toList.drop 96 = dktX4_isSoWith_4 := dk_seg dksX4_isSoWith_3 24 rfl rfl
theorem dksX4_isSoWith_5 : cX4_isSoWith.data.toList.drop 120 = dktX4_isSoWith_5 := dk_seg dksX4_isSoWith_4 24 rfl rfl
theorem dksX4_isSoWith_6 : cX4_isSoWith.data.toList.drop 144 = dktX4_isSoWith_6 := dk_seg dksX4_isSoWith_5 24 rfl rfl
theorem dX4_isSoWith_0 : decode cX4_isSoWith 0 = .ok (.aload_n 0, 1) := dk_42 (dk_at dksX4_isSoWith_0 0 rfl rfl)
theorem dX4_isSoWith_1 : decode cX4_isSoWith 1 = .ok (.invokevirtual 194, 3) := dk_182 0 194 (dk_at dksX4_isSoWith_0 1 rfl rfl)
theorem dX4_isSoWith_4 : decode cX4_isSoWith 4 = .ok (.aload_n 0, 1) := dk_42 (dk_at dksX4_isSoWith_0 4 rfl rfl)
theorem dX4_isSoWith_5 : decode cX4_isSoWith 5 = .ok (.getfield 13, 3) := dk_180 0 13 (dk_at dksX4_isSoWith_0 5 rfl rfl)
theorem dX4_isSoWith_8 : decode cX4_isSoWith 8 = .ok (.iload_n 1, 1) := dk_27 (dk_at dksX4_isSoWith_0 8 rfl rfl)
theorem dX4_isSoWith_9 : decode cX4_isSoWith 9 = .ok (.iload_n 2, 1) := dk_28 (dk_at dksX4_isSoWith_0 9 rfl rfl)
theorem dX4_isSoWith_10 : decode cX4_isSoWith 10 = .ok (.iastore, 1) := dk_79 (dk_at dksX4_isSoWith_0 10 rfl rfl)
theorem dX4_isSoWith_11 : decode cX4_isSoWith 11 = .ok (.iconst 0, 1) := dk_3 (dk_at dksX4_isSoWith_0 11 rfl rfl)
theorem dX4_isSoWith_12 : decode cX4_isSoWith 12 = .ok (.istore_n 3, 1) := dk_62 (dk_at dksX4_isSoWith_0 12 rfl rfl)
theorem dX4_isSoWith_13 : decode cX4_isSoWith 13 = .ok (.iload_n 3, 1) := dk_29 (dk_at dksX4_isSoWith_0 13 rfl rfl)
theorem dX4_isSoWith_14 : decode cX4_isSoWith 14 = .ok (.bipush 20, 2) := dk_16 20 (dk_at dksX4_isSoWith_0 14 rfl rfl)
theorem dX4_isSoWith_16 : decode cX4_isSoWith 16 = .ok (.if_icmp .gt 49, 3) := dk_163 0 49 (dk_at dksX4_isSoWith_0 16 rfl rfl)
theorem dX4_isSoWith_19 : decode cX4_isSoWith 19 = .ok (.iconst 0, 1) := dk_3 (dk_at dksX4_isSoWith_0 19 rfl rfl)
theorem dX4_isSoWith_20 : decode cX4_isSoWith 20 = .ok (.istore 4, 2) := dk_54 4 (dk_at dksX4_isSoWith_0 20 rfl rfl)
theorem dX4_isSoWith_22 : decode cX4_isSoWith 22 = .ok (.iload 4, 2) := dk_21 4 (dk_at dksX4_isSoWith_0 22 rfl rfl)
theorem dX4_isSoWith_24 : decode cX4_isSoWith 24 = .ok (.aload_n 0, 1) := dk_42 (dk_at dksX4_isSoWith_1 0 rfl rfl)
theorem dX4_isSoWith_25 : decode cX4_isSoWith 25 = .ok (.getfield 64, 3) := dk_180 0 64 (dk_at dksX4_isSoWith_1 1 rfl rfl)
theorem dX4_isSoWith_28 : decode cX4_isSoWith 28 = .ok (.if_icmp .ge 26, 3) := dk_162 0 26 (dk_at dksX4_isSoWith_1 4 rfl rfl)
theorem dX4_isSoWith_31 : decode cX4_isSoWith 31 = .ok (.aload_n 0, 1) := dk_42 (dk_at dksX4_isSoWith_1 7 rfl rfl)
theorem dX4_isSoWith_32 : decode cX4_isSoWith 32 = .ok (.getfield 26, 3) := dk_180 0 26 (dk_at dksX4_isSoWith_1 8 rfl rfl)
theorem dX4_isSoWith_35 : decode cX4_isSoWith 35 = .ok (.iconst 5, 1) := dk_8 (dk_at dksX4_isSoWith_1 11 rfl rfl)
theorem dX4_isSoWith_36 : decode cX4_isSoWith 36 = .ok (.iload_n 3, 1) := dk_29 (dk_at dksX4_isSoWith_1 12 rfl rfl)
theorem dX4_isSoWith_37 : decode cX4_isSoWith 37 = .ok (.imul, 1) := dk_104 (dk_at dksX4_isSoWith_1 13 rfl rfl)
theorem dX4_isSoWith_38 : decode cX4_isSoWith 38 = .ok (.iload 4, 2) := dk_21 4 (dk_at dksX4_isSoWith_1 14 rfl rfl)
theorem dX4_isSoWith_40 : decode cX4_isSoWith 40 = .ok (.iadd, 1) := dk_96 (dk_at dksX4_isSoWith_1 16 rfl rfl)
theorem dX4_isSoWith_41 : decode cX4_isSoWith 41 = .ok (.aload_n 0, 1) := dk_42 (dk_at dksX4_isSoWith_1 17 rfl rfl)
theorem dX4_isSoWith_42 : decode cX4_isSoWith 42 = .ok (.iload 4, 2) := dk_21 4 (dk_at dksX4_isSoWith_1 18 rfl rfl)
theorem dX4_isSoWith_44 : decode cX4_isSoWith 44 = .ok (.invokevirtual 156, 3) := dk_182 0 156 (dk_at dksX4_isSoWith_1 20 rfl rfl)
theorem dX4_isSoWith_47 : decode cX4_isSoWith 47 = .ok (.iastore, 1) := dk_79 (dk_at dksX4_isSoWith_1 23 rfl rfl)
theorem dX4_isSoWith_48 : decode cX4_isSoWith 48 = .ok (.iinc 4 1, 3) := dk_132 4 1 (dk_at dksX4_isSoWith_2 0 rfl rfl)
theorem dX4_isSoWith_51 : decode cX4_isSoWith 51 = .ok (.goto (-29), 3) := dk_167 255 227 (dk_at dksX4_isSoWith_2 3 rfl rfl)
theorem dX4_isSoWith_54 : decode cX4_isSoWith 54 = .ok (.aload_n 0, 1) := dk_42 (dk_at dksX4_isSoWith_2 6 rfl rfl)
theorem dX4_isSoWith_55 : decode cX4_isSoWith 55 = .ok (.iconst 0, 1) := dk_3 (dk_at dksX4_isSoWith_2 7 rfl rfl)
theorem dX4_isSoWith_56 : decode cX4_isSoWith 56 = .ok (.invokevirtual 190, 3) := dk_182 0 190 (dk_at dksX4_isSoWith_2 8 rfl rfl)
theorem dX4_isSoWith_59 : decode cX4_isSoWith 59 = .ok (.iinc 3 1, 3) := dk_132 3 1 (dk_at dksX4_isSoWith_2 11 rfl rfl)
theorem dX4_isSoWith_62 : decode cX4_isSoWith 62 = .ok (.goto (-49), 3) := dk_167 255 207 (dk_at dksX4_isSoWith_2 14 rfl rfl)
theorem dX4_isSoWith_65 : decode cX4_isSoWith 65 = .ok (.iconst 1, 1) := dk_4 (dk_at dksX4_isSoWith_2 17 rfl rfl)
theorem dX4_isSoWith_66 : decode cX4_isSoWith 66 = .ok (.istore_n 3, 1) := dk_62 (dk_at dksX4_isSoWith_2 18 rfl rfl)
theorem dX4_isSoWith_67 : decode cX4_isSoWith 67 = .ok (.iconst 0, 1) := dk_3 (dk_at dksX4_isSoWith_2 19 rfl rfl)
theorem dX4_isSoWith_68 : decode cX4_isSoWith 68 = .ok (.istore 4, 2) := dk_54 4 (dk_at dksX4_isSoWith_2 20 rfl rfl)
theorem dX4_isSoWith_70 : decode cX4_isSoWith 70 = .ok (.iload 4, 2) := dk_21 4 (dk_at dksX4_isSoWith_2 22 rfl rfl)
theorem dX4_isSoWith_72 : decode cX4_isSoWith 72 = .ok (.aload_n 0, 1) := dk_42 (dk_at dksX4_isSoWith_3 0 rfl rfl)
theorem dX4_isSoWith_73 : decode cX4_isSoWith 73 = .ok (.getfield 7, 3) := dk_180 0 7 (dk_at dksX4_isSoWith_3 1 rfl rfl)
theorem dX4_isSoWith_76 : decode cX4_isSoWith 76 = .ok (.bipush 57, 2) := dk_16 57 (dk_at dksX4_isSoWith_3 4 rfl rfl)
theorem dX4_isSoWith_78 : decode cX4_isSoWith 78 = .ok (.iaload, 1) := dk_46 (dk_at dksX4_isSoWith_3 6 rfl rfl)
theorem dX4_isSoWith_79 : decode cX4_isSoWith 79 = .ok (.if_icmp .ge 64, 3) := dk_162 0 64 (dk_at dksX4_isSoWith_3 7 rfl rfl)
theorem dX4_isSoWith_82 : decode cX4_isSoWith 82 = .ok (.bipush 58, 2) := dk_16 58 (dk_at dksX4_isSoWith_3 10 rfl rfl)
theorem dX4_isSoWith_84 : decode cX4_isSoWith 84 = .ok (.iconst 3, 1) := dk_6 (dk_at dksX4_isSoWith_3 12 rfl rfl)
theorem dX4_isSoWith_85 : decode cX4_isSoWith 85 = .ok (.iload 4, 2) := dk_21 4 (dk_at dksX4_isSoWith_3 13 rfl rfl)
theorem dX4_isSoWith_87 : decode cX4_isSoWith 87 = .ok (.imul, 1) := dk_104 (dk_at dksX4_isSoWith_3 15 rfl rfl)
theorem dX4_isSoWith_88 : decode cX4_isSoWith 88 = .ok (.iadd, 1) := dk_96 (dk_at dksX4_isSoWith_3 16 rfl rfl)
theorem dX4_isSoWith_89 : decode cX4_isSoWith 89 = .ok (.istore 5, 2) := dk_54 5 (dk_at dksX4_isSoWith_3 17 rfl rfl)
theorem dX4_isSoWith_91 : decode cX4_isSoWith 91 = .ok (.iload_n 3, 1) := dk_29 (dk_at dksX4_isSoWith_3 19 rfl rfl)
theorem dX4_isSoWith_92 : decode cX4_isSoWith 92 = .ok (.ifCond .eq 43, 3) := dk_153 0 43 (dk_at dksX4_isSoWith_3 20 rfl rfl)
theorem dX4_isSoWith_95 : decode cX4_isSoWith 95 = .ok (.aload_n 0, 1) := dk_42 (dk_at dksX4_isSoWith_3 23 rfl rfl)
theorem dX4_isSoWith_96 : decode cX4_isSoWith 96 = .ok (.getfield 26, 3) := dk_180 0 26 (dk_at dksX4_isSoWith_4 0 rfl rfl)
theorem dX4_isSoWith_99 : decode cX4_isSoWith 99 = .ok (.iconst 5, 1) := dk_8 (dk_at dksX4_isSoWith_4 3 rfl rfl)
theorem dX4_isSoWith_100 : decode cX4_isSoWith 100 = .ok (.aload_n 0, 1) := dk_42 (dk_at dksX4_isSoWith_4 4 rfl rfl)
theorem dX4_isSoWith_101 : decode cX4_isSoWith 101 = .ok (.getfield 7, 3) := dk_180 0 7 (dk_at dksX4_isSoWith_4 5 rfl rfl)
theorem dX4_isSoWith_104 : decode cX4_isSoWith 104 = .ok (.iload 5, 2) := dk_21 5 (dk_at dksX4_isSoWith_4 8 rfl rfl)
theorem dX4_isSoWith_106 : decode cX4_isSoWith 106 = .ok (.iaload, 1) := dk_46 (dk_at dksX4_isSoWith_4 10 rfl rfl)
theorem dX4_isSoWith_107 : decode cX4_isSoWith 107 = .ok (.imul, 1) := dk_104 (dk_at dksX4_isSoWith_4 11 rfl rfl)
theorem dX4_isSoWith_108 : decode cX4_isSoWith 108 = .ok (.aload_n 0, 1) := dk_42 (dk_at dksX4_isSoWith_4 12 rfl rfl)
theorem dX4_isSoWith_109 : decode cX4_isSoWith 109 = .ok (.getfield 7, 3) := dk_180 0 7 (dk_at dksX4_isSoWith_4 13 rfl rfl)
theorem dX4_isSoWith_112 : decode cX4_isSoWith 112 = .ok (.iload 5, 2) := dk_21 5 (dk_at dksX4_isSoWith_4 16 rfl rfl)
theorem dX4_isSoWith_114 : decode cX4_isSoWith 114 = .ok (.iconst 1, 1) := dk_4 (dk_at dksX4_isSoWith_4 18 rfl rfl)
theorem dX4_isSoWith_115 : decode cX4_isSoWith 115 = .ok (.iadd, 1) := dk_96 (dk_at dksX4_isSoWith_4 19 rfl rfl)
theorem dX4_isSoWith_116 : decode cX4_isSoWith 116 = .ok (.iaload, 1) := dk_46 (dk_at dksX4_isSoWith_4 20 rfl rfl)
theorem dX4_isSoWith_117 : decode cX4_isSoWith 117 = .ok (.iadd, 1) := dk_96 (dk_at dksX4_isSoWith_4 21 rfl rfl)
theorem dX4_isSoWith_118 : decode cX4_isSoWith 118 = .ok (.iaload, 1) := dk_46 (dk_at dksX4_isSoWith_4 22 rfl rfl)
theorem dX4_isSoWith_119 : decode cX4_isSoWith 119 = .ok (.aload_n 0, 1) := dk_42 (dk_at dksX4_isSoWith_4 23 rfl rfl)
theorem dX4_isSoWith_120 : decode cX4_isSoWith 120 = .ok (.getfield 7, 3) := dk_180 0 7 (dk_at dksX4_isSoWith_5 0 rfl rfl)
theorem dX4_isSoWith_123 : decode cX4_isSoWith 123 = .ok (.iload 5, 2) := dk_21 5 (dk_at dksX4_isSoWith_5 3 rfl rfl)
theorem dX4_isSoWith_125 : decode cX4_isSoWith 125 = .ok (.iconst 2, 1) := dk_5 (dk_at dksX4_isSoWith_5 5 rfl rfl)
theorem dX4_isSoWith_126 : decode cX4_isSoWith 126 = .ok (.iadd, 1) := dk_96 (dk_at dksX4_isSoWith_5 6 rfl rfl)
theorem dX4_isSoWith_127 : decode cX4_isSoWith 127 = .ok (.iaload, 1) := dk_46 (dk_at dksX4_isSoWith_5 7 rfl rfl)
theorem dX4_isSoWith_128 : decode cX4_isSoWith 128 = .ok (.if_icmp .ne 7, 3) := dk_160 0 7 (dk_at dksX4_isSoWith_5 8 rfl rfl)
theorem dX4_isSoWith_131 : decode cX4_isSoWith 131 = .ok (.iconst 1, 1) := dk_4 (dk_at dksX4_isSoWith_5 11 rfl rfl)
theorem dX4_isSoWith_132 : decode cX4_isSoWith 132 = .ok (.goto 4, 3) := dk_167 0 4 (dk_at dksX4_isSoWith_5 12 rfl rfl)
theorem dX4_isSoWith_135 : decode cX4_isSoWith 135 = .ok (.iconst 0, 1) := dk_3 (dk_at dksX4_isSoWith_5 15 rfl rfl)
theorem dX4_isSoWith_136 : decode cX4_isSoWith 136 = .ok (.istore_n 3, 1) := dk_62 (dk_at dksX4_isSoWith_5 16 rfl rfl)
theorem dX4_isSoWith_137 : decode cX4_isSoWith 137 = .ok (.iinc 4 1, 3) := dk_132 4 1 (dk_at dksX4_isSoWith_5 17 rfl rfl)
theorem dX4_isSoWith_140 : decode cX4_isSoWith 140 = .ok (.goto (-70), 3) := dk_167 255 186 (dk_at dksX4_isSoWith_5 20 rfl rfl)
theorem dX4_isSoWith_143 : decode cX4_isSoWith 143 = .ok (.iload_n 3, 1) := dk_29 (dk_at dksX4_isSoWith_5 23 rfl rfl)
theorem dX4_isSoWith_144 : decode cX4_isSoWith 144 = .ok (.ireturn, 1) := dk_172 (dk_at dksX4_isSoWith_6 0 rfl rfl)
abbrev cX4_sulks : ByteArray := prog_12_method_87_code
def yX4_sulks : MethodName := ⟨RX4, "sulks", "(II)I"⟩
def dkwX4_sulks_1 : List UInt8 := [167, 0, 4, 2, 172]
abbrev dktX4_sulks_1 : List UInt8 := dkwX4_sulks_1 ++ []
def dkwX4_sulks_0 : List UInt8 := [42, 27, 28, 182, 0, 207, 153, 0, 19, 42, 16, 10, 8, 27, 104, 96, 28, 96, 6, 182, 1, 47]
abbrev dktX4_sulks_0 : List UInt8 := dkwX4_sulks_0 ++ dktX4_sulks_1
theorem dksX4_sulks_0 : cX4_sulks.data.toList.drop 0 = dktX4_sulks_0 := by decide +kernel
theorem dksX4_sulks_1 : cX4_sulks.data.toList.drop 22 = dktX4_sulks_1 := dk_seg dksX4_sulks_0 22 rfl rfl
theorem dX4_sulks_0 : decode cX4_sulks 0 = .ok (.aload_n 0, 1) := dk_42 (dk_at dksX4_sulks_0 0 rfl rfl)
theorem dX4_sulks_1 : decode cX4_sulks 1 = .ok (.iload_n 1, 1) := dk_27 (dk_at dksX4_sulks_0 1 rfl rfl)
theorem dX4_sulks_2 : decode cX4_sulks 2 = .ok (.iload_n 2, 1) := dk_28 (dk_at dksX4_sulks_0 2 rfl rfl)
theorem dX4_sulks_3 : decode cX4_sulks 3 = .ok (.invokevirtual 207, 3) := dk_182 0 207 (dk_at dksX4_sulks_0 3 rfl rfl)
theorem dX4_sulks_6 : decode cX4_sulks 6 = .ok (.ifCond .eq 19, 3) := dk_153 0 19 (dk_at dksX4_sulks_0 6 rfl rfl)
theorem dX4_sulks_9 : decode cX4_sulks 9 = .ok (.aload_n 0, 1) := dk_42 (dk_at dksX4_sulks_0 9 rfl rfl)
theorem dX4_sulks_10 : decode cX4_sulks 10 = .ok (.bipush 10, 2) := dk_16 10 (dk_at dksX4_sulks_0 10 rfl rfl)
theorem dX4_sulks_12 : decode cX4_sulks 12 = .ok (.iconst 5, 1) := dk_8 (dk_at dksX4_sulks_0 12 rfl rfl)
theorem dX4_sulks_13 : decode cX4_sulks 13 = .ok (.iload_n 1, 1) := dk_27 (dk_at dksX4_sulks_0 13 rfl rfl)
theorem dX4_sulks_14 : decode cX4_sulks 14 = .ok (.imul, 1) := dk_104 (dk_at dksX4_sulks_0 14 rfl rfl)
theorem dX4_sulks_15 : decode cX4_sulks 15 = .ok (.iadd, 1) := dk_96 (dk_at dksX4_sulks_0 15 rfl rfl)
theorem dX4_sulks_16 : decode cX4_sulks 16 = .ok (.iload_n 2, 1) := dk_28 (dk_at dksX4_sulks_0 16 rfl rfl)
theorem dX4_sulks_17 : decode cX4_sulks 17 = .ok (.iadd, 1) := dk_96 (dk_at dksX4_sulks_0 17 rfl rfl)
theorem dX4_sulks_18 : decode cX4_sulks 18 = .ok (.iconst 3, 1) := dk_6 (dk_at dksX4_sulks_0 18 rfl rfl)
theorem dX4_sulks_19 : decode cX4_sulks 19 = .ok (.invokevirtual 303, 3) := dk_182 1 47 (dk_at dksX4_sulks_0 19 rfl rfl)
theorem dX4_sulks_22 : decode cX4_sulks 22 = .ok (.goto 4, 3) := dk_167 0 4 (dk_at dksX4_sulks_1 0 rfl rfl)
theorem dX4_sulks_25 : decode cX4_sulks 25 = .ok (.iconst (-1), 1) := dk_2 (dk_at dksX4_sulks_1 3 rfl rfl)
theorem dX4_sulks_26 : decode cX4_sulks 26 = .ok (.ireturn, 1) := dk_172 (dk_at dksX4_sulks_1 4 rfl rfl)
abbrev cX4_ask : ByteArray := prog_12_method_88_code
def yX4_ask : MethodName := ⟨RX4, "ask", "(II)I"⟩
def dkwX4_ask_9 : List UInt8 := [104, 21, 4, 8, 112, 96, 21, 5, 182, 1, 4, 132, 4, 1, 167, 255, 123, 42, 28, 182, 1, 8, 172]
abbrev dktX4_ask_9 : List UInt8 := dkwX4_ask_9 ++ []
def dkwX4_ask_8 : List UInt8 := [132, 6, 1, 167, 255, 171, 21, 4, 8, 112, 42, 180, 0, 64, 162, 0, 21, 42, 16, 10, 21, 4, 8, 108]
abbrev dktX4_ask_8 : List UInt8 := dkwX4_ask_8 ++ dktX4_ask_9
def dkwX4_ask_7 : List UInt8 := [54, 7, 132, 8, 1, 167, 255, 205, 21, 7, 21, 5, 164, 0, 8, 21, 7, 167, 0, 5, 21, 5, 54, 5]
abbrev dktX4_ask_7 : List UInt8 := dkwX4_ask_7 ++ dktX4_ask_8
def dkwX4_ask_6 : List UInt8 := [180, 0, 29, 16, 105, 21, 8, 104, 21, 4, 96, 46, 160, 0, 7, 4, 167, 0, 4, 3, 184, 0, 200, 96]
abbrev dktX4_ask_6 : List UInt8 := dkwX4_ask_6 ++ dktX4_ask_7
def dkwX4_ask_5 : List UInt8 := [54, 8, 21, 8, 29, 162, 0, 51, 21, 7, 42, 180, 0, 29, 16, 105, 21, 6, 104, 21, 4, 96, 46, 42]
abbrev dktX4_ask_5 : List UInt8 := dkwX4_ask_5 ++ dktX4_ask_6
def dkwX4_ask_4 : List UInt8 := [21, 4, 16, 105, 162, 0, 132, 3, 54, 5, 3, 54, 6, 21, 6, 29, 162, 0, 85, 3, 54, 7, 3]
abbrev dktX4_ask_4 : List UInt8 := dkwX4_ask_4 ++ dktX4_ask_5
def dkwX4_ask_3 : List UInt8 := [132, 5, 1, 167, 255, 227, 132, 3, 1, 132, 4, 1, 167, 255, 195, 42, 29, 182, 1, 1, 3, 54, 4]
abbrev dktX4_ask_3 : List UInt8 := dkwX4_ask_3 ++ dktX4_ask_4
def dkwX4_ask_2 : List UInt8 := [16, 105, 162, 0, 28, 42, 180, 0, 29, 16, 105, 29, 104, 21, 5, 96, 42, 180, 0, 26, 21, 5, 46, 79]
abbrev dktX4_ask_2 : List UInt8 := dkwX4_ask_2 ++ dktX4_ask_3
def dkwX4_ask_1 : List UInt8 := [7, 162, 0, 61, 42, 5, 27, 104, 3, 96, 21, 4, 182, 1, 44, 153, 0, 41, 3, 54, 5, 21, 5]
abbrev dktX4_ask_1 : List UInt8 := dkwX4_ask_1 ++ dktX4_ask_2
def dkwX4_ask_0 : List UInt8 := [42, 27, 182, 0, 151, 153, 0, 10, 28, 184, 0, 251, 154, 0, 5, 2, 172, 3, 62, 3, 54, 4, 21, 4]
abbrev dktX4_ask_0 : List UInt8 := dkwX4_ask_0 ++ dktX4_ask_1
theorem dksX4_ask_0 : cX4_ask.data.toList.drop 0 = dktX4_ask_0 := by decide +kernel
theorem dksX4_ask_1 : cX4_ask.data.toList.drop 24 = dktX4_ask_1 := dk_seg dksX4_ask_0 24 rfl rfl
theorem dksX4_ask_2 : cX4_ask.data.toList.drop 47 = dktX4_ask_2 := dk_seg dksX4_ask_1 23 rfl rfl
theorem dksX4_ask_3 : cX4_ask.data.toList.drop 71 = dktX4_ask_3 := dk_seg dksX4_ask_2 24 rfl rfl
theorem dksX4_ask_4 : cX4_ask.data.toList.drop 94 = dktX4_ask_4 := dk_seg dksX4_ask_3 23 rfl rfl
theorem dksX4_ask_5 : cX4_ask.data.toList.drop 117 = dktX4_ask_5 := dk_seg dksX4_ask_4 23 rfl rfl
theorem dksX4_ask_6 : cX4_ask.data.toList.drop 141 = dktX4_ask_6 := dk_seg dksX4_ask_5 24 rfl rfl
theorem dksX4_ask_7 : cX4_ask.data.toList.drop 165 = dktX4_ask_7 := dk_seg dksX4_ask_6 24 rfl rfl
theorem dksX4_ask_8 : cX4_ask.data.toList.drop 189 = dktX4_ask_8 := dk_seg dksX4_ask_7 24 rfl rfl
theorem dksX4_ask_9 : cX4_ask.data.toList.drop 213 = dktX4_ask_9 := dk_seg dksX4_ask_8 24 rfl rfl
theorem dX4_ask_0 : decode cX4_ask 0 = .ok (.aload_n 0, 1) := dk_42 (dk_at dksX4_ask_0 0 rfl rfl)
theorem dX4_ask_1 : decode cX4_ask 1 = .ok (.iload_n 1, 1) := dk_27 (dk_at dksX4_ask_0 1 rfl rfl)
theorem dX4_ask_2 : decode cX4_ask 2 = .ok (.invokevirtual 151, 3) := dk_182 0 151 (dk_at dksX4_ask_0 2 rfl rfl)
theorem dX4_ask_5 : decode cX4_ask 5 = .ok (.ifCond .eq 10, 3) := dk_153 0 10 (dk_at dksX4_ask_0 5 rfl rfl)
theorem dX4_ask_8 : decode cX4_ask 8 = .ok (.iload_n 2, 1) := dk_28 (dk_at dksX4_ask_0 8 rfl rfl)
theorem dX4_ask_9 : decode cX4_ask 9 = .ok (.invokestatic 251, 3) := dk_184 0 251 (dk_at dksX4_ask_0 9 rfl rfl)
theorem dX4_ask_12 : decode cX4_ask 12 = .ok (.ifCond .ne 5, 3) := dk_154 0 5 (dk_at dksX4_ask_0 12 rfl rfl)
theorem dX4_ask_15 : decode cX4_ask 15 = .ok (.iconst (-1), 1) := dk_2 (dk_at dksX4_ask_0 15 rfl rfl)
theorem dX4_ask_16 : decode cX4_ask 16 = .ok (.ireturn, 1) := dk_172 (dk_at dksX4_ask_0 16 rfl rfl)
theorem dX4_ask_17 : decode cX4_ask 17 = .ok (.iconst 0, 1) := dk_3 (dk_at dksX4_ask_0 17 rfl rfl)
theorem dX4_ask_18 : decode cX4_ask 18 = .ok (.istore_n 3, 1) := dk_62 (dk_at dksX4_ask_0 18 rfl rfl)
theorem dX4_ask_19 : decode cX4_ask 19 = .ok (.iconst 0, 1) := dk_3 (dk_at dksX4_ask_0 19 rfl rfl)
theorem dX4_ask_20 : decode cX4_ask 20 = .ok (.istore 4, 2) := dk_54 4 (dk_at dksX4_ask_0 20 rfl rfl)
theorem dX4_ask_22 : decode cX4_ask 22 = .ok (.iload 4, 2) := dk_21 4 (dk_at dksX4_ask_0 22 rfl rfl)
theorem dX4_ask_24 : decode cX4_ask 24 = .ok (.iconst 4, 1) := dk_7 (dk_at dksX4_ask_1 0 rfl rfl)
theorem dX4_ask_25 : decode cX4_ask 25 = .ok (.if_icmp .ge 61, 3) := dk_162 0 61 (dk_at dksX4_ask_1 1 rfl rfl)
theorem dX4_ask_28 : decode cX4_ask 28 = .ok (.aload_n 0, 1) := dk_42 (dk_at dksX4_ask_1 4 rfl rfl)
theorem dX4_ask_29 : decode cX4_ask 29 = .ok (.iconst 2, 1) := dk_5 (dk_at dksX4_ask_1 5 rfl rfl)
theorem dX4_ask_30 : decode cX4_ask 30 = .ok (.iload_n 1, 1) := dk_27 (dk_at dksX4_ask_1 6 rfl rfl)
theorem dX4_ask_31 : decode cX4_ask 31 = .ok (.imul, 1) := dk_104 (dk_at dksX4_ask_1 7 rfl rfl)
theorem dX4_ask_32 : decode cX4_ask 32 = .ok (.iconst 0, 1) := dk_3 (dk_at dksX4_ask_1 8 rfl rfl)
theorem dX4_ask_33 : decode cX4_ask 33 = .ok (.iadd, 1) := dk_96 (dk_at dksX4_ask_1 9 rfl rfl)
theorem dX4_ask_34 : decode cX4_ask 34 = .ok (.iload 4, 2) := dk_21 4 (dk_at dksX4_ask_1 10 rfl rfl)
theorem dX4_ask_36 : decode cX4_ask 36 = .ok (.invokevirtual 300, 3) := dk_182 1 44 (dk_at dksX4_ask_1 12 rfl rfl)
theorem dX4_ask_39 : decode cX4_ask 39 = .ok (.ifCond .eq 41, 3) := dk_153 0 41 (dk_at dksX4_ask_1 15 rfl rfl)
theorem dX4_ask_42 : decode cX4_ask 42 = .ok (.iconst 0, 1) := dk_3 (dk_at dksX4_ask_1 18 rfl rfl)
theorem dX4_ask_43 : decode cX4_ask 43 = .ok (.istore 5, 2) := dk_54 5 (dk_at dksX4_ask_1 19 rfl rfl)
theorem dX4_ask_45 : decode cX4_ask 45 = .ok (.iload 5, 2) := dk_21 5 (dk_at dksX4_ask_1 21 rfl rfl)
theorem dX4_ask_47 : decode cX4_ask 47 = .ok (.bipush 105, 2) := dk_16 105 (dk_at dksX4_ask_2 0 rfl rfl)
theorem dX4_ask_49 : decode cX4_ask 49 = .ok (.if_icmp .ge 28, 3) := dk_162 0 28 (dk_at dksX4_ask_2 2 rfl rfl)
theorem dX4_ask_52 : decode cX4_ask 52 = .ok (.aload_n 0, 1) := dk_42 (dk_at dksX4_ask_2 5 rfl rfl)
theorem dX4_ask_53 : decode cX4_ask 53 = .ok (.getfield 29, 3) := dk_180 0 29 (dk_at dksX4_ask_2 6 rfl rfl)
theorem dX4_ask_56 : decode cX4_ask 56 = .ok (.bipush 105, 2) := dk_16 105 (dk_at dksX4_ask_2 9 rfl rfl)
theorem dX4_ask_58 : decode cX4_ask 58 = .ok (.iload_n 3, 1) := dk_29 (dk_at dksX4_ask_2 11 rfl rfl)
theorem dX4_ask_59 : decode cX4_ask 59 = .ok (.imul, 1) := dk_104 (dk_at dksX4_ask_2 12 rfl rfl)
theorem dX4_ask_60 : decode cX4_ask 60 = .ok (.iload 5, 2) := dk_21 5 (dk_at dksX4_ask_2 13 rfl rfl)
theorem dX4_ask_62 : decode cX4_ask 62 = .ok (.iadd, 1) := dk_96 (dk_at dksX4_ask_2 15 rfl rfl)
theorem dX4_ask_63 : decode cX4_ask 63 = .ok (.aload_n 0, 1) := dk_42 (dk_at dksX4_ask_2 16 rfl rfl)
theorem dX4_ask_64 : decode cX4_ask 64 = .ok (.getfield 26, 3) := dk_180 0 26 (dk_at dksX4_ask_2 17 rfl rfl)
theorem dX4_ask_67 : decode cX4_ask 67 = .ok (.iload 5, 2) := dk_21 5 (dk_at dksX4_ask_2 20 rfl rfl)
theorem dX4_ask_69 : decode cX4_ask 69 = .ok (.iaload, 1) := dk_46 (dk_at dksX4_ask_2 22 rfl rfl)
theorem dX4_ask_70 : decode cX4_ask 70 = .ok (.iastore, 1) := dk_79 (dk_at dksX4_ask_2 23 rfl rfl)
theorem dX4_ask_71 : decode cX4_ask 71 = .ok (.iinc 5 1, 3) := dk_132 5 1 (dk_at dksX4_ask_3 0 rfl rfl)
theorem dX4_ask_74 : decode cX4_ask 74 = .ok (.goto (-29), 3) := dk_167 255 227 (dk_at dksX4_ask_3 3 rfl rfl)
theorem dX4_ask_77 : decode cX4_ask 77 = .ok (.iinc 3 1, 3) := dk_132 3 1 (dk_at dksX4_ask_3 6 rfl rfl)
theorem dX4_ask_80 : decode cX4_ask 80 = .ok (.iinc 4 1, 3) := dk_132 4 1 (dk_at dksX4_ask_3 9 rfl rfl)
theorem dX4_ask_83 : decode cX4_ask 83 = .ok (.goto (-61), 3) := dk_167 255 195 (dk_at dksX4_ask_3 12 rfl rfl)
theorem dX4_ask_86 : decode cX4_ask 86 = .ok (.aload_n 0, 1) := dk_42 (dk_at dksX4_ask_3 15 rfl rfl)
theorem dX4_ask_87 : decode cX4_ask 87 = .ok (.iload_n 3, 1) := dk_29 (dk_at dksX4_ask_3 16 rfl rfl)
theorem dX4_ask_88 : decode cX4_ask 88 = .ok (.invokevirtual 257, 3) := dk_182 1 1 (dk_at dksX4_ask_3 17 rfl rfl)
theorem dX4_ask_91 : decode cX4_ask 91 = .ok (.iconst 0, 1) := dk_3 (dk_at dksX4_ask_3 20 rfl rfl)
theorem dX4_ask_92 : decode cX4_ask 92 = .ok (.istore 4, 2) := dk_54 4 (dk_at dksX4_ask_3 21 rfl rfl)
theorem dX4_ask_94 : decode cX4_ask 94 = .ok (.iload 4, 2) := dk_21 4 (dk_at dksX4_ask_4 0 rfl rfl)
theorem dX4_ask_96 : decode cX4_ask 96 = .ok (.bipush 105, 2) := dk_16 105 (dk_at dksX4_ask_4 2 rfl rfl)
theorem dX4_ask_98 : decode cX4_ask 98 = .ok (.if_icmp .ge 132, 3) := dk_162 0 132 (dk_at dksX4_ask_4 4 rfl rfl)
theorem dX4_ask_101 : decode cX4_ask 101 = .ok (.iconst 0, 1) := dk_3 (dk_at dksX4_ask_4 7 rfl rfl)
theorem dX4_ask_102 : decode cX4_ask 102 = .ok (.istore 5, 2) := dk_54 5 (dk_at dksX4_ask_4 8 rfl rfl)
theorem dX4_ask_104 : decode cX4_ask 104 = .ok (.iconst 0, 1) := dk_3 (dk_at dksX4_ask_4 10 rfl rfl)
theorem dX4_ask_105 : decode cX4_ask 105 = .ok (.istore 6, 2) := dk_54 6 (dk_at dksX4_ask_4 11 rfl rfl)
theorem dX4_ask_107 : decode cX4_ask 107 = .ok (.iload 6, 2) := dk_21 6 (dk_at dksX4_ask_4 13 rfl rfl)
theorem dX4_ask_109 : decode cX4_ask 109 = .ok (.iload_n 3, 1) := dk_29 (dk_at dksX4_ask_4 15 rfl rfl)
theorem dX4_ask_110 : decode cX4_ask 110 = .ok (.if_icmp .ge 85, 3) := dk_162 0 85 (dk_at dksX4_ask_4 16 rfl rfl)
theorem dX4_ask_113 : decode cX4_ask 113 = .ok (.iconst 0, 1) := dk_3 (dk_at dksX4_ask_4 19 rfl rfl)
theorem dX4_ask_114 : decode cX4_ask 114 = .ok (.istore 7, 2) := dk_54 7 (dk_at dksX4_ask_4 20 rfl rfl)
theorem dX4_ask_116 : decode cX4_ask 116 = .ok (.iconst 0, 1) := dk_3 (dk_at dksX4_ask_4 22 rfl rfl)
theorem dX4_ask_117 : decode cX4_ask 117 = .ok (.istore 8, 2) := dk_54 8 (dk_at dksX4_ask_5 0 rfl rfl)
theorem dX4_ask_119 : decode cX4_ask 119 = .ok (.iload 8, 2) := dk_21 8 (dk_at dksX4_ask_5 2 rfl rfl)
theorem dX4_ask_121 : decode cX4_ask 121 = .ok (.iload_n 3, 1) := dk_29 (dk_at dksX4_ask_5 4 rfl rfl)
theorem dX4_ask_122 : decode cX4_ask 122 = .ok (.if_icmp .ge 51, 3) := dk_162 0 51 (dk_at dksX4_ask_5 5 rfl rfl)
theorem dX4_ask_125 : decode cX4_ask 125 = .ok (.iload 7, 2) := dk_21 7 (dk_at dksX4_ask_5 8 rfl rfl)
theorem dX4_ask_127 : decode cX4_ask 127 = .ok (.aload_n 0, 1) := dk_42 (dk_at dksX4_ask_5 10 rfl rfl)
theorem dX4_ask_128 : decode cX4_ask 128 = .ok (.getfield 29, 3) := dk_180 0 29 (dk_at dksX4_ask_5 11 rfl rfl)
theorem dX4_ask_131 : decode cX4_ask 131 = .ok (.bipush 105, 2) := dk_16 105 (dk_at dksX4_ask_5 14 rfl rfl)
theorem dX4_ask_133 : decode cX4_ask 133 = .ok (.iload 6, 2) := dk_21 6 (dk_at dksX4_ask_5 16 rfl rfl)
theorem dX4_ask_135 : decode cX4_ask 135 = .ok (.imul, 1) := dk_104 (dk_at dksX4_ask_5 18 rfl rfl)
theorem dX4_ask_136 : decode cX4_ask 136 = .ok (.iload 4, 2) := dk_21 4 (dk_at dksX4_ask_5 19 rfl rfl)
theorem dX4_ask_138 : decode cX4_ask 138 = .ok (.iadd, 1) := dk_96 (dk_at dksX4_ask_5 21 rfl rfl)
theorem dX4_ask_139 : decode cX4_ask 139 = .ok (.iaload, 1) := dk_46 (dk_at dksX4_ask_5 22 rfl rfl)
theorem dX4_ask_140 : decode cX4_ask 140 = .ok (.aload_n 0, 1) := dk_42 (dk_at dksX4_ask_5 23 rfl rfl)
theorem dX4_ask_141 : decode cX4_ask 141 = .ok (.getfield 29, 3) := dk_180 0 29 (dk_at dksX4_ask_6 0 rfl rfl)
theorem dX4_ask_144 : decode cX4_ask 144 = .ok (.bipush 105, 2) := dk_16 105 (dk_at dksX4_ask_6 3 rfl rfl)
theorem dX4_ask_146 : decode cX4_ask 146 = .ok (.iload 8, 2) := dk_21 8 (dk_at dksX4_ask_6 5 rfl rfl)
theorem dX4_ask_148 : decode cX4_ask 148 = .ok (.imul, 1) := dk_104 (dk_at dksX4_ask_6 7 rfl rfl)
theorem dX4_ask_149 : decode cX4_ask 149 = .ok (.iload 4, 2) := dk_21 4 (dk_at dksX4_ask_6 8 rfl rfl)
theorem dX4_ask_151 : decode cX4_ask 151 = .ok (.iadd, 1) := dk_96 (dk_at dksX4_ask_6 10 rfl rfl)
theorem dX4_ask_152 : decode cX4_ask 152 = .ok (.iaload, 1) := dk_46 (dk_at dksX4_ask_6 11 rfl rfl)
theorem dX4_ask_153 : decode cX4_ask 153 = .ok (.if_icmp .ne 7, 3) := dk_160 0 7 (dk_at dksX4_ask_6 12 rfl rfl)
theorem dX4_ask_156 : decode cX4_ask 156 = .ok (.iconst 1, 1) := dk_4 (dk_at dksX4_ask_6 15 rfl rfl)
theorem dX4_ask_157 : decode cX4_ask 157 = .ok (.goto 4, 3) := dk_167 0 4 (dk_at dksX4_ask_6 16 rfl rfl)
theorem dX4_ask_160 : decode cX4_ask 160 = .ok (.iconst 0, 1) := dk_3 (dk_at dksX4_ask_6 19 rfl rfl)
theorem dX4_ask_161 : decode cX4_ask 161 = .ok (.invokestatic 200, 3) := dk_184 0 200 (dk_at dksX4_ask_6 20 rfl rfl)
theorem dX4_ask_164 : decode cX4_ask 164 = .ok (.iadd, 1) := dk_96 (dk_at dksX4_ask_6 23 rfl rfl)
theorem dX4_ask_165 : decode cX4_ask 165 = .ok (.istore 7, 2) := dk_54 7 (dk_at dksX4_ask_7 0 rfl rfl)
theorem dX4_ask_167 : decode cX4_ask 167 = .ok (.iinc 8 1, 3) := dk_132 8 1 (dk_at dksX4_ask_7 2 rfl rfl)
theorem dX4_ask_170 : decode cX4_ask 170 = .ok (.goto (-51), 3) := dk_167 255 205 (dk_at dksX4_ask_7 5 rfl rfl)
theorem dX4_ask_173 : decode cX4_ask 173 = .ok (.iload 7, 2) := dk_21 7 (dk_at dksX4_ask_7 8 rfl rfl)
theorem dX4_ask_175 : decode cX4_ask 175 = .ok (.iload 5, 2) := dk_21 5 (dk_at dksX4_ask_7 10 rfl rfl)
theorem dX4_ask_177 : decode cX4_ask 177 = .ok (.if_icmp .le 8, 3) := dk_164 0 8 (dk_at dksX4_ask_7 12 rfl rfl)
theorem dX4_ask_180 : decode cX4_ask 180 = .ok (.iload 7, 2) := dk_21 7 (dk_at dksX4_ask_7 15 rfl rfl)
theorem dX4_ask_182 : decode cX4_ask 182 = .ok (.goto 5, 3) := dk_167 0 5 (dk_at dksX4_ask_7 17 rfl rfl)
theorem dX4_ask_185 : decode cX4_ask 185 = .ok (.iload 5, 2) := dk_21 5 (dk_at dksX4_ask_7 20 rfl rfl)
theorem dX4_ask_187 : decode cX4_ask 187 = .ok (.istore 5, 2) := dk_54 5 (dk_at dksX4_ask_7 22 rfl rfl)
theorem dX4_ask_189 : decode cX4_ask 189 = .ok (.iinc 6 1, 3) := dk_132 6 1 (dk_at dksX4_ask_8 0 rfl rfl)
theorem dX4_ask_192 : decode cX4_ask 192 = .ok (.goto (-85), 3) := dk_167 255 171 (dk_at dksX4_ask_8 3 rfl rfl)
theorem dX4_ask_195 : decode cX4_ask 195 = .ok (.iload 4, 2) := dk_21 4 (dk_at dksX4_ask_8 6 rfl rfl)
theorem dX4_ask_197 : decode cX4_ask 197 = .ok (.iconst 5, 1) := dk_8 (dk_at dksX4_ask_8 8 rfl rfl)
theorem dX4_ask_198 : decode cX4_ask 198 = .ok (.irem, 1) := dk_112 (dk_at dksX4_ask_8 9 rfl rfl)
theorem dX4_ask_199 : decode cX4_ask 199 = .ok (.aload_n 0, 1) := dk_42 (dk_at dksX4_ask_8 10 rfl rfl)
theorem dX4_ask_200 : decode cX4_ask 200 = .ok (.getfield 64, 3) := dk_180 0 64 (dk_at dksX4_ask_8 11 rfl rfl)
theorem dX4_ask_203 : decode cX4_ask 203 = .ok (.if_icmp .ge 21, 3) := dk_162 0 21 (dk_at dksX4_ask_8 14 rfl rfl)
theorem dX4_ask_206 : decode cX4_ask 206 = .ok (.aload_n 0, 1) := dk_42 (dk_at dksX4_ask_8 17 rfl rfl)
theorem dX4_ask_207 : decode cX4_ask 207 = .ok (.bipush 10, 2) := dk_16 10 (dk_at dksX4_ask_8 18 rfl rfl)
theorem dX4_ask_209 : decode cX4_ask 209 = .ok (.iload 4, 2) := dk_21 4 (dk_at dksX4_ask_8 20 rfl rfl)
theorem dX4_ask_211 : decode cX4_ask 211 = .ok (.iconst 5, 1) := dk_8 (dk_at dksX4_ask_8 22 rfl rfl)
theorem dX4_ask_212 : decode cX4_ask 212 = .ok (.idiv, 1) := dk_108 (dk_at dksX4_ask_8 23 rfl rfl)
theorem dX4_ask_213 : decode cX4_ask 213 = .ok (.imul, 1) := dk_104 (dk_at dksX4_ask_9 0 rfl rfl)
theorem dX4_ask_214 : decode cX4_ask 214 = .ok (.iload 4, 2) := dk_21 4 (dk_at dksX4_ask_9 1 rfl rfl)
theorem dX4_ask_216 : decode cX4_ask 216 = .ok (.iconst 5, 1) := dk_8 (dk_at dksX4_ask_9 3 rfl rfl)
theorem dX4_ask_217 : decode cX4_ask 217 = .ok (.irem, 1) := dk_112 (dk_at dksX4_ask_9 4 rfl rfl)
theorem dX4_ask_218 : decode cX4_ask 218 = .ok (.iadd, 1) := dk_96 (dk_at dksX4_ask_9 5 rfl rfl)
theorem dX4_ask_219 : decode cX4_ask 219 = .ok (.iload 5, 2) := dk_21 5 (dk_at dksX4_ask_9 6 rfl rfl)
theorem dX4_ask_221 : decode cX4_ask 221 = .ok (.invokevirtual 260, 3) := dk_182 1 4 (dk_at dksX4_ask_9 8 rfl rfl)
theorem dX4_ask_224 : decode cX4_ask 224 = .ok (.iinc 4 1, 3) := dk_132 4 1 (dk_at dksX4_ask_9 11 rfl rfl)
theorem dX4_ask_227 : decode cX4_ask 227 = .ok (.goto (-133), 3) := dk_167 255 123 (dk_at dksX4_ask_9 14 rfl rfl)
theorem dX4_ask_230 : decode cX4_ask 230 = .ok (.aload_n 0, 1) := dk_42 (dk_at dksX4_ask_9 17 rfl rfl)
theorem dX4_ask_231 : decode cX4_ask 231 = .ok (.iload_n 2, 1) := dk_28 (dk_at dksX4_ask_9 18 rfl rfl)
theorem dX4_ask_232 : decode cX4_ask 232 = .ok (.invokevirtual 264, 3) := dk_182 1 8 (dk_at dksX4_ask_9 19 rfl rfl)
theorem dX4_ask_235 : decode cX4_ask 235 = .ok (.ireturn, 1) := dk_172 (dk_at dksX4_ask_9 22 rfl rfl)
abbrev cX4_drift : ByteArray := prog_12_method_89_code
def yX4_drift : MethodName := ⟨RX4, "drift", "(III)I"⟩
def dkwX4_drift_6 : List UInt8 := [182, 0, 197, 167, 0, 7, 42, 182, 0, 234, 172]
abbrev dktX4_drift_6 : List UInt8 := dkwX4_drift_6 ++ []
def dkwX4_drift_5 : List UInt8 := [16, 64, 108, 7, 112, 79, 42, 3, 182, 0, 190, 132, 5, 1, 167, 255, 169, 29, 154, 0, 10, 42]
abbrev dktX4_drift_5 : List UInt8 := dkwX4_drift_5 ++ dktX4_drift_6
def dkwX4_drift_4 : List UInt8 := [21, 7, 21, 8, 159, 0, 25, 42, 180, 0, 13, 16, 10, 8, 21, 7, 104, 96, 21, 8, 96, 21, 6]
abbrev dktX4_drift_4 : List UInt8 := dkwX4_drift_4 ++ dktX4_drift_5
def dkwX4_drift_3 : List UInt8 := [54, 6, 21, 6, 42, 180, 0, 64, 112, 54, 7, 21, 6, 16, 8, 108, 42, 180, 0, 64, 112, 54, 8]
abbrev dktX4_drift_3 : List UInt8 := dkwX4_drift_3 ++ dktX4_drift_4
def dkwX4_drift_2 : List UInt8 := [162, 0, 87, 21, 4, 19, 1, 50, 104, 17, 48, 57, 96, 54, 4, 21, 4, 16, 16, 122, 17, 127, 255, 126]
abbrev dktX4_drift_2 : List UInt8 := dkwX4_drift_2 ++ dktX4_drift_3
def dkwX4_drift_1 : List UInt8 := [180, 0, 64, 154, 0, 6, 16, 254, 172, 27, 54, 4, 42, 182, 0, 194, 3, 54, 5, 21, 5, 28]
abbrev dktX4_drift_1 : List UInt8 := dkwX4_drift_1 ++ dktX4_drift_2
def dkwX4_drift_0 : List UInt8 := [28, 133, 10, 20, 0, 237, 184, 0, 69, 153, 0, 10, 29, 184, 0, 251, 154, 0, 5, 2, 172, 42]
abbrev dktX4_drift_0 : List UInt8 := dkwX4_drift_0 ++ dktX4_drift_1
theorem dksX4_drift_0 : cX4_drift.data.toList.drop 0 = dktX4_drift_0 := by decide +kernel
theorem dksX4_drift_1 : cX4_drift.data.toList.drop 22 = dktX4_drift_1 := dk_seg dksX4_drift_0 22 rfl rfl
theorem dksX4_drift_2 : cX4_drift.data.toList.drop 44 = dktX4_drift_2 := dk_seg dksX4_drift_1 22 rfl rfl
theorem dksX4_drift_3 : cX4_drift.data.toList.drop 68 = dktX4_drift_3 := dk_seg dksX4_drift_2 24 rfl rfl
theorem dksX4_drift_4 : cX4_drift.data.toList.drop 91 = dktX4_drift_4 := dk_seg dksX4_drift_3 23 rfl rfl
theorem dksX4_drift_5 : cX4_drift.data.toList.drop 114 = dktX4_drift_5 := dk_seg dksX4_drift_4 23 rfl rfl
theorem dksX4_drift_6 : cX4_drift.data.toList.drop 136 = dktX4_drift_6 := dk_seg dksX4_drift_5 22 rfl rfl
theorem dX4_drift_0 : decode cX4_drift 0 = .ok (.iload_n 2, 1) := dk_28 (dk_at dksX4_drift_0 0 rfl rfl)
theorem dX4_drift_1 : decode cX4_drift 1 = .ok (.i2l, 1) := dk_133 (dk_at dksX4_drift_0 1 rfl rfl)
theorem dX4_drift_2 : decode cX4_drift 2 = .ok (.lconst 1, 1) := dk_10 (dk_at dksX4_drift_0 2 rfl rfl)
theorem dX4_drift_3 : decode cX4_drift 3 = .ok (.ldc2_w 237, 3) := dk_20 0 237 (dk_at dksX4_drift_0 3 rfl rfl)
theorem dX4_drift_6 : decode cX4_drift 6 = .ok (.invokestatic 69, 3) := dk_184 0 69 (dk_at dksX4_drift_0 6 rfl rfl)
theorem dX4_drift_9 : decode cX4_drift 9 = .ok (.ifCond .eq 10, 3) := dk_153 0 10 (dk_at dksX4_drift_0 9 rfl rfl)
theorem dX4_drift_12 : decode cX4_drift 12 = .ok (.iload_n 3, 1) := dk_29 (dk_at dksX4_drift_0 12 rfl rfl)
theorem dX4_drift_13 : decode cX4_drift 13 = .ok (.invokestatic 251, 3) := dk_184 0 251 (dk_at dksX4_drift_0 13 rfl rfl)
theorem dX4_drift_16 : decode cX4_drift 16 = .ok (.ifCond .ne 5, 3) := dk_154 0 5 (dk_at dksX4_drift_0 16 rfl rfl)
theorem dX4_drift_19 : decode cX4_drift 19 = .ok (.iconst (-1), 1) := dk_2 (dk_at dksX4_drift_0 19 rfl rfl)
theorem dX4_drift_20 : decode cX4_drift 20 = .ok (.ireturn, 1) := dk_172 (dk_at dksX4_drift_0 20 rfl rfl)
theorem dX4_drift_21 : decode cX4_drift 21 = .ok (.aload_n 0, 1) := dk_42 (dk_at dksX4_drift_0 21 rfl rfl)
theorem dX4_drift_22 : decode cX4_drift 22 = .ok (.getfield 64, 3) := dk_180 0 64 (dk_at dksX4_drift_1 0 rfl rfl)
theorem dX4_drift_25 : decode cX4_drift 25 = .ok (.ifCond .ne 6, 3) := dk_154 0 6 (dk_at dksX4_drift_1 3 rfl rfl)
theorem dX4_drift_28 : decode cX4_drift 28 = .ok (.bipush (-2), 2) := dk_16 254 (dk_at dksX4_drift_1 6 rfl rfl)
theorem dX4_drift_30 : decode cX4_drift 30 = .ok (.ireturn, 1) := dk_172 (dk_at dksX4_drift_1 8 rfl rfl)
theorem dX4_drift_31 : decode cX4_drift 31 = .ok (.iload_n 1, 1) := dk_27 (dk_at dksX4_drift_1 9 rfl rfl)
theorem dX4_drift_32 : decode cX4_drift 32 = .ok (.istore 4, 2) := dk_54 4 (dk_at dksX4_drift_1 10 rfl rfl)
theorem dX4_drift_34 : decode cX4_drift 34 = .ok (.aload_n 0, 1) := dk_42 (dk_at dksX4_drift_1 12 rfl rfl)
theorem dX4_drift_35 : decode cX4_drift 35 = .ok (.invokevirtual 194, 3) := dk_182 0 194 (dk_at dksX4_drift_1 13 rfl rfl)
theorem dX4_drift_38 : decode cX4_drift 38 = .ok (.iconst 0, 1) := dk_3 (dk_at dksX4_drift_1 16 rfl rfl)
theorem dX4_drift_39 : decode cX4_drift 39 = .ok (.istore 5, 2) := dk_54 5 (dk_at dksX4_drift_1 17 rfl rfl)
theorem dX4_drift_41 : decode cX4_drift 41 = .ok (.iload 5, 2) := dk_21 5 (dk_at dksX4_drift_1 19 rfl rfl)
theorem dX4_drift_43 : decode cX4_drift 43 = .ok (.iload_n 2, 1) := dk_28 (dk_at dksX4_drift_1 21 rfl rfl)
theorem dX4_drift_44 : decode cX4_drift 44 = .ok (.if_icmp .ge 87, 3) := dk_162 0 87 (dk_at dksX4_drift_2 0 rfl rfl)
theorem dX4_drift_47 : decode cX4_drift 47 = .ok (.iload 4, 2) := dk_21 4 (dk_at dksX4_drift_2 3 rfl rfl)
theorem dX4_drift_49 : decode cX4_drift 49 = .ok (.ldc_w 306, 3) := dk_19 1 50 (dk_at dksX4_drift_2 5 rfl rfl)
theorem dX4_drift_52 : decode cX4_drift 52 = .ok (.imul, 1) := dk_104 (dk_at dksX4_drift_2 8 rfl rfl)
theorem dX4_drift_53 : decode cX4_drift 53 = .ok (.sipush 12345, 3) := dk_17 48 57 (dk_at dksX4_drift_2 9 rfl rfl)
theorem dX4_drift_56 : decode cX4_drift 56 = .ok (.iadd, 1) := dk_96 (dk_at dksX4_drift_2 12 rfl rfl)
theorem dX4_drift_57 : decode cX4_drift 57 = .ok (.istore 4, 2) := dk_54 4 (dk_at dksX4_drift_2 13 rfl rfl)
theorem dX4_drift_59 : decode cX4_drift 59 = .ok (.iload 4, 2) := dk_21 4 (dk_at dksX4_drift_2 15 rfl rfl)
theorem dX4_drift_61 : decode cX4_drift 61 = .ok (.bipush 16, 2) := dk_16 16 (dk_at dksX4_drift_2 17 rfl rfl)
theorem dX4_drift_63 : decode cX4_drift 63 = .ok (.ishr, 1) := dk_122 (dk_at dksX4_drift_2 19 rfl rfl)
theorem dX4_drift_64 : decode cX4_drift 64 = .ok (.sipush 32767, 3) := dk_17 127 255 (dk_at dksX4_drift_2 20 rfl rfl)
theorem dX4_drift_67 : decode cX4_drift 67 = .ok (.iand, 1) := dk_126 (dk_at dksX4_drift_2 23 rfl rfl)
theorem dX4_drift_68 : decode cX4_drift 68 = .ok (.istore 6, 2) := dk_54 6 (dk_at dksX4_drift_3 0 rfl rfl)
theorem dX4_drift_70 : decode cX4_drift 70 = .ok (.iload 6, 2) := dk_21 6 (dk_at dksX4_drift_3 2 rfl rfl)
theorem dX4_drift_72 : decode cX4_drift 72 = .ok (.aload_n 0, 1) := dk_42 (dk_at dksX4_drift_3 4 rfl rfl)
theorem dX4_drift_73 : decode cX4_drift 73 = .ok (.getfield 64, 3) := dk_180 0 64 (dk_at dksX4_drift_3 5 rfl rfl)
theorem dX4_drift_76 : decode cX4_drift 76 = .ok (.irem, 1) := dk_112 (dk_at dksX4_drift_3 8 rfl rfl)
theorem dX4_drift_77 : decode cX4_drift 77 = .ok (.istore 7, 2) := dk_54 7 (dk_at dksX4_drift_3 9 rfl rfl)
theorem dX4_drift_79 : decode cX4_drift 79 = .ok (.iload 6, 2) := dk_21 6 (dk_at dksX4_drift_3 11 rfl rfl)
theorem dX4_drift_81 : decode cX4_drift 81 = .ok (.bipush 8, 2) := dk_16 8 (dk_at dksX4_drift_3 13 rfl rfl)
theorem dX4_drift_83 : decode cX4_drift 83 = .ok (.idiv, 1) := dk_108 (dk_at dksX4_drift_3 15 rfl rfl)
theorem dX4_drift_84 : decode cX4_drift 84 = .ok (.aload_n 0, 1) := dk_42 (dk_at dksX4_drift_3 16 rfl rfl)
theorem dX4_drift_85 : decode cX4_drift 85 = .ok (.getfield 64, 3) := dk_180 0 64 (dk_at dksX4_drift_3 17 rfl rfl)
theorem dX4_drift_88 : decode cX4_drift 88 = .ok (.irem, 1) := dk_112 (dk_at dksX4_drift_3 20 rfl rfl)
theorem dX4_drift_89 : decode cX4_drift 89 = .ok (.istore 8, 2) := dk_54 8 (dk_at dksX4_drift_3 21 rfl rfl)
theorem dX4_drift_91 : decode cX4_drift 91 = .ok (.iload 7, 2) := dk_21 7 (dk_at dksX4_drift_4 0 rfl rfl)
theorem dX4_drift_93 : decode cX4_drift 93 = .ok (.iload 8, 2) := dk_21 8 (dk_at dksX4_drift_4 2 rfl rfl)
theorem dX4_drift_95 : decode cX4_drift 95 = .ok (.if_icmp .eq 25, 3) := dk_159 0 25 (dk_at dksX4_drift_4 4 rfl rfl)
theorem dX4_drift_98 : decode cX4_drift 98 = .ok (.aload_n 0, 1) := dk_42 (dk_at dksX4_drift_4 7 rfl rfl)
theorem dX4_drift_99 : decode cX4_drift 99 = .ok (.getfield 13, 3) := dk_180 0 13 (dk_at dksX4_drift_4 8 rfl rfl)
theorem dX4_drift_102 : decode cX4_drift 102 = .ok (.bipush 10, 2) := dk_16 10 (dk_at dksX4_drift_4 11 rfl rfl)
theorem dX4_drift_104 : decode cX4_drift 104 = .ok (.iconst 5, 1) := dk_8 (dk_at dksX4_drift_4 13 rfl rfl)
theorem dX4_drift_105 : decode cX4_drift 105 = .ok (.iload 7, 2) := dk_21 7 (dk_at dksX4_drift_4 14 rfl rfl)
theorem dX4_drift_107 : decode cX4_drift 107 = .ok (.imul, 1) := dk_104 (dk_at dksX4_drift_4 16 rfl rfl)
theorem dX4_drift_108 : decode cX4_drift 108 = .ok (.iadd, 1) := dk_96 (dk_at dksX4_drift_4 17 rfl rfl)
theorem dX4_drift_109 : decode cX4_drift 109 = .ok (.iload 8, 2) := dk_21 8 (dk_at dksX4_drift_4 18 rfl rfl)
theorem dX4_drift_111 : decode cX4_drift 111 = .ok (.iadd, 1) := dk_96 (dk_at dksX4_drift_4 20 rfl rfl)
theorem dX4_drift_112 : decode cX4_drift 112 = .ok (.iload 6, 2) := dk_21 6 (dk_at dksX4_drift_4 21 rfl rfl)
theorem dX4_drift_114 : decode cX4_drift 114 = .ok (.bipush 64, 2) := dk_16 64 (dk_at dksX4_drift_5 0 rfl rfl)
theorem dX4_drift_116 : decode cX4_drift 116 = .ok (.idiv, 1) := dk_108 (dk_at dksX4_drift_5 2 rfl rfl)
theorem dX4_drift_117 : decode cX4_drift 117 = .ok (.iconst 4, 1) := dk_7 (dk_at dksX4_drift_5 3 rfl rfl)
theorem dX4_drift_118 : decode cX4_drift 118 = .ok (.irem, 1) := dk_112 (dk_at dksX4_drift_5 4 rfl rfl)
theorem dX4_drift_119 : decode cX4_drift 119 = .ok (.iastore, 1) := dk_79 (dk_at dksX4_drift_5 5 rfl rfl)
theorem dX4_drift_120 : decode cX4_drift 120 = .ok (.aload_n 0, 1) := dk_42 (dk_at dksX4_drift_5 6 rfl rfl)
theorem dX4_drift_121 : decode cX4_drift 121 = .ok (.iconst 0, 1) := dk_3 (dk_at dksX4_drift_5 7 rfl rfl)
theorem dX4_drift_122 : decode cX4_drift 122 = .ok (.invokevirtual 190, 3) := dk_182 0 190 (dk_at dksX4_drift_5 8 rfl rfl)
theorem dX4_drift_125 : decode cX4_drift 125 = .ok (.iinc 5 1, 3) := dk_132 5 1 (dk_at dksX4_drift_5 11 rfl rfl)
theorem dX4_drift_128 : decode cX4_drift 128 = .ok (.goto (-87), 3) := dk_167 255 169 (dk_at dksX4_drift_5 14 rfl rfl)
theorem dX4_drift_131 : decode cX4_drift 131 = .ok (.iload_n 3, 1) := dk_29 (dk_at dksX4_drift_5 17 rfl rfl)
theorem dX4_drift_132 : decode cX4_drift 132 = .ok (.ifCond .ne 10, 3) := dk_154 0 10 (dk_at dksX4_drift_5 18 rfl rfl)
theorem dX4_drift_135 : decode cX4_drift 135 = .ok (.aload_n 0, 1) := dk_42 (dk_at dksX4_drift_5 21 rfl rfl)
theorem dX4_drift_136 : decode cX4_drift 136 = .ok (.invokevirtual 197, 3) := dk_182 0 197 (dk_at dksX4_drift_6 0 rfl rfl)
theorem dX4_drift_139 : decode cX4_drift 139 = .ok (.goto 7, 3) := dk_167 0 7 (dk_at dksX4_drift_6 3 rfl rfl)
theorem dX4_drift_142 : decode cX4_drift 142 = .ok (.aload_n 0, 1) := dk_42 (dk_at dksX4_drift_6 6 rfl rfl)
theorem dX4_drift_143 : decode cX4_drift 143 = .ok (.invokevirtual 234, 3) := dk_182 0 234 (dk_at dksX4_drift_6 7 rfl rfl)
theorem dX4_drift_146 : decode cX4_drift 146 = .ok (.ireturn, 1) := dk_172 (dk_at dksX4_drift_6 10 rfl rfl)
abbrev cX4_keep : ByteArray := prog_12_method_91_code
def yX4_keep : MethodName := ⟨RX4, "keep", "(I)I"⟩
def dkwX4_keep_1 : List UInt8 := [180, 0, 16, 27, 4, 84, 42, 16, 76, 27, 4, 96, 104, 3, 182, 1, 51, 28, 172]
abbrev dktX4_keep_1 : List UInt8 := dkwX4_keep_1 ++ []
def dkwX4_keep_0 : List UInt8 := [27, 133, 9, 10, 184, 0, 69, 154, 0, 5, 2, 172, 42, 180, 0, 16, 27, 51, 184, 0, 200, 61, 42]
abbrev dktX4_keep_0 : List UInt8 := dkwX4_keep_0 ++ dktX4_keep_1
theorem dksX4_keep_0 : cX4_keep.data.toList.drop 0 = dktX4_keep_0 := by decide +kernel
theorem dksX4_keep_1 : cX4_keep.data.toList.drop 23 = dktX4_keep_1 := dk_seg dksX4_keep_0 23 rfl rfl
theorem dX4_keep_0 : decode cX4_keep 0 = .ok (.iload_n 1, 1) := dk_27 (dk_at dksX4_keep_0 0 rfl rfl)
theorem dX4_keep_1 : decode cX4_keep 1 = .ok (.i2l, 1) := dk_133 (dk_at dksX4_keep_0 1 rfl rfl)
theorem dX4_keep_2 : decode cX4_keep 2 = .ok (.lconst 0, 1) := dk_9 (dk_at dksX4_keep_0 2 rfl rfl)
theorem dX4_keep_3 : decode cX4_keep 3 = .ok (.lconst 1, 1) := dk_10 (dk_at dksX4_keep_0 3 rfl rfl)
theorem dX4_keep_4 : decode cX4_keep 4 = .ok (.invokestatic 69, 3) := dk_184 0 69 (dk_at dksX4_keep_0 4 rfl rfl)
theorem dX4_keep_7 : decode cX4_keep 7 = .ok (.ifCond .ne 5, 3) := dk_154 0 5 (dk_at dksX4_keep_0 7 rfl rfl)
theorem dX4_keep_10 : decode cX4_keep 10 = .ok (.iconst (-1), 1) := dk_2 (dk_at dksX4_keep_0 10 rfl rfl)
theorem dX4_keep_11 : decode cX4_keep 11 = .ok (.ireturn, 1) := dk_172 (dk_at dksX4_keep_0 11 rfl rfl)
theorem dX4_keep_12 : decode cX4_keep 12 = .ok (.aload_n 0, 1) := dk_42 (dk_at dksX4_keep_0 12 rfl rfl)
theorem dX4_keep_13 : decode cX4_keep 13 = .ok (.getfield 16, 3) := dk_180 0 16 (dk_at dksX4_keep_0 13 rfl rfl)
theorem dX4_keep_16 : decode cX4_keep 16 = .ok (.iload_n 1, 1) := dk_27 (dk_at dksX4_keep_0 16 rfl rfl)
theorem dX4_keep_17 : decode cX4_keep 17 = .ok (.baload, 1) := dk_51 (dk_at dksX4_keep_0 17 rfl rfl)
theorem dX4_keep_18 : decode cX4_keep 18 = .ok (.invokestatic 200, 3) := dk_184 0 200 (dk_at dksX4_keep_0 18 rfl rfl)
theorem dX4_keep_21 : decode cX4_keep 21 = .ok (.istore_n 2, 1) := dk_61 (dk_at dksX4_keep_0 21 rfl rfl)
theorem dX4_keep_22 : decode cX4_keep 22 = .ok (.aload_n 0, 1) := dk_42 (dk_at dksX4_keep_0 22 rfl rfl)
theorem dX4_keep_23 : decode cX4_keep 23 = .ok (.getfield 16, 3) := dk_180 0 16 (dk_at dksX4_keep_1 0 rfl rfl)
theorem dX4_keep_26 : decode cX4_keep 26 = .ok (.iload_n 1, 1) := dk_27 (dk_at dksX4_keep_1 3 rfl rfl)
theorem dX4_keep_27 : decode cX4_keep 27 = .ok (.iconst 1, 1) := dk_4 (dk_at dksX4_keep_1 4 rfl rfl)
theorem dX4_keep_28 : decode cX4_keep 28 = .ok (.bastore, 1) := dk_84 (dk_at dksX4_keep_1 5 rfl rfl)
theorem dX4_keep_29 : decode cX4_keep 29 = .ok (.aload_n 0, 1) := dk_42 (dk_at dksX4_keep_1 6 rfl rfl)
theorem dX4_keep_30 : decode cX4_keep 30 = .ok (.bipush 76, 2) := dk_16 76 (dk_at dksX4_keep_1 7 rfl rfl)
theorem dX4_keep_32 : decode cX4_keep 32 = .ok (.iload_n 1, 1) := dk_27 (dk_at dksX4_keep_1 9 rfl rfl)
theorem dX4_keep_33 : decode cX4_keep 33 = .ok (.iconst 1, 1) := dk_4 (dk_at dksX4_keep_1 10 rfl rfl)
theorem dX4_keep_34 : decode cX4_keep 34 = .ok (.iadd, 1) := dk_96 (dk_at dksX4_keep_1 11 rfl rfl)
theorem dX4_keep_35 : decode cX4_keep 35 = .ok (.imul, 1) := dk_104 (dk_at dksX4_keep_1 12 rfl rfl)
theorem dX4_keep_36 : decode cX4_keep 36 = .ok (.iconst 0, 1) := dk_3 (dk_at dksX4_keep_1 13 rfl rfl)
theorem dX4_keep_37 : decode cX4_keep 37 = .ok (.invokevirtual 307, 3) := dk_182 1 51 (dk_at dksX4_keep_1 14 rfl rfl)
theorem dX4_keep_40 : decode cX4_keep 40 = .ok (.iload_n 2, 1) := dk_28 (dk_at dksX4_keep_1 17 rfl rfl)
theorem dX4_keep_41 : decode cX4_keep 41 = .ok (.ireturn, 1) := dk_172 (dk_at dksX4_keep_1 18 rfl rfl)
abbrev cX4_copies : ByteArray := prog_12_method_90_code
def yX4_copies : MethodName := ⟨RX4, "copies", "(II)V"⟩
def dkwX4_copies_1 : List UInt8 := [132, 3, 1, 167, 255, 231, 177]
abbrev dktX4_copies_1 : List UInt8 := dkwX4_copies_1 ++ []
def dkwX4_copies_0 : List UInt8 := [3, 62, 29, 16, 76, 162, 0, 25, 42, 180, 0, 7, 27, 29, 96, 42, 180, 0, 7, 28, 29, 96, 46, 79]
abbrev dktX4_copies_0 : List UInt8 := dkwX4_copies_0 ++ dktX4_copies_1
theorem dksX4_copies_0 : cX4_copies.data.toList.drop 0 = dktX4_copies_0 := by decide +kernel
theorem dksX4_copies_1 : cX4_copies.data.toList.drop 24 = dktX4_copies_1 := dk_seg dksX4_copies_0 24 rfl rfl
theorem dX4_copies_0 : decode cX4_copies 0 = .ok (.iconst 0, 1) := dk_3 (dk_at dksX4_copies_0 0 rfl rfl)
theorem dX4_copies_1 : decode cX4_copies 1 = .ok (.istore_n 3, 1) := dk_62 (dk_at dksX4_copies_0 1 rfl rfl)
theorem dX4_copies_2 : decode cX4_copies 2 = .ok (.iload_n 3, 1) := dk_29 (dk_at dksX4_copies_0 2 rfl rfl)
theorem dX4_copies_3 : decode cX4_copies 3 = .ok (.bipush 76, 2) := dk_16 76 (dk_at dksX4_copies_0 3 rfl rfl)
theorem dX4_copies_5 : decode cX4_copies 5 = .ok (.if_icmp .ge 25, 3) := dk_162 0 25 (dk_at dksX4_copies_0 5 rfl rfl)
theorem dX4_copies_8 : decode cX4_copies 8 = .ok (.aload_n 0, 1) := dk_42 (dk_at dksX4_copies_0 8 rfl rfl)
theorem dX4_copies_9 : decode cX4_copies 9 = .ok (.getfield 7, 3) := dk_180 0 7 (dk_at dksX4_copies_0 9 rfl rfl)
theorem dX4_copies_12 : decode cX4_copies 12 = .ok (.iload_n 1, 1) := dk_27 (dk_at dksX4_copies_0 12 rfl rfl)
theorem dX4_copies_13 : decode cX4_copies 13 = .ok (.iload_n 3, 1) := dk_29 (dk_at dksX4_copies_0 13 rfl rfl)
theorem dX4_copies_14 : decode cX4_copies 14 = .ok (.iadd, 1) := dk_96 (dk_at dksX4_copies_0 14 rfl rfl)
theorem dX4_copies_15 : decode cX4_copies 15 = .ok (.aload_n 0, 1) := dk_42 (dk_at dksX4_copies_0 15 rfl rfl)
theorem dX4_copies_16 : decode cX4_copies 16 = .ok (.getfield 7, 3) := dk_180 0 7 (dk_at dksX4_copies_0 16 rfl rfl)
theorem dX4_copies_19 : decode cX4_copies 19 = .ok (.iload_n 2, 1) := dk_28 (dk_at dksX4_copies_0 19 rfl rfl)
theorem dX4_copies_20 : decode cX4_copies 20 = .ok (.iload_n 3, 1) := dk_29 (dk_at dksX4_copies_0 20 rfl rfl)
theorem dX4_copies_21 : decode cX4_copies 21 = .ok (.iadd, 1) := dk_96 (dk_at dksX4_copies_0 21 rfl rfl)
theorem dX4_copies_22 : decode cX4_copies 22 = .ok (.iaload, 1) := dk_46 (dk_at dksX4_copies_0 22 rfl rfl)
theorem dX4_copies_23 : decode cX4_copies 23 = .ok (.iastore, 1) := dk_79 (dk_at dksX4_copies_0 23 rfl rfl)
theorem dX4_copies_24 : decode cX4_copies 24 = .ok (.iinc 3 1, 3) := dk_132 3 1 (dk_at dksX4_copies_1 0 rfl rfl)
theorem dX4_copies_27 : decode cX4_copies 27 = .ok (.goto (-25), 3) := dk_167 255 231 (dk_at dksX4_copies_1 3 rfl rfl)
theorem dX4_copies_30 : decode cX4_copies 30 = .ok (.return_, 1) := dk_177 (dk_at dksX4_copies_1 6 rfl rfl)
abbrev cX4_back : ByteArray := prog_12_method_92_code
def yX4_back : MethodName := ⟨RX4, "back", "(I)I"⟩
def dkwX4_back_1 : List UInt8 := [42, 3, 16, 76, 27, 4, 96, 104, 182, 1, 51, 42, 180, 0, 7, 16, 54, 46, 172]
abbrev dktX4_back_1 : List UInt8 := dkwX4_back_1 ++ []
def dkwX4_back_0 : List UInt8 := [27, 133, 9, 10, 184, 0, 69, 154, 0, 5, 2, 172, 42, 180, 0, 16, 27, 51, 154, 0, 6, 16, 254, 172]
abbrev dktX4_back_0 : List UInt8 := dkwX4_back_0 ++ dktX4_back_1
theorem dksX4_back_0 : cX4_back.data.toList.drop 0 = dktX4_back_0 := by decide +kernel
theorem dksX4_back_1 : cX4_back.data.toList.drop 24 = dktX4_back_1 := dk_seg dksX4_back_0 24 rfl rfl
theorem dX4_back_0 : decode cX4_back 0 = .ok (.iload_n 1, 1) := dk_27 (dk_at dksX4_back_0 0 rfl rfl)
theorem dX4_back_1 : decode cX4_back 1 = .ok (.i2l, 1) := dk_133 (dk_at dksX4_back_0 1 rfl rfl)
theorem dX4_back_2 : decode cX4_back 2 = .ok (.lconst 0, 1) := dk_9 (dk_at dksX4_back_0 2 rfl rfl)
theorem dX4_back_3 : decode cX4_back 3 = .ok (.lconst 1, 1) := dk_10 (dk_at dksX4_back_0 3 rfl rfl)
theorem dX4_back_4 : decode cX4_back 4 = .ok (.invokestatic 69, 3) := dk_184 0 69 (dk_at dksX4_back_0 4 rfl rfl)
theorem dX4_back_7 : decode cX4_back 7 = .ok (.ifCond .ne 5, 3) := dk_154 0 5 (dk_at dksX4_back_0 7 rfl rfl)
theorem dX4_back_10 : decode cX4_back 10 = .ok (.iconst (-1), 1) := dk_2 (dk_at dksX4_back_0 10 rfl rfl)
theorem dX4_back_11 : decode cX4_back 11 = .ok (.ireturn, 1) := dk_172 (dk_at dksX4_back_0 11 rfl rfl)
theorem dX4_back_12 : decode cX4_back 12 = .ok (.aload_n 0, 1) := dk_42 (dk_at dksX4_back_0 12 rfl rfl)
theorem dX4_back_13 : decode cX4_back 13 = .ok (.getfield 16, 3) := dk_180 0 16 (dk_at dksX4_back_0 13 rfl rfl)
theorem dX4_back_16 : decode cX4_back 16 = .ok (.iload_n 1, 1) := dk_27 (dk_at dksX4_back_0 16 rfl rfl)
theorem dX4_back_17 : decode cX4_back 17 = .ok (.baload, 1) := dk_51 (dk_at dksX4_back_0 17 rfl rfl)
theorem dX4_back_18 : decode cX4_back 18 = .ok (.ifCond .ne 6, 3) := dk_154 0 6 (dk_at dksX4_back_0 18 rfl rfl)
theorem dX4_back_21 : decode cX4_back 21 = .ok (.bipush (-2), 2) := dk_16 254 (dk_at dksX4_back_0 21 rfl rfl)
theorem dX4_back_23 : decode cX4_back 23 = .ok (.ireturn, 1) := dk_172 (dk_at dksX4_back_0 23 rfl rfl)
theorem dX4_back_24 : decode cX4_back 24 = .ok (.aload_n 0, 1) := dk_42 (dk_at dksX4_back_1 0 rfl rfl)
theorem dX4_back_25 : decode cX4_back 25 = .ok (.iconst 0, 1) := dk_3 (dk_at dksX4_back_1 1 rfl rfl)
theorem dX4_back_26 : decode cX4_back 26 = .ok (.bipush 76, 2) := dk_16 76 (dk_at dksX4_back_1 2 rfl rfl)
theorem dX4_back_28 : decode cX4_back 28 = .ok (.iload_n 1, 1) := dk_27 (dk_at dksX4_back_1 4 rfl rfl)
theorem dX4_back_29 : decode cX4_back 29 = .ok (.iconst 1, 1) := dk_4 (dk_at dksX4_back_1 5 rfl rfl)
theorem dX4_back_30 : decode cX4_back 30 = .ok (.iadd, 1) := dk_96 (dk_at dksX4_back_1 6 rfl rfl)
theorem dX4_back_31 : decode cX4_back 31 = .ok (.imul, 1) := dk_104 (dk_at dksX4_back_1 7 rfl rfl)
theorem dX4_back_32 : decode cX4_back 32 = .ok (.invokevirtual 307, 3) := dk_182 1 51 (dk_at dksX4_back_1 8 rfl rfl)
theorem dX4_back_35 : decode cX4_back 35 = .ok (.aload_n 0, 1) := dk_42 (dk_at dksX4_back_1 11 rfl rfl)
theorem dX4_back_36 : decode cX4_back 36 = .ok (.getfield 7, 3) := dk_180 0 7 (dk_at dksX4_back_1 12 rfl rfl)
theorem dX4_back_39 : decode cX4_back 39 = .ok (.bipush 54, 2) := dk_16 54 (dk_at dksX4_back_1 15 rfl rfl)
theorem dX4_back_41 : decode cX4_back 41 = .ok (.iaload, 1) := dk_46 (dk_at dksX4_back_1 17 rfl rfl)
theorem dX4_back_42 : decode cX4_back 42 = .ok (.ireturn, 1) := dk_172 (dk_at dksX4_back_1 18 rfl rfl)
abbrev cX4_sheet : ByteArray := prog_12_method_94_code
def yX4_sheet : MethodName := ⟨RX4, "sheet", "(III)I"⟩
def dkwX4_sheet_2 : List UInt8 := [180, 0, 38, 16, 40, 27, 104, 21, 4, 96, 3, 79, 132, 4, 1, 167, 255, 233, 4, 172]
abbrev dktX4_sheet_2 : List UInt8 := dkwX4_sheet_2 ++ []
def dkwX4_sheet_1 : List UInt8 := [180, 0, 32, 27, 28, 79, 42, 180, 0, 35, 27, 29, 79, 3, 54, 4, 21, 4, 16, 40, 162, 0, 22, 42]
abbrev dktX4_sheet_1 : List UInt8 := dkwX4_sheet_1 ++ dktX4_sheet_2
def dkwX4_sheet_0 : List UInt8 := [27, 28, 184, 1, 54, 153, 0, 9, 29, 16, 40, 164, 0, 5, 2, 172, 29, 156, 0, 6, 16, 242, 172, 42]
abbrev dktX4_sheet_0 : List UInt8 := dkwX4_sheet_0 ++ dktX4_sheet_1
theorem dksX4_sheet_0 : cX4_sheet.data.toList.drop 0 = dktX4_sheet_0 := by decide +kernel
theorem dksX4_sheet_1 : cX4_sheet.data.toList.drop 24 = dktX4_sheet_1 := dk_seg dksX4_sheet_0 24 rfl rfl
theorem dksX4_sheet_2 : cX4_sheet.data.toList.drop 48 = dktX4_sheet_2 := dk_seg dksX4_sheet_1 24 rfl rfl
theorem dX4_sheet_0 : decode cX4_sheet 0 = .ok (.iload_n 1, 1) := dk_27 (dk_at dksX4_sheet_0 0 rfl rfl)
theorem dX4_sheet_1 : decode cX4_sheet 1 = .ok (.iload_n 2, 1) := dk_28 (dk_at dksX4_sheet_0 1 rfl rfl)
theorem dX4_sheet_2 : decode cX4_sheet 2 = .ok (.invokestatic 310, 3) := dk_184 1 54 (dk_at dksX4_sheet_0 2 rfl rfl)
theorem dX4_sheet_5 : decode cX4_sheet 5 = .ok (.ifCond .eq 9, 3) := dk_153 0 9 (dk_at dksX4_sheet_0 5 rfl rfl)
theorem dX4_sheet_8 : decode cX4_sheet 8 = .ok (.iload_n 3, 1) := dk_29 (dk_at dksX4_sheet_0 8 rfl rfl)
theorem dX4_sheet_9 : decode cX4_sheet 9 = .ok (.bipush 40, 2) := dk_16 40 (dk_at dksX4_sheet_0 9 rfl rfl)
theorem dX4_sheet_11 : decode cX4_sheet 11 = .ok (.if_icmp .le 5, 3) := dk_164 0 5 (dk_at dksX4_sheet_0 11 rfl rfl)
theorem dX4_sheet_14 : decode cX4_sheet 14 = .ok (.iconst (-1), 1) := dk_2 (dk_at dksX4_sheet_0 14 rfl rfl)
theorem dX4_sheet_15 : decode cX4_sheet 15 = .ok (.ireturn, 1) := dk_172 (dk_at dksX4_sheet_0 15 rfl rfl)
theorem dX4_sheet_16 : decode cX4_sheet 16 = .ok (.iload_n 3, 1) := dk_29 (dk_at dksX4_sheet_0 16 rfl rfl)
theorem dX4_sheet_17 : decode cX4_sheet 17 = .ok (.ifCond .ge 6, 3) := dk_156 0 6 (dk_at dksX4_sheet_0 17 rfl rfl)
theorem dX4_sheet_20 : decode cX4_sheet 20 = .ok (.bipush (-14), 2) := dk_16 242 (dk_at dksX4_sheet_0 20 rfl rfl)
theorem dX4_sheet_22 : decode cX4_sheet 22 = .ok (.ireturn, 1) := dk_172 (dk_at dksX4_sheet_0 22 rfl rfl)
theorem dX4_sheet_23 : decode cX4_sheet 23 = .ok (.aload_n 0, 1) := dk_42 (dk_at dksX4_sheet_0 23 rfl rfl)
theorem dX4_sheet_24 : decode cX4_sheet 24 = .ok (.getfield 32, 3) := dk_180 0 32 (dk_at dksX4_sheet_1 0 rfl rfl)
theorem dX4_sheet_27 : decode cX4_sheet 27 = .ok (.iload_n 1, 1) := dk_27 (dk_at dksX4_sheet_1 3 rfl rfl)
theorem dX4_sheet_28 : decode cX4_sheet 28 = .ok (.iload_n 2, 1) := dk_28 (dk_at dksX4_sheet_1 4 rfl rfl)
theorem dX4_sheet_29 : decode cX4_sheet 29 = .ok (.iastore, 1) := dk_79 (dk_at dksX4_sheet_1 5 rfl rfl)
theorem dX4_sheet_30 : decode cX4_sheet 30 = .ok (.aload_n 0, 1) := dk_42 (dk_at dksX4_sheet_1 6 rfl rfl)
theorem dX4_sheet_31 : decode cX4_sheet 31 = .ok (.getfield 35, 3) := dk_180 0 35 (dk_at dksX4_sheet_1 7 rfl rfl)
theorem dX4_sheet_34 : decode cX4_sheet 34 = .ok (.iload_n 1, 1) := dk_27 (dk_at dksX4_sheet_1 10 rfl rfl)
theorem dX4_sheet_35 : decode cX4_sheet 35 = .ok (.iload_n 3, 1) := dk_29 (dk_at dksX4_sheet_1 11 rfl rfl)
theorem dX4_sheet_36 : decode cX4_sheet 36 = .ok (.iastore, 1) := dk_79 (dk_at dksX4_sheet_1 12 rfl rfl)
theorem dX4_sheet_37 : decode cX4_sheet 37 = .ok (.iconst 0, 1) := dk_3 (dk_at dksX4_sheet_1 13 rfl rfl)
theorem dX4_sheet_38 : decode cX4_sheet 38 = .ok (.istore 4, 2) := dk_54 4 (dk_at dksX4_sheet_1 14 rfl rfl)
theorem dX4_sheet_40 : decode cX4_sheet 40 = .ok (.iload 4, 2) := dk_21 4 (dk_at dksX4_sheet_1 16 rfl rfl)
theorem dX4_sheet_42 : decode cX4_sheet 42 = .ok (.bipush 40, 2) := dk_16 40 (dk_at dksX4_sheet_1 18 rfl rfl)
theorem dX4_sheet_44 : decode cX4_sheet 44 = .ok (.if_icmp .ge 22, 3) := dk_162 0 22 (dk_at dksX4_sheet_1 20 rfl rfl)
theorem dX4_sheet_47 : decode cX4_sheet 47 = .ok (.aload_n 0, 1) := dk_42 (dk_at dksX4_sheet_1 23 rfl rfl)
theorem dX4_sheet_48 : decode cX4_sheet 48 = .ok (.getfield 38, 3) := dk_180 0 38 (dk_at dksX4_sheet_2 0 rfl rfl)
theorem dX4_sheet_51 : decode cX4_sheet 51 = .ok (.bipush 40, 2) := dk_16 40 (dk_at dksX4_sheet_2 3 rfl rfl)
theorem dX4_sheet_53 : decode cX4_sheet 53 = .ok (.iload_n 1, 1) := dk_27 (dk_at dksX4_sheet_2 5 rfl rfl)
theorem dX4_sheet_54 : decode cX4_sheet 54 = .ok (.imul, 1) := dk_104 (dk_at dksX4_sheet_2 6 rfl rfl)
theorem dX4_sheet_55 : decode cX4_sheet 55 = .ok (.iload 4, 2) := dk_21 4 (dk_at dksX4_sheet_2 7 rfl rfl)
theorem dX4_sheet_57 : decode cX4_sheet 57 = .ok (.iadd, 1) := dk_96 (dk_at dksX4_sheet_2 9 rfl rfl)
theorem dX4_sheet_58 : decode cX4_sheet 58 = .ok (.iconst 0, 1) := dk_3 (dk_at dksX4_sheet_2 10 rfl rfl)
theorem dX4_sheet_59 : decode cX4_sheet 59 = .ok (.iastore, 1) := dk_79 (dk_at dksX4_sheet_2 11 rfl rfl)
theorem dX4_sheet_60 : decode cX4_sheet 60 = .ok (.iinc 4 1, 3) := dk_132 4 1 (dk_at dksX4_sheet_2 12 rfl rfl)
theorem dX4_sheet_63 : decode cX4_sheet 63 = .ok (.goto (-23), 3) := dk_167 255 233 (dk_at dksX4_sheet_2 15 rfl rfl)
theorem dX4_sheet_66 : decode cX4_sheet 66 = .ok (.iconst 1, 1) := dk_4 (dk_at dksX4_sheet_2 18 rfl rfl)
theorem dX4_sheet_67 : decode cX4_sheet 67 = .ok (.ireturn, 1) := dk_172 (dk_at dksX4_sheet_2 19 rfl rfl)
abbrev cX4_isSheet : ByteArray := prog_12_method_93_code
def yX4_isSheet : MethodName := ⟨RX4, "isSheet", "(II)Z"⟩
def dkwX4_isSheet_1 : List UInt8 := [4, 167, 0, 4, 3, 172]
abbrev dktX4_isSheet_1 : List UInt8 := dkwX4_isSheet_1 ++ []
def dkwX4_isSheet_0 : List UInt8 := [26, 133, 9, 20, 0, 215, 184, 0, 69, 153, 0, 19, 27, 133, 9, 20, 0, 213, 184, 0, 69, 153, 0, 7]
abbrev dktX4_isSheet_0 : List UInt8 := dkwX4_isSheet_0 ++ dktX4_isSheet_1
theorem dksX4_isSheet_0 : cX4_isSheet.data.toList.drop 0 = dktX4_isSheet_0 := by decide +kernel
theorem dksX4_isSheet_1 : cX4_isSheet.data.toList.drop 24 = dktX4_isSheet_1 := dk_seg dksX4_isSheet_0 24 rfl rfl
theorem dX4_isSheet_0 : decode cX4_isSheet 0 = .ok (.iload_n 0, 1) := dk_26 (dk_at dksX4_isSheet_0 0 rfl rfl)
theorem dX4_isSheet_1 : decode cX4_isSheet 1 = .ok (.i2l, 1) := dk_133 (dk_at dksX4_isSheet_0 1 rfl rfl)
theorem dX4_isSheet_2 : decode cX4_isSheet 2 = .ok (.lconst 0, 1) := dk_9 (dk_at dksX4_isSheet_0 2 rfl rfl)
theorem dX4_isSheet_3 : decode cX4_isSheet 3 = .ok (.ldc2_w 215, 3) := dk_20 0 215 (dk_at dksX4_isSheet_0 3 rfl rfl)
theorem dX4_isSheet_6 : decode cX4_isSheet 6 = .ok (.invokestatic 69, 3) := dk_184 0 69 (dk_at dksX4_isSheet_0 6 rfl rfl)
theorem dX4_isSheet_9 : decode cX4_isSheet 9 = .ok (.ifCond .eq 19, 3) := dk_153 0 19 (dk_at dksX4_isSheet_0 9 rfl rfl)
theorem dX4_isSheet_12 : decode cX4_isSheet 12 = .ok (.iload_n 1, 1) := dk_27 (dk_at dksX4_isSheet_0 12 rfl rfl)
theorem dX4_isSheet_13 : decode cX4_isSheet 13 = .ok (.i2l, 1) := dk_133 (dk_at dksX4_isSheet_0 13 rfl rfl)
theorem dX4_isSheet_14 : decode cX4_isSheet 14 = .ok (.lconst 0, 1) := dk_9 (dk_at dksX4_isSheet_0 14 rfl rfl)
theorem dX4_isSheet_15 : decode cX4_isSheet 15 = .ok (.ldc2_w 213, 3) := dk_20 0 213 (dk_at dksX4_isSheet_0 15 rfl rfl)
theorem dX4_isSheet_18 : decode cX4_isSheet 18 = .ok (.invokestatic 69, 3) := dk_184 0 69 (dk_at dksX4_isSheet_0 18 rfl rfl)
theorem dX4_isSheet_21 : decode cX4_isSheet 21 = .ok (.ifCond .eq 7, 3) := dk_153 0 7 (dk_at dksX4_isSheet_0 21 rfl rfl)
theorem dX4_isSheet_24 : decode cX4_isSheet 24 = .ok (.iconst 1, 1) := dk_4 (dk_at dksX4_isSheet_1 0 rfl rfl)
theorem dX4_isSheet_25 : decode cX4_isSheet 25 = .ok (.goto 4, 3) := dk_167 0 4 (dk_at dksX4_isSheet_1 1 rfl rfl)
theorem dX4_isSheet_28 : decode cX4_isSheet 28 = .ok (.iconst 0, 1) := dk_3 (dk_at dksX4_isSheet_1 4 rfl rfl)
theorem dX4_isSheet_29 : decode cX4_isSheet 29 = .ok (.ireturn, 1) := dk_172 (dk_at dksX4_isSheet_1 5 rfl rfl)
abbrev cX4_lay : ByteArray := prog_12_method_95_code
def yX4_lay : MethodName := ⟨RX4, "lay", "(III)I"⟩
def dkwX4_lay_3 : List UInt8 := [180, 0, 32, 27, 46, 4, 160, 0, 8, 29, 147, 167, 0, 4, 29, 79, 4, 172]
abbrev dktX4_lay_3 : List UInt8 := dkwX4_lay_3 ++ []
def dkwX4_lay_2 : List UInt8 := [180, 0, 38, 16, 40, 27, 104, 28, 96, 42, 180, 0, 32, 27, 46, 154, 0, 8, 29, 145, 167, 0, 19, 42]
abbrev dktX4_lay_2 : List UInt8 := dkwX4_lay_2 ++ dktX4_lay_3
def dkwX4_lay_1 : List UInt8 := [28, 133, 9, 42, 180, 0, 35, 27, 46, 4, 100, 133, 184, 0, 69, 154, 0, 6, 16, 244, 172, 42]
abbrev dktX4_lay_1 : List UInt8 := dkwX4_lay_1 ++ dktX4_lay_2
def dkwX4_lay_0 : List UInt8 := [27, 3, 184, 1, 54, 154, 0, 5, 2, 172, 42, 180, 0, 32, 27, 46, 16, 252, 160, 0, 6, 16, 245, 172]
abbrev dktX4_lay_0 : List UInt8 := dkwX4_lay_0 ++ dktX4_lay_1
theorem dksX4_lay_0 : cX4_lay.data.toList.drop 0 = dktX4_lay_0 := by decide +kernel
theorem dksX4_lay_1 : cX4_lay.data.toList.drop 24 = dktX4_lay_1 := dk_seg dksX4_lay_0 24 rfl rfl
theorem dksX4_lay_2 : cX4_lay.data.toList.drop 46 = dktX4_lay_2 := dk_seg dksX4_lay_1 22 rfl rfl
theorem dksX4_lay_3 : cX4_lay.data.toList.drop 70 = dktX4_lay_3 := dk_seg dksX4_lay_2 24 rfl rfl
theorem dX4_lay_0 : decode cX4_lay 0 = .ok (.iload_n 1, 1) := dk_27 (dk_at dksX4_lay_0 0 rfl rfl)
theorem dX4_lay_1 : decode cX4_lay 1 = .ok (.iconst 0, 1) := dk_3 (dk_at dksX4_lay_0 1 rfl rfl)
theorem dX4_lay_2 : decode cX4_lay 2 = .ok (.invokestatic 310, 3) := dk_184 1 54 (dk_at dksX4_lay_0 2 rfl rfl)
theorem dX4_lay_5 : decode cX4_lay 5 = .ok (.ifCond .ne 5, 3) := dk_154 0 5 (dk_at dksX4_lay_0 5 rfl rfl)
theorem dX4_lay_8 : decode cX4_lay 8 = .ok (.iconst (-1), 1) := dk_2 (dk_at dksX4_lay_0 8 rfl rfl)
theorem dX4_lay_9 : decode cX4_lay 9 = .ok (.ireturn, 1) := dk_172 (dk_at dksX4_lay_0 9 rfl rfl)
theorem dX4_lay_10 : decode cX4_lay 10 = .ok (.aload_n 0, 1) := dk_42 (dk_at dksX4_lay_0 10 rfl rfl)
theorem dX4_lay_11 : decode cX4_lay 11 = .ok (.getfield 32, 3) := dk_180 0 32 (dk_at dksX4_lay_0 11 rfl rfl)
theorem dX4_lay_14 : decode cX4_lay 14 = .ok (.iload_n 1, 1) := dk_27 (dk_at dksX4_lay_0 14 rfl rfl)
theorem dX4_lay_15 : decode cX4_lay 15 = .ok (.iaload, 1) := dk_46 (dk_at dksX4_lay_0 15 rfl rfl)
theorem dX4_lay_16 : decode cX4_lay 16 = .ok (.bipush (-4), 2) := dk_16 252 (dk_at dksX4_lay_0 16 rfl rfl)
theorem dX4_lay_18 : decode cX4_lay 18 = .ok (.if_icmp .ne 6, 3) := dk_160 0 6 (dk_at dksX4_lay_0 18 rfl rfl)
theorem dX4_lay_21 : decode cX4_lay 21 = .ok (.bipush (-11), 2) := dk_16 245 (dk_at dksX4_lay_0 21 rfl rfl)
theorem dX4_lay_23 : decode cX4_lay 23 = .ok (.ireturn, 1) := dk_172 (dk_at dksX4_lay_0 23 rfl rfl)
theorem dX4_lay_24 : decode cX4_lay 24 = .ok (.iload_n 2, 1) := dk_28 (dk_at dksX4_lay_1 0 rfl rfl)
theorem dX4_lay_25 : decode cX4_lay 25 = .ok (.i2l, 1) := dk_133 (dk_at dksX4_lay_1 1 rfl rfl)
theorem dX4_lay_26 : decode cX4_lay 26 = .ok (.lconst 0, 1) := dk_9 (dk_at dksX4_lay_1 2 rfl rfl)
theorem dX4_lay_27 : decode cX4_lay 27 = .ok (.aload_n 0, 1) := dk_42 (dk_at dksX4_lay_1 3 rfl rfl)
theorem dX4_lay_28 : decode cX4_lay 28 = .ok (.getfield 35, 3) := dk_180 0 35 (dk_at dksX4_lay_1 4 rfl rfl)
theorem dX4_lay_31 : decode cX4_lay 31 = .ok (.iload_n 1, 1) := dk_27 (dk_at dksX4_lay_1 7 rfl rfl)
theorem dX4_lay_32 : decode cX4_lay 32 = .ok (.iaload, 1) := dk_46 (dk_at dksX4_lay_1 8 rfl rfl)
theorem dX4_lay_33 : decode cX4_lay 33 = .ok (.iconst 1, 1) := dk_4 (dk_at dksX4_lay_1 9 rfl rfl)
theorem dX4_lay_34 : decode cX4_lay 34 = .ok (.isub, 1) := dk_100 (dk_at dksX4_lay_1 10 rfl rfl)
theorem dX4_lay_35 : decode cX4_lay 35 = .ok (.i2l, 1) := dk_133 (dk_at dksX4_lay_1 11 rfl rfl)
theorem dX4_lay_36 : decode cX4_lay 36 = .ok (.invokestatic 69, 3) := dk_184 0 69 (dk_at dksX4_lay_1 12 rfl rfl)
theorem dX4_lay_39 : decode cX4_lay 39 = .ok (.ifCond .ne 6, 3) := dk_154 0 6 (dk_at dksX4_lay_1 15 rfl rfl)
theorem dX4_lay_42 : decode cX4_lay 42 = .ok (.bipush (-12), 2) := dk_16 244 (dk_at dksX4_lay_1 18 rfl rfl)
theorem dX4_lay_44 : decode cX4_lay 44 = .ok (.ireturn, 1) := dk_172 (dk_at dksX4_lay_1 20 rfl rfl)
theorem dX4_lay_45 : decode cX4_lay 45 = .ok (.aload_n 0, 1) := dk_42 (dk_at dksX4_lay_1 21 rfl rfl)
theorem dX4_lay_46 : decode cX4_lay 46 = .ok (.getfield 38, 3) := dk_180 0 38 (dk_at dksX4_lay_2 0 rfl rfl)
theorem dX4_lay_49 : decode cX4_lay 49 = .ok (.bipush 40, 2) := dk_16 40 (dk_at dksX4_lay_2 3 rfl rfl)
theorem dX4_lay_51 : decode cX4_lay 51 = .ok (.iload_n 1, 1) := dk_27 (dk_at dksX4_lay_2 5 rfl rfl)
theorem dX4_lay_52 : decode cX4_lay 52 = .ok (.imul, 1) := dk_104 (dk_at dksX4_lay_2 6 rfl rfl)
theorem dX4_lay_53 : decode cX4_lay 53 = .ok (.iload_n 2, 1) := dk_28 (dk_at dksX4_lay_2 7 rfl rfl)
theorem dX4_lay_54 : decode cX4_lay 54 = .ok (.iadd, 1) := dk_96 (dk_at dksX4_lay_2 8 rfl rfl)
theorem dX4_lay_55 : decode cX4_lay 55 = .ok (.aload_n 0, 1) := dk_42 (dk_at dksX4_lay_2 9 rfl rfl)
theorem dX4_lay_56 : decode cX4_lay 56 = .ok (.getfield 32, 3) := dk_180 0 32 (dk_at dksX4_lay_2 10 rfl rfl)
theorem dX4_lay_59 : decode cX4_lay 59 = .ok (.iload_n 1, 1) := dk_27 (dk_at dksX4_lay_2 13 rfl rfl)
theorem dX4_lay_60 : decode cX4_lay 60 = .ok (.iaload, 1) := dk_46 (dk_at dksX4_lay_2 14 rfl rfl)
theorem dX4_lay_61 : decode cX4_lay 61 = .ok (.ifCond .ne 8, 3) := dk_154 0 8 (dk_at dksX4_lay_2 15 rfl rfl)
theorem dX4_lay_64 : decode cX4_lay 64 = .ok (.iload_n 3, 1) := dk_29 (dk_at dksX4_lay_2 18 rfl rfl)
theorem dX4_lay_65 : decode cX4_lay 65 = .ok (.i2b, 1) := dk_145 (dk_at dksX4_lay_2 19 rfl rfl)
theorem dX4_lay_66 : decode cX4_lay 66 = .ok (.goto 19, 3) := dk_167 0 19 (dk_at dksX4_lay_2 20 rfl rfl)
theorem dX4_lay_69 : decode cX4_lay 69 = .ok (.aload_n 0, 1) := dk_42 (dk_at dksX4_lay_2 23 rfl rfl)
theorem dX4_lay_70 : decode cX4_lay 70 = .ok (.getfield 32, 3) := dk_180 0 32 (dk_at dksX4_lay_3 0 rfl rfl)
theorem dX4_lay_73 : decode cX4_lay 73 = .ok (.iload_n 1, 1) := dk_27 (dk_at dksX4_lay_3 3 rfl rfl)
theorem dX4_lay_74 : decode cX4_lay 74 = .ok (.iaload, 1) := dk_46 (dk_at dksX4_lay_3 4 rfl rfl)
theorem dX4_lay_75 : decode cX4_lay 75 = .ok (.iconst 1, 1) := dk_4 (dk_at dksX4_lay_3 5 rfl rfl)
theorem dX4_lay_76 : decode cX4_lay 76 = .ok (.if_icmp .ne 8, 3) := dk_160 0 8 (dk_at dksX4_lay_3 6 rfl rfl)
theorem dX4_lay_79 : decode cX4_lay 79 = .ok (.iload_n 3, 1) := dk_29 (dk_at dksX4_lay_3 9 rfl rfl)
theorem dX4_lay_80 : decode cX4_lay 80 = .ok (.i2s, 1) := dk_147 (dk_at dksX4_lay_3 10 rfl rfl)
theorem dX4_lay_81 : decode cX4_lay 81 = .ok (.goto 4, 3) := dk_167 0 4 (dk_at dksX4_lay_3 11 rfl rfl)
theorem dX4_lay_84 : decode cX4_lay 84 = .ok (.iload_n 3, 1) := dk_29 (dk_at dksX4_lay_3 14 rfl rfl)
theorem dX4_lay_85 : decode cX4_lay 85 = .ok (.iastore, 1) := dk_79 (dk_at dksX4_lay_3 15 rfl rfl)
theorem dX4_lay_86 : decode cX4_lay 86 = .ok (.iconst 1, 1) := dk_4 (dk_at dksX4_lay_3 16 rfl rfl)
theorem dX4_lay_87 : decode cX4_lay 87 = .ok (.ireturn, 1) := dk_172 (dk_at dksX4_lay_3 17 rfl rfl)
abbrev cX4_read : ByteArray := prog_12_method_96_code
def yX4_read : MethodName := ⟨RX4, "read", "(IIII)I"⟩
def dkwX4_read_11 : List UInt8 := [167, 255, 62, 42, 21, 5, 181, 1, 63, 21, 6, 172]
abbrev dktX4_read_11 : List UInt8 := dkwX4_read_11 ++ []
def dkwX4_read_10 : List UInt8 := [21, 9, 46, 79, 132, 9, 1, 167, 255, 232, 16, 236, 21, 7, 100, 172, 132, 6, 1, 132, 7, 1]
abbrev dktX4_read_10 : List UInt8 := dkwX4_read_10 ++ dktX4_read_11
def dkwX4_read_9 : List UInt8 := [156, 0, 39, 3, 54, 9, 21, 9, 16, 76, 162, 0, 23, 42, 180, 0, 7, 21, 9, 42, 180, 0, 41]
abbrev dktX4_read_9 : List UInt8 := dkwX4_read_9 ++ dktX4_read_10
def dkwX4_read_8 : List UInt8 := [21, 8, 46, 42, 180, 0, 38, 21, 8, 4, 96, 46, 42, 180, 0, 38, 21, 8, 5, 96, 46, 182, 1, 59]
abbrev dktX4_read_8 : List UInt8 := dkwX4_read_8 ++ dktX4_read_9
def dkwX4_read_7 : List UInt8 := [21, 5, 154, 0, 87, 16, 40, 27, 104, 29, 96, 6, 21, 7, 104, 96, 54, 8, 42, 42, 180, 0, 38]
abbrev dktX4_read_7 : List UInt8 := dkwX4_read_7 ++ dktX4_read_8
def dkwX4_read_6 : List UInt8 := [180, 0, 35, 27, 46, 133, 148, 155, 0, 7, 5, 167, 0, 4, 3, 54, 5, 132, 8, 1, 167, 255, 172]
abbrev dktX4_read_6 : List UInt8 := dkwX4_read_6 ++ dktX4_read_7
def dkwX4_read_5 : List UInt8 := [180, 0, 32, 27, 46, 28, 159, 0, 7, 6, 167, 0, 28, 22, 9, 9, 148, 155, 0, 16, 22, 9, 42]
abbrev dktX4_read_5 : List UInt8 := dkwX4_read_5 ++ dktX4_read_6
def dkwX4_read_4 : List UInt8 := [97, 21, 8, 133, 97, 55, 9, 42, 180, 0, 32, 27, 46, 16, 252, 160, 0, 7, 4, 167, 0, 42, 42]
abbrev dktX4_read_4 : List UInt8 := dkwX4_read_4 ++ dktX4_read_5
def dkwX4_read_3 : List UInt8 := [154, 0, 188, 3, 54, 8, 21, 8, 6, 162, 0, 84, 21, 5, 154, 0, 79, 29, 133, 6, 21, 7, 104, 133]
abbrev dktX4_read_3 : List UInt8 := dkwX4_read_3 ++ dktX4_read_4
def dkwX4_read_2 : List UInt8 := [132, 5, 1, 167, 255, 232, 3, 54, 5, 3, 54, 6, 3, 54, 7, 21, 7, 21, 4, 162, 0, 193, 21, 5]
abbrev dktX4_read_2 : List UInt8 := dkwX4_read_2 ++ dktX4_read_3
def dkwX4_read_1 : List UInt8 := [54, 5, 21, 5, 16, 76, 162, 0, 23, 42, 180, 0, 41, 21, 5, 42, 180, 0, 7, 21, 5, 46, 79]
abbrev dktX4_read_1 : List UInt8 := dkwX4_read_1 ++ dktX4_read_2
def dkwX4_read_0 : List UInt8 := [27, 28, 184, 1, 54, 153, 0, 16, 21, 4, 133, 9, 20, 1, 57, 184, 0, 69, 154, 0, 5, 2, 172, 3]
abbrev dktX4_read_0 : List UInt8 := dkwX4_read_0 ++ dktX4_read_1
theorem dksX4_read_0 : cX4_read.data.toList.drop 0 = dktX4_read_0 := by decide +kernel
theorem dksX4_read_1 : cX4_read.data.toList.drop 24 = dktX4_read_1 := dk_seg dksX4_read_0 24 rfl rfl
theorem dksX4_read_2 : cX4_read.data.toList.drop 47 = dktX4_read_2 := dk_seg dksX4_read_1 23 rfl rfl
theorem dksX4_read_3 : cX4_read.data.toList.drop 71 = dktX4_read_3 := dk_seg dksX4_read_2 24 rfl rfl
theorem dksX4_read_4 : cX4_read.data.toList.drop 95 = dktX4_read_4 := dk_seg dksX4_read_3 24 rfl rfl
theorem dksX4_read_5 : cX4_read.data.toList.drop 118 = dktX4_read_5 := dk_seg dksX4_read_4 23 rfl rfl
theorem dksX4_read_6 : cX4_read.data.toList.drop 141 = dktX4_read_6 := dk_seg dksX4_read_5 23 rfl rfl
theorem dksX4_read_7 : cX4_read.data.toList.drop 164 = dktX4_read_7 := dk_seg dksX4_read_6 23 rfl rfl
theorem dksX4_read_8 : cX4_read.data.toList.drop 187 = dktX4_read_8 := dk_seg dksX4_read_7 23 rfl rfl
theorem dksX4_read_9 : cX4_read.data.toList.drop 211 = dktX4_read_9 := dk_seg dksX4_read_8 24 rfl rfl
theorem dksX4_read_10 : cX4_read.data.toList.drop 234 = dktX4_read_10 := dk_seg dksX4_read_9 23 rfl rfl
theorem dksX4_read_11 : cX4_read.data.toList.drop 256 = dktX4_read_11 := dk_seg dksX4_read_10 22 rfl rfl
theorem dX4_read_0 : decode cX4_read 0 = .ok (.iload_n 1, 1) := dk_27 (dk_at dksX4_read_0 0 rfl rfl)
theorem dX4_read_1 : decode cX4_read 1 = .ok (.iload_n 2, 1) := dk_28 (dk_at dksX4_read_0 1 rfl rfl)
theorem dX4_read_2 : decode cX4_read 2 = .ok (.invokestatic 310, 3) := dk_184 1 54 (dk_at dksX4_read_0 2 rfl rfl)
theorem dX4_read_5 : decode cX4_read 5 = .ok (.ifCond .eq 16, 3) := dk_153 0 16 (dk_at dksX4_read_0 5 rfl rfl)
theorem dX4_read_8 : decode cX4_read 8 = .ok (.iload 4, 2) := dk_21 4 (dk_at dksX4_read_0 8 rfl rfl)
theorem dX4_read_10 : decode cX4_read 10 = .ok (.i2l, 1) := dk_133 (dk_at dksX4_read_0 10 rfl rfl)
theorem dX4_read_11 : decode cX4_read 11 = .ok (.lconst 0, 1) := dk_9 (dk_at dksX4_read_0 11 rfl rfl)
theorem dX4_read_12 : decode cX4_read 12 = .ok (.ldc2_w 313, 3) := dk_20 1 57 (dk_at dksX4_read_0 12 rfl rfl)
theorem dX4_read_15 : decode cX4_read 15 = .ok (.invokestatic 69, 3) := dk_184 0 69 (dk_at dksX4_read_0 15 rfl rfl)
theorem dX4_read_18 : decode cX4_read 18 = .ok (.ifCond .ne 5, 3) := dk_154 0 5 (dk_at dksX4_read_0 18 rfl rfl)
theorem dX4_read_21 : decode cX4_read 21 = .ok (.iconst (-1), 1) := dk_2 (dk_at dksX4_read_0 21 rfl rfl)
theorem dX4_read_22 : decode cX4_read 22 = .ok (.ireturn, 1) := dk_172 (dk_at dksX4_read_0 22 rfl rfl)
theorem dX4_read_23 : decode cX4_read 23 = .ok (.iconst 0, 1) := dk_3 (dk_at dksX4_read_0 23 rfl rfl)
theorem dX4_read_24 : decode cX4_read 24 = .ok (.istore 5, 2) := dk_54 5 (dk_at dksX4_read_1 0 rfl rfl)
theorem dX4_read_26 : decode cX4_read 26 = .ok (.iload 5, 2) := dk_21 5 (dk_at dksX4_read_1 2 rfl rfl)
theorem dX4_read_28 : decode cX4_read 28 = .ok (.bipush 76, 2) := dk_16 76 (dk_at dksX4_read_1 4 rfl rfl)
theorem dX4_read_30 : decode cX4_read 30 = .ok (.if_icmp .ge 23, 3) := dk_162 0 23 (dk_at dksX4_read_1 6 rfl rfl)
theorem dX4_read_33 : decode cX4_read 33 = .ok (.aload_n 0, 1) := dk_42 (dk_at dksX4_read_1 9 rfl rfl)
theorem dX4_read_34 : decode cX4_read 34 = .ok (.getfield 41, 3) := dk_180 0 41 (dk_at dksX4_read_1 10 rfl rfl)
theorem dX4_read_37 : decode cX4_read 37 = .ok (.iload 5, 2) := dk_21 5 (dk_at dksX4_read_1 13 rfl rfl)
theorem dX4_read_39 : decode cX4_read 39 = .ok (.aload_n 0, 1) := dk_42 (dk_at dksX4_read_1 15 rfl rfl)
theorem dX4_read_40 : decode cX4_read 40 = .ok (.getfield 7, 3) := dk_180 0 7 (dk_at dksX4_read_1 16 rfl rfl)
theorem dX4_read_43 : decode cX4_read 43 = .ok (.iload 5, 2) := dk_21 5 (dk_at dksX4_read_1 19 rfl rfl)
theorem dX4_read_45 : decode cX4_read 45 = .ok (.iaload, 1) := dk_46 (dk_at dksX4_read_1 21 rfl rfl)
theorem dX4_read_46 : decode cX4_read 46 = .ok (.iastore, 1) := dk_79 (dk_at dksX4_read_1 22 rfl rfl)
theorem dX4_read_47 : decode cX4_read 47 = .ok (.iinc 5 1, 3) := dk_132 5 1 (dk_at dksX4_read_2 0 rfl rfl)
theorem dX4_read_50 : decode cX4_read 50 = .ok (.goto (-24), 3) := dk_167 255 232 (dk_at dksX4_read_2 3 rfl rfl)
theorem dX4_read_53 : decode cX4_read 53 = .ok (.iconst 0, 1) := dk_3 (dk_at dksX4_read_2 6 rfl rfl)
theorem dX4_read_54 : decode cX4_read 54 = .ok (.istore 5, 2) := dk_54 5 (dk_at dksX4_read_2 7 rfl rfl)
theorem dX4_read_56 : decode cX4_read 56 = .ok (.iconst 0, 1) := dk_3 (dk_at dksX4_read_2 9 rfl rfl)
theorem dX4_read_57 : decode cX4_read 57 = .ok (.istore 6, 2) := dk_54 6 (dk_at dksX4_read_2 10 rfl rfl)
theorem dX4_read_59 : decode cX4_read 59 = .ok (.iconst 0, 1) := dk_3 (dk_at dksX4_read_2 12 rfl rfl)
theorem dX4_read_60 : decode cX4_read 60 = .ok (.istore 7, 2) := dk_54 7 (dk_at dksX4_read_2 13 rfl rfl)
theorem dX4_read_62 : decode cX4_read 62 = .ok (.iload 7, 2) := dk_21 7 (dk_at dksX4_read_2 15 rfl rfl)
theorem dX4_read_64 : decode cX4_read 64 = .ok (.iload 4, 2) := dk_21 4 (dk_at dksX4_read_2 17 rfl rfl)
theorem dX4_read_66 : decode cX4_read 66 = .ok (.if_icmp .ge 193, 3) := dk_162 0 193 (dk_at dksX4_read_2 19 rfl rfl)
theorem dX4_read_69 : decode cX4_read 69 = .ok (.iload 5, 2) := dk_21 5 (dk_at dksX4_read_2 22 rfl rfl)
theorem dX4_read_71 : decode cX4_read 71 = .ok (.ifCond .ne 188, 3) := dk_154 0 188 (dk_at dksX4_read_3 0 rfl rfl)
theorem dX4_read_74 : decode cX4_read 74 = .ok (.iconst 0, 1) := dk_3 (dk_at dksX4_read_3 3 rfl rfl)
theorem dX4_read_75 : decode cX4_read 75 = .ok (.istore 8, 2) := dk_54 8 (dk_at dksX4_read_3 4 rfl rfl)
theorem dX4_read_77 : decode cX4_read 77 = .ok (.iload 8, 2) := dk_21 8 (dk_at dksX4_read_3 6 rfl rfl)
theorem dX4_read_79 : decode cX4_read 79 = .ok (.iconst 3, 1) := dk_6 (dk_at dksX4_read_3 8 rfl rfl)
theorem dX4_read_80 : decode cX4_read 80 = .ok (.if_icmp .ge 84, 3) := dk_162 0 84 (dk_at dksX4_read_3 9 rfl rfl)
theorem dX4_read_83 : decode cX4_read 83 = .ok (.iload 5, 2) := dk_21 5 (dk_at dksX4_read_3 12 rfl rfl)
theorem dX4_read_85 : decode cX4_read 85 = .ok (.ifCond .ne 79, 3) := dk_154 0 79 (dk_at dksX4_read_3 14 rfl rfl)
theorem dX4_read_88 : decode cX4_read 88 = .ok (.iload_n 3, 1) := dk_29 (dk_at dksX4_read_3 17 rfl rfl)
theorem dX4_read_89 : decode cX4_read 89 = .ok (.i2l, 1) := dk_133 (dk_at dksX4_read_3 18 rfl rfl)
theorem dX4_read_90 : decode cX4_read 90 = .ok (.iconst 3, 1) := dk_6 (dk_at dksX4_read_3 19 rfl rfl)
theorem dX4_read_91 : decode cX4_read 91 = .ok (.iload 7, 2) := dk_21 7 (dk_at dksX4_read_3 20 rfl rfl)
theorem dX4_read_93 : decode cX4_read 93 = .ok (.imul, 1) := dk_104 (dk_at dksX4_read_3 22 rfl rfl)
theorem dX4_read_94 : decode cX4_read 94 = .ok (.i2l, 1) := dk_133 (dk_at dksX4_read_3 23 rfl rfl)
theorem dX4_read_95 : decode cX4_read 95 = .ok (.ladd, 1) := dk_97 (dk_at dksX4_read_4 0 rfl rfl)
theorem dX4_read_96 : decode cX4_read 96 = .ok (.iload 8, 2) := dk_21 8 (dk_at dksX4_read_4 1 rfl rfl)
theorem dX4_read_98 : decode cX4_read 98 = .ok (.i2l, 1) := dk_133 (dk_at dksX4_read_4 3 rfl rfl)
theorem dX4_read_99 : decode cX4_read 99 = .ok (.ladd, 1) := dk_97 (dk_at dksX4_read_4 4 rfl rfl)
theorem dX4_read_100 : decode cX4_read 100 = .ok (.lstore 9, 2) := dk_55 9 (dk_at dksX4_read_4 5 rfl rfl)
theorem dX4_read_102 : decode cX4_read 102 = .ok (.aload_n 0, 1) := dk_42 (dk_at dksX4_read_4 7 rfl rfl)
theorem dX4_read_103 : decode cX4_read 103 = .ok (.getfield 32, 3) := dk_180 0 32 (dk_at dksX4_read_4 8 rfl rfl)
theorem dX4_read_106 : decode cX4_read 106 = .ok (.iload_n 1, 1) := dk_27 (dk_at dksX4_read_4 11 rfl rfl)
theorem dX4_read_107 : decode cX4_read 107 = .ok (.iaload, 1) := dk_46 (dk_at dksX4_read_4 12 rfl rfl)
theorem dX4_read_108 : decode cX4_read 108 = .ok (.bipush (-4), 2) := dk_16 252 (dk_at dksX4_read_4 13 rfl rfl)
theorem dX4_read_110 : decode cX4_read 110 = .ok (.if_icmp .ne 7, 3) := dk_160 0 7 (dk_at dksX4_read_4 15 rfl rfl)
theorem dX4_read_113 : decode cX4_read 113 = .ok (.iconst 1, 1) := dk_4 (dk_at dksX4_read_4 18 rfl rfl)
theorem dX4_read_114 : decode cX4_read 114 = .ok (.goto 42, 3) := dk_167 0 42 (dk_at dksX4_read_4 19 rfl rfl)
theorem dX4_read_117 : decode cX4_read 117 = .ok (.aload_n 0, 1) := dk_42 (dk_at dksX4_read_4 22 rfl rfl)
theorem dX4_read_118 : decode cX4_read 118 = .ok (.getfield 32, 3) := dk_180 0 32 (dk_at dksX4_read_5 0 rfl rfl)
theorem dX4_read_121 : decode cX4_read 121 = .ok (.iload_n 1, 1) := dk_27 (dk_at dksX4_read_5 3 rfl rfl)
theorem dX4_read_122 : decode cX4_read 122 = .ok (.iaload, 1) := dk_46 (dk_at dksX4_read_5 4 rfl rfl)
theorem dX4_read_123 : decode cX4_read 123 = .ok (.iload_n 2, 1) := dk_28 (dk_at dksX4_read_5 5 rfl rfl)
theorem dX4_read_124 : decode cX4_read 124 = .ok (.if_icmp .eq 7, 3) := dk_159 0 7 (dk_at dksX4_read_5 6 rfl rfl)
theorem dX4_read_127 : decode cX4_read 127 = .ok (.iconst 3, 1) := dk_6 (dk_at dksX4_read_5 9 rfl rfl)
theorem dX4_read_128 : decode cX4_read 128 = .ok (.goto 28, 3) := dk_167 0 28 (dk_at dksX4_read_5 10 rfl rfl)
theorem dX4_read_131 : decode cX4_read 131 = .ok (.lload 9, 2) := dk_22 9 (dk_at dksX4_read_5 13 rfl rfl)
theorem dX4_read_133 : decode cX4_read 133 = .ok (.lconst 0, 1) := dk_9 (dk_at dksX4_read_5 15 rfl rfl)
theorem dX4_read_134 : decode cX4_read 134 = .ok (.lcmp, 1) := dk_148 (dk_at dksX4_read_5 16 rfl rfl)
theorem dX4_read_135 : decode cX4_read 135 = .ok (.ifCond .lt 16, 3) := dk_155 0 16 (dk_at dksX4_read_5 17 rfl rfl)
theorem dX4_read_138 : decode cX4_read 138 = .ok (.lload 9, 2) := dk_22 9 (dk_at dksX4_read_5 20 rfl rfl)
theorem dX4_read_140 : decode cX4_read 140 = .ok (.aload_n 0, 1) := dk_42 (dk_at dksX4_read_5 22 rfl rfl)
theorem dX4_read_141 : decode cX4_read 141 = .ok (.getfield 35, 3) := dk_180 0 35 (dk_at dksX4_read_6 0 rfl rfl)
theorem dX4_read_144 : decode cX4_read 144 = .ok (.iload_n 1, 1) := dk_27 (dk_at dksX4_read_6 3 rfl rfl)
theorem dX4_read_145 : decode cX4_read 145 = .ok (.iaload, 1) := dk_46 (dk_at dksX4_read_6 4 rfl rfl)
theorem dX4_read_146 : decode cX4_read 146 = .ok (.i2l, 1) := dk_133 (dk_at dksX4_read_6 5 rfl rfl)
theorem dX4_read_147 : decode cX4_read 147 = .ok (.lcmp, 1) := dk_148 (dk_at dksX4_read_6 6 rfl rfl)
theorem dX4_read_148 : decode cX4_read 148 = .ok (.ifCond .lt 7, 3) := dk_155 0 7 (dk_at dksX4_read_6 7 rfl rfl)
theorem dX4_read_151 : decode cX4_read 151 = .ok (.iconst 2, 1) := dk_5 (dk_at dksX4_read_6 10 rfl rfl)
theorem dX4_read_152 : decode cX4_read 152 = .ok (.goto 4, 3) := dk_167 0 4 (dk_at dksX4_read_6 11 rfl rfl)
theorem dX4_read_155 : decode cX4_read 155 = .ok (.iconst 0, 1) := dk_3 (dk_at dksX4_read_6 14 rfl rfl)
theorem dX4_read_156 : decode cX4_read 156 = .ok (.istore 5, 2) := dk_54 5 (dk_at dksX4_read_6 15 rfl rfl)
theorem dX4_read_158 : decode cX4_read 158 = .ok (.iinc 8 1, 3) := dk_132 8 1 (dk_at dksX4_read_6 17 rfl rfl)
theorem dX4_read_161 : decode cX4_read 161 = .ok (.goto (-84), 3) := dk_167 255 172 (dk_at dksX4_read_6 20 rfl rfl)
theorem dX4_read_164 : decode cX4_read 164 = .ok (.iload 5, 2) := dk_21 5 (dk_at dksX4_read_7 0 rfl rfl)
theorem dX4_read_166 : decode cX4_read 166 = .ok (.ifCond .ne 87, 3) := dk_154 0 87 (dk_at dksX4_read_7 2 rfl rfl)
theorem dX4_read_169 : decode cX4_read 169 = .ok (.bipush 40, 2) := dk_16 40 (dk_at dksX4_read_7 5 rfl rfl)
theorem dX4_read_171 : decode cX4_read 171 = .ok (.iload_n 1, 1) := dk_27 (dk_at dksX4_read_7 7 rfl rfl)
theorem dX4_read_172 : decode cX4_read 172 = .ok (.imul, 1) := dk_104 (dk_at dksX4_read_7 8 rfl rfl)
theorem dX4_read_173 : decode cX4_read 173 = .ok (.iload_n 3, 1) := dk_29 (dk_at dksX4_read_7 9 rfl rfl)
theorem dX4_read_174 : decode cX4_read 174 = .ok (.iadd, 1) := dk_96 (dk_at dksX4_read_7 10 rfl rfl)
theorem dX4_read_175 : decode cX4_read 175 = .ok (.iconst 3, 1) := dk_6 (dk_at dksX4_read_7 11 rfl rfl)
theorem dX4_read_176 : decode cX4_read 176 = .ok (.iload 7, 2) := dk_21 7 (dk_at dksX4_read_7 12 rfl rfl)
theorem dX4_read_178 : decode cX4_read 178 = .ok (.imul, 1) := dk_104 (dk_at dksX4_read_7 14 rfl rfl)
theorem dX4_read_179 : decode cX4_read 179 = .ok (.iadd, 1) := dk_96 (dk_at dksX4_read_7 15 rfl rfl)
theorem dX4_read_180 : decode cX4_read 180 = .ok (.istore 8, 2) := dk_54 8 (dk_at dksX4_read_7 16 rfl rfl)
theorem dX4_read_182 : decode cX4_read 182 = .ok (.aload_n 0, 1) := dk_42 (dk_at dksX4_read_7 18 rfl rfl)
theorem dX4_read_183 : decode cX4_read 183 = .ok (.aload_n 0, 1) := dk_42 (dk_at dksX4_read_7 19 rfl rfl)
theorem dX4_read_184 : decode cX4_read 184 = .ok (.getfield 38, 3) := dk_180 0 38 (dk_at dksX4_read_7 20 rfl rfl)
theorem dX4_read_187 : decode cX4_read 187 = .ok (.iload 8, 2) := dk_21 8 (dk_at dksX4_read_8 0 rfl rfl)
theorem dX4_read_189 : decode cX4_read 189 = .ok (.iaload, 1) := dk_46 (dk_at dksX4_read_8 2 rfl rfl)
theorem dX4_read_190 : decode cX4_read 190 = .ok (.aload_n 0, 1) := dk_42 (dk_at dksX4_read_8 3 rfl rfl)
theorem dX4_read_191 : decode cX4_read 191 = .ok (.getfield 38, 3) := dk_180 0 38 (dk_at dksX4_read_8 4 rfl rfl)
theorem dX4_read_194 : decode cX4_read 194 = .ok (.iload 8, 2) := dk_21 8 (dk_at dksX4_read_8 7 rfl rfl)
theorem dX4_read_196 : decode cX4_read 196 = .ok (.iconst 1, 1) := dk_4 (dk_at dksX4_read_8 9 rfl rfl)
theorem dX4_read_197 : decode cX4_read 197 = .ok (.iadd, 1) := dk_96 (dk_at dksX4_read_8 10 rfl rfl)
theorem dX4_read_198 : decode cX4_read 198 = .ok (.iaload, 1) := dk_46 (dk_at dksX4_read_8 11 rfl rfl)
theorem dX4_read_199 : decode cX4_read 199 = .ok (.aload_n 0, 1) := dk_42 (dk_at dksX4_read_8 12 rfl rfl)
theorem dX4_read_200 : decode cX4_read 200 = .ok (.getfield 38, 3) := dk_180 0 38 (dk_at dksX4_read_8 13 rfl rfl)
theorem dX4_read_203 : decode cX4_read 203 = .ok (.iload 8, 2) := dk_21 8 (dk_at dksX4_read_8 16 rfl rfl)
theorem dX4_read_205 : decode cX4_read 205 = .ok (.iconst 2, 1) := dk_5 (dk_at dksX4_read_8 18 rfl rfl)
theorem dX4_read_206 : decode cX4_read 206 = .ok (.iadd, 1) := dk_96 (dk_at dksX4_read_8 19 rfl rfl)
theorem dX4_read_207 : decode cX4_read 207 = .ok (.iaload, 1) := dk_46 (dk_at dksX4_read_8 20 rfl rfl)
theorem dX4_read_208 : decode cX4_read 208 = .ok (.invokevirtual 315, 3) := dk_182 1 59 (dk_at dksX4_read_8 21 rfl rfl)
theorem dX4_read_211 : decode cX4_read 211 = .ok (.ifCond .ge 39, 3) := dk_156 0 39 (dk_at dksX4_read_9 0 rfl rfl)
theorem dX4_read_214 : decode cX4_read 214 = .ok (.iconst 0, 1) := dk_3 (dk_at dksX4_read_9 3 rfl rfl)
theorem dX4_read_215 : decode cX4_read 215 = .ok (.istore 9, 2) := dk_54 9 (dk_at dksX4_read_9 4 rfl rfl)
theorem dX4_read_217 : decode cX4_read 217 = .ok (.iload 9, 2) := dk_21 9 (dk_at dksX4_read_9 6 rfl rfl)
theorem dX4_read_219 : decode cX4_read 219 = .ok (.bipush 76, 2) := dk_16 76 (dk_at dksX4_read_9 8 rfl rfl)
theorem dX4_read_221 : decode cX4_read 221 = .ok (.if_icmp .ge 23, 3) := dk_162 0 23 (dk_at dksX4_read_9 10 rfl rfl)
theorem dX4_read_224 : decode cX4_read 224 = .ok (.aload_n 0, 1) := dk_42 (dk_at dksX4_read_9 13 rfl rfl)
theorem dX4_read_225 : decode cX4_read 225 = .ok (.getfield 7, 3) := dk_180 0 7 (dk_at dksX4_read_9 14 rfl rfl)
theorem dX4_read_228 : decode cX4_read 228 = .ok (.iload 9, 2) := dk_21 9 (dk_at dksX4_read_9 17 rfl rfl)
theorem dX4_read_230 : decode cX4_read 230 = .ok (.aload_n 0, 1) := dk_42 (dk_at dksX4_read_9 19 rfl rfl)
theorem dX4_read_231 : decode cX4_read 231 = .ok (.getfield 41, 3) := dk_180 0 41 (dk_at dksX4_read_9 20 rfl rfl)
theorem dX4_read_234 : decode cX4_read 234 = .ok (.iload 9, 2) := dk_21 9 (dk_at dksX4_read_10 0 rfl rfl)
theorem dX4_read_236 : decode cX4_read 236 = .ok (.iaload, 1) := dk_46 (dk_at dksX4_read_10 2 rfl rfl)
theorem dX4_read_237 : decode cX4_read 237 = .ok (.iastore, 1) := dk_79 (dk_at dksX4_read_10 3 rfl rfl)
theorem dX4_read_238 : decode cX4_read 238 = .ok (.iinc 9 1, 3) := dk_132 9 1 (dk_at dksX4_read_10 4 rfl rfl)
theorem dX4_read_241 : decode cX4_read 241 = .ok (.goto (-24), 3) := dk_167 255 232 (dk_at dksX4_read_10 7 rfl rfl)
theorem dX4_read_244 : decode cX4_read 244 = .ok (.bipush (-20), 2) := dk_16 236 (dk_at dksX4_read_10 10 rfl rfl)
theorem dX4_read_246 : decode cX4_read 246 = .ok (.iload 7, 2) := dk_21 7 (dk_at dksX4_read_10 12 rfl rfl)
theorem dX4_read_248 : decode cX4_read 248 = .ok (.isub, 1) := dk_100 (dk_at dksX4_read_10 14 rfl rfl)
theorem dX4_read_249 : decode cX4_read 249 = .ok (.ireturn, 1) := dk_172 (dk_at dksX4_read_10 15 rfl rfl)
theorem dX4_read_250 : decode cX4_read 250 = .ok (.iinc 6 1, 3) := dk_132 6 1 (dk_at dksX4_read_10 16 rfl rfl)
theorem dX4_read_253 : decode cX4_read 253 = .ok (.iinc 7 1, 3) := dk_132 7 1 (dk_at dksX4_read_10 19 rfl rfl)
theorem dX4_read_256 : decode cX4_read 256 = .ok (.goto (-194), 3) := dk_167 255 62 (dk_at dksX4_read_11 0 rfl rfl)
theorem dX4_read_259 : decode cX4_read 259 = .ok (.aload_n 0, 1) := dk_42 (dk_at dksX4_read_11 3 rfl rfl)
theorem dX4_read_260 : decode cX4_read 260 = .ok (.iload 5, 2) := dk_21 5 (dk_at dksX4_read_11 4 rfl rfl)
theorem dX4_read_262 : decode cX4_read 262 = .ok (.putfield 319, 3) := dk_181 1 63 (dk_at dksX4_read_11 6 rfl rfl)
theorem dX4_read_265 : decode cX4_read 265 = .ok (.iload 6, 2) := dk_21 6 (dk_at dksX4_read_11 9 rfl rfl)
theorem dX4_read_267 : decode cX4_read 267 = .ok (.ireturn, 1) := dk_172 (dk_at dksX4_read_11 11 rfl rfl)
abbrev cX4_torn : ByteArray := prog_12_method_97_code
def yX4_torn : MethodName := ⟨RX4, "torn", "()I"⟩
theorem dX4_torn_0 : decode cX4_torn 0 = .ok (.aload_n 0, 1) := by decide +kernel
theorem dX4_torn_1 : decode cX4_torn 1 = .ok (.getfield 319, 3) := by decide +kernel
theorem dX4_torn_4 : decode cX4_torn 4 = .ok (.ireturn, 1) := by decide +kernel
abbrev cX4_count : ByteArray := prog_12_method_98_code
def yX4_count : MethodName := ⟨RX4, "count", "(I)I"⟩
def dkwX4_count_7 : List UInt8 := [167, 0, 9, 42, 180, 0, 35, 3, 46, 172, 28, 172, 29, 172, 2, 172]
abbrev dktX4_count_7 : List UInt8 := dkwX4_count_7 ++ []
def dkwX4_count_6 : List UInt8 := [184, 0, 200, 96, 172, 42, 180, 0, 73, 172, 42, 180, 0, 32, 3, 46, 16, 252, 160, 0, 8, 16, 252]
abbrev dktX4_count_6 : List UInt8 := dkwX4_count_6 ++ dktX4_count_7
def dkwX4_count_5 : List UInt8 := [42, 180, 0, 7, 16, 57, 46, 172, 42, 180, 0, 16, 3, 51, 184, 0, 200, 42, 180, 0, 16, 4, 51]
abbrev dktX4_count_5 : List UInt8 := dkwX4_count_5 ++ dktX4_count_6
def dkwX4_count_4 : List UInt8 := [170, 0, 0, 0, 0, 0, 0, 100, 0, 0, 0, 0, 0, 0, 0, 5, 0, 0, 0, 40, 0, 0, 0, 48, 0, 0, 0, 68, 0, 0, 0, 73, 0, 0, 0, 96, 0, 0, 0, 98]
abbrev dktX4_count_4 : List UInt8 := dkwX4_count_4 ++ dktX4_count_5
def dkwX4_count_3 : List UInt8 := [27]
abbrev dktX4_count_3 : List UInt8 := dkwX4_count_3 ++ dktX4_count_4
def dkwX4_count_2 : List UInt8 := [16, 25, 162, 0, 22, 29, 42, 180, 0, 7, 16, 10, 21, 4, 96, 46, 96, 62, 132, 4, 1, 167, 255, 233]
abbrev dktX4_count_2 : List UInt8 := dkwX4_count_2 ++ dktX4_count_3
def dkwX4_count_1 : List UInt8 := [16, 35, 6, 21, 4, 104, 96, 5, 96, 46, 96, 61, 132, 4, 1, 167, 255, 224, 3, 54, 4, 21, 4]
abbrev dktX4_count_1 : List UInt8 := dkwX4_count_1 ++ dktX4_count_2
def dkwX4_count_0 : List UInt8 := [3, 61, 3, 62, 3, 54, 4, 21, 4, 42, 180, 0, 7, 16, 53, 46, 162, 0, 26, 28, 42, 180, 0, 7]
abbrev dktX4_count_0 : List UInt8 := dkwX4_count_0 ++ dktX4_count_1
theorem dksX4_count_0 : cX4_count.data.toList.drop 0 = dktX4_count_0 := by decide +kernel
theorem dksX4_count_1 : cX4_count.data.toList.drop 24 = dktX4_count_1 := dk_seg dksX4_count_0 24 rfl rfl
theorem dksX4_count_2 : cX4_count.data.toList.drop 47 = dktX4_count_2 := dk_seg dksX4_count_1 23 rfl rfl
theorem dksX4_count_3 : cX4_count.data.toList.drop 71 = dktX4_count_3 := dk_seg dksX4_count_2 24 rfl rfl
theorem dksX4_count_4 : cX4_count.data.toList.drop 72 = dktX4_count_4 := dk_seg dksX4_count_3 1 rfl rfl
theorem dksX4_count_5 : cX4_count.data.toList.drop 112 = dktX4_count_5 := dk_seg dksX4_count_4 40 rfl rfl
theorem dksX4_count_6 : cX4_count.data.toList.drop 135 = dktX4_count_6 := dk_seg dksX4_count_5 23 rfl rfl
theorem dksX4_count_7 : cX4_count.data.toList.drop 158 = dktX4_count_7 := dk_seg dksX4_count_6 23 rfl rfl
theorem dX4_count_0 : decode cX4_count 0 = .ok (.iconst 0, 1) := dk_3 (dk_at dksX4_count_0 0 rfl rfl)
theorem dX4_count_1 : decode cX4_count 1 = .ok (.istore_n 2, 1) := dk_61 (dk_at dksX4_count_0 1 rfl rfl)
theorem dX4_count_2 : decode cX4_count 2 = .ok (.iconst 0, 1) := dk_3 (dk_at dksX4_count_0 2 rfl rfl)
theorem dX4_count_3 : decode cX4_count 3 = .ok (.istore_n 3, 1) := dk_62 (dk_at dksX4_count_0 3 rfl rfl)
theorem dX4_count_4 : decode cX4_count 4 = .ok (.iconst 0, 1) := dk_3 (dk_at dksX4_count_0 4 rfl rfl)
theorem dX4_count_5 : decode cX4_count 5 = .ok (.istore 4, 2) := dk_54 4 (dk_at dksX4_count_0 5 rfl rfl)
theorem dX4_count_7 : decode cX4_count 7 = .ok (.iload 4, 2) := dk_21 4 (dk_at dksX4_count_0 7 rfl rfl)
theorem dX4_count_9 : decode cX4_count 9 = .ok (.aload_n 0, 1) := dk_42 (dk_at dksX4_count_0 9 rfl rfl)
theorem dX4_count_10 : decode cX4_count 10 = .ok (.getfield 7, 3) := dk_180 0 7 (dk_at dksX4_count_0 10 rfl rfl)
theorem dX4_count_13 : decode cX4_count 13 = .ok (.bipush 53, 2) := dk_16 53 (dk_at dksX4_count_0 13 rfl rfl)
theorem dX4_count_15 : decode cX4_count 15 = .ok (.iaload, 1) := dk_46 (dk_at dksX4_count_0 15 rfl rfl)
theorem dX4_count_16 : decode cX4_count 16 = .ok (.if_icmp .ge 26, 3) := dk_162 0 26 (dk_at dksX4_count_0 16 rfl rfl)
theorem dX4_count_19 : decode cX4_count 19 = .ok (.iload_n 2, 1) := dk_28 (dk_at dksX4_count_0 19 rfl rfl)
theorem dX4_count_20 : decode cX4_count 20 = .ok (.aload_n 0, 1) := dk_42 (dk_at dksX4_count_0 20 rfl rfl)
theorem dX4_count_21 : decode cX4_count 21 = .ok (.getfield 7, 3) := dk_180 0 7 (dk_at dksX4_count_0 21 rfl rfl)
theorem dX4_count_24 : decode cX4_count 24 = .ok (.bipush 35, 2) := dk_16 35 (dk_at dksX4_count_1 0 rfl rfl)
theorem dX4_count_26 : decode cX4_count 26 = .ok (.iconst 3, 1) := dk_6 (dk_at dksX4_count_1 2 rfl rfl)
theorem dX4_count_27 : decode cX4_count 27 = .ok (.iload 4, 2) := dk_21 4 (dk_at dksX4_count_1 3 rfl rfl)
theorem dX4_count_29 : decode cX4_count 29 = .ok (.imul, 1) := dk_104 (dk_at dksX4_count_1 5 rfl rfl)
theorem dX4_count_30 : decode cX4_count 30 = .ok (.iadd, 1) := dk_96 (dk_at dksX4_count_1 6 rfl rfl)
theorem dX4_count_31 : decode cX4_count 31 = .ok (.iconst 2, 1) := dk_5 (dk_at dksX4_count_1 7 rfl rfl)
theorem dX4_count_32 : decode cX4_count 32 = .ok (.iadd, 1) := dk_96 (dk_at dksX4_count_1 8 rfl rfl)
theorem dX4_count_33 : decode cX4_count 33 = .ok (.iaload, 1) := dk_46 (dk_at dksX4_count_1 9 rfl rfl)
theorem dX4_count_34 : decode cX4_count 34 = .ok (.iadd, 1) := dk_96 (dk_at dksX4_count_1 10 rfl rfl)
theorem dX4_count_35 : decode cX4_count 35 = .ok (.istore_n 2, 1) := dk_61 (dk_at dksX4_count_1 11 rfl rfl)
theorem dX4_count_36 : decode cX4_count 36 = .ok (.iinc 4 1, 3) := dk_132 4 1 (dk_at dksX4_count_1 12 rfl rfl)
theorem dX4_count_39 : decode cX4_count 39 = .ok (.goto (-32), 3) := dk_167 255 224 (dk_at dksX4_count_1 15 rfl rfl)
theorem dX4_count_42 : decode cX4_count 42 = .ok (.iconst 0, 1) := dk_3 (dk_at dksX4_count_1 18 rfl rfl)
theorem dX4_count_43 : decode cX4_count 43 = .ok (.istore 4, 2) := dk_54 4 (dk_at dksX4_count_1 19 rfl rfl)
theorem dX4_count_45 : decode cX4_count 45 = .ok (.iload 4, 2) := dk_21 4 (dk_at dksX4_count_1 21 rfl rfl)
theorem dX4_count_47 : decode cX4_count 47 = .ok (.bipush 25, 2) := dk_16 25 (dk_at dksX4_count_2 0 rfl rfl)
theorem dX4_count_49 : decode cX4_count 49 = .ok (.if_icmp .ge 22, 3) := dk_162 0 22 (dk_at dksX4_count_2 2 rfl rfl)
theorem dX4_count_52 : decode cX4_count 52 = .ok (.iload_n 3, 1) := dk_29 (dk_at dksX4_count_2 5 rfl rfl)
theorem dX4_count_53 : decode cX4_count 53 = .ok (.aload_n 0, 1) := dk_42 (dk_at dksX4_count_2 6 rfl rfl)
theorem dX4_count_54 : decode cX4_count 54 = .ok (.getfield 7, 3) := dk_180 0 7 (dk_at dksX4_count_2 7 rfl rfl)
theorem dX4_count_57 : decode cX4_count 57 = .ok (.bipush 10, 2) := dk_16 10 (dk_at dksX4_count_2 10 rfl rfl)
theorem dX4_count_59 : decode cX4_count 59 = .ok (.iload 4, 2) := dk_21 4 (dk_at dksX4_count_2 12 rfl rfl)
theorem dX4_count_61 : decode cX4_count 61 = .ok (.iadd, 1) := dk_96 (dk_at dksX4_count_2 14 rfl rfl)
theorem dX4_count_62 : decode cX4_count 62 = .ok (.iaload, 1) := dk_46 (dk_at dksX4_count_2 15 rfl rfl)
theorem dX4_count_63 : decode cX4_count 63 = .ok (.iadd, 1) := dk_96 (dk_at dksX4_count_2 16 rfl rfl)
theorem dX4_count_64 : decode cX4_count 64 = .ok (.istore_n 3, 1) := dk_62 (dk_at dksX4_count_2 17 rfl rfl)
theorem dX4_count_65 : decode cX4_count 65 = .ok (.iinc 4 1, 3) := dk_132 4 1 (dk_at dksX4_count_2 18 rfl rfl)
theorem dX4_count_68 : decode cX4_count 68 = .ok (.goto (-23), 3) := dk_167 255 233 (dk_at dksX4_count_2 21 rfl rfl)
theorem dX4_count_71 : decode cX4_count 71 = .ok (.iload_n 1, 1) := dk_27 (dk_at dksX4_count_3 0 rfl rfl)
theorem dX4_count_72 : decode cX4_count 72 = .ok (.tableswitch 100 0 5 #[40, 48, 68, 73, 96, 98], 40) := by decide +kernel
theorem dX4_count_112 : decode cX4_count 112 = .ok (.aload_n 0, 1) := dk_42 (dk_at dksX4_count_5 0 rfl rfl)
theorem dX4_count_113 : decode cX4_count 113 = .ok (.getfield 7, 3) := dk_180 0 7 (dk_at dksX4_count_5 1 rfl rfl)
theorem dX4_count_116 : decode cX4_count 116 = .ok (.bipush 57, 2) := dk_16 57 (dk_at dksX4_count_5 4 rfl rfl)
theorem dX4_count_118 : decode cX4_count 118 = .ok (.iaload, 1) := dk_46 (dk_at dksX4_count_5 6 rfl rfl)
theorem dX4_count_119 : decode cX4_count 119 = .ok (.ireturn, 1) := dk_172 (dk_at dksX4_count_5 7 rfl rfl)
theorem dX4_count_120 : decode cX4_count 120 = .ok (.aload_n 0, 1) := dk_42 (dk_at dksX4_count_5 8 rfl rfl)
theorem dX4_count_121 : decode cX4_count 121 = .ok (.getfield 16, 3) := dk_180 0 16 (dk_at dksX4_count_5 9 rfl rfl)
theorem dX4_count_124 : decode cX4_count 124 = .ok (.iconst 0, 1) := dk_3 (dk_at dksX4_count_5 12 rfl rfl)
theorem dX4_count_125 : decode cX4_count 125 = .ok (.baload, 1) := dk_51 (dk_at dksX4_count_5 13 rfl rfl)
theorem dX4_count_126 : decode cX4_count 126 = .ok (.invokestatic 200, 3) := dk_184 0 200 (dk_at dksX4_count_5 14 rfl rfl)
theorem dX4_count_129 : decode cX4_count 129 = .ok (.aload_n 0, 1) := dk_42 (dk_at dksX4_count_5 17 rfl rfl)
theorem dX4_count_130 : decode cX4_count 130 = .ok (.getfield 16, 3) := dk_180 0 16 (dk_at dksX4_count_5 18 rfl rfl)
theorem dX4_count_133 : decode cX4_count 133 = .ok (.iconst 1, 1) := dk_4 (dk_at dksX4_count_5 21 rfl rfl)
theorem dX4_count_134 : decode cX4_count 134 = .ok (.baload, 1) := dk_51 (dk_at dksX4_count_5 22 rfl rfl)
theorem dX4_count_135 : decode cX4_count 135 = .ok (.invokestatic 200, 3) := dk_184 0 200 (dk_at dksX4_count_6 0 rfl rfl)
theorem dX4_count_138 : decode cX4_count 138 = .ok (.iadd, 1) := dk_96 (dk_at dksX4_count_6 3 rfl rfl)
theorem dX4_count_139 : decode cX4_count 139 = .ok (.ireturn, 1) := dk_172 (dk_at dksX4_count_6 4 rfl rfl)
theorem dX4_count_140 : decode cX4_count 140 = .ok (.aload_n 0, 1) := dk_42 (dk_at dksX4_count_6 5 rfl rfl)
theorem dX4_count_141 : decode cX4_count 141 = .ok (.getfield 73, 3) := dk_180 0 73 (dk_at dksX4_count_6 6 rfl rfl)
theorem dX4_count_144 : decode cX4_count 144 = .ok (.ireturn, 1) := dk_172 (dk_at dksX4_count_6 9 rfl rfl)
theorem dX4_count_145 : decode cX4_count 145 = .ok (.aload_n 0, 1) := dk_42 (dk_at dksX4_count_6 10 rfl rfl)
theorem dX4_count_146 : decode cX4_count 146 = .ok (.getfield 32, 3) := dk_180 0 32 (dk_at dksX4_count_6 11 rfl rfl)
theorem dX4_count_149 : decode cX4_count 149 = .ok (.iconst 0, 1) := dk_3 (dk_at dksX4_count_6 14 rfl rfl)
theorem dX4_count_150 : decode cX4_count 150 = .ok (.iaload, 1) := dk_46 (dk_at dksX4_count_6 15 rfl rfl)
theorem dX4_count_151 : decode cX4_count 151 = .ok (.bipush (-4), 2) := dk_16 252 (dk_at dksX4_count_6 16 rfl rfl)
theorem dX4_count_153 : decode cX4_count 153 = .ok (.if_icmp .ne 8, 3) := dk_160 0 8 (dk_at dksX4_count_6 18 rfl rfl)
theorem dX4_count_156 : decode cX4_count 156 = .ok (.bipush (-4), 2) := dk_16 252 (dk_at dksX4_count_6 21 rfl rfl)
theorem dX4_count_158 : decode cX4_count 158 = .ok (.goto 9, 3) := dk_167 0 9 (dk_at dksX4_count_7 0 rfl rfl)
theorem dX4_count_161 : decode cX4_count 161 = .ok (.aload_n 0, 1) := dk_42 (dk_at dksX4_count_7 3 rfl rfl)
theorem dX4_count_162 : decode cX4_count 162 = .ok (.getfield 35, 3) := dk_180 0 35 (dk_at dksX4_count_7 4 rfl rfl)
theorem dX4_count_165 : decode cX4_count 165 = .ok (.iconst 0, 1) := dk_3 (dk_at dksX4_count_7 7 rfl rfl)
theorem dX4_count_166 : decode cX4_count 166 = .ok (.iaload, 1) := dk_46 (dk_at dksX4_count_7 8 rfl rfl)
theorem dX4_count_167 : decode cX4_count 167 = .ok (.ireturn, 1) := dk_172 (dk_at dksX4_count_7 9 rfl rfl)
theorem dX4_count_168 : decode cX4_count 168 = .ok (.iload_n 2, 1) := dk_28 (dk_at dksX4_count_7 10 rfl rfl)
theorem dX4_count_169 : decode cX4_count 169 = .ok (.ireturn, 1) := dk_172 (dk_at dksX4_count_7 11 rfl rfl)
theorem dX4_count_170 : decode cX4_count 170 = .ok (.iload_n 3, 1) := dk_29 (dk_at dksX4_count_7 12 rfl rfl)
theorem dX4_count_171 : decode cX4_count 171 = .ok (.ireturn, 1) := dk_172 (dk_at dksX4_count_7 13 rfl rfl)
theorem dX4_count_172 : decode cX4_count 172 = .ok (.iconst (-1), 1) := dk_2 (dk_at dksX4_count_7 14 rfl rfl)
theorem dX4_count_173 : decode cX4_count 173 = .ok (.ireturn, 1) := dk_172 (dk_at dksX4_count_7 15 rfl rfl)
theorem q83 : (Jvm.Cond.initialized "TemperIslesModel") ∈ lw_all := lw_g (lw_at lw_m1 5 rfl) rfl
theorem q965 : (Jvm.Cond.instantiable "TemperIslesModel" (29 : Nat)) ∈ lw_all := lw_g (lw_at lw_m4 167 rfl) rfl
theorem q967 : (Jvm.Cond.instanceMethod ({ cls := "TemperIslesModel", name := "<init>", desc := "()V" } : Jvm.MethodName)) ∈ lw_all := lw_g (lw_at lw_m4 169 rfl) rfl
theorem q968 : (Jvm.Cond.code ({ cls := "TemperIslesModel", name := "<init>", desc := "()V" } : Jvm.MethodName) prog_12_method_1_code (2 : Nat) (Option.none : Option Jvm.ClassFile.FieldType)) ∈ lw_all := lw_g (lw_at lw_m4 170 rfl) rfl
theorem q969 : (Jvm.Cond.methodLink "TemperIslesModel" (1 : Nat) ({ cls := "java/lang/Object", name := "<init>", desc := "()V" } : Jvm.MethodName)) ∈ lw_all := lw_g (lw_at lw_m4 171 rfl) rfl
theorem q970 : (Jvm.Cond.methodLink "TemperIslesModel" (44 : Nat) ({ cls := "TemperIslesModel", name := "firstDraft", desc := "()V" } : Jvm.MethodName)) ∈ lw_all := lw_g (lw_at lw_m4 172 rfl) rfl
theorem q971 : (Jvm.Cond.privateMethod ({ cls := "TemperIslesModel", name := "firstDraft", desc := "()V" } : Jvm.MethodName)) ∈ lw_tbl := lw_at lw_m4 173 rfl
theorem q972 : (Jvm.Cond.instanceMethod ({ cls := "TemperIslesModel", name := "firstDraft", desc := "()V" } : Jvm.MethodName)) ∈ lw_all := lw_g (lw_at lw_m4 174 rfl) rfl
theorem q973 : (Jvm.Cond.code ({ cls := "TemperIslesModel", name := "firstDraft", desc := "()V" } : Jvm.MethodName) prog_12_method_7_code (2 : Nat) (Option.none : Option Jvm.ClassFile.FieldType)) ∈ lw_all := lw_g (lw_at lw_m4 175 rfl) rfl
theorem q974 : (Jvm.Cond.methodLink "TemperIslesModel" (47 : Nat) ({ cls := "TemperIslesModel", name := "keepDraft", desc := "()V" } : Jvm.MethodName)) ∈ lw_all := lw_g (lw_at lw_m4 176 rfl) rfl
theorem q975 : (Jvm.Cond.privateMethod ({ cls := "TemperIslesModel", name := "keepDraft", desc := "()V" } : Jvm.MethodName)) ∈ lw_tbl := lw_at lw_m4 177 rfl
theorem q976 : (Jvm.Cond.instanceMethod ({ cls := "TemperIslesModel", name := "keepDraft", desc := "()V" } : Jvm.MethodName)) ∈ lw_all := lw_g (lw_at lw_m4 178 rfl) rfl
theorem q977 : (Jvm.Cond.code ({ cls := "TemperIslesModel", name := "keepDraft", desc := "()V" } : Jvm.MethodName) prog_12_method_8_code (2 : Nat) (Option.none : Option Jvm.ClassFile.FieldType)) ∈ lw_all := lw_g (lw_at lw_m4 179 rfl) rfl
theorem q978 : (Jvm.Cond.fieldLink "TemperIslesModel" (7 : Nat) "TemperIslesModel" "st" "[I") ∈ lw_all := lw_g (lw_at lw_m4 180 rfl) rfl
theorem q979 : (Jvm.Cond.fieldLink "TemperIslesModel" (13 : Nat) "TemperIslesModel" "now" "[I") ∈ lw_all := lw_g (lw_at lw_m4 181 rfl) rfl
theorem q980 : (Jvm.Cond.fieldLink "TemperIslesModel" (16 : Nat) "TemperIslesModel" "isKept" "[Z") ∈ lw_all := lw_g (lw_at lw_m4 182 rfl) rfl
theorem q981 : (Jvm.Cond.fieldLink "TemperIslesModel" (64 : Nat) "TemperIslesModel" "isles" "I") ∈ lw_all := lw_g (lw_at lw_m4 183 rfl) rfl
theorem q982 : (Jvm.Cond.fieldLink "TemperIslesModel" (20 : Nat) "TemperIslesModel" "draft" "[I") ∈ lw_all := lw_g (lw_at lw_m4 184 rfl) rfl
theorem q983 : (Jvm.Cond.fieldLink "TemperIslesModel" (50 : Nat) "TemperIslesModel" "dIsles" "I") ∈ lw_all := lw_g (lw_at lw_m4 185 rfl) rfl
theorem q984 : (Jvm.Cond.fieldLink "TemperIslesModel" (54 : Nat) "TemperIslesModel" "hasFeast" "Z") ∈ lw_all := lw_g (lw_at lw_m4 186 rfl) rfl
theorem q985 : (Jvm.Cond.fieldLink "TemperIslesModel" (58 : Nat) "TemperIslesModel" "toldCross" "I") ∈ lw_all := lw_g (lw_at lw_m4 187 rfl) rfl
theorem q986 : (Jvm.Cond.fieldLink "TemperIslesModel" (61 : Nat) "TemperIslesModel" "highest" "I") ∈ lw_all := lw_g (lw_at lw_m4 188 rfl) rfl
theorem q987 : (Jvm.Cond.fieldLink "TemperIslesModel" (23 : Nat) "TemperIslesModel" "tape" "[I") ∈ lw_all := lw_g (lw_at lw_m4 189 rfl) rfl
theorem q988 : (Jvm.Cond.fieldLink "TemperIslesModel" (73 : Nat) "TemperIslesModel" "taped" "I") ∈ lw_all := lw_g (lw_at lw_m4 190 rfl) rfl
theorem q989 : (Jvm.Cond.fieldLink "TemperIslesModel" (85 : Nat) "TemperIslesModel" "pos" "I") ∈ lw_all := lw_g (lw_at lw_m4 191 rfl) rfl
theorem q990 : (Jvm.Cond.fieldLink "TemperIslesModel" (79 : Nat) "TemperIslesModel" "begun" "I") ∈ lw_all := lw_g (lw_at lw_m4 192 rfl) rfl
theorem q991 : (Jvm.Cond.fieldLink "TemperIslesModel" (100 : Nat) "TemperIslesModel" "sort" "I") ∈ lw_all := lw_g (lw_at lw_m4 193 rfl) rfl
theorem q992 : (Jvm.Cond.fieldLink "TemperIslesModel" (111 : Nat) "TemperIslesModel" "value" "I") ∈ lw_all := lw_g (lw_at lw_m4 194 rfl) rfl
theorem q993 : (Jvm.Cond.fieldLink "TemperIslesModel" (76 : Nat) "TemperIslesModel" "fault" "I") ∈ lw_all := lw_g (lw_at lw_m4 195 rfl) rfl
theorem q994 : (Jvm.Cond.fieldLink "TemperIslesModel" (82 : Nat) "TemperIslesModel" "wrongAt" "I") ∈ lw_all := lw_g (lw_at lw_m4 196 rfl) rfl
theorem q995 : (Jvm.Cond.fieldLink "TemperIslesModel" (245 : Nat) "TemperIslesModel" "bestCode" "I") ∈ lw_all := lw_g (lw_at lw_m4 197 rfl) rfl
theorem q996 : (Jvm.Cond.fieldLink "TemperIslesModel" (248 : Nat) "TemperIslesModel" "bestMuch" "I") ∈ lw_all := lw_g (lw_at lw_m4 198 rfl) rfl
theorem q997 : (Jvm.Cond.fieldLink "TemperIslesModel" (275 : Nat) "TemperIslesModel" "nearSum" "J") ∈ lw_all := lw_g (lw_at lw_m4 199 rfl) rfl
theorem q998 : (Jvm.Cond.fieldLink "TemperIslesModel" (279 : Nat) "TemperIslesModel" "spreadSum" "J") ∈ lw_all := lw_g (lw_at lw_m4 200 rfl) rfl
theorem q999 : (Jvm.Cond.fieldLink "TemperIslesModel" (282 : Nat) "TemperIslesModel" "allWays" "J") ∈ lw_all := lw_g (lw_at lw_m4 201 rfl) rfl
theorem q1000 : (Jvm.Cond.fieldLink "TemperIslesModel" (26 : Nat) "TemperIslesModel" "were" "[I") ∈ lw_all := lw_g (lw_at lw_m4 202 rfl) rfl
theorem q1001 : (Jvm.Cond.fieldLink "TemperIslesModel" (29 : Nat) "TemperIslesModel" "byKind" "[I") ∈ lw_all := lw_g (lw_at lw_m4 203 rfl) rfl
theorem q1002 : (Jvm.Cond.fieldLink "TemperIslesModel" (32 : Nat) "TemperIslesModel" "lanes" "[I") ∈ lw_all := lw_g (lw_at lw_m4 204 rfl) rfl
theorem q1003 : (Jvm.Cond.fieldLink "TemperIslesModel" (35 : Nat) "TemperIslesModel" "sizes" "[I") ∈ lw_all := lw_g (lw_at lw_m4 205 rfl) rfl
theorem q1004 : (Jvm.Cond.fieldLink "TemperIslesModel" (38 : Nat) "TemperIslesModel" "cells" "[I") ∈ lw_all := lw_g (lw_at lw_m4 206 rfl) rfl
theorem q1005 : (Jvm.Cond.fieldLink "TemperIslesModel" (319 : Nat) "TemperIslesModel" "torn" "I") ∈ lw_all := lw_g (lw_at lw_m4 207 rfl) rfl
theorem q1006 : (Jvm.Cond.fieldLink "TemperIslesModel" (41 : Nat) "TemperIslesModel" "before" "[I") ∈ lw_all := lw_g (lw_at lw_m4 208 rfl) rfl
theorem q1007 : (Jvm.Cond.laysFinal "TemperIslesModel" "TemperIslesModel" "st" "[I") ∈ lw_all := lw_g (lw_at lw_m4 209 rfl) rfl
theorem q1008 : (Jvm.Cond.soleField "TemperIslesModel" "st") ∈ lw_all := lw_g (lw_at lw_m4 210 rfl) rfl
theorem q1009 : (Jvm.Cond.laysFinal "TemperIslesModel" "TemperIslesModel" "now" "[I") ∈ lw_all := lw_g (lw_at lw_m4 211 rfl) rfl
theorem q1010 : (Jvm.Cond.soleField "TemperIslesModel" "now") ∈ lw_all := lw_g (lw_at lw_m4 212 rfl) rfl
theorem q1011 : (Jvm.Cond.laysFinal "TemperIslesModel" "TemperIslesModel" "isKept" "[Z") ∈ lw_all := lw_g (lw_at lw_m4 213 rfl) rfl
theorem q1012 : (Jvm.Cond.soleField "TemperIslesModel" "isKept") ∈ lw_all := lw_g (lw_at lw_m4 214 rfl) rfl
theorem q1013 : (Jvm.Cond.lays "TemperIslesModel" "TemperIslesModel" "isles" "I") ∈ lw_all := lw_g (lw_at lw_m4 215 rfl) rfl
theorem q1014 : (Jvm.Cond.soleField "TemperIslesModel" "isles") ∈ lw_all := lw_g (lw_at lw_m4 216 rfl) rfl
theorem q1015 : (Jvm.Cond.laysFinal "TemperIslesModel" "TemperIslesModel" "draft" "[I") ∈ lw_all := lw_g (lw_at lw_m4 217 rfl) rfl
theorem q1016 : (Jvm.Cond.soleField "TemperIslesModel" "draft") ∈ lw_all := lw_g (lw_at lw_m4 218 rfl) rfl
theorem q1017 : (Jvm.Cond.lays "TemperIslesModel" "TemperIslesModel" "dIsles" "I") ∈ lw_all := lw_g (lw_at lw_m4 219 rfl) rfl
theorem q1018 : (Jvm.Cond.soleField "TemperIslesModel" "dIsles") ∈ lw_all := lw_g (lw_at lw_m4 220 rfl) rfl
theorem q1019 : (Jvm.Cond.lays "TemperIslesModel" "TemperIslesModel" "hasFeast" "Z") ∈ lw_all := lw_g (lw_at lw_m4 221 rfl) rfl
theorem q1020 : (Jvm.Cond.soleField "TemperIslesModel" "hasFeast") ∈ lw_all := lw_g (lw_at lw_m4 222 rfl) rfl
theorem q1021 : (Jvm.Cond.lays "TemperIslesModel" "TemperIslesModel" "toldCross" "I") ∈ lw_all := lw_g (lw_at lw_m4 223 rfl) rfl
theorem q1022 : (Jvm.Cond.soleField "TemperIslesModel" "toldCross") ∈ lw_all := lw_g (lw_at lw_m4 224 rfl) rfl
theorem q1023 : (Jvm.Cond.lays "TemperIslesModel" "TemperIslesModel" "highest" "I") ∈ lw_all := lw_g (lw_at lw_m4 225 rfl) rfl
theorem q1024 : (Jvm.Cond.soleField "TemperIslesModel" "highest") ∈ lw_all := lw_g (lw_at lw_m4 226 rfl) rfl
theorem q1025 : (Jvm.Cond.laysFinal "TemperIslesModel" "TemperIslesModel" "tape" "[I") ∈ lw_all := lw_g (lw_at lw_m4 227 rfl) rfl
theorem q1026 : (Jvm.Cond.soleField "TemperIslesModel" "tape") ∈ lw_all := lw_g (lw_at lw_m4 228 rfl) rfl
theorem q1027 : (Jvm.Cond.lays "TemperIslesModel" "TemperIslesModel" "taped" "I") ∈ lw_all := lw_g (lw_at lw_m4 229 rfl) rfl
theorem q1028 : (Jvm.Cond.soleField "TemperIslesModel" "taped") ∈ lw_all := lw_g (lw_at lw_m4 230 rfl) rfl
theorem q1029 : (Jvm.Cond.lays "TemperIslesModel" "TemperIslesModel" "pos" "I") ∈ lw_all := lw_g (lw_at lw_m4 231 rfl) rfl
theorem q1030 : (Jvm.Cond.soleField "TemperIslesModel" "pos") ∈ lw_all := lw_g (lw_at lw_m4 232 rfl) rfl
theorem q1031 : (Jvm.Cond.lays "TemperIslesModel" "TemperIslesModel" "begun" "I") ∈ lw_all := lw_g (lw_at lw_m4 233 rfl) rfl
theorem q1032 : (Jvm.Cond.soleField "TemperIslesModel" "begun") ∈ lw_all := lw_g (lw_at lw_m4 234 rfl) rfl
theorem q1033 : (Jvm.Cond.lays "TemperIslesModel" "TemperIslesModel" "sort" "I") ∈ lw_all := lw_g (lw_at lw_m4 235 rfl) rfl
theorem q1034 : (Jvm.Cond.soleField "TemperIslesModel" "sort") ∈ lw_all := lw_g (lw_at lw_m4 236 rfl) rfl
theorem q1035 : (Jvm.Cond.lays "TemperIslesModel" "TemperIslesModel" "value" "I") ∈ lw_all := lw_g (lw_at lw_m4 237 rfl) rfl
theorem q1036 : (Jvm.Cond.soleField "TemperIslesModel" "value") ∈ lw_all := lw_g (lw_at lw_m4 238 rfl) rfl
theorem q1037 : (Jvm.Cond.lays "TemperIslesModel" "TemperIslesModel" "fault" "I") ∈ lw_all := lw_g (lw_at lw_m4 239 rfl) rfl
theorem q1038 : (Jvm.Cond.soleField "TemperIslesModel" "fault") ∈ lw_all := lw_g (lw_at lw_m5 0 rfl) rfl
theorem q1039 : (Jvm.Cond.lays "TemperIslesModel" "TemperIslesModel" "wrongAt" "I") ∈ lw_all := lw_g (lw_at lw_m5 1 rfl) rfl
theorem q1040 : (Jvm.Cond.soleField "TemperIslesModel" "wrongAt") ∈ lw_all := lw_g (lw_at lw_m5 2 rfl) rfl
theorem q1041 : (Jvm.Cond.lays "TemperIslesModel" "TemperIslesModel" "bestCode" "I") ∈ lw_all := lw_g (lw_at lw_m5 3 rfl) rfl
theorem q1042 : (Jvm.Cond.soleField "TemperIslesModel" "bestCode") ∈ lw_all := lw_g (lw_at lw_m5 4 rfl) rfl
theorem q1043 : (Jvm.Cond.lays "TemperIslesModel" "TemperIslesModel" "bestMuch" "I") ∈ lw_all := lw_g (lw_at lw_m5 5 rfl) rfl
theorem q1044 : (Jvm.Cond.soleField "TemperIslesModel" "bestMuch") ∈ lw_all := lw_g (lw_at lw_m5 6 rfl) rfl
theorem q1045 : (Jvm.Cond.lays "TemperIslesModel" "TemperIslesModel" "nearSum" "J") ∈ lw_all := lw_g (lw_at lw_m5 7 rfl) rfl
theorem q1046 : (Jvm.Cond.soleField "TemperIslesModel" "nearSum") ∈ lw_all := lw_g (lw_at lw_m5 8 rfl) rfl
theorem q1047 : (Jvm.Cond.lays "TemperIslesModel" "TemperIslesModel" "spreadSum" "J") ∈ lw_all := lw_g (lw_at lw_m5 9 rfl) rfl
theorem q1048 : (Jvm.Cond.soleField "TemperIslesModel" "spreadSum") ∈ lw_all := lw_g (lw_at lw_m5 10 rfl) rfl
theorem q1049 : (Jvm.Cond.lays "TemperIslesModel" "TemperIslesModel" "allWays" "J") ∈ lw_all := lw_g (lw_at lw_m5 11 rfl) rfl
theorem q1050 : (Jvm.Cond.soleField "TemperIslesModel" "allWays") ∈ lw_all := lw_g (lw_at lw_m5 12 rfl) rfl
theorem q1051 : (Jvm.Cond.laysFinal "TemperIslesModel" "TemperIslesModel" "were" "[I") ∈ lw_all := lw_g (lw_at lw_m5 13 rfl) rfl
theorem q1052 : (Jvm.Cond.soleField "TemperIslesModel" "were") ∈ lw_all := lw_g (lw_at lw_m5 14 rfl) rfl
theorem q1053 : (Jvm.Cond.laysFinal "TemperIslesModel" "TemperIslesModel" "byKind" "[I") ∈ lw_all := lw_g (lw_at lw_m5 15 rfl) rfl
theorem q1054 : (Jvm.Cond.soleField "TemperIslesModel" "byKind") ∈ lw_all := lw_g (lw_at lw_m5 16 rfl) rfl
theorem q1055 : (Jvm.Cond.laysFinal "TemperIslesModel" "TemperIslesModel" "lanes" "[I") ∈ lw_all := lw_g (lw_at lw_m5 17 rfl) rfl
theorem q1056 : (Jvm.Cond.soleField "TemperIslesModel" "lanes") ∈ lw_all := lw_g (lw_at lw_m5 18 rfl) rfl
theorem q1057 : (Jvm.Cond.laysFinal "TemperIslesModel" "TemperIslesModel" "sizes" "[I") ∈ lw_all := lw_g (lw_at lw_m5 19 rfl) rfl
theorem q1058 : (Jvm.Cond.soleField "TemperIslesModel" "sizes") ∈ lw_all := lw_g (lw_at lw_m5 20 rfl) rfl
theorem q1059 : (Jvm.Cond.laysFinal "TemperIslesModel" "TemperIslesModel" "cells" "[I") ∈ lw_all := lw_g (lw_at lw_m5 21 rfl) rfl
theorem q1060 : (Jvm.Cond.soleField "TemperIslesModel" "cells") ∈ lw_all := lw_g (lw_at lw_m5 22 rfl) rfl
theorem q1061 : (Jvm.Cond.lays "TemperIslesModel" "TemperIslesModel" "torn" "I") ∈ lw_all := lw_g (lw_at lw_m5 23 rfl) rfl
theorem q1062 : (Jvm.Cond.soleField "TemperIslesModel" "torn") ∈ lw_all := lw_g (lw_at lw_m5 24 rfl) rfl
theorem q1063 : (Jvm.Cond.laysFinal "TemperIslesModel" "TemperIslesModel" "before" "[I") ∈ lw_all := lw_g (lw_at lw_m5 25 rfl) rfl
theorem q1064 : (Jvm.Cond.soleField "TemperIslesModel" "before") ∈ lw_all := lw_g (lw_at lw_m5 26 rfl) rfl
theorem q1065 : (Jvm.Cond.superclass "TemperIslesModel" "java/lang/Object") ∈ lw_all := lw_g (lw_at lw_m5 27 rfl) rfl
theorem q1068 : (Jvm.Cond.instanceMethod ({ cls := "TemperIslesModel", name := "feed", desc := "(I)I" } : Jvm.MethodName)) ∈ lw_all := lw_g (lw_at lw_m5 30 rfl) rfl
theorem q1069 : (Jvm.Cond.selects "TemperIslesModel" ({ cls := "TemperIslesModel", name := "feed", desc := "(I)I" } : Jvm.MethodName) ({ cls := "TemperIslesModel", name := "feed", desc := "(I)I" } : Jvm.MethodName)) ∈ lw_all := lw_g (lw_at lw_m5 31 rfl) rfl
theorem q1070 : (Jvm.Cond.code ({ cls := "TemperIslesModel", name := "feed", desc := "(I)I" } : Jvm.MethodName) prog_12_method_9_code (2 : Nat) (Option.some Jvm.ClassFile.FieldType.int)) ∈ lw_all := lw_g (lw_at lw_m5 32 rfl) rfl
theorem q1071 : (Jvm.Cond.constantLong "TemperIslesModel" (67 : Nat) (127 : Int64)) ∈ lw_all := lw_g (lw_at lw_m5 33 rfl) rfl
theorem q1072 : (Jvm.Cond.methodLink "TemperIslesModel" (69 : Nat) ({ cls := "TemperIslesModel", name := "in", desc := "(JJJ)Z" } : Jvm.MethodName)) ∈ lw_all := lw_g (lw_at lw_m5 34 rfl) rfl
theorem q1073 : (Jvm.Cond.static ({ cls := "TemperIslesModel", name := "in", desc := "(JJJ)Z" } : Jvm.MethodName)) ∈ lw_all := lw_g (lw_at lw_m5 35 rfl) rfl
theorem q1074 : (Jvm.Cond.code ({ cls := "TemperIslesModel", name := "in", desc := "(JJJ)Z" } : Jvm.MethodName) prog_12_method_3_code (6 : Nat) (Option.some Jvm.ClassFile.FieldType.boolean)) ∈ lw_all := lw_g (lw_at lw_m5 36 rfl) rfl
theorem q1076 : (Jvm.Cond.instanceMethod ({ cls := "TemperIslesModel", name := "end", desc := "(I)I" } : Jvm.MethodName)) ∈ lw_all := lw_g (lw_at lw_m5 38 rfl) rfl
theorem q1077 : (Jvm.Cond.selects "TemperIslesModel" ({ cls := "TemperIslesModel", name := "end", desc := "(I)I" } : Jvm.MethodName) ({ cls := "TemperIslesModel", name := "end", desc := "(I)I" } : Jvm.MethodName)) ∈ lw_all := lw_g (lw_at lw_m5 39 rfl) rfl
theorem q1078 : (Jvm.Cond.code ({ cls := "TemperIslesModel", name := "end", desc := "(I)I" } : Jvm.MethodName) prog_12_method_10_code (3 : Nat) (Option.some Jvm.ClassFile.FieldType.int)) ∈ lw_all := lw_g (lw_at lw_m5 40 rfl) rfl
theorem q1080 : (Jvm.Cond.instanceMethod ({ cls := "TemperIslesModel", name := "text", desc := "()I" } : Jvm.MethodName)) ∈ lw_all := lw_g (lw_at lw_m5 42 rfl) rfl
theorem q1081 : (Jvm.Cond.selects "TemperIslesModel" ({ cls := "TemperIslesModel", name := "text", desc := "()I" } : Jvm.MethodName) ({ cls := "TemperIslesModel", name := "text", desc := "()I" } : Jvm.MethodName)) ∈ lw_all := lw_g (lw_at lw_m5 43 rfl) rfl
theorem q1082 : (Jvm.Cond.code ({ cls := "TemperIslesModel", name := "text", desc := "()I" } : Jvm.MethodName) prog_12_method_25_code (2 : Nat) (Option.some Jvm.ClassFile.FieldType.int)) ∈ lw_all := lw_g (lw_at lw_m5 44 rfl) rfl
theorem q1083 : (Jvm.Cond.methodLink "TemperIslesModel" (122 : Nat) ({ cls := "TemperIslesModel", name := "takes", desc := "()V" } : Jvm.MethodName)) ∈ lw_all := lw_g (lw_at lw_m5 45 rfl) rfl
theorem q1084 : (Jvm.Cond.privateMethod ({ cls := "TemperIslesModel", name := "takes", desc := "()V" } : Jvm.MethodName)) ∈ lw_tbl := lw_at lw_m5 46 rfl
theorem q1085 : (Jvm.Cond.instanceMethod ({ cls := "TemperIslesModel", name := "takes", desc := "()V" } : Jvm.MethodName)) ∈ lw_all := lw_g (lw_at lw_m5 47 rfl) rfl
theorem q1086 : (Jvm.Cond.code ({ cls := "TemperIslesModel", name := "takes", desc := "()V" } : Jvm.MethodName) prog_12_method_16_code (2 : Nat) (Option.none : Option Jvm.ClassFile.FieldType)) ∈ lw_all := lw_g (lw_at lw_m5 48 rfl) rfl
theorem q1087 : (Jvm.Cond.methodLink "TemperIslesModel" (88 : Nat) ({ cls := "TemperIslesModel", name := "byteAt", desc := "(I)I" } : Jvm.MethodName)) ∈ lw_all := lw_g (lw_at lw_m5 49 rfl) rfl
theorem q1088 : (Jvm.Cond.privateMethod ({ cls := "TemperIslesModel", name := "byteAt", desc := "(I)I" } : Jvm.MethodName)) ∈ lw_tbl := lw_at lw_m5 50 rfl
theorem q1089 : (Jvm.Cond.instanceMethod ({ cls := "TemperIslesModel", name := "byteAt", desc := "(I)I" } : Jvm.MethodName)) ∈ lw_all := lw_g (lw_at lw_m5 51 rfl) rfl
theorem q1090 : (Jvm.Cond.code ({ cls := "TemperIslesModel", name := "byteAt", desc := "(I)I" } : Jvm.MethodName) prog_12_method_12_code (2 : Nat) (Option.some Jvm.ClassFile.FieldType.int)) ∈ lw_all := lw_g (lw_at lw_m5 52 rfl) rfl
theorem q1091 : (Jvm.Cond.constantLong "TemperIslesModel" (103 : Nat) (97 : Int64)) ∈ lw_all := lw_g (lw_at lw_m5 53 rfl) rfl
theorem q1092 : (Jvm.Cond.constantLong "TemperIslesModel" (105 : Nat) (122 : Int64)) ∈ lw_all := lw_g (lw_at lw_m5 54 rfl) rfl
theorem q1093 : (Jvm.Cond.constantLong "TemperIslesModel" (107 : Nat) (48 : Int64)) ∈ lw_all := lw_g (lw_at lw_m5 55 rfl) rfl
theorem q1094 : (Jvm.Cond.constantLong "TemperIslesModel" (109 : Nat) (57 : Int64)) ∈ lw_all := lw_g (lw_at lw_m5 56 rfl) rfl
theorem q1095 : (Jvm.Cond.methodLink "TemperIslesModel" (114 : Nat) ({ cls := "TemperIslesModel", name := "needs", desc := "(ZI)V" } : Jvm.MethodName)) ∈ lw_all := lw_g (lw_at lw_m5 57 rfl) rfl
theorem q1096 : (Jvm.Cond.privateMethod ({ cls := "TemperIslesModel", name := "needs", desc := "(ZI)V" } : Jvm.MethodName)) ∈ lw_tbl := lw_at lw_m5 58 rfl
theorem q1097 : (Jvm.Cond.instanceMethod ({ cls := "TemperIslesModel", name := "needs", desc := "(ZI)V" } : Jvm.MethodName)) ∈ lw_all := lw_g (lw_at lw_m5 59 rfl) rfl
theorem q1098 : (Jvm.Cond.code ({ cls := "TemperIslesModel", name := "needs", desc := "(ZI)V" } : Jvm.MethodName) prog_12_method_11_code (3 : Nat) (Option.none : Option Jvm.ClassFile.FieldType)) ∈ lw_all := lw_g (lw_at lw_m5 60 rfl) rfl
theorem q1099 : (Jvm.Cond.methodLink "TemperIslesModel" (148 : Nat) ({ cls := "TemperIslesModel", name := "readLine", desc := "()V" } : Jvm.MethodName)) ∈ lw_all := lw_g (lw_at lw_m5 61 rfl) rfl
theorem q1100 : (Jvm.Cond.privateMethod ({ cls := "TemperIslesModel", name := "readLine", desc := "()V" } : Jvm.MethodName)) ∈ lw_tbl := lw_at lw_m5 62 rfl
theorem q1101 : (Jvm.Cond.instanceMethod ({ cls := "TemperIslesModel", name := "readLine", desc := "()V" } : Jvm.MethodName)) ∈ lw_all := lw_g (lw_at lw_m5 63 rfl) rfl
theorem q1102 : (Jvm.Cond.code ({ cls := "TemperIslesModel", name := "readLine", desc := "()V" } : Jvm.MethodName) prog_12_method_24_code (2 : Nat) (Option.none : Option Jvm.ClassFile.FieldType)) ∈ lw_all := lw_g (lw_at lw_m5 64 rfl) rfl
theorem q1103 : (Jvm.Cond.methodLink "TemperIslesModel" (141 : Nat) ({ cls := "TemperIslesModel", name := "lineNow", desc := "()I" } : Jvm.MethodName)) ∈ lw_all := lw_g (lw_at lw_m5 65 rfl) rfl
theorem q1104 : (Jvm.Cond.privateMethod ({ cls := "TemperIslesModel", name := "lineNow", desc := "()I" } : Jvm.MethodName)) ∈ lw_tbl := lw_at lw_m5 66 rfl
theorem q1105 : (Jvm.Cond.instanceMethod ({ cls := "TemperIslesModel", name := "lineNow", desc := "()I" } : Jvm.MethodName)) ∈ lw_all := lw_g (lw_at lw_m5 67 rfl) rfl
theorem q1106 : (Jvm.Cond.code ({ cls := "TemperIslesModel", name := "lineNow", desc := "()I" } : Jvm.MethodName) prog_12_method_15_code (1 : Nat) (Option.some Jvm.ClassFile.FieldType.int)) ∈ lw_all := lw_g (lw_at lw_m5 68 rfl) rfl
theorem q1107 : (Jvm.Cond.methodLink "TemperIslesModel" (92 : Nat) ({ cls := "TemperIslesModel", name := "is", desc := "(IIIII)Z" } : Jvm.MethodName)) ∈ lw_all := lw_g (lw_at lw_m5 69 rfl) rfl
theorem q1108 : (Jvm.Cond.privateMethod ({ cls := "TemperIslesModel", name := "is", desc := "(IIIII)Z" } : Jvm.MethodName)) ∈ lw_tbl := lw_at lw_m5 70 rfl
theorem q1109 : (Jvm.Cond.instanceMethod ({ cls := "TemperIslesModel", name := "is", desc := "(IIIII)Z" } : Jvm.MethodName)) ∈ lw_all := lw_g (lw_at lw_m5 71 rfl) rfl
theorem q1110 : (Jvm.Cond.code ({ cls := "TemperIslesModel", name := "is", desc := "(IIIII)Z" } : Jvm.MethodName) prog_12_method_13_code (6 : Nat) (Option.some Jvm.ClassFile.FieldType.boolean)) ∈ lw_all := lw_g (lw_at lw_m5 72 rfl) rfl
theorem q1111 : (Jvm.Cond.methodLink "TemperIslesModel" (96 : Nat) ({ cls := "TemperIslesModel", name := "endsIn", desc := "(I)Z" } : Jvm.MethodName)) ∈ lw_all := lw_g (lw_at lw_m5 73 rfl) rfl
theorem q1112 : (Jvm.Cond.privateMethod ({ cls := "TemperIslesModel", name := "endsIn", desc := "(I)Z" } : Jvm.MethodName)) ∈ lw_tbl := lw_at lw_m5 74 rfl
theorem q1113 : (Jvm.Cond.instanceMethod ({ cls := "TemperIslesModel", name := "endsIn", desc := "(I)Z" } : Jvm.MethodName)) ∈ lw_all := lw_g (lw_at lw_m5 75 rfl) rfl
theorem q1114 : (Jvm.Cond.code ({ cls := "TemperIslesModel", name := "endsIn", desc := "(I)Z" } : Jvm.MethodName) prog_12_method_14_code (2 : Nat) (Option.some Jvm.ClassFile.FieldType.boolean)) ∈ lw_all := lw_g (lw_at lw_m5 76 rfl) rfl
theorem q1115 : (Jvm.Cond.methodLink "TemperIslesModel" (145 : Nat) ({ cls := "TemperIslesModel", name := "readLineOf", desc := "(I)V" } : Jvm.MethodName)) ∈ lw_all := lw_g (lw_at lw_m5 77 rfl) rfl
theorem q1116 : (Jvm.Cond.privateMethod ({ cls := "TemperIslesModel", name := "readLineOf", desc := "(I)V" } : Jvm.MethodName)) ∈ lw_tbl := lw_at lw_m5 78 rfl
theorem q1117 : (Jvm.Cond.instanceMethod ({ cls := "TemperIslesModel", name := "readLineOf", desc := "(I)V" } : Jvm.MethodName)) ∈ lw_all := lw_g (lw_at lw_m5 79 rfl) rfl
theorem q1118 : (Jvm.Cond.code ({ cls := "TemperIslesModel", name := "readLineOf", desc := "(I)V" } : Jvm.MethodName) prog_12_method_23_code (2 : Nat) (Option.none : Option Jvm.ClassFile.FieldType)) ∈ lw_all := lw_g (lw_at lw_m5 80 rfl) rfl
theorem q1119 : (Jvm.Cond.methodLink "TemperIslesModel" (132 : Nat) ({ cls := "TemperIslesModel", name := "readCross", desc := "()V" } : Jvm.MethodName)) ∈ lw_all := lw_g (lw_at lw_m5 81 rfl) rfl
theorem q1120 : (Jvm.Cond.privateMethod ({ cls := "TemperIslesModel", name := "readCross", desc := "()V" } : Jvm.MethodName)) ∈ lw_tbl := lw_at lw_m5 82 rfl
theorem q1121 : (Jvm.Cond.instanceMethod ({ cls := "TemperIslesModel", name := "readCross", desc := "()V" } : Jvm.MethodName)) ∈ lw_all := lw_g (lw_at lw_m5 83 rfl) rfl
theorem q1122 : (Jvm.Cond.code ({ cls := "TemperIslesModel", name := "readCross", desc := "()V" } : Jvm.MethodName) prog_12_method_21_code (3 : Nat) (Option.none : Option Jvm.ClassFile.FieldType)) ∈ lw_all := lw_g (lw_at lw_m5 84 rfl) rfl
theorem q1123 : (Jvm.Cond.methodLink "TemperIslesModel" (125 : Nat) ({ cls := "TemperIslesModel", name := "readNumber", desc := "(II)I" } : Jvm.MethodName)) ∈ lw_all := lw_g (lw_at lw_m5 85 rfl) rfl
theorem q1124 : (Jvm.Cond.privateMethod ({ cls := "TemperIslesModel", name := "readNumber", desc := "(II)I" } : Jvm.MethodName)) ∈ lw_tbl := lw_at lw_m5 86 rfl
theorem q1125 : (Jvm.Cond.instanceMethod ({ cls := "TemperIslesModel", name := "readNumber", desc := "(II)I" } : Jvm.MethodName)) ∈ lw_all := lw_g (lw_at lw_m5 87 rfl) rfl
theorem q1126 : (Jvm.Cond.code ({ cls := "TemperIslesModel", name := "readNumber", desc := "(II)I" } : Jvm.MethodName) prog_12_method_18_code (4 : Nat) (Option.some Jvm.ClassFile.FieldType.int)) ∈ lw_all := lw_g (lw_at lw_m5 88 rfl) rfl
theorem q1127 : (Jvm.Cond.methodLink "TemperIslesModel" (118 : Nat) ({ cls := "TemperIslesModel", name := "looked", desc := "(II)I" } : Jvm.MethodName)) ∈ lw_all := lw_g (lw_at lw_m5 89 rfl) rfl
theorem q1128 : (Jvm.Cond.privateMethod ({ cls := "TemperIslesModel", name := "looked", desc := "(II)I" } : Jvm.MethodName)) ∈ lw_tbl := lw_at lw_m5 90 rfl
theorem q1129 : (Jvm.Cond.instanceMethod ({ cls := "TemperIslesModel", name := "looked", desc := "(II)I" } : Jvm.MethodName)) ∈ lw_all := lw_g (lw_at lw_m5 91 rfl) rfl
theorem q1130 : (Jvm.Cond.code ({ cls := "TemperIslesModel", name := "looked", desc := "(II)I" } : Jvm.MethodName) prog_12_method_17_code (3 : Nat) (Option.some Jvm.ClassFile.FieldType.int)) ∈ lw_all := lw_g (lw_at lw_m5 92 rfl) rfl
theorem q1131 : (Jvm.Cond.methodLink "TemperIslesModel" (128 : Nat) ({ cls := "TemperIslesModel", name := "noteHighest", desc := "(I)V" } : Jvm.MethodName)) ∈ lw_all := lw_g (lw_at lw_m5 93 rfl) rfl
theorem q1132 : (Jvm.Cond.privateMethod ({ cls := "TemperIslesModel", name := "noteHighest", desc := "(I)V" } : Jvm.MethodName)) ∈ lw_tbl := lw_at lw_m5 94 rfl
theorem q1133 : (Jvm.Cond.instanceMethod ({ cls := "TemperIslesModel", name := "noteHighest", desc := "(I)V" } : Jvm.MethodName)) ∈ lw_all := lw_g (lw_at lw_m5 95 rfl) rfl
theorem q1134 : (Jvm.Cond.code ({ cls := "TemperIslesModel", name := "noteHighest", desc := "(I)V" } : Jvm.MethodName) prog_12_method_19_code (2 : Nat) (Option.none : Option Jvm.ClassFile.FieldType)) ∈ lw_all := lw_g (lw_at lw_m5 96 rfl) rfl
theorem q1135 : (Jvm.Cond.methodLink "TemperIslesModel" (135 : Nat) ({ cls := "TemperIslesModel", name := "readRope", desc := "()V" } : Jvm.MethodName)) ∈ lw_all := lw_g (lw_at lw_m5 97 rfl) rfl
theorem q1136 : (Jvm.Cond.privateMethod ({ cls := "TemperIslesModel", name := "readRope", desc := "()V" } : Jvm.MethodName)) ∈ lw_tbl := lw_at lw_m5 98 rfl
theorem q1137 : (Jvm.Cond.instanceMethod ({ cls := "TemperIslesModel", name := "readRope", desc := "()V" } : Jvm.MethodName)) ∈ lw_all := lw_g (lw_at lw_m5 99 rfl) rfl
theorem q1138 : (Jvm.Cond.code ({ cls := "TemperIslesModel", name := "readRope", desc := "()V" } : Jvm.MethodName) prog_12_method_22_code (4 : Nat) (Option.none : Option Jvm.ClassFile.FieldType)) ∈ lw_all := lw_g (lw_at lw_m5 100 rfl) rfl
theorem q1139 : (Jvm.Cond.methodLink "TemperIslesModel" (138 : Nat) ({ cls := "TemperIslesModel", name := "readIsle", desc := "(I)V" } : Jvm.MethodName)) ∈ lw_all := lw_g (lw_at lw_m5 101 rfl) rfl
theorem q1140 : (Jvm.Cond.privateMethod ({ cls := "TemperIslesModel", name := "readIsle", desc := "(I)V" } : Jvm.MethodName)) ∈ lw_tbl := lw_at lw_m5 102 rfl
theorem q1141 : (Jvm.Cond.instanceMethod ({ cls := "TemperIslesModel", name := "readIsle", desc := "(I)V" } : Jvm.MethodName)) ∈ lw_all := lw_g (lw_at lw_m5 103 rfl) rfl
theorem q1142 : (Jvm.Cond.code ({ cls := "TemperIslesModel", name := "readIsle", desc := "(I)V" } : Jvm.MethodName) prog_12_method_20_code (4 : Nat) (Option.none : Option Jvm.ClassFile.FieldType)) ∈ lw_all := lw_g (lw_at lw_m5 104 rfl) rfl
theorem q1144 : (Jvm.Cond.instanceMethod ({ cls := "TemperIslesModel", name := "fault", desc := "()I" } : Jvm.MethodName)) ∈ lw_all := lw_g (lw_at lw_m5 106 rfl) rfl
theorem q1145 : (Jvm.Cond.selects "TemperIslesModel" ({ cls := "TemperIslesModel", name := "fault", desc := "()I" } : Jvm.MethodName) ({ cls := "TemperIslesModel", name := "fault", desc := "()I" } : Jvm.MethodName)) ∈ lw_all := lw_g (lw_at lw_m5 107 rfl) rfl
theorem q1146 : (Jvm.Cond.code ({ cls := "TemperIslesModel", name := "fault", desc := "()I" } : Jvm.MethodName) prog_12_method_26_code (1 : Nat) (Option.some Jvm.ClassFile.FieldType.int)) ∈ lw_all := lw_g (lw_at lw_m5 108 rfl) rfl
theorem q1148 : (Jvm.Cond.instanceMethod ({ cls := "TemperIslesModel", name := "rule", desc := "(I)I" } : Jvm.MethodName)) ∈ lw_all := lw_g (lw_at lw_m5 110 rfl) rfl
theorem q1149 : (Jvm.Cond.selects "TemperIslesModel" ({ cls := "TemperIslesModel", name := "rule", desc := "(I)I" } : Jvm.MethodName) ({ cls := "TemperIslesModel", name := "rule", desc := "(I)I" } : Jvm.MethodName)) ∈ lw_all := lw_g (lw_at lw_m5 111 rfl) rfl
theorem q1150 : (Jvm.Cond.code ({ cls := "TemperIslesModel", name := "rule", desc := "(I)I" } : Jvm.MethodName) prog_12_method_47_code (2 : Nat) (Option.some Jvm.ClassFile.FieldType.int)) ∈ lw_all := lw_g (lw_at lw_m5 112 rfl) rfl
theorem q1151 : (Jvm.Cond.methodLink "TemperIslesModel" (194 : Nat) ({ cls := "TemperIslesModel", name := "starts", desc := "()V" } : Jvm.MethodName)) ∈ lw_all := lw_g (lw_at lw_m5 113 rfl) rfl
theorem q1152 : (Jvm.Cond.privateMethod ({ cls := "TemperIslesModel", name := "starts", desc := "()V" } : Jvm.MethodName)) ∈ lw_tbl := lw_at lw_m5 114 rfl
theorem q1153 : (Jvm.Cond.instanceMethod ({ cls := "TemperIslesModel", name := "starts", desc := "()V" } : Jvm.MethodName)) ∈ lw_all := lw_g (lw_at lw_m5 115 rfl) rfl
theorem q1154 : (Jvm.Cond.code ({ cls := "TemperIslesModel", name := "starts", desc := "()V" } : Jvm.MethodName) prog_12_method_32_code (2 : Nat) (Option.none : Option Jvm.ClassFile.FieldType)) ∈ lw_all := lw_g (lw_at lw_m5 116 rfl) rfl
theorem q1155 : (Jvm.Cond.methodLink "TemperIslesModel" (197 : Nat) ({ cls := "TemperIslesModel", name := "spread", desc := "()I" } : Jvm.MethodName)) ∈ lw_all := lw_g (lw_at lw_m5 117 rfl) rfl
theorem q1156 : (Jvm.Cond.privateMethod ({ cls := "TemperIslesModel", name := "spread", desc := "()I" } : Jvm.MethodName)) ∈ lw_tbl := lw_at lw_m5 118 rfl
theorem q1157 : (Jvm.Cond.instanceMethod ({ cls := "TemperIslesModel", name := "spread", desc := "()I" } : Jvm.MethodName)) ∈ lw_all := lw_g (lw_at lw_m5 119 rfl) rfl
theorem q1158 : (Jvm.Cond.code ({ cls := "TemperIslesModel", name := "spread", desc := "()I" } : Jvm.MethodName) prog_12_method_36_code (4 : Nat) (Option.some Jvm.ClassFile.FieldType.int)) ∈ lw_all := lw_g (lw_at lw_m5 120 rfl) rfl
theorem q1159 : (Jvm.Cond.methodLink "TemperIslesModel" (162 : Nat) ({ cls := "TemperIslesModel", name := "apart", desc := "(II)I" } : Jvm.MethodName)) ∈ lw_all := lw_g (lw_at lw_m5 121 rfl) rfl
theorem q1160 : (Jvm.Cond.privateMethod ({ cls := "TemperIslesModel", name := "apart", desc := "(II)I" } : Jvm.MethodName)) ∈ lw_tbl := lw_at lw_m5 122 rfl
theorem q1161 : (Jvm.Cond.instanceMethod ({ cls := "TemperIslesModel", name := "apart", desc := "(II)I" } : Jvm.MethodName)) ∈ lw_all := lw_g (lw_at lw_m5 123 rfl) rfl
theorem q1162 : (Jvm.Cond.code ({ cls := "TemperIslesModel", name := "apart", desc := "(II)I" } : Jvm.MethodName) prog_12_method_35_code (3 : Nat) (Option.some Jvm.ClassFile.FieldType.int)) ∈ lw_all := lw_g (lw_at lw_m5 124 rfl) rfl
theorem q1163 : (Jvm.Cond.methodLink "TemperIslesModel" (156 : Nat) ({ cls := "TemperIslesModel", name := "place", desc := "(I)I" } : Jvm.MethodName)) ∈ lw_all := lw_g (lw_at lw_m5 125 rfl) rfl
theorem q1164 : (Jvm.Cond.privateMethod ({ cls := "TemperIslesModel", name := "place", desc := "(I)I" } : Jvm.MethodName)) ∈ lw_tbl := lw_at lw_m5 126 rfl
theorem q1165 : (Jvm.Cond.instanceMethod ({ cls := "TemperIslesModel", name := "place", desc := "(I)I" } : Jvm.MethodName)) ∈ lw_all := lw_g (lw_at lw_m5 127 rfl) rfl
theorem q1166 : (Jvm.Cond.code ({ cls := "TemperIslesModel", name := "place", desc := "(I)I" } : Jvm.MethodName) prog_12_method_34_code (2 : Nat) (Option.some Jvm.ClassFile.FieldType.int)) ∈ lw_all := lw_g (lw_at lw_m5 128 rfl) rfl
theorem q1167 : (Jvm.Cond.methodLink "TemperIslesModel" (159 : Nat) ({ cls := "TemperIslesModel", name := "sizeOf", desc := "(I)I" } : Jvm.MethodName)) ∈ lw_all := lw_g (lw_at lw_m5 129 rfl) rfl
theorem q1168 : (Jvm.Cond.static ({ cls := "TemperIslesModel", name := "sizeOf", desc := "(I)I" } : Jvm.MethodName)) ∈ lw_all := lw_g (lw_at lw_m5 130 rfl) rfl
theorem q1169 : (Jvm.Cond.code ({ cls := "TemperIslesModel", name := "sizeOf", desc := "(I)I" } : Jvm.MethodName) prog_12_method_6_code (1 : Nat) (Option.some Jvm.ClassFile.FieldType.int)) ∈ lw_all := lw_g (lw_at lw_m5 131 rfl) rfl
theorem q1171 : (Jvm.Cond.instanceMethod ({ cls := "TemperIslesModel", name := "isle", desc := "(II)I" } : Jvm.MethodName)) ∈ lw_all := lw_g (lw_at lw_m5 133 rfl) rfl
theorem q1172 : (Jvm.Cond.selects "TemperIslesModel" ({ cls := "TemperIslesModel", name := "isle", desc := "(II)I" } : Jvm.MethodName) ({ cls := "TemperIslesModel", name := "isle", desc := "(II)I" } : Jvm.MethodName)) ∈ lw_all := lw_g (lw_at lw_m5 134 rfl) rfl
theorem q1173 : (Jvm.Cond.code ({ cls := "TemperIslesModel", name := "isle", desc := "(II)I" } : Jvm.MethodName) prog_12_method_49_code (3 : Nat) (Option.some Jvm.ClassFile.FieldType.int)) ∈ lw_all := lw_g (lw_at lw_m5 135 rfl) rfl
theorem q1174 : (Jvm.Cond.methodLink "TemperIslesModel" (151 : Nat) ({ cls := "TemperIslesModel", name := "isIsle", desc := "(I)Z" } : Jvm.MethodName)) ∈ lw_all := lw_g (lw_at lw_m5 136 rfl) rfl
theorem q1175 : (Jvm.Cond.privateMethod ({ cls := "TemperIslesModel", name := "isIsle", desc := "(I)Z" } : Jvm.MethodName)) ∈ lw_tbl := lw_at lw_m5 137 rfl
theorem q1176 : (Jvm.Cond.instanceMethod ({ cls := "TemperIslesModel", name := "isIsle", desc := "(I)Z" } : Jvm.MethodName)) ∈ lw_all := lw_g (lw_at lw_m5 138 rfl) rfl
theorem q1177 : (Jvm.Cond.code ({ cls := "TemperIslesModel", name := "isIsle", desc := "(I)Z" } : Jvm.MethodName) prog_12_method_27_code (2 : Nat) (Option.some Jvm.ClassFile.FieldType.boolean)) ∈ lw_all := lw_g (lw_at lw_m5 139 rfl) rfl
theorem q1178 : (Jvm.Cond.methodLink "TemperIslesModel" (204 : Nat) ({ cls := "TemperIslesModel", name := "ropesOf", desc := "(I)I" } : Jvm.MethodName)) ∈ lw_all := lw_g (lw_at lw_m5 140 rfl) rfl
theorem q1179 : (Jvm.Cond.privateMethod ({ cls := "TemperIslesModel", name := "ropesOf", desc := "(I)I" } : Jvm.MethodName)) ∈ lw_tbl := lw_at lw_m5 141 rfl
theorem q1180 : (Jvm.Cond.instanceMethod ({ cls := "TemperIslesModel", name := "ropesOf", desc := "(I)I" } : Jvm.MethodName)) ∈ lw_all := lw_g (lw_at lw_m5 142 rfl) rfl
theorem q1181 : (Jvm.Cond.code ({ cls := "TemperIslesModel", name := "ropesOf", desc := "(I)I" } : Jvm.MethodName) prog_12_method_48_code (5 : Nat) (Option.some Jvm.ClassFile.FieldType.int)) ∈ lw_all := lw_g (lw_at lw_m5 143 rfl) rfl
theorem q1182 : (Jvm.Cond.methodLink "TemperIslesModel" (200 : Nat) ({ cls := "TemperIslesModel", name := "flag", desc := "(Z)I" } : Jvm.MethodName)) ∈ lw_all := lw_g (lw_at lw_m5 144 rfl) rfl
theorem q1183 : (Jvm.Cond.static ({ cls := "TemperIslesModel", name := "flag", desc := "(Z)I" } : Jvm.MethodName)) ∈ lw_all := lw_g (lw_at lw_m5 145 rfl) rfl
theorem q1184 : (Jvm.Cond.code ({ cls := "TemperIslesModel", name := "flag", desc := "(Z)I" } : Jvm.MethodName) prog_12_method_4_code (1 : Nat) (Option.some Jvm.ClassFile.FieldType.int)) ∈ lw_all := lw_g (lw_at lw_m5 146 rfl) rfl
theorem q1185 : (Jvm.Cond.methodLink "TemperIslesModel" (168 : Nat) ({ cls := "TemperIslesModel", name := "driftOf", desc := "(I)I" } : Jvm.MethodName)) ∈ lw_all := lw_g (lw_at lw_m5 147 rfl) rfl
theorem q1186 : (Jvm.Cond.privateMethod ({ cls := "TemperIslesModel", name := "driftOf", desc := "(I)I" } : Jvm.MethodName)) ∈ lw_tbl := lw_at lw_m5 148 rfl
theorem q1187 : (Jvm.Cond.instanceMethod ({ cls := "TemperIslesModel", name := "driftOf", desc := "(I)I" } : Jvm.MethodName)) ∈ lw_all := lw_g (lw_at lw_m5 149 rfl) rfl
theorem q1188 : (Jvm.Cond.code ({ cls := "TemperIslesModel", name := "driftOf", desc := "(I)I" } : Jvm.MethodName) prog_12_method_38_code (4 : Nat) (Option.some Jvm.ClassFile.FieldType.int)) ∈ lw_all := lw_g (lw_at lw_m5 150 rfl) rfl
theorem q1189 : (Jvm.Cond.methodLink "TemperIslesModel" (165 : Nat) ({ cls := "TemperIslesModel", name := "sulkOf", desc := "(I)I" } : Jvm.MethodName)) ∈ lw_all := lw_g (lw_at lw_m5 151 rfl) rfl
theorem q1190 : (Jvm.Cond.privateMethod ({ cls := "TemperIslesModel", name := "sulkOf", desc := "(I)I" } : Jvm.MethodName)) ∈ lw_tbl := lw_at lw_m5 152 rfl
theorem q1191 : (Jvm.Cond.instanceMethod ({ cls := "TemperIslesModel", name := "sulkOf", desc := "(I)I" } : Jvm.MethodName)) ∈ lw_all := lw_g (lw_at lw_m5 153 rfl) rfl
theorem q1192 : (Jvm.Cond.code ({ cls := "TemperIslesModel", name := "sulkOf", desc := "(I)I" } : Jvm.MethodName) prog_12_method_37_code (5 : Nat) (Option.some Jvm.ClassFile.FieldType.int)) ∈ lw_all := lw_g (lw_at lw_m5 154 rfl) rfl
theorem q1193 : (Jvm.Cond.methodLink "TemperIslesModel" (181 : Nat) ({ cls := "TemperIslesModel", name := "nearest", desc := "(I)I" } : Jvm.MethodName)) ∈ lw_all := lw_g (lw_at lw_m5 155 rfl) rfl
theorem q1194 : (Jvm.Cond.privateMethod ({ cls := "TemperIslesModel", name := "nearest", desc := "(I)I" } : Jvm.MethodName)) ∈ lw_tbl := lw_at lw_m5 156 rfl
theorem q1195 : (Jvm.Cond.instanceMethod ({ cls := "TemperIslesModel", name := "nearest", desc := "(I)I" } : Jvm.MethodName)) ∈ lw_all := lw_g (lw_at lw_m5 157 rfl) rfl
theorem q1196 : (Jvm.Cond.code ({ cls := "TemperIslesModel", name := "nearest", desc := "(I)I" } : Jvm.MethodName) prog_12_method_41_code (4 : Nat) (Option.some Jvm.ClassFile.FieldType.int)) ∈ lw_all := lw_g (lw_at lw_m5 158 rfl) rfl
theorem q1198 : (Jvm.Cond.instanceMethod ({ cls := "TemperIslesModel", name := "cross", desc := "(II)I" } : Jvm.MethodName)) ∈ lw_all := lw_g (lw_at lw_m5 160 rfl) rfl
theorem q1199 : (Jvm.Cond.selects "TemperIslesModel" ({ cls := "TemperIslesModel", name := "cross", desc := "(II)I" } : Jvm.MethodName) ({ cls := "TemperIslesModel", name := "cross", desc := "(II)I" } : Jvm.MethodName)) ∈ lw_all := lw_g (lw_at lw_m5 161 rfl) rfl
theorem q1200 : (Jvm.Cond.code ({ cls := "TemperIslesModel", name := "cross", desc := "(II)I" } : Jvm.MethodName) prog_12_method_50_code (3 : Nat) (Option.some Jvm.ClassFile.FieldType.int)) ∈ lw_all := lw_g (lw_at lw_m5 162 rfl) rfl
theorem q1201 : (Jvm.Cond.methodLink "TemperIslesModel" (207 : Nat) ({ cls := "TemperIslesModel", name := "areTwo", desc := "(II)Z" } : Jvm.MethodName)) ∈ lw_all := lw_g (lw_at lw_m5 163 rfl) rfl
theorem q1202 : (Jvm.Cond.privateMethod ({ cls := "TemperIslesModel", name := "areTwo", desc := "(II)Z" } : Jvm.MethodName)) ∈ lw_tbl := lw_at lw_m5 164 rfl
theorem q1203 : (Jvm.Cond.instanceMethod ({ cls := "TemperIslesModel", name := "areTwo", desc := "(II)Z" } : Jvm.MethodName)) ∈ lw_all := lw_g (lw_at lw_m5 165 rfl) rfl
theorem q1204 : (Jvm.Cond.code ({ cls := "TemperIslesModel", name := "areTwo", desc := "(II)Z" } : Jvm.MethodName) prog_12_method_28_code (3 : Nat) (Option.some Jvm.ClassFile.FieldType.boolean)) ∈ lw_all := lw_g (lw_at lw_m5 166 rfl) rfl
theorem q1206 : (Jvm.Cond.instanceMethod ({ cls := "TemperIslesModel", name := "rope", desc := "(II)I" } : Jvm.MethodName)) ∈ lw_all := lw_g (lw_at lw_m5 168 rfl) rfl
theorem q1207 : (Jvm.Cond.selects "TemperIslesModel" ({ cls := "TemperIslesModel", name := "rope", desc := "(II)I" } : Jvm.MethodName) ({ cls := "TemperIslesModel", name := "rope", desc := "(II)I" } : Jvm.MethodName)) ∈ lw_all := lw_g (lw_at lw_m5 169 rfl) rfl
theorem q1208 : (Jvm.Cond.code ({ cls := "TemperIslesModel", name := "rope", desc := "(II)I" } : Jvm.MethodName) prog_12_method_51_code (3 : Nat) (Option.some Jvm.ClassFile.FieldType.int)) ∈ lw_all := lw_g (lw_at lw_m5 170 rfl) rfl
theorem q1209 : (Jvm.Cond.methodLink "TemperIslesModel" (210 : Nat) ({ cls := "TemperIslesModel", name := "isRope", desc := "(I)Z" } : Jvm.MethodName)) ∈ lw_all := lw_g (lw_at lw_m5 171 rfl) rfl
theorem q1210 : (Jvm.Cond.privateMethod ({ cls := "TemperIslesModel", name := "isRope", desc := "(I)Z" } : Jvm.MethodName)) ∈ lw_tbl := lw_at lw_m5 172 rfl
theorem q1211 : (Jvm.Cond.instanceMethod ({ cls := "TemperIslesModel", name := "isRope", desc := "(I)Z" } : Jvm.MethodName)) ∈ lw_all := lw_g (lw_at lw_m5 173 rfl) rfl
theorem q1212 : (Jvm.Cond.code ({ cls := "TemperIslesModel", name := "isRope", desc := "(I)Z" } : Jvm.MethodName) prog_12_method_29_code (2 : Nat) (Option.some Jvm.ClassFile.FieldType.boolean)) ∈ lw_all := lw_g (lw_at lw_m5 174 rfl) rfl
theorem q1213 : (Jvm.Cond.constantLong "TemperIslesModel" (213 : Nat) (2 : Int64)) ∈ lw_all := lw_g (lw_at lw_m5 175 rfl) rfl
theorem q1215 : (Jvm.Cond.instanceMethod ({ cls := "TemperIslesModel", name := "far", desc := "(II)I" } : Jvm.MethodName)) ∈ lw_all := lw_g (lw_at lw_m5 177 rfl) rfl
theorem q1216 : (Jvm.Cond.selects "TemperIslesModel" ({ cls := "TemperIslesModel", name := "far", desc := "(II)I" } : Jvm.MethodName) ({ cls := "TemperIslesModel", name := "far", desc := "(II)I" } : Jvm.MethodName)) ∈ lw_all := lw_g (lw_at lw_m5 178 rfl) rfl
theorem q1217 : (Jvm.Cond.code ({ cls := "TemperIslesModel", name := "far", desc := "(II)I" } : Jvm.MethodName) prog_12_method_52_code (3 : Nat) (Option.some Jvm.ClassFile.FieldType.int)) ∈ lw_all := lw_g (lw_at lw_m5 179 rfl) rfl
theorem q1219 : (Jvm.Cond.instanceMethod ({ cls := "TemperIslesModel", name := "alter", desc := "(III)I" } : Jvm.MethodName)) ∈ lw_all := lw_g (lw_at lw_m5 181 rfl) rfl
theorem q1220 : (Jvm.Cond.selects "TemperIslesModel" ({ cls := "TemperIslesModel", name := "alter", desc := "(III)I" } : Jvm.MethodName) ({ cls := "TemperIslesModel", name := "alter", desc := "(III)I" } : Jvm.MethodName)) ∈ lw_all := lw_g (lw_at lw_m5 182 rfl) rfl
theorem q1221 : (Jvm.Cond.code ({ cls := "TemperIslesModel", name := "alter", desc := "(III)I" } : Jvm.MethodName) prog_12_method_54_code (5 : Nat) (Option.some Jvm.ClassFile.FieldType.int)) ∈ lw_all := lw_g (lw_at lw_m5 183 rfl) rfl
theorem q1222 : (Jvm.Cond.constantLong "TemperIslesModel" (215 : Nat) (3 : Int64)) ∈ lw_all := lw_g (lw_at lw_m5 184 rfl) rfl
theorem q1223 : (Jvm.Cond.methodLink "TemperIslesModel" (171 : Nat) ({ cls := "TemperIslesModel", name := "isFathom", desc := "(I)Z" } : Jvm.MethodName)) ∈ lw_all := lw_g (lw_at lw_m5 185 rfl) rfl
theorem q1224 : (Jvm.Cond.static ({ cls := "TemperIslesModel", name := "isFathom", desc := "(I)Z" } : Jvm.MethodName)) ∈ lw_all := lw_g (lw_at lw_m5 186 rfl) rfl
theorem q1225 : (Jvm.Cond.code ({ cls := "TemperIslesModel", name := "isFathom", desc := "(I)Z" } : Jvm.MethodName) prog_12_method_30_code (1 : Nat) (Option.some Jvm.ClassFile.FieldType.boolean)) ∈ lw_all := lw_g (lw_at lw_m5 187 rfl) rfl
theorem q1226 : (Jvm.Cond.constantLong "TemperIslesModel" (154 : Nat) (99 : Int64)) ∈ lw_all := lw_g (lw_at lw_m5 188 rfl) rfl
theorem q1227 : (Jvm.Cond.methodLink "TemperIslesModel" (178 : Nat) ({ cls := "TemperIslesModel", name := "isTaken", desc := "(I)Z" } : Jvm.MethodName)) ∈ lw_all := lw_g (lw_at lw_m5 189 rfl) rfl
theorem q1228 : (Jvm.Cond.privateMethod ({ cls := "TemperIslesModel", name := "isTaken", desc := "(I)Z" } : Jvm.MethodName)) ∈ lw_tbl := lw_at lw_m5 190 rfl
theorem q1229 : (Jvm.Cond.instanceMethod ({ cls := "TemperIslesModel", name := "isTaken", desc := "(I)Z" } : Jvm.MethodName)) ∈ lw_all := lw_g (lw_at lw_m5 191 rfl) rfl
theorem q1230 : (Jvm.Cond.code ({ cls := "TemperIslesModel", name := "isTaken", desc := "(I)Z" } : Jvm.MethodName) prog_12_method_40_code (4 : Nat) (Option.some Jvm.ClassFile.FieldType.boolean)) ∈ lw_all := lw_g (lw_at lw_m5 192 rfl) rfl
theorem q1231 : (Jvm.Cond.methodLink "TemperIslesModel" (217 : Nat) ({ cls := "TemperIslesModel", name := "becomes", desc := "(II)I" } : Jvm.MethodName)) ∈ lw_all := lw_g (lw_at lw_m5 193 rfl) rfl
theorem q1232 : (Jvm.Cond.privateMethod ({ cls := "TemperIslesModel", name := "becomes", desc := "(II)I" } : Jvm.MethodName)) ∈ lw_tbl := lw_at lw_m5 194 rfl
theorem q1233 : (Jvm.Cond.instanceMethod ({ cls := "TemperIslesModel", name := "becomes", desc := "(II)I" } : Jvm.MethodName)) ∈ lw_all := lw_g (lw_at lw_m5 195 rfl) rfl
theorem q1234 : (Jvm.Cond.code ({ cls := "TemperIslesModel", name := "becomes", desc := "(II)I" } : Jvm.MethodName) prog_12_method_53_code (4 : Nat) (Option.some Jvm.ClassFile.FieldType.int)) ∈ lw_all := lw_g (lw_at lw_m5 196 rfl) rfl
theorem q1236 : (Jvm.Cond.instanceMethod ({ cls := "TemperIslesModel", name := "sulk", desc := "(III)I" } : Jvm.MethodName)) ∈ lw_all := lw_g (lw_at lw_m5 198 rfl) rfl
theorem q1237 : (Jvm.Cond.selects "TemperIslesModel" ({ cls := "TemperIslesModel", name := "sulk", desc := "(III)I" } : Jvm.MethodName) ({ cls := "TemperIslesModel", name := "sulk", desc := "(III)I" } : Jvm.MethodName)) ∈ lw_all := lw_g (lw_at lw_m5 199 rfl) rfl
theorem q1238 : (Jvm.Cond.code ({ cls := "TemperIslesModel", name := "sulk", desc := "(III)I" } : Jvm.MethodName) prog_12_method_55_code (4 : Nat) (Option.some Jvm.ClassFile.FieldType.int)) ∈ lw_all := lw_g (lw_at lw_m5 200 rfl) rfl
theorem q1240 : (Jvm.Cond.instanceMethod ({ cls := "TemperIslesModel", name := "haul", desc := "(II)I" } : Jvm.MethodName)) ∈ lw_all := lw_g (lw_at lw_m5 202 rfl) rfl
theorem q1241 : (Jvm.Cond.selects "TemperIslesModel" ({ cls := "TemperIslesModel", name := "haul", desc := "(II)I" } : Jvm.MethodName) ({ cls := "TemperIslesModel", name := "haul", desc := "(II)I" } : Jvm.MethodName)) ∈ lw_all := lw_g (lw_at lw_m5 203 rfl) rfl
theorem q1242 : (Jvm.Cond.code ({ cls := "TemperIslesModel", name := "haul", desc := "(II)I" } : Jvm.MethodName) prog_12_method_56_code (3 : Nat) (Option.some Jvm.ClassFile.FieldType.int)) ∈ lw_all := lw_g (lw_at lw_m5 204 rfl) rfl
theorem q1243 : (Jvm.Cond.constantLong "TemperIslesModel" (220 : Nat) (30 : Int64)) ∈ lw_all := lw_g (lw_at lw_m5 205 rfl) rfl
theorem q1245 : (Jvm.Cond.instanceMethod ({ cls := "TemperIslesModel", name := "wed", desc := "(III)I" } : Jvm.MethodName)) ∈ lw_all := lw_g (lw_at lw_m5 207 rfl) rfl
theorem q1246 : (Jvm.Cond.selects "TemperIslesModel" ({ cls := "TemperIslesModel", name := "wed", desc := "(III)I" } : Jvm.MethodName) ({ cls := "TemperIslesModel", name := "wed", desc := "(III)I" } : Jvm.MethodName)) ∈ lw_all := lw_g (lw_at lw_m5 208 rfl) rfl
theorem q1247 : (Jvm.Cond.code ({ cls := "TemperIslesModel", name := "wed", desc := "(III)I" } : Jvm.MethodName) prog_12_method_58_code (4 : Nat) (Option.some Jvm.ClassFile.FieldType.int)) ∈ lw_all := lw_g (lw_at lw_m5 209 rfl) rfl
theorem q1248 : (Jvm.Cond.methodLink "TemperIslesModel" (222 : Nat) ({ cls := "TemperIslesModel", name := "ties", desc := "(III)V" } : Jvm.MethodName)) ∈ lw_all := lw_g (lw_at lw_m5 210 rfl) rfl
theorem q1249 : (Jvm.Cond.privateMethod ({ cls := "TemperIslesModel", name := "ties", desc := "(III)V" } : Jvm.MethodName)) ∈ lw_tbl := lw_at lw_m5 211 rfl
theorem q1250 : (Jvm.Cond.instanceMethod ({ cls := "TemperIslesModel", name := "ties", desc := "(III)V" } : Jvm.MethodName)) ∈ lw_all := lw_g (lw_at lw_m5 212 rfl) rfl
theorem q1251 : (Jvm.Cond.code ({ cls := "TemperIslesModel", name := "ties", desc := "(III)V" } : Jvm.MethodName) prog_12_method_57_code (5 : Nat) (Option.none : Option Jvm.ClassFile.FieldType)) ∈ lw_all := lw_g (lw_at lw_m5 213 rfl) rfl
theorem q1252 : (Jvm.Cond.methodLink "TemperIslesModel" (226 : Nat) ({ cls := "TemperIslesModel", name := "settles", desc := "()V" } : Jvm.MethodName)) ∈ lw_all := lw_g (lw_at lw_m5 214 rfl) rfl
theorem q1253 : (Jvm.Cond.privateMethod ({ cls := "TemperIslesModel", name := "settles", desc := "()V" } : Jvm.MethodName)) ∈ lw_tbl := lw_at lw_m5 215 rfl
theorem q1254 : (Jvm.Cond.instanceMethod ({ cls := "TemperIslesModel", name := "settles", desc := "()V" } : Jvm.MethodName)) ∈ lw_all := lw_g (lw_at lw_m5 216 rfl) rfl
theorem q1255 : (Jvm.Cond.code ({ cls := "TemperIslesModel", name := "settles", desc := "()V" } : Jvm.MethodName) prog_12_method_33_code (2 : Nat) (Option.none : Option Jvm.ClassFile.FieldType)) ∈ lw_all := lw_g (lw_at lw_m5 217 rfl) rfl
theorem q1257 : (Jvm.Cond.instanceMethod ({ cls := "TemperIslesModel", name := "loose", desc := "(I)I" } : Jvm.MethodName)) ∈ lw_all := lw_g (lw_at lw_m5 219 rfl) rfl
theorem q1258 : (Jvm.Cond.selects "TemperIslesModel" ({ cls := "TemperIslesModel", name := "loose", desc := "(I)I" } : Jvm.MethodName) ({ cls := "TemperIslesModel", name := "loose", desc := "(I)I" } : Jvm.MethodName)) ∈ lw_all := lw_g (lw_at lw_m5 220 rfl) rfl
theorem q1259 : (Jvm.Cond.code ({ cls := "TemperIslesModel", name := "loose", desc := "(I)I" } : Jvm.MethodName) prog_12_method_59_code (2 : Nat) (Option.some Jvm.ClassFile.FieldType.int)) ∈ lw_all := lw_g (lw_at lw_m5 221 rfl) rfl
theorem q1261 : (Jvm.Cond.instanceMethod ({ cls := "TemperIslesModel", name := "feast", desc := "(I)I" } : Jvm.MethodName)) ∈ lw_all := lw_g (lw_at lw_m5 223 rfl) rfl
theorem q1262 : (Jvm.Cond.selects "TemperIslesModel" ({ cls := "TemperIslesModel", name := "feast", desc := "(I)I" } : Jvm.MethodName) ({ cls := "TemperIslesModel", name := "feast", desc := "(I)I" } : Jvm.MethodName)) ∈ lw_all := lw_g (lw_at lw_m5 224 rfl) rfl
theorem q1263 : (Jvm.Cond.code ({ cls := "TemperIslesModel", name := "feast", desc := "(I)I" } : Jvm.MethodName) prog_12_method_60_code (2 : Nat) (Option.some Jvm.ClassFile.FieldType.int)) ∈ lw_all := lw_g (lw_at lw_m5 225 rfl) rfl
theorem q1264 : (Jvm.Cond.constantLong "TemperIslesModel" (229 : Nat) (6 : Int64)) ∈ lw_all := lw_g (lw_at lw_m5 226 rfl) rfl
theorem q1266 : (Jvm.Cond.instanceMethod ({ cls := "TemperIslesModel", name := "days", desc := "(I)I" } : Jvm.MethodName)) ∈ lw_all := lw_g (lw_at lw_m5 228 rfl) rfl
theorem q1267 : (Jvm.Cond.selects "TemperIslesModel" ({ cls := "TemperIslesModel", name := "days", desc := "(I)I" } : Jvm.MethodName) ({ cls := "TemperIslesModel", name := "days", desc := "(I)I" } : Jvm.MethodName)) ∈ lw_all := lw_g (lw_at lw_m5 229 rfl) rfl
theorem q1268 : (Jvm.Cond.code ({ cls := "TemperIslesModel", name := "days", desc := "(I)I" } : Jvm.MethodName) prog_12_method_61_code (3 : Nat) (Option.some Jvm.ClassFile.FieldType.int)) ∈ lw_all := lw_g (lw_at lw_m5 230 rfl) rfl
theorem q1269 : (Jvm.Cond.methodLink "TemperIslesModel" (231 : Nat) ({ cls := "TemperIslesModel", name := "daysGo", desc := "(I)V" } : Jvm.MethodName)) ∈ lw_all := lw_g (lw_at lw_m5 231 rfl) rfl
theorem q1270 : (Jvm.Cond.privateMethod ({ cls := "TemperIslesModel", name := "daysGo", desc := "(I)V" } : Jvm.MethodName)) ∈ lw_tbl := lw_at lw_m5 232 rfl
theorem q1271 : (Jvm.Cond.instanceMethod ({ cls := "TemperIslesModel", name := "daysGo", desc := "(I)V" } : Jvm.MethodName)) ∈ lw_all := lw_g (lw_at lw_m5 233 rfl) rfl
theorem q1272 : (Jvm.Cond.code ({ cls := "TemperIslesModel", name := "daysGo", desc := "(I)V" } : Jvm.MethodName) prog_12_method_45_code (3 : Nat) (Option.none : Option Jvm.ClassFile.FieldType)) ∈ lw_all := lw_g (lw_at lw_m5 234 rfl) rfl
theorem q1273 : (Jvm.Cond.methodLink "TemperIslesModel" (190 : Nat) ({ cls := "TemperIslesModel", name := "dayGoes", desc := "(Z)V" } : Jvm.MethodName)) ∈ lw_all := lw_g (lw_at lw_m5 235 rfl) rfl
theorem q1274 : (Jvm.Cond.privateMethod ({ cls := "TemperIslesModel", name := "dayGoes", desc := "(Z)V" } : Jvm.MethodName)) ∈ lw_tbl := lw_at lw_m5 236 rfl
theorem q1275 : (Jvm.Cond.instanceMethod ({ cls := "TemperIslesModel", name := "dayGoes", desc := "(Z)V" } : Jvm.MethodName)) ∈ lw_all := lw_g (lw_at lw_m5 237 rfl) rfl
theorem q1276 : (Jvm.Cond.code ({ cls := "TemperIslesModel", name := "dayGoes", desc := "(Z)V" } : Jvm.MethodName) prog_12_method_44_code (4 : Nat) (Option.none : Option Jvm.ClassFile.FieldType)) ∈ lw_all := lw_g (lw_at lw_m5 238 rfl) rfl
theorem q1277 : (Jvm.Cond.methodLink "TemperIslesModel" (184 : Nat) ({ cls := "TemperIslesModel", name := "feasts", desc := "(I)V" } : Jvm.MethodName)) ∈ lw_all := lw_g (lw_at lw_m5 239 rfl) rfl
theorem q1278 : (Jvm.Cond.privateMethod ({ cls := "TemperIslesModel", name := "feasts", desc := "(I)V" } : Jvm.MethodName)) ∈ lw_tbl := lw_at lw_m6 0 rfl
theorem q1279 : (Jvm.Cond.instanceMethod ({ cls := "TemperIslesModel", name := "feasts", desc := "(I)V" } : Jvm.MethodName)) ∈ lw_all := lw_g (lw_at lw_m6 1 rfl) rfl
theorem q1280 : (Jvm.Cond.code ({ cls := "TemperIslesModel", name := "feasts", desc := "(I)V" } : Jvm.MethodName) prog_12_method_43_code (4 : Nat) (Option.none : Option Jvm.ClassFile.FieldType)) ∈ lw_all := lw_g (lw_at lw_m6 2 rfl) rfl
theorem q1281 : (Jvm.Cond.methodLink "TemperIslesModel" (174 : Nat) ({ cls := "TemperIslesModel", name := "isHeld", desc := "(II)Z" } : Jvm.MethodName)) ∈ lw_all := lw_g (lw_at lw_m6 3 rfl) rfl
theorem q1282 : (Jvm.Cond.privateMethod ({ cls := "TemperIslesModel", name := "isHeld", desc := "(II)Z" } : Jvm.MethodName)) ∈ lw_tbl := lw_at lw_m6 4 rfl
theorem q1283 : (Jvm.Cond.instanceMethod ({ cls := "TemperIslesModel", name := "isHeld", desc := "(II)Z" } : Jvm.MethodName)) ∈ lw_all := lw_g (lw_at lw_m6 5 rfl) rfl
theorem q1284 : (Jvm.Cond.code ({ cls := "TemperIslesModel", name := "isHeld", desc := "(II)Z" } : Jvm.MethodName) prog_12_method_39_code (8 : Nat) (Option.some Jvm.ClassFile.FieldType.boolean)) ∈ lw_all := lw_g (lw_at lw_m6 6 rfl) rfl
theorem q1285 : (Jvm.Cond.methodLink "TemperIslesModel" (187 : Nat) ({ cls := "TemperIslesModel", name := "drifts", desc := "(I)V" } : Jvm.MethodName)) ∈ lw_all := lw_g (lw_at lw_m6 7 rfl) rfl
theorem q1286 : (Jvm.Cond.privateMethod ({ cls := "TemperIslesModel", name := "drifts", desc := "(I)V" } : Jvm.MethodName)) ∈ lw_tbl := lw_at lw_m6 8 rfl
theorem q1287 : (Jvm.Cond.instanceMethod ({ cls := "TemperIslesModel", name := "drifts", desc := "(I)V" } : Jvm.MethodName)) ∈ lw_all := lw_g (lw_at lw_m6 9 rfl) rfl
theorem q1288 : (Jvm.Cond.code ({ cls := "TemperIslesModel", name := "drifts", desc := "(I)V" } : Jvm.MethodName) prog_12_method_42_code (7 : Nat) (Option.none : Option Jvm.ClassFile.FieldType)) ∈ lw_all := lw_g (lw_at lw_m6 10 rfl) rfl
theorem q1289 : (Jvm.Cond.methodLink "TemperIslesModel" (234 : Nat) ({ cls := "TemperIslesModel", name := "bumpsSince", desc := "()I" } : Jvm.MethodName)) ∈ lw_all := lw_g (lw_at lw_m6 11 rfl) rfl
theorem q1290 : (Jvm.Cond.privateMethod ({ cls := "TemperIslesModel", name := "bumpsSince", desc := "()I" } : Jvm.MethodName)) ∈ lw_tbl := lw_at lw_m6 12 rfl
theorem q1291 : (Jvm.Cond.instanceMethod ({ cls := "TemperIslesModel", name := "bumpsSince", desc := "()I" } : Jvm.MethodName)) ∈ lw_all := lw_g (lw_at lw_m6 13 rfl) rfl
theorem q1292 : (Jvm.Cond.code ({ cls := "TemperIslesModel", name := "bumpsSince", desc := "()I" } : Jvm.MethodName) prog_12_method_46_code (1 : Nat) (Option.some Jvm.ClassFile.FieldType.int)) ∈ lw_all := lw_g (lw_at lw_m6 14 rfl) rfl
theorem q1294 : (Jvm.Cond.instanceMethod ({ cls := "TemperIslesModel", name := "runs", desc := "(II)I" } : Jvm.MethodName)) ∈ lw_all := lw_g (lw_at lw_m6 16 rfl) rfl
theorem q1295 : (Jvm.Cond.selects "TemperIslesModel" ({ cls := "TemperIslesModel", name := "runs", desc := "(II)I" } : Jvm.MethodName) ({ cls := "TemperIslesModel", name := "runs", desc := "(II)I" } : Jvm.MethodName)) ∈ lw_all := lw_g (lw_at lw_m6 17 rfl) rfl
theorem q1296 : (Jvm.Cond.code ({ cls := "TemperIslesModel", name := "runs", desc := "(II)I" } : Jvm.MethodName) prog_12_method_63_code (6 : Nat) (Option.some Jvm.ClassFile.FieldType.int)) ∈ lw_all := lw_g (lw_at lw_m6 18 rfl) rfl
theorem q1297 : (Jvm.Cond.methodLink "TemperIslesModel" (239 : Nat) ({ cls := "TemperIslesModel", name := "isFar", desc := "(I)Z" } : Jvm.MethodName)) ∈ lw_all := lw_g (lw_at lw_m6 19 rfl) rfl
theorem q1298 : (Jvm.Cond.static ({ cls := "TemperIslesModel", name := "isFar", desc := "(I)Z" } : Jvm.MethodName)) ∈ lw_all := lw_g (lw_at lw_m6 20 rfl) rfl
theorem q1299 : (Jvm.Cond.code ({ cls := "TemperIslesModel", name := "isFar", desc := "(I)Z" } : Jvm.MethodName) prog_12_method_62_code (1 : Nat) (Option.some Jvm.ClassFile.FieldType.boolean)) ∈ lw_all := lw_g (lw_at lw_m6 21 rfl) rfl
theorem q1300 : (Jvm.Cond.constantLong "TemperIslesModel" (237 : Nat) (60 : Int64)) ∈ lw_all := lw_g (lw_at lw_m6 22 rfl) rfl
theorem q1301 : (Jvm.Cond.methodLink "TemperIslesModel" (242 : Nat) ({ cls := "TemperIslesModel", name := "lesser", desc := "(II)I" } : Jvm.MethodName)) ∈ lw_all := lw_g (lw_at lw_m6 23 rfl) rfl
theorem q1302 : (Jvm.Cond.static ({ cls := "TemperIslesModel", name := "lesser", desc := "(II)I" } : Jvm.MethodName)) ∈ lw_all := lw_g (lw_at lw_m6 24 rfl) rfl
theorem q1303 : (Jvm.Cond.code ({ cls := "TemperIslesModel", name := "lesser", desc := "(II)I" } : Jvm.MethodName) prog_12_method_5_code (2 : Nat) (Option.some Jvm.ClassFile.FieldType.int)) ∈ lw_all := lw_g (lw_at lw_m6 25 rfl) rfl
theorem q1305 : (Jvm.Cond.instanceMethod ({ cls := "TemperIslesModel", name := "ahead", desc := "(II)I" } : Jvm.MethodName)) ∈ lw_all := lw_g (lw_at lw_m6 27 rfl) rfl
theorem q1306 : (Jvm.Cond.selects "TemperIslesModel" ({ cls := "TemperIslesModel", name := "ahead", desc := "(II)I" } : Jvm.MethodName) ({ cls := "TemperIslesModel", name := "ahead", desc := "(II)I" } : Jvm.MethodName)) ∈ lw_all := lw_g (lw_at lw_m6 28 rfl) rfl
theorem q1307 : (Jvm.Cond.code ({ cls := "TemperIslesModel", name := "ahead", desc := "(II)I" } : Jvm.MethodName) prog_12_method_64_code (3 : Nat) (Option.some Jvm.ClassFile.FieldType.int)) ∈ lw_all := lw_g (lw_at lw_m6 29 rfl) rfl
theorem q1309 : (Jvm.Cond.instanceMethod ({ cls := "TemperIslesModel", name := "within", desc := "(I)I" } : Jvm.MethodName)) ∈ lw_all := lw_g (lw_at lw_m6 31 rfl) rfl
theorem q1310 : (Jvm.Cond.selects "TemperIslesModel" ({ cls := "TemperIslesModel", name := "within", desc := "(I)I" } : Jvm.MethodName) ({ cls := "TemperIslesModel", name := "within", desc := "(I)I" } : Jvm.MethodName)) ∈ lw_all := lw_g (lw_at lw_m6 32 rfl) rfl
theorem q1311 : (Jvm.Cond.code ({ cls := "TemperIslesModel", name := "within", desc := "(I)I" } : Jvm.MethodName) prog_12_method_65_code (3 : Nat) (Option.some Jvm.ClassFile.FieldType.int)) ∈ lw_all := lw_g (lw_at lw_m6 33 rfl) rfl
theorem q1313 : (Jvm.Cond.instanceMethod ({ cls := "TemperIslesModel", name := "match", desc := "(II)I" } : Jvm.MethodName)) ∈ lw_all := lw_g (lw_at lw_m6 35 rfl) rfl
theorem q1314 : (Jvm.Cond.selects "TemperIslesModel" ({ cls := "TemperIslesModel", name := "match", desc := "(II)I" } : Jvm.MethodName) ({ cls := "TemperIslesModel", name := "match", desc := "(II)I" } : Jvm.MethodName)) ∈ lw_all := lw_g (lw_at lw_m6 36 rfl) rfl
theorem q1315 : (Jvm.Cond.code ({ cls := "TemperIslesModel", name := "match", desc := "(II)I" } : Jvm.MethodName) prog_12_method_70_code (5 : Nat) (Option.some Jvm.ClassFile.FieldType.int)) ∈ lw_all := lw_g (lw_at lw_m6 37 rfl) rfl
theorem q1316 : (Jvm.Cond.methodLink "TemperIslesModel" (251 : Nat) ({ cls := "TemperIslesModel", name := "isPart", desc := "(I)Z" } : Jvm.MethodName)) ∈ lw_all := lw_g (lw_at lw_m6 38 rfl) rfl
theorem q1317 : (Jvm.Cond.static ({ cls := "TemperIslesModel", name := "isPart", desc := "(I)Z" } : Jvm.MethodName)) ∈ lw_all := lw_g (lw_at lw_m6 39 rfl) rfl
theorem q1318 : (Jvm.Cond.code ({ cls := "TemperIslesModel", name := "isPart", desc := "(I)Z" } : Jvm.MethodName) prog_12_method_31_code (1 : Nat) (Option.some Jvm.ClassFile.FieldType.boolean)) ∈ lw_all := lw_g (lw_at lw_m6 40 rfl) rfl
theorem q1319 : (Jvm.Cond.methodLink "TemperIslesModel" (254 : Nat) ({ cls := "TemperIslesModel", name := "spreadBehind", desc := "(I)I" } : Jvm.MethodName)) ∈ lw_all := lw_g (lw_at lw_m6 41 rfl) rfl
theorem q1320 : (Jvm.Cond.privateMethod ({ cls := "TemperIslesModel", name := "spreadBehind", desc := "(I)I" } : Jvm.MethodName)) ∈ lw_tbl := lw_at lw_m6 42 rfl
theorem q1321 : (Jvm.Cond.instanceMethod ({ cls := "TemperIslesModel", name := "spreadBehind", desc := "(I)I" } : Jvm.MethodName)) ∈ lw_all := lw_g (lw_at lw_m6 43 rfl) rfl
theorem q1322 : (Jvm.Cond.code ({ cls := "TemperIslesModel", name := "spreadBehind", desc := "(I)I" } : Jvm.MethodName) prog_12_method_69_code (2 : Nat) (Option.some Jvm.ClassFile.FieldType.int)) ∈ lw_all := lw_g (lw_at lw_m6 44 rfl) rfl
theorem q1323 : (Jvm.Cond.methodLink "TemperIslesModel" (257 : Nat) ({ cls := "TemperIslesModel", name := "startsJudging", desc := "(I)V" } : Jvm.MethodName)) ∈ lw_all := lw_g (lw_at lw_m6 45 rfl) rfl
theorem q1324 : (Jvm.Cond.privateMethod ({ cls := "TemperIslesModel", name := "startsJudging", desc := "(I)V" } : Jvm.MethodName)) ∈ lw_tbl := lw_at lw_m6 46 rfl
theorem q1325 : (Jvm.Cond.instanceMethod ({ cls := "TemperIslesModel", name := "startsJudging", desc := "(I)V" } : Jvm.MethodName)) ∈ lw_all := lw_g (lw_at lw_m6 47 rfl) rfl
theorem q1326 : (Jvm.Cond.code ({ cls := "TemperIslesModel", name := "startsJudging", desc := "(I)V" } : Jvm.MethodName) prog_12_method_66_code (2 : Nat) (Option.none : Option Jvm.ClassFile.FieldType)) ∈ lw_all := lw_g (lw_at lw_m6 48 rfl) rfl
theorem q1327 : (Jvm.Cond.methodLink "TemperIslesModel" (260 : Nat) ({ cls := "TemperIslesModel", name := "judges", desc := "(II)V" } : Jvm.MethodName)) ∈ lw_all := lw_g (lw_at lw_m6 49 rfl) rfl
theorem q1328 : (Jvm.Cond.privateMethod ({ cls := "TemperIslesModel", name := "judges", desc := "(II)V" } : Jvm.MethodName)) ∈ lw_tbl := lw_at lw_m6 50 rfl
theorem q1329 : (Jvm.Cond.instanceMethod ({ cls := "TemperIslesModel", name := "judges", desc := "(II)V" } : Jvm.MethodName)) ∈ lw_all := lw_g (lw_at lw_m6 51 rfl) rfl
theorem q1330 : (Jvm.Cond.code ({ cls := "TemperIslesModel", name := "judges", desc := "(II)V" } : Jvm.MethodName) prog_12_method_67_code (3 : Nat) (Option.none : Option Jvm.ClassFile.FieldType)) ∈ lw_all := lw_g (lw_at lw_m6 52 rfl) rfl
theorem q1331 : (Jvm.Cond.methodLink "TemperIslesModel" (264 : Nat) ({ cls := "TemperIslesModel", name := "judged", desc := "(I)I" } : Jvm.MethodName)) ∈ lw_all := lw_g (lw_at lw_m6 53 rfl) rfl
theorem q1332 : (Jvm.Cond.privateMethod ({ cls := "TemperIslesModel", name := "judged", desc := "(I)I" } : Jvm.MethodName)) ∈ lw_tbl := lw_at lw_m6 54 rfl
theorem q1333 : (Jvm.Cond.instanceMethod ({ cls := "TemperIslesModel", name := "judged", desc := "(I)I" } : Jvm.MethodName)) ∈ lw_all := lw_g (lw_at lw_m6 55 rfl) rfl
theorem q1334 : (Jvm.Cond.code ({ cls := "TemperIslesModel", name := "judged", desc := "(I)I" } : Jvm.MethodName) prog_12_method_68_code (2 : Nat) (Option.some Jvm.ClassFile.FieldType.int)) ∈ lw_all := lw_g (lw_at lw_m6 56 rfl) rfl
theorem q1336 : (Jvm.Cond.instanceMethod ({ cls := "TemperIslesModel", name := "fray", desc := "(I)I" } : Jvm.MethodName)) ∈ lw_all := lw_g (lw_at lw_m6 58 rfl) rfl
theorem q1337 : (Jvm.Cond.selects "TemperIslesModel" ({ cls := "TemperIslesModel", name := "fray", desc := "(I)I" } : Jvm.MethodName) ({ cls := "TemperIslesModel", name := "fray", desc := "(I)I" } : Jvm.MethodName)) ∈ lw_all := lw_g (lw_at lw_m6 59 rfl) rfl
theorem q1338 : (Jvm.Cond.code ({ cls := "TemperIslesModel", name := "fray", desc := "(I)I" } : Jvm.MethodName) prog_12_method_72_code (3 : Nat) (Option.some Jvm.ClassFile.FieldType.int)) ∈ lw_all := lw_g (lw_at lw_m6 60 rfl) rfl
theorem q1339 : (Jvm.Cond.methodLink "TemperIslesModel" (267 : Nat) ({ cls := "TemperIslesModel", name := "frays", desc := "(I)V" } : Jvm.MethodName)) ∈ lw_all := lw_g (lw_at lw_m6 61 rfl) rfl
theorem q1340 : (Jvm.Cond.privateMethod ({ cls := "TemperIslesModel", name := "frays", desc := "(I)V" } : Jvm.MethodName)) ∈ lw_tbl := lw_at lw_m6 62 rfl
theorem q1341 : (Jvm.Cond.instanceMethod ({ cls := "TemperIslesModel", name := "frays", desc := "(I)V" } : Jvm.MethodName)) ∈ lw_all := lw_g (lw_at lw_m6 63 rfl) rfl
theorem q1342 : (Jvm.Cond.code ({ cls := "TemperIslesModel", name := "frays", desc := "(I)V" } : Jvm.MethodName) prog_12_method_71_code (3 : Nat) (Option.none : Option Jvm.ClassFile.FieldType)) ∈ lw_all := lw_g (lw_at lw_m6 64 rfl) rfl
theorem q1344 : (Jvm.Cond.instanceMethod ({ cls := "TemperIslesModel", name := "soothe", desc := "(I)I" } : Jvm.MethodName)) ∈ lw_all := lw_g (lw_at lw_m6 66 rfl) rfl
theorem q1345 : (Jvm.Cond.selects "TemperIslesModel" ({ cls := "TemperIslesModel", name := "soothe", desc := "(I)I" } : Jvm.MethodName) ({ cls := "TemperIslesModel", name := "soothe", desc := "(I)I" } : Jvm.MethodName)) ∈ lw_all := lw_g (lw_at lw_m6 67 rfl) rfl
theorem q1346 : (Jvm.Cond.code ({ cls := "TemperIslesModel", name := "soothe", desc := "(I)I" } : Jvm.MethodName) prog_12_method_73_code (4 : Nat) (Option.some Jvm.ClassFile.FieldType.int)) ∈ lw_all := lw_g (lw_at lw_m6 68 rfl) rfl
theorem q1348 : (Jvm.Cond.instanceMethod ({ cls := "TemperIslesModel", name := "holy", desc := "(II)I" } : Jvm.MethodName)) ∈ lw_all := lw_g (lw_at lw_m6 70 rfl) rfl
theorem q1349 : (Jvm.Cond.selects "TemperIslesModel" ({ cls := "TemperIslesModel", name := "holy", desc := "(II)I" } : Jvm.MethodName) ({ cls := "TemperIslesModel", name := "holy", desc := "(II)I" } : Jvm.MethodName)) ∈ lw_all := lw_g (lw_at lw_m6 71 rfl) rfl
theorem q1350 : (Jvm.Cond.code ({ cls := "TemperIslesModel", name := "holy", desc := "(II)I" } : Jvm.MethodName) prog_12_method_74_code (4 : Nat) (Option.some Jvm.ClassFile.FieldType.int)) ∈ lw_all := lw_g (lw_at lw_m6 72 rfl) rfl
theorem q1351 : (Jvm.Cond.constant "TemperIslesModel" (270 : Nat) (1000000 : Int32)) ∈ lw_all := lw_g (lw_at lw_m6 73 rfl) rfl
theorem q1353 : (Jvm.Cond.instanceMethod ({ cls := "TemperIslesModel", name := "kind", desc := "(III)I" } : Jvm.MethodName)) ∈ lw_all := lw_g (lw_at lw_m6 75 rfl) rfl
theorem q1354 : (Jvm.Cond.selects "TemperIslesModel" ({ cls := "TemperIslesModel", name := "kind", desc := "(III)I" } : Jvm.MethodName) ({ cls := "TemperIslesModel", name := "kind", desc := "(III)I" } : Jvm.MethodName)) ∈ lw_all := lw_g (lw_at lw_m6 76 rfl) rfl
theorem q1355 : (Jvm.Cond.code ({ cls := "TemperIslesModel", name := "kind", desc := "(III)I" } : Jvm.MethodName) prog_12_method_75_code (5 : Nat) (Option.some Jvm.ClassFile.FieldType.int)) ∈ lw_all := lw_g (lw_at lw_m6 77 rfl) rfl
theorem q1357 : (Jvm.Cond.instanceMethod ({ cls := "TemperIslesModel", name := "slack", desc := "(III)I" } : Jvm.MethodName)) ∈ lw_all := lw_g (lw_at lw_m6 79 rfl) rfl
theorem q1358 : (Jvm.Cond.selects "TemperIslesModel" ({ cls := "TemperIslesModel", name := "slack", desc := "(III)I" } : Jvm.MethodName) ({ cls := "TemperIslesModel", name := "slack", desc := "(III)I" } : Jvm.MethodName)) ∈ lw_all := lw_g (lw_at lw_m6 80 rfl) rfl
theorem q1359 : (Jvm.Cond.code ({ cls := "TemperIslesModel", name := "slack", desc := "(III)I" } : Jvm.MethodName) prog_12_method_76_code (5 : Nat) (Option.some Jvm.ClassFile.FieldType.int)) ∈ lw_all := lw_g (lw_at lw_m6 81 rfl) rfl
theorem q1361 : (Jvm.Cond.instanceMethod ({ cls := "TemperIslesModel", name := "luck", desc := "(IIII)J" } : Jvm.MethodName)) ∈ lw_all := lw_g (lw_at lw_m6 83 rfl) rfl
theorem q1362 : (Jvm.Cond.selects "TemperIslesModel" ({ cls := "TemperIslesModel", name := "luck", desc := "(IIII)J" } : Jvm.MethodName) ({ cls := "TemperIslesModel", name := "luck", desc := "(IIII)J" } : Jvm.MethodName)) ∈ lw_all := lw_g (lw_at lw_m6 84 rfl) rfl
theorem q1363 : (Jvm.Cond.code ({ cls := "TemperIslesModel", name := "luck", desc := "(IIII)J" } : Jvm.MethodName) prog_12_method_80_code (5 : Nat) (Option.some Jvm.ClassFile.FieldType.long)) ∈ lw_all := lw_g (lw_at lw_m6 85 rfl) rfl
theorem q1364 : (Jvm.Cond.constantLong "TemperIslesModel" (285 : Nat) (10 : Int64)) ∈ lw_all := lw_g (lw_at lw_m6 86 rfl) rfl
theorem q1365 : (Jvm.Cond.constantLong "TemperIslesModel" (287 : Nat) (8 : Int64)) ∈ lw_all := lw_g (lw_at lw_m6 87 rfl) rfl
theorem q1366 : (Jvm.Cond.constantLong "TemperIslesModel" (289 : Nat) (-1 : Int64)) ∈ lw_all := lw_g (lw_at lw_m6 88 rfl) rfl
theorem q1367 : (Jvm.Cond.methodLink "TemperIslesModel" (291 : Nat) ({ cls := "TemperIslesModel", name := "findOdds", desc := "(III)V" } : Jvm.MethodName)) ∈ lw_all := lw_g (lw_at lw_m6 89 rfl) rfl
theorem q1368 : (Jvm.Cond.privateMethod ({ cls := "TemperIslesModel", name := "findOdds", desc := "(III)V" } : Jvm.MethodName)) ∈ lw_tbl := lw_at lw_m6 90 rfl
theorem q1369 : (Jvm.Cond.instanceMethod ({ cls := "TemperIslesModel", name := "findOdds", desc := "(III)V" } : Jvm.MethodName)) ∈ lw_all := lw_g (lw_at lw_m6 91 rfl) rfl
theorem q1370 : (Jvm.Cond.code ({ cls := "TemperIslesModel", name := "findOdds", desc := "(III)V" } : Jvm.MethodName) prog_12_method_79_code (9 : Nat) (Option.none : Option Jvm.ClassFile.FieldType)) ∈ lw_all := lw_g (lw_at lw_m6 92 rfl) rfl
theorem q1371 : (Jvm.Cond.methodLink "TemperIslesModel" (294 : Nat) ({ cls := "TemperIslesModel", name := "told", desc := "(JJI)J" } : Jvm.MethodName)) ∈ lw_all := lw_g (lw_at lw_m6 93 rfl) rfl
theorem q1372 : (Jvm.Cond.static ({ cls := "TemperIslesModel", name := "told", desc := "(JJI)J" } : Jvm.MethodName)) ∈ lw_all := lw_g (lw_at lw_m6 94 rfl) rfl
theorem q1373 : (Jvm.Cond.code ({ cls := "TemperIslesModel", name := "told", desc := "(JJI)J" } : Jvm.MethodName) prog_12_method_78_code (7 : Nat) (Option.some Jvm.ClassFile.FieldType.long)) ∈ lw_all := lw_g (lw_at lw_m6 95 rfl) rfl
theorem q1374 : (Jvm.Cond.methodLink "TemperIslesModel" (271 : Nat) ({ cls := "TemperIslesModel", name := "common", desc := "(JJ)J" } : Jvm.MethodName)) ∈ lw_all := lw_g (lw_at lw_m6 96 rfl) rfl
theorem q1375 : (Jvm.Cond.static ({ cls := "TemperIslesModel", name := "common", desc := "(JJ)J" } : Jvm.MethodName)) ∈ lw_all := lw_g (lw_at lw_m6 97 rfl) rfl
theorem q1376 : (Jvm.Cond.code ({ cls := "TemperIslesModel", name := "common", desc := "(JJ)J" } : Jvm.MethodName) prog_12_method_77_code (10 : Nat) (Option.some Jvm.ClassFile.FieldType.long)) ∈ lw_all := lw_g (lw_at lw_m6 98 rfl) rfl
theorem q1378 : (Jvm.Cond.instanceMethod ({ cls := "TemperIslesModel", name := "mean", desc := "(III)J" } : Jvm.MethodName)) ∈ lw_all := lw_g (lw_at lw_m6 100 rfl) rfl
theorem q1379 : (Jvm.Cond.selects "TemperIslesModel" ({ cls := "TemperIslesModel", name := "mean", desc := "(III)J" } : Jvm.MethodName) ({ cls := "TemperIslesModel", name := "mean", desc := "(III)J" } : Jvm.MethodName)) ∈ lw_all := lw_g (lw_at lw_m6 101 rfl) rfl
theorem q1380 : (Jvm.Cond.code ({ cls := "TemperIslesModel", name := "mean", desc := "(III)J" } : Jvm.MethodName) prog_12_method_81_code (4 : Nat) (Option.some Jvm.ClassFile.FieldType.long)) ∈ lw_all := lw_g (lw_at lw_m6 102 rfl) rfl
theorem q1382 : (Jvm.Cond.instanceMethod ({ cls := "TemperIslesModel", name := "see", desc := "(III)I" } : Jvm.MethodName)) ∈ lw_all := lw_g (lw_at lw_m6 104 rfl) rfl
theorem q1383 : (Jvm.Cond.selects "TemperIslesModel" ({ cls := "TemperIslesModel", name := "see", desc := "(III)I" } : Jvm.MethodName) ({ cls := "TemperIslesModel", name := "see", desc := "(III)I" } : Jvm.MethodName)) ∈ lw_all := lw_g (lw_at lw_m6 105 rfl) rfl
theorem q1384 : (Jvm.Cond.code ({ cls := "TemperIslesModel", name := "see", desc := "(III)I" } : Jvm.MethodName) prog_12_method_82_code (5 : Nat) (Option.some Jvm.ClassFile.FieldType.int)) ∈ lw_all := lw_g (lw_at lw_m6 106 rfl) rfl
theorem q1385 : (Jvm.Cond.constantLong "TemperIslesModel" (298 : Nat) (20 : Int64)) ∈ lw_all := lw_g (lw_at lw_m6 107 rfl) rfl
theorem q1387 : (Jvm.Cond.instanceMethod ({ cls := "TemperIslesModel", name := "forget", desc := "(I)I" } : Jvm.MethodName)) ∈ lw_all := lw_g (lw_at lw_m6 109 rfl) rfl
theorem q1388 : (Jvm.Cond.selects "TemperIslesModel" ({ cls := "TemperIslesModel", name := "forget", desc := "(I)I" } : Jvm.MethodName) ({ cls := "TemperIslesModel", name := "forget", desc := "(I)I" } : Jvm.MethodName)) ∈ lw_all := lw_g (lw_at lw_m6 110 rfl) rfl
theorem q1389 : (Jvm.Cond.code ({ cls := "TemperIslesModel", name := "forget", desc := "(I)I" } : Jvm.MethodName) prog_12_method_83_code (2 : Nat) (Option.some Jvm.ClassFile.FieldType.int)) ∈ lw_all := lw_g (lw_at lw_m6 111 rfl) rfl
theorem q1391 : (Jvm.Cond.instanceMethod ({ cls := "TemperIslesModel", name := "kinds", desc := "(I)I" } : Jvm.MethodName)) ∈ lw_all := lw_g (lw_at lw_m6 113 rfl) rfl
theorem q1392 : (Jvm.Cond.selects "TemperIslesModel" ({ cls := "TemperIslesModel", name := "kinds", desc := "(I)I" } : Jvm.MethodName) ({ cls := "TemperIslesModel", name := "kinds", desc := "(I)I" } : Jvm.MethodName)) ∈ lw_all := lw_g (lw_at lw_m6 114 rfl) rfl
theorem q1393 : (Jvm.Cond.code ({ cls := "TemperIslesModel", name := "kinds", desc := "(I)I" } : Jvm.MethodName) prog_12_method_86_code (2 : Nat) (Option.some Jvm.ClassFile.FieldType.int)) ∈ lw_all := lw_g (lw_at lw_m6 115 rfl) rfl
theorem q1394 : (Jvm.Cond.methodLink "TemperIslesModel" (303 : Nat) ({ cls := "TemperIslesModel", name := "which", desc := "(II)I" } : Jvm.MethodName)) ∈ lw_all := lw_g (lw_at lw_m6 116 rfl) rfl
theorem q1395 : (Jvm.Cond.privateMethod ({ cls := "TemperIslesModel", name := "which", desc := "(II)I" } : Jvm.MethodName)) ∈ lw_tbl := lw_at lw_m6 117 rfl
theorem q1396 : (Jvm.Cond.instanceMethod ({ cls := "TemperIslesModel", name := "which", desc := "(II)I" } : Jvm.MethodName)) ∈ lw_all := lw_g (lw_at lw_m6 118 rfl) rfl
theorem q1397 : (Jvm.Cond.code ({ cls := "TemperIslesModel", name := "which", desc := "(II)I" } : Jvm.MethodName) prog_12_method_85_code (5 : Nat) (Option.some Jvm.ClassFile.FieldType.int)) ∈ lw_all := lw_g (lw_at lw_m6 119 rfl) rfl
theorem q1398 : (Jvm.Cond.methodLink "TemperIslesModel" (300 : Nat) ({ cls := "TemperIslesModel", name := "isSoWith", desc := "(II)Z" } : Jvm.MethodName)) ∈ lw_all := lw_g (lw_at lw_m6 120 rfl) rfl
theorem q1399 : (Jvm.Cond.privateMethod ({ cls := "TemperIslesModel", name := "isSoWith", desc := "(II)Z" } : Jvm.MethodName)) ∈ lw_tbl := lw_at lw_m6 121 rfl
theorem q1400 : (Jvm.Cond.instanceMethod ({ cls := "TemperIslesModel", name := "isSoWith", desc := "(II)Z" } : Jvm.MethodName)) ∈ lw_all := lw_g (lw_at lw_m6 122 rfl) rfl
theorem q1401 : (Jvm.Cond.code ({ cls := "TemperIslesModel", name := "isSoWith", desc := "(II)Z" } : Jvm.MethodName) prog_12_method_84_code (6 : Nat) (Option.some Jvm.ClassFile.FieldType.boolean)) ∈ lw_all := lw_g (lw_at lw_m6 123 rfl) rfl
theorem q1403 : (Jvm.Cond.instanceMethod ({ cls := "TemperIslesModel", name := "sulks", desc := "(II)I" } : Jvm.MethodName)) ∈ lw_all := lw_g (lw_at lw_m6 125 rfl) rfl
theorem q1404 : (Jvm.Cond.selects "TemperIslesModel" ({ cls := "TemperIslesModel", name := "sulks", desc := "(II)I" } : Jvm.MethodName) ({ cls := "TemperIslesModel", name := "sulks", desc := "(II)I" } : Jvm.MethodName)) ∈ lw_all := lw_g (lw_at lw_m6 126 rfl) rfl
theorem q1405 : (Jvm.Cond.code ({ cls := "TemperIslesModel", name := "sulks", desc := "(II)I" } : Jvm.MethodName) prog_12_method_87_code (3 : Nat) (Option.some Jvm.ClassFile.FieldType.int)) ∈ lw_all := lw_g (lw_at lw_m6 127 rfl) rfl
theorem q1407 : (Jvm.Cond.instanceMethod ({ cls := "TemperIslesModel", name := "ask", desc := "(II)I" } : Jvm.MethodName)) ∈ lw_all := lw_g (lw_at lw_m6 129 rfl) rfl
theorem q1408 : (Jvm.Cond.selects "TemperIslesModel" ({ cls := "TemperIslesModel", name := "ask", desc := "(II)I" } : Jvm.MethodName) ({ cls := "TemperIslesModel", name := "ask", desc := "(II)I" } : Jvm.MethodName)) ∈ lw_all := lw_g (lw_at lw_m6 130 rfl) rfl
theorem q1409 : (Jvm.Cond.code ({ cls := "TemperIslesModel", name := "ask", desc := "(II)I" } : Jvm.MethodName) prog_12_method_88_code (9 : Nat) (Option.some Jvm.ClassFile.FieldType.int)) ∈ lw_all := lw_g (lw_at lw_m6 131 rfl) rfl
theorem q1411 : (Jvm.Cond.instanceMethod ({ cls := "TemperIslesModel", name := "drift", desc := "(III)I" } : Jvm.MethodName)) ∈ lw_all := lw_g (lw_at lw_m6 133 rfl) rfl
theorem q1412 : (Jvm.Cond.selects "TemperIslesModel" ({ cls := "TemperIslesModel", name := "drift", desc := "(III)I" } : Jvm.MethodName) ({ cls := "TemperIslesModel", name := "drift", desc := "(III)I" } : Jvm.MethodName)) ∈ lw_all := lw_g (lw_at lw_m6 134 rfl) rfl
theorem q1413 : (Jvm.Cond.code ({ cls := "TemperIslesModel", name := "drift", desc := "(III)I" } : Jvm.MethodName) prog_12_method_89_code (9 : Nat) (Option.some Jvm.ClassFile.FieldType.int)) ∈ lw_all := lw_g (lw_at lw_m6 135 rfl) rfl
theorem q1414 : (Jvm.Cond.constant "TemperIslesModel" (306 : Nat) (1103515245 : Int32)) ∈ lw_all := lw_g (lw_at lw_m6 136 rfl) rfl
theorem q1416 : (Jvm.Cond.instanceMethod ({ cls := "TemperIslesModel", name := "keep", desc := "(I)I" } : Jvm.MethodName)) ∈ lw_all := lw_g (lw_at lw_m6 138 rfl) rfl
theorem q1417 : (Jvm.Cond.selects "TemperIslesModel" ({ cls := "TemperIslesModel", name := "keep", desc := "(I)I" } : Jvm.MethodName) ({ cls := "TemperIslesModel", name := "keep", desc := "(I)I" } : Jvm.MethodName)) ∈ lw_all := lw_g (lw_at lw_m6 139 rfl) rfl
theorem q1418 : (Jvm.Cond.code ({ cls := "TemperIslesModel", name := "keep", desc := "(I)I" } : Jvm.MethodName) prog_12_method_91_code (3 : Nat) (Option.some Jvm.ClassFile.FieldType.int)) ∈ lw_all := lw_g (lw_at lw_m6 140 rfl) rfl
theorem q1419 : (Jvm.Cond.methodLink "TemperIslesModel" (307 : Nat) ({ cls := "TemperIslesModel", name := "copies", desc := "(II)V" } : Jvm.MethodName)) ∈ lw_all := lw_g (lw_at lw_m6 141 rfl) rfl
theorem q1420 : (Jvm.Cond.privateMethod ({ cls := "TemperIslesModel", name := "copies", desc := "(II)V" } : Jvm.MethodName)) ∈ lw_tbl := lw_at lw_m6 142 rfl
theorem q1421 : (Jvm.Cond.instanceMethod ({ cls := "TemperIslesModel", name := "copies", desc := "(II)V" } : Jvm.MethodName)) ∈ lw_all := lw_g (lw_at lw_m6 143 rfl) rfl
theorem q1422 : (Jvm.Cond.code ({ cls := "TemperIslesModel", name := "copies", desc := "(II)V" } : Jvm.MethodName) prog_12_method_90_code (4 : Nat) (Option.none : Option Jvm.ClassFile.FieldType)) ∈ lw_all := lw_g (lw_at lw_m6 144 rfl) rfl
theorem q1424 : (Jvm.Cond.instanceMethod ({ cls := "TemperIslesModel", name := "back", desc := "(I)I" } : Jvm.MethodName)) ∈ lw_all := lw_g (lw_at lw_m6 146 rfl) rfl
theorem q1425 : (Jvm.Cond.selects "TemperIslesModel" ({ cls := "TemperIslesModel", name := "back", desc := "(I)I" } : Jvm.MethodName) ({ cls := "TemperIslesModel", name := "back", desc := "(I)I" } : Jvm.MethodName)) ∈ lw_all := lw_g (lw_at lw_m6 147 rfl) rfl
theorem q1426 : (Jvm.Cond.code ({ cls := "TemperIslesModel", name := "back", desc := "(I)I" } : Jvm.MethodName) prog_12_method_92_code (2 : Nat) (Option.some Jvm.ClassFile.FieldType.int)) ∈ lw_all := lw_g (lw_at lw_m6 148 rfl) rfl
theorem q1428 : (Jvm.Cond.instanceMethod ({ cls := "TemperIslesModel", name := "sheet", desc := "(III)I" } : Jvm.MethodName)) ∈ lw_all := lw_g (lw_at lw_m6 150 rfl) rfl
theorem q1429 : (Jvm.Cond.selects "TemperIslesModel" ({ cls := "TemperIslesModel", name := "sheet", desc := "(III)I" } : Jvm.MethodName) ({ cls := "TemperIslesModel", name := "sheet", desc := "(III)I" } : Jvm.MethodName)) ∈ lw_all := lw_g (lw_at lw_m6 151 rfl) rfl
theorem q1430 : (Jvm.Cond.code ({ cls := "TemperIslesModel", name := "sheet", desc := "(III)I" } : Jvm.MethodName) prog_12_method_94_code (5 : Nat) (Option.some Jvm.ClassFile.FieldType.int)) ∈ lw_all := lw_g (lw_at lw_m6 152 rfl) rfl
theorem q1431 : (Jvm.Cond.methodLink "TemperIslesModel" (310 : Nat) ({ cls := "TemperIslesModel", name := "isSheet", desc := "(II)Z" } : Jvm.MethodName)) ∈ lw_all := lw_g (lw_at lw_m6 153 rfl) rfl
theorem q1432 : (Jvm.Cond.static ({ cls := "TemperIslesModel", name := "isSheet", desc := "(II)Z" } : Jvm.MethodName)) ∈ lw_all := lw_g (lw_at lw_m6 154 rfl) rfl
theorem q1433 : (Jvm.Cond.code ({ cls := "TemperIslesModel", name := "isSheet", desc := "(II)Z" } : Jvm.MethodName) prog_12_method_93_code (2 : Nat) (Option.some Jvm.ClassFile.FieldType.boolean)) ∈ lw_all := lw_g (lw_at lw_m6 155 rfl) rfl
theorem q1435 : (Jvm.Cond.instanceMethod ({ cls := "TemperIslesModel", name := "lay", desc := "(III)I" } : Jvm.MethodName)) ∈ lw_all := lw_g (lw_at lw_m6 157 rfl) rfl
theorem q1436 : (Jvm.Cond.selects "TemperIslesModel" ({ cls := "TemperIslesModel", name := "lay", desc := "(III)I" } : Jvm.MethodName) ({ cls := "TemperIslesModel", name := "lay", desc := "(III)I" } : Jvm.MethodName)) ∈ lw_all := lw_g (lw_at lw_m6 158 rfl) rfl
theorem q1437 : (Jvm.Cond.code ({ cls := "TemperIslesModel", name := "lay", desc := "(III)I" } : Jvm.MethodName) prog_12_method_95_code (4 : Nat) (Option.some Jvm.ClassFile.FieldType.int)) ∈ lw_all := lw_g (lw_at lw_m6 159 rfl) rfl
theorem q1439 : (Jvm.Cond.instanceMethod ({ cls := "TemperIslesModel", name := "read", desc := "(IIII)I" } : Jvm.MethodName)) ∈ lw_all := lw_g (lw_at lw_m6 161 rfl) rfl
theorem q1440 : (Jvm.Cond.selects "TemperIslesModel" ({ cls := "TemperIslesModel", name := "read", desc := "(IIII)I" } : Jvm.MethodName) ({ cls := "TemperIslesModel", name := "read", desc := "(IIII)I" } : Jvm.MethodName)) ∈ lw_all := lw_g (lw_at lw_m6 162 rfl) rfl
theorem q1441 : (Jvm.Cond.code ({ cls := "TemperIslesModel", name := "read", desc := "(IIII)I" } : Jvm.MethodName) prog_12_method_96_code (11 : Nat) (Option.some Jvm.ClassFile.FieldType.int)) ∈ lw_all := lw_g (lw_at lw_m6 163 rfl) rfl
theorem q1442 : (Jvm.Cond.constantLong "TemperIslesModel" (313 : Nat) (13 : Int64)) ∈ lw_all := lw_g (lw_at lw_m6 164 rfl) rfl
theorem q1443 : (Jvm.Cond.methodLink "TemperIslesModel" (315 : Nat) ({ cls := "TemperIslesModel", name := "sulk", desc := "(III)I" } : Jvm.MethodName)) ∈ lw_all := lw_g (lw_at lw_m6 165 rfl) rfl
theorem q1445 : (Jvm.Cond.instanceMethod ({ cls := "TemperIslesModel", name := "torn", desc := "()I" } : Jvm.MethodName)) ∈ lw_all := lw_g (lw_at lw_m6 167 rfl) rfl
theorem q1446 : (Jvm.Cond.selects "TemperIslesModel" ({ cls := "TemperIslesModel", name := "torn", desc := "()I" } : Jvm.MethodName) ({ cls := "TemperIslesModel", name := "torn", desc := "()I" } : Jvm.MethodName)) ∈ lw_all := lw_g (lw_at lw_m6 168 rfl) rfl
theorem q1447 : (Jvm.Cond.code ({ cls := "TemperIslesModel", name := "torn", desc := "()I" } : Jvm.MethodName) prog_12_method_97_code (1 : Nat) (Option.some Jvm.ClassFile.FieldType.int)) ∈ lw_all := lw_g (lw_at lw_m6 169 rfl) rfl
theorem q1449 : (Jvm.Cond.instanceMethod ({ cls := "TemperIslesModel", name := "count", desc := "(I)I" } : Jvm.MethodName)) ∈ lw_all := lw_g (lw_at lw_m6 171 rfl) rfl
theorem q1450 : (Jvm.Cond.selects "TemperIslesModel" ({ cls := "TemperIslesModel", name := "count", desc := "(I)I" } : Jvm.MethodName) ({ cls := "TemperIslesModel", name := "count", desc := "(I)I" } : Jvm.MethodName)) ∈ lw_all := lw_g (lw_at lw_m6 172 rfl) rfl
theorem q1451 : (Jvm.Cond.code ({ cls := "TemperIslesModel", name := "count", desc := "(I)I" } : Jvm.MethodName) prog_12_method_98_code (5 : Nat) (Option.some Jvm.ClassFile.FieldType.int)) ∈ lw_all := lw_g (lw_at lw_m6 173 rfl) rfl
theorem in_X4 : ∀ w ∈ wsX40, w ∈ lw_all := lw_in wsX40 [1007, 1009, 1011, 1013, 1015, 1017, 1019, 1021, 1023, 1025, 1027, 1029, 1031, 1033, 1035, 1037, 1039, 1041, 1043, 1045, 1047, 1049, 1051, 1053, 1055, 1057, 1059, 1061, 1063] (by decide +kernel) (by decide +kernel)
