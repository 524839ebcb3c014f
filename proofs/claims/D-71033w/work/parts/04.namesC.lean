/-! TemperIsles -/
set_option maxRecDepth 100000
def RX0 : String := "TemperIsles"
def TX0 : u_T := fun k => match k with
  | 0 => ("TemperIsles", "tape", "[B", true)
  | 1 => ("TemperIsles", "taped", "I", false)
  | 2 => ("TemperIsles", "fault", "I", false)
  | 3 => ("TemperIsles", "now", "LTemperIsles$Firth;", true)
  | 4 => ("TemperIsles", "work", "LTemperIsles$Firth;", true)
  | 5 => ("TemperIsles", "home", "LTemperIsles$Firth;", true)
  | 6 => ("TemperIsles", "least", "I", false)
  | 7 => ("TemperIsles", "seen", "[[I", true)
  | 8 => ("TemperIsles", "seenMany", "I", false)
  | 9 => ("TemperIsles", "byKind", "[[I", true)
  | 10 => ("TemperIsles", "images", "[LTemperIsles$Image;", true)
  | 11 => ("TemperIsles", "aside", "LTemperIsles$Firth;", true)
  | 12 => ("TemperIsles", "sheets", "[LTemperIsles$Sheet;", true)
  | 13 => ("TemperIsles", "torn", "I", false)
  | 14 => ("TemperIsles", "cameMany", "I", false)
  | _ => ("TemperIsles", "refused", "I", false)
def tyX0 : Nat → FieldType := fun k => match k with
  | 0 => .array .byte
  | 1 => .int
  | 2 => .int
  | 3 => .object "TemperIsles$Firth"
  | 4 => .object "TemperIsles$Firth"
  | 5 => .object "TemperIsles$Firth"
  | 6 => .int
  | 7 => .array (.array .int)
  | 8 => .int
  | 9 => .array (.array .int)
  | 10 => .array (.object "TemperIsles$Image")
  | 11 => .object "TemperIsles$Firth"
  | 12 => .array (.object "TemperIsles$Sheet")
  | 13 => .int
  | 14 => .int
  | _ => .int
abbrev wsX00 : List Cond := u_ws RX0 TX0 16
set_option maxRecDepth 100000 in
theorem nmX0 : ∀ a, a < 16 → ∀ b, b < 16 → a ≠ b → (TX0 a).2.1 ≠ (TX0 b).2.1 := by decide +kernel
set_option maxRecDepth 100000 in
theorem tyX0_ok : ∀ k, k < 16 → parseFieldDescriptor (TX0 k).2.2.1 = some (tyX0 k) := by decide +kernel
abbrev cX0_feed : ByteArray := prog_1_method_4_code
def yX0_feed : MethodName := ⟨RX0, "feed", "(I)I"⟩
def dkwX0_feed_2 : List UInt8 := [42, 180, 0, 11, 172]
abbrev dktX0_feed_2 : List UInt8 := dkwX0_feed_2 ++ []
def dkwX0_feed_1 : List UInt8 := [16, 253, 172, 42, 180, 0, 15, 42, 180, 0, 11, 27, 145, 84, 42, 89, 180, 0, 11, 4, 96, 181, 0, 11]
abbrev dktX0_feed_1 : List UInt8 := dkwX0_feed_1 ++ dktX0_feed_2
def dkwX0_feed_0 : List UInt8 := [27, 133, 9, 20, 0, 9, 184, 0, 5, 154, 0, 5, 2, 172, 42, 180, 0, 11, 17, 0, 160, 160, 0, 6]
abbrev dktX0_feed_0 : List UInt8 := dkwX0_feed_0 ++ dktX0_feed_1
theorem dksX0_feed_0 : cX0_feed.data.toList.drop 0 = dktX0_feed_0 := by decide +kernel
theorem dksX0_feed_1 : cX0_feed.data.toList.drop 24 = dktX0_feed_1 := dk_seg dksX0_feed_0 24 rfl rfl
theorem dksX0_feed_2 : cX0_feed.data.toList.drop 48 = dktX0_feed_2 := dk_seg dksX0_feed_1 24 rfl rfl
theorem dX0_feed_0 : decode cX0_feed 0 = .ok (.iload_n 1, 1) := dk_27 (dk_at dksX0_feed_0 0 rfl rfl)
theorem dX0_feed_1 : decode cX0_feed 1 = .ok (.i2l, 1) := dk_133 (dk_at dksX0_feed_0 1 rfl rfl)
theorem dX0_feed_2 : decode cX0_feed 2 = .ok (.lconst 0, 1) := dk_9 (dk_at dksX0_feed_0 2 rfl rfl)
theorem dX0_feed_3 : decode cX0_feed 3 = .ok (.ldc2_w 9, 3) := dk_20 0 9 (dk_at dksX0_feed_0 3 rfl rfl)
theorem dX0_feed_6 : decode cX0_feed 6 = .ok (.invokestatic 5, 3) := dk_184 0 5 (dk_at dksX0_feed_0 6 rfl rfl)
theorem dX0_feed_9 : decode cX0_feed 9 = .ok (.ifCond .ne 5, 3) := dk_154 0 5 (dk_at dksX0_feed_0 9 rfl rfl)
theorem dX0_feed_12 : decode cX0_feed 12 = .ok (.iconst (-1), 1) := dk_2 (dk_at dksX0_feed_0 12 rfl rfl)
theorem dX0_feed_13 : decode cX0_feed 13 = .ok (.ireturn, 1) := dk_172 (dk_at dksX0_feed_0 13 rfl rfl)
theorem dX0_feed_14 : decode cX0_feed 14 = .ok (.aload_n 0, 1) := dk_42 (dk_at dksX0_feed_0 14 rfl rfl)
theorem dX0_feed_15 : decode cX0_feed 15 = .ok (.getfield 11, 3) := dk_180 0 11 (dk_at dksX0_feed_0 15 rfl rfl)
theorem dX0_feed_18 : decode cX0_feed 18 = .ok (.sipush 160, 3) := dk_17 0 160 (dk_at dksX0_feed_0 18 rfl rfl)
theorem dX0_feed_21 : decode cX0_feed 21 = .ok (.if_icmp .ne 6, 3) := dk_160 0 6 (dk_at dksX0_feed_0 21 rfl rfl)
theorem dX0_feed_24 : decode cX0_feed 24 = .ok (.bipush (-3), 2) := dk_16 253 (dk_at dksX0_feed_1 0 rfl rfl)
theorem dX0_feed_26 : decode cX0_feed 26 = .ok (.ireturn, 1) := dk_172 (dk_at dksX0_feed_1 2 rfl rfl)
theorem dX0_feed_27 : decode cX0_feed 27 = .ok (.aload_n 0, 1) := dk_42 (dk_at dksX0_feed_1 3 rfl rfl)
theorem dX0_feed_28 : decode cX0_feed 28 = .ok (.getfield 15, 3) := dk_180 0 15 (dk_at dksX0_feed_1 4 rfl rfl)
theorem dX0_feed_31 : decode cX0_feed 31 = .ok (.aload_n 0, 1) := dk_42 (dk_at dksX0_feed_1 7 rfl rfl)
theorem dX0_feed_32 : decode cX0_feed 32 = .ok (.getfield 11, 3) := dk_180 0 11 (dk_at dksX0_feed_1 8 rfl rfl)
theorem dX0_feed_35 : decode cX0_feed 35 = .ok (.iload_n 1, 1) := dk_27 (dk_at dksX0_feed_1 11 rfl rfl)
theorem dX0_feed_36 : decode cX0_feed 36 = .ok (.i2b, 1) := dk_145 (dk_at dksX0_feed_1 12 rfl rfl)
theorem dX0_feed_37 : decode cX0_feed 37 = .ok (.bastore, 1) := dk_84 (dk_at dksX0_feed_1 13 rfl rfl)
theorem dX0_feed_38 : decode cX0_feed 38 = .ok (.aload_n 0, 1) := dk_42 (dk_at dksX0_feed_1 14 rfl rfl)
theorem dX0_feed_39 : decode cX0_feed 39 = .ok (.dup, 1) := dk_89 (dk_at dksX0_feed_1 15 rfl rfl)
theorem dX0_feed_40 : decode cX0_feed 40 = .ok (.getfield 11, 3) := dk_180 0 11 (dk_at dksX0_feed_1 16 rfl rfl)
theorem dX0_feed_43 : decode cX0_feed 43 = .ok (.iconst 1, 1) := dk_4 (dk_at dksX0_feed_1 19 rfl rfl)
theorem dX0_feed_44 : decode cX0_feed 44 = .ok (.iadd, 1) := dk_96 (dk_at dksX0_feed_1 20 rfl rfl)
theorem dX0_feed_45 : decode cX0_feed 45 = .ok (.putfield 11, 3) := dk_181 0 11 (dk_at dksX0_feed_1 21 rfl rfl)
theorem dX0_feed_48 : decode cX0_feed 48 = .ok (.aload_n 0, 1) := dk_42 (dk_at dksX0_feed_2 0 rfl rfl)
theorem dX0_feed_49 : decode cX0_feed 49 = .ok (.getfield 11, 3) := dk_180 0 11 (dk_at dksX0_feed_2 1 rfl rfl)
theorem dX0_feed_52 : decode cX0_feed 52 = .ok (.ireturn, 1) := dk_172 (dk_at dksX0_feed_2 4 rfl rfl)
abbrev cX0_isIn : ByteArray := prog_1_method_1_code
def yX0_isIn : MethodName := ⟨RX0, "isIn", "(JJJ)Z"⟩
def dkwX0_isIn_0 : List UInt8 := [30, 32, 148, 155, 0, 14, 30, 22, 4, 148, 157, 0, 7, 4, 167, 0, 4, 3, 172]
abbrev dktX0_isIn_0 : List UInt8 := dkwX0_isIn_0 ++ []
theorem dksX0_isIn_0 : cX0_isIn.data.toList.drop 0 = dktX0_isIn_0 := by decide +kernel
theorem dX0_isIn_0 : decode cX0_isIn 0 = .ok (.lload_n 0, 1) := dk_30 (dk_at dksX0_isIn_0 0 rfl rfl)
theorem dX0_isIn_1 : decode cX0_isIn 1 = .ok (.lload_n 2, 1) := dk_32 (dk_at dksX0_isIn_0 1 rfl rfl)
theorem dX0_isIn_2 : decode cX0_isIn 2 = .ok (.lcmp, 1) := dk_148 (dk_at dksX0_isIn_0 2 rfl rfl)
theorem dX0_isIn_3 : decode cX0_isIn 3 = .ok (.ifCond .lt 14, 3) := dk_155 0 14 (dk_at dksX0_isIn_0 3 rfl rfl)
theorem dX0_isIn_6 : decode cX0_isIn 6 = .ok (.lload_n 0, 1) := dk_30 (dk_at dksX0_isIn_0 6 rfl rfl)
theorem dX0_isIn_7 : decode cX0_isIn 7 = .ok (.lload 4, 2) := dk_22 4 (dk_at dksX0_isIn_0 7 rfl rfl)
theorem dX0_isIn_9 : decode cX0_isIn 9 = .ok (.lcmp, 1) := dk_148 (dk_at dksX0_isIn_0 9 rfl rfl)
theorem dX0_isIn_10 : decode cX0_isIn 10 = .ok (.ifCond .gt 7, 3) := dk_157 0 7 (dk_at dksX0_isIn_0 10 rfl rfl)
theorem dX0_isIn_13 : decode cX0_isIn 13 = .ok (.iconst 1, 1) := dk_4 (dk_at dksX0_isIn_0 13 rfl rfl)
theorem dX0_isIn_14 : decode cX0_isIn 14 = .ok (.goto 4, 3) := dk_167 0 4 (dk_at dksX0_isIn_0 14 rfl rfl)
theorem dX0_isIn_17 : decode cX0_isIn 17 = .ok (.iconst 0, 1) := dk_3 (dk_at dksX0_isIn_0 17 rfl rfl)
theorem dX0_isIn_18 : decode cX0_isIn 18 = .ok (.ireturn, 1) := dk_172 (dk_at dksX0_isIn_0 18 rfl rfl)
abbrev cX0_end : ByteArray := prog_1_method_5_code
def yX0_end : MethodName := ⟨RX0, "end", "(I)I"⟩
def dkwX0_end_1 : List UInt8 := [181, 0, 11, 28, 172]
abbrev dktX0_end_1 : List UInt8 := dkwX0_end_1 ++ []
def dkwX0_end_0 : List UInt8 := [27, 133, 9, 42, 180, 0, 11, 133, 184, 0, 5, 154, 0, 5, 2, 172, 42, 180, 0, 11, 61, 42, 27]
abbrev dktX0_end_0 : List UInt8 := dkwX0_end_0 ++ dktX0_end_1
theorem dksX0_end_0 : cX0_end.data.toList.drop 0 = dktX0_end_0 := by decide +kernel
theorem dksX0_end_1 : cX0_end.data.toList.drop 23 = dktX0_end_1 := dk_seg dksX0_end_0 23 rfl rfl
theorem dX0_end_0 : decode cX0_end 0 = .ok (.iload_n 1, 1) := dk_27 (dk_at dksX0_end_0 0 rfl rfl)
theorem dX0_end_1 : decode cX0_end 1 = .ok (.i2l, 1) := dk_133 (dk_at dksX0_end_0 1 rfl rfl)
theorem dX0_end_2 : decode cX0_end 2 = .ok (.lconst 0, 1) := dk_9 (dk_at dksX0_end_0 2 rfl rfl)
theorem dX0_end_3 : decode cX0_end 3 = .ok (.aload_n 0, 1) := dk_42 (dk_at dksX0_end_0 3 rfl rfl)
theorem dX0_end_4 : decode cX0_end 4 = .ok (.getfield 11, 3) := dk_180 0 11 (dk_at dksX0_end_0 4 rfl rfl)
theorem dX0_end_7 : decode cX0_end 7 = .ok (.i2l, 1) := dk_133 (dk_at dksX0_end_0 7 rfl rfl)
theorem dX0_end_8 : decode cX0_end 8 = .ok (.invokestatic 5, 3) := dk_184 0 5 (dk_at dksX0_end_0 8 rfl rfl)
theorem dX0_end_11 : decode cX0_end 11 = .ok (.ifCond .ne 5, 3) := dk_154 0 5 (dk_at dksX0_end_0 11 rfl rfl)
theorem dX0_end_14 : decode cX0_end 14 = .ok (.iconst (-1), 1) := dk_2 (dk_at dksX0_end_0 14 rfl rfl)
theorem dX0_end_15 : decode cX0_end 15 = .ok (.ireturn, 1) := dk_172 (dk_at dksX0_end_0 15 rfl rfl)
theorem dX0_end_16 : decode cX0_end 16 = .ok (.aload_n 0, 1) := dk_42 (dk_at dksX0_end_0 16 rfl rfl)
theorem dX0_end_17 : decode cX0_end 17 = .ok (.getfield 11, 3) := dk_180 0 11 (dk_at dksX0_end_0 17 rfl rfl)
theorem dX0_end_20 : decode cX0_end 20 = .ok (.istore_n 2, 1) := dk_61 (dk_at dksX0_end_0 20 rfl rfl)
theorem dX0_end_21 : decode cX0_end 21 = .ok (.aload_n 0, 1) := dk_42 (dk_at dksX0_end_0 21 rfl rfl)
theorem dX0_end_22 : decode cX0_end 22 = .ok (.iload_n 1, 1) := dk_27 (dk_at dksX0_end_0 22 rfl rfl)
theorem dX0_end_23 : decode cX0_end 23 = .ok (.putfield 11, 3) := dk_181 0 11 (dk_at dksX0_end_1 0 rfl rfl)
theorem dX0_end_26 : decode cX0_end 26 = .ok (.iload_n 2, 1) := dk_28 (dk_at dksX0_end_1 3 rfl rfl)
theorem dX0_end_27 : decode cX0_end 27 = .ok (.ireturn, 1) := dk_172 (dk_at dksX0_end_1 4 rfl rfl)
abbrev cX0_text : ByteArray := prog_1_method_6_code
def yX0_text : MethodName := ⟨RX0, "text", "()I"⟩
def dkwX0_text_4 : List UInt8 := [16, 246, 44, 180, 0, 72, 100, 172]
abbrev dktX0_text_4 : List UInt8 := dkwX0_text_4 ++ []
def dkwX0_text_3 : List UInt8 := [3, 181, 0, 55, 42, 3, 181, 0, 61, 44, 180, 0, 64, 172, 77, 42, 44, 180, 0, 69, 181, 0, 61]
abbrev dktX0_text_3 : List UInt8 := dkwX0_text_3 ++ dktX0_text_4
def dkwX0_text_2 : List UInt8 := [182, 0, 42, 42, 3, 181, 0, 48, 42, 180, 0, 51, 3, 50, 3, 181, 0, 55, 42, 180, 0, 51, 4, 50]
abbrev dktX0_text_2 : List UInt8 := dkwX0_text_2 ++ dktX0_text_3
def dkwX0_text_1 : List UInt8 := [181, 0, 11, 187, 0, 25, 89, 43, 183, 0, 27, 77, 44, 182, 0, 31, 42, 180, 0, 35, 44, 180, 0, 39]
abbrev dktX0_text_1 : List UInt8 := dkwX0_text_1 ++ dktX0_text_2
def dkwX0_text_0 : List UInt8 := [42, 180, 0, 11, 188, 8, 76, 42, 180, 0, 15, 3, 43, 3, 42, 180, 0, 11, 184, 0, 19, 42, 3]
abbrev dktX0_text_0 : List UInt8 := dkwX0_text_0 ++ dktX0_text_1
theorem dksX0_text_0 : cX0_text.data.toList.drop 0 = dktX0_text_0 := by decide +kernel
theorem dksX0_text_1 : cX0_text.data.toList.drop 23 = dktX0_text_1 := dk_seg dksX0_text_0 23 rfl rfl
theorem dksX0_text_2 : cX0_text.data.toList.drop 47 = dktX0_text_2 := dk_seg dksX0_text_1 24 rfl rfl
theorem dksX0_text_3 : cX0_text.data.toList.drop 71 = dktX0_text_3 := dk_seg dksX0_text_2 24 rfl rfl
theorem dksX0_text_4 : cX0_text.data.toList.drop 94 = dktX0_text_4 := dk_seg dksX0_text_3 23 rfl rfl
theorem dX0_text_0 : decode cX0_text 0 = .ok (.aload_n 0, 1) := dk_42 (dk_at dksX0_text_0 0 rfl rfl)
theorem dX0_text_1 : decode cX0_text 1 = .ok (.getfield 11, 3) := dk_180 0 11 (dk_at dksX0_text_0 1 rfl rfl)
theorem dX0_text_4 : decode cX0_text 4 = .ok (.newarray .byte, 2) := dk_188_8 (dk_at dksX0_text_0 4 rfl rfl)
theorem dX0_text_6 : decode cX0_text 6 = .ok (.astore_n 1, 1) := dk_76 (dk_at dksX0_text_0 6 rfl rfl)
theorem dX0_text_7 : decode cX0_text 7 = .ok (.aload_n 0, 1) := dk_42 (dk_at dksX0_text_0 7 rfl rfl)
theorem dX0_text_8 : decode cX0_text 8 = .ok (.getfield 15, 3) := dk_180 0 15 (dk_at dksX0_text_0 8 rfl rfl)
theorem dX0_text_11 : decode cX0_text 11 = .ok (.iconst 0, 1) := dk_3 (dk_at dksX0_text_0 11 rfl rfl)
theorem dX0_text_12 : decode cX0_text 12 = .ok (.aload_n 1, 1) := dk_43 (dk_at dksX0_text_0 12 rfl rfl)
theorem dX0_text_13 : decode cX0_text 13 = .ok (.iconst 0, 1) := dk_3 (dk_at dksX0_text_0 13 rfl rfl)
theorem dX0_text_14 : decode cX0_text 14 = .ok (.aload_n 0, 1) := dk_42 (dk_at dksX0_text_0 14 rfl rfl)
theorem dX0_text_15 : decode cX0_text 15 = .ok (.getfield 11, 3) := dk_180 0 11 (dk_at dksX0_text_0 15 rfl rfl)
theorem dX0_text_18 : decode cX0_text 18 = .ok (.invokestatic 19, 3) := dk_184 0 19 (dk_at dksX0_text_0 18 rfl rfl)
theorem dX0_text_21 : decode cX0_text 21 = .ok (.aload_n 0, 1) := dk_42 (dk_at dksX0_text_0 21 rfl rfl)
theorem dX0_text_22 : decode cX0_text 22 = .ok (.iconst 0, 1) := dk_3 (dk_at dksX0_text_0 22 rfl rfl)
theorem dX0_text_23 : decode cX0_text 23 = .ok (.putfield 11, 3) := dk_181 0 11 (dk_at dksX0_text_1 0 rfl rfl)
theorem dX0_text_26 : decode cX0_text 26 = .ok (.new 25, 3) := dk_187 0 25 (dk_at dksX0_text_1 3 rfl rfl)
theorem dX0_text_29 : decode cX0_text 29 = .ok (.dup, 1) := dk_89 (dk_at dksX0_text_1 6 rfl rfl)
theorem dX0_text_30 : decode cX0_text 30 = .ok (.aload_n 1, 1) := dk_43 (dk_at dksX0_text_1 7 rfl rfl)
theorem dX0_text_31 : decode cX0_text 31 = .ok (.invokespecial 27, 3) := dk_183 0 27 (dk_at dksX0_text_1 8 rfl rfl)
theorem dX0_text_34 : decode cX0_text 34 = .ok (.astore_n 2, 1) := dk_77 (dk_at dksX0_text_1 11 rfl rfl)
theorem dX0_text_35 : decode cX0_text 35 = .ok (.aload_n 2, 1) := dk_44 (dk_at dksX0_text_1 12 rfl rfl)
theorem dX0_text_36 : decode cX0_text 36 = .ok (.invokevirtual 31, 3) := dk_182 0 31 (dk_at dksX0_text_1 13 rfl rfl)
theorem dX0_text_39 : decode cX0_text 39 = .ok (.aload_n 0, 1) := dk_42 (dk_at dksX0_text_1 16 rfl rfl)
theorem dX0_text_40 : decode cX0_text 40 = .ok (.getfield 35, 3) := dk_180 0 35 (dk_at dksX0_text_1 17 rfl rfl)
theorem dX0_text_43 : decode cX0_text 43 = .ok (.aload_n 2, 1) := dk_44 (dk_at dksX0_text_1 20 rfl rfl)
theorem dX0_text_44 : decode cX0_text 44 = .ok (.getfield 39, 3) := dk_180 0 39 (dk_at dksX0_text_1 21 rfl rfl)
theorem dX0_text_47 : decode cX0_text 47 = .ok (.invokevirtual 42, 3) := dk_182 0 42 (dk_at dksX0_text_2 0 rfl rfl)
theorem dX0_text_50 : decode cX0_text 50 = .ok (.aload_n 0, 1) := dk_42 (dk_at dksX0_text_2 3 rfl rfl)
theorem dX0_text_51 : decode cX0_text 51 = .ok (.iconst 0, 1) := dk_3 (dk_at dksX0_text_2 4 rfl rfl)
theorem dX0_text_52 : decode cX0_text 52 = .ok (.putfield 48, 3) := dk_181 0 48 (dk_at dksX0_text_2 5 rfl rfl)
theorem dX0_text_55 : decode cX0_text 55 = .ok (.aload_n 0, 1) := dk_42 (dk_at dksX0_text_2 8 rfl rfl)
theorem dX0_text_56 : decode cX0_text 56 = .ok (.getfield 51, 3) := dk_180 0 51 (dk_at dksX0_text_2 9 rfl rfl)
theorem dX0_text_59 : decode cX0_text 59 = .ok (.iconst 0, 1) := dk_3 (dk_at dksX0_text_2 12 rfl rfl)
theorem dX0_text_60 : decode cX0_text 60 = .ok (.aaload, 1) := dk_50 (dk_at dksX0_text_2 13 rfl rfl)
theorem dX0_text_61 : decode cX0_text 61 = .ok (.iconst 0, 1) := dk_3 (dk_at dksX0_text_2 14 rfl rfl)
theorem dX0_text_62 : decode cX0_text 62 = .ok (.putfield 55, 3) := dk_181 0 55 (dk_at dksX0_text_2 15 rfl rfl)
theorem dX0_text_65 : decode cX0_text 65 = .ok (.aload_n 0, 1) := dk_42 (dk_at dksX0_text_2 18 rfl rfl)
theorem dX0_text_66 : decode cX0_text 66 = .ok (.getfield 51, 3) := dk_180 0 51 (dk_at dksX0_text_2 19 rfl rfl)
theorem dX0_text_69 : decode cX0_text 69 = .ok (.iconst 1, 1) := dk_4 (dk_at dksX0_text_2 22 rfl rfl)
theorem dX0_text_70 : decode cX0_text 70 = .ok (.aaload, 1) := dk_50 (dk_at dksX0_text_2 23 rfl rfl)
theorem dX0_text_71 : decode cX0_text 71 = .ok (.iconst 0, 1) := dk_3 (dk_at dksX0_text_3 0 rfl rfl)
theorem dX0_text_72 : decode cX0_text 72 = .ok (.putfield 55, 3) := dk_181 0 55 (dk_at dksX0_text_3 1 rfl rfl)
theorem dX0_text_75 : decode cX0_text 75 = .ok (.aload_n 0, 1) := dk_42 (dk_at dksX0_text_3 4 rfl rfl)
theorem dX0_text_76 : decode cX0_text 76 = .ok (.iconst 0, 1) := dk_3 (dk_at dksX0_text_3 5 rfl rfl)
theorem dX0_text_77 : decode cX0_text 77 = .ok (.putfield 61, 3) := dk_181 0 61 (dk_at dksX0_text_3 6 rfl rfl)
theorem dX0_text_80 : decode cX0_text 80 = .ok (.aload_n 2, 1) := dk_44 (dk_at dksX0_text_3 9 rfl rfl)
theorem dX0_text_81 : decode cX0_text 81 = .ok (.getfield 64, 3) := dk_180 0 64 (dk_at dksX0_text_3 10 rfl rfl)
theorem dX0_text_84 : decode cX0_text 84 = .ok (.ireturn, 1) := dk_172 (dk_at dksX0_text_3 13 rfl rfl)
theorem dX0_text_85 : decode cX0_text 85 = .ok (.astore_n 2, 1) := dk_77 (dk_at dksX0_text_3 14 rfl rfl)
theorem dX0_text_86 : decode cX0_text 86 = .ok (.aload_n 0, 1) := dk_42 (dk_at dksX0_text_3 15 rfl rfl)
theorem dX0_text_87 : decode cX0_text 87 = .ok (.aload_n 2, 1) := dk_44 (dk_at dksX0_text_3 16 rfl rfl)
theorem dX0_text_88 : decode cX0_text 88 = .ok (.getfield 69, 3) := dk_180 0 69 (dk_at dksX0_text_3 17 rfl rfl)
theorem dX0_text_91 : decode cX0_text 91 = .ok (.putfield 61, 3) := dk_181 0 61 (dk_at dksX0_text_3 20 rfl rfl)
theorem dX0_text_94 : decode cX0_text 94 = .ok (.bipush (-10), 2) := dk_16 246 (dk_at dksX0_text_4 0 rfl rfl)
theorem dX0_text_96 : decode cX0_text 96 = .ok (.aload_n 2, 1) := dk_44 (dk_at dksX0_text_4 2 rfl rfl)
theorem dX0_text_97 : decode cX0_text 97 = .ok (.getfield 72, 3) := dk_180 0 72 (dk_at dksX0_text_4 3 rfl rfl)
theorem dX0_text_100 : decode cX0_text 100 = .ok (.isub, 1) := dk_100 (dk_at dksX0_text_4 6 rfl rfl)
theorem dX0_text_101 : decode cX0_text 101 = .ok (.ireturn, 1) := dk_172 (dk_at dksX0_text_4 7 rfl rfl)
abbrev cX0_has : ByteArray := prog_1_method_2_code
def yX0_has : MethodName := ⟨RX0, "has", "(II)Z"⟩
def dkwX0_has_0 : List UInt8 := [26, 27, 122, 4, 126, 4, 160, 0, 7, 4, 167, 0, 4, 3, 172]
abbrev dktX0_has_0 : List UInt8 := dkwX0_has_0 ++ []
theorem dksX0_has_0 : cX0_has.data.toList.drop 0 = dktX0_has_0 := by decide +kernel
theorem dX0_has_0 : decode cX0_has 0 = .ok (.iload_n 0, 1) := dk_26 (dk_at dksX0_has_0 0 rfl rfl)
theorem dX0_has_1 : decode cX0_has 1 = .ok (.iload_n 1, 1) := dk_27 (dk_at dksX0_has_0 1 rfl rfl)
theorem dX0_has_2 : decode cX0_has 2 = .ok (.ishr, 1) := dk_122 (dk_at dksX0_has_0 2 rfl rfl)
theorem dX0_has_3 : decode cX0_has 3 = .ok (.iconst 1, 1) := dk_4 (dk_at dksX0_has_0 3 rfl rfl)
theorem dX0_has_4 : decode cX0_has 4 = .ok (.iand, 1) := dk_126 (dk_at dksX0_has_0 4 rfl rfl)
theorem dX0_has_5 : decode cX0_has 5 = .ok (.iconst 1, 1) := dk_4 (dk_at dksX0_has_0 5 rfl rfl)
theorem dX0_has_6 : decode cX0_has 6 = .ok (.if_icmp .ne 7, 3) := dk_160 0 7 (dk_at dksX0_has_0 6 rfl rfl)
theorem dX0_has_9 : decode cX0_has 9 = .ok (.iconst 1, 1) := dk_4 (dk_at dksX0_has_0 9 rfl rfl)
theorem dX0_has_10 : decode cX0_has 10 = .ok (.goto 4, 3) := dk_167 0 4 (dk_at dksX0_has_0 10 rfl rfl)
theorem dX0_has_13 : decode cX0_has 13 = .ok (.iconst 0, 1) := dk_3 (dk_at dksX0_has_0 13 rfl rfl)
theorem dX0_has_14 : decode cX0_has 14 = .ok (.ireturn, 1) := dk_172 (dk_at dksX0_has_0 14 rfl rfl)
abbrev cX0_fault : ByteArray := prog_1_method_7_code
def yX0_fault : MethodName := ⟨RX0, "fault", "()I"⟩
theorem dX0_fault_0 : decode cX0_fault 0 = .ok (.aload_n 0, 1) := by decide +kernel
theorem dX0_fault_1 : decode cX0_fault 1 = .ok (.getfield 61, 3) := by decide +kernel
theorem dX0_fault_4 : decode cX0_fault 4 = .ok (.ireturn, 1) := by decide +kernel
abbrev cX0_rule : ByteArray := prog_1_method_13_code
def yX0_rule : MethodName := ⟨RX0, "rule", "(I)I"⟩
def dkwX0_rule_4 : List UInt8 := [2, 172]
abbrev dktX0_rule_4 : List UInt8 := dkwX0_rule_4 ++ []
def dkwX0_rule_3 : List UInt8 := [42, 180, 0, 35, 180, 0, 90, 172, 42, 180, 0, 35, 180, 0, 93, 172, 42, 180, 0, 35, 182, 0, 96, 172]
abbrev dktX0_rule_3 : List UInt8 := dkwX0_rule_3 ++ dktX0_rule_4
def dkwX0_rule_2 : List UInt8 := [42, 180, 0, 35, 180, 0, 75, 172, 42, 180, 0, 35, 180, 0, 82, 172, 42, 180, 0, 35, 180, 0, 87, 172]
abbrev dktX0_rule_2 : List UInt8 := dkwX0_rule_2 ++ dktX0_rule_3
def dkwX0_rule_1 : List UInt8 := [170, 0, 0, 0, 0, 0, 87, 0, 0, 0, 0, 0, 0, 0, 5, 0, 0, 0, 39, 0, 0, 0, 47, 0, 0, 0, 55, 0, 0, 0, 63, 0, 0, 0, 71, 0, 0, 0, 79]
abbrev dktX0_rule_1 : List UInt8 := dkwX0_rule_1 ++ dktX0_rule_2
def dkwX0_rule_0 : List UInt8 := [27]
abbrev dktX0_rule_0 : List UInt8 := dkwX0_rule_0 ++ dktX0_rule_1
theorem dksX0_rule_0 : cX0_rule.data.toList.drop 0 = dktX0_rule_0 := by decide +kernel
theorem dksX0_rule_1 : cX0_rule.data.toList.drop 1 = dktX0_rule_1 := dk_seg dksX0_rule_0 1 rfl rfl
theorem dksX0_rule_2 : cX0_rule.data.toList.drop 40 = dktX0_rule_2 := dk_seg dksX0_rule_1 39 rfl rfl
theorem dksX0_rule_3 : cX0_rule.data.toList.drop 64 = dktX0_rule_3 := dk_seg dksX0_rule_2 24 rfl rfl
theorem dksX0_rule_4 : cX0_rule.data.toList.drop 88 = dktX0_rule_4 := dk_seg dksX0_rule_3 24 rfl rfl
theorem dX0_rule_0 : decode cX0_rule 0 = .ok (.iload_n 1, 1) := dk_27 (dk_at dksX0_rule_0 0 rfl rfl)
theorem dX0_rule_1 : decode cX0_rule 1 = .ok (.tableswitch 87 0 5 #[39, 47, 55, 63, 71, 79], 39) := by decide +kernel
theorem dX0_rule_40 : decode cX0_rule 40 = .ok (.aload_n 0, 1) := dk_42 (dk_at dksX0_rule_2 0 rfl rfl)
theorem dX0_rule_41 : decode cX0_rule 41 = .ok (.getfield 35, 3) := dk_180 0 35 (dk_at dksX0_rule_2 1 rfl rfl)
theorem dX0_rule_44 : decode cX0_rule 44 = .ok (.getfield 75, 3) := dk_180 0 75 (dk_at dksX0_rule_2 4 rfl rfl)
theorem dX0_rule_47 : decode cX0_rule 47 = .ok (.ireturn, 1) := dk_172 (dk_at dksX0_rule_2 7 rfl rfl)
theorem dX0_rule_48 : decode cX0_rule 48 = .ok (.aload_n 0, 1) := dk_42 (dk_at dksX0_rule_2 8 rfl rfl)
theorem dX0_rule_49 : decode cX0_rule 49 = .ok (.getfield 35, 3) := dk_180 0 35 (dk_at dksX0_rule_2 9 rfl rfl)
theorem dX0_rule_52 : decode cX0_rule 52 = .ok (.getfield 82, 3) := dk_180 0 82 (dk_at dksX0_rule_2 12 rfl rfl)
theorem dX0_rule_55 : decode cX0_rule 55 = .ok (.ireturn, 1) := dk_172 (dk_at dksX0_rule_2 15 rfl rfl)
theorem dX0_rule_56 : decode cX0_rule 56 = .ok (.aload_n 0, 1) := dk_42 (dk_at dksX0_rule_2 16 rfl rfl)
theorem dX0_rule_57 : decode cX0_rule 57 = .ok (.getfield 35, 3) := dk_180 0 35 (dk_at dksX0_rule_2 17 rfl rfl)
theorem dX0_rule_60 : decode cX0_rule 60 = .ok (.getfield 87, 3) := dk_180 0 87 (dk_at dksX0_rule_2 20 rfl rfl)
theorem dX0_rule_63 : decode cX0_rule 63 = .ok (.ireturn, 1) := dk_172 (dk_at dksX0_rule_2 23 rfl rfl)
theorem dX0_rule_64 : decode cX0_rule 64 = .ok (.aload_n 0, 1) := dk_42 (dk_at dksX0_rule_3 0 rfl rfl)
theorem dX0_rule_65 : decode cX0_rule 65 = .ok (.getfield 35, 3) := dk_180 0 35 (dk_at dksX0_rule_3 1 rfl rfl)
theorem dX0_rule_68 : decode cX0_rule 68 = .ok (.getfield 90, 3) := dk_180 0 90 (dk_at dksX0_rule_3 4 rfl rfl)
theorem dX0_rule_71 : decode cX0_rule 71 = .ok (.ireturn, 1) := dk_172 (dk_at dksX0_rule_3 7 rfl rfl)
theorem dX0_rule_72 : decode cX0_rule 72 = .ok (.aload_n 0, 1) := dk_42 (dk_at dksX0_rule_3 8 rfl rfl)
theorem dX0_rule_73 : decode cX0_rule 73 = .ok (.getfield 35, 3) := dk_180 0 35 (dk_at dksX0_rule_3 9 rfl rfl)
theorem dX0_rule_76 : decode cX0_rule 76 = .ok (.getfield 93, 3) := dk_180 0 93 (dk_at dksX0_rule_3 12 rfl rfl)
theorem dX0_rule_79 : decode cX0_rule 79 = .ok (.ireturn, 1) := dk_172 (dk_at dksX0_rule_3 15 rfl rfl)
theorem dX0_rule_80 : decode cX0_rule 80 = .ok (.aload_n 0, 1) := dk_42 (dk_at dksX0_rule_3 16 rfl rfl)
theorem dX0_rule_81 : decode cX0_rule 81 = .ok (.getfield 35, 3) := dk_180 0 35 (dk_at dksX0_rule_3 17 rfl rfl)
theorem dX0_rule_84 : decode cX0_rule 84 = .ok (.invokevirtual 96, 3) := dk_182 0 96 (dk_at dksX0_rule_3 20 rfl rfl)
theorem dX0_rule_87 : decode cX0_rule 87 = .ok (.ireturn, 1) := dk_172 (dk_at dksX0_rule_3 23 rfl rfl)
theorem dX0_rule_88 : decode cX0_rule 88 = .ok (.iconst (-1), 1) := dk_2 (dk_at dksX0_rule_4 0 rfl rfl)
theorem dX0_rule_89 : decode cX0_rule 89 = .ok (.ireturn, 1) := dk_172 (dk_at dksX0_rule_4 1 rfl rfl)
abbrev cX0_isle : ByteArray := prog_1_method_14_code
def yX0_isle : MethodName := ⟨RX0, "isle", "(II)I"⟩
def dkwX0_isle_4 : List UInt8 := [182, 0, 108, 158, 0, 7, 4, 167, 0, 4, 3, 172, 42, 180, 0, 35, 27, 182, 0, 114, 172, 2, 172]
abbrev dktX0_isle_4 : List UInt8 := dkwX0_isle_4 ++ []
def dkwX0_isle_3 : List UInt8 := [180, 0, 35, 27, 182, 0, 108, 172, 42, 180, 0, 35, 27, 182, 0, 111, 158, 0, 18, 42, 180, 0, 35, 27]
abbrev dktX0_isle_3 : List UInt8 := dkwX0_isle_3 ++ dktX0_isle_4
def dkwX0_isle_2 : List UInt8 := [42, 180, 0, 35, 180, 0, 100, 27, 50, 28, 46, 172, 42, 180, 0, 35, 27, 182, 0, 104, 172, 42]
abbrev dktX0_isle_2 : List UInt8 := dkwX0_isle_2 ++ dktX0_isle_3
def dkwX0_isle_1 : List UInt8 := [170, 0, 0, 0, 104, 0, 0, 0, 0, 0, 0, 0, 5, 0, 0, 0, 37, 0, 0, 0, 37, 0, 0, 0, 49, 0, 0, 0, 58, 0, 0, 0, 67, 0, 0, 0, 95]
abbrev dktX0_isle_1 : List UInt8 := dkwX0_isle_1 ++ dktX0_isle_2
def dkwX0_isle_0 : List UInt8 := [42, 27, 182, 0, 78, 154, 0, 5, 2, 172, 28]
abbrev dktX0_isle_0 : List UInt8 := dkwX0_isle_0 ++ dktX0_isle_1
theorem dksX0_isle_0 : cX0_isle.data.toList.drop 0 = dktX0_isle_0 := by decide +kernel
theorem dksX0_isle_1 : cX0_isle.data.toList.drop 11 = dktX0_isle_1 := dk_seg dksX0_isle_0 11 rfl rfl
theorem dksX0_isle_2 : cX0_isle.data.toList.drop 48 = dktX0_isle_2 := dk_seg dksX0_isle_1 37 rfl rfl
theorem dksX0_isle_3 : cX0_isle.data.toList.drop 70 = dktX0_isle_3 := dk_seg dksX0_isle_2 22 rfl rfl
theorem dksX0_isle_4 : cX0_isle.data.toList.drop 94 = dktX0_isle_4 := dk_seg dksX0_isle_3 24 rfl rfl
theorem dX0_isle_0 : decode cX0_isle 0 = .ok (.aload_n 0, 1) := dk_42 (dk_at dksX0_isle_0 0 rfl rfl)
theorem dX0_isle_1 : decode cX0_isle 1 = .ok (.iload_n 1, 1) := dk_27 (dk_at dksX0_isle_0 1 rfl rfl)
theorem dX0_isle_2 : decode cX0_isle 2 = .ok (.invokevirtual 78, 3) := dk_182 0 78 (dk_at dksX0_isle_0 2 rfl rfl)
theorem dX0_isle_5 : decode cX0_isle 5 = .ok (.ifCond .ne 5, 3) := dk_154 0 5 (dk_at dksX0_isle_0 5 rfl rfl)
theorem dX0_isle_8 : decode cX0_isle 8 = .ok (.iconst (-1), 1) := dk_2 (dk_at dksX0_isle_0 8 rfl rfl)
theorem dX0_isle_9 : decode cX0_isle 9 = .ok (.ireturn, 1) := dk_172 (dk_at dksX0_isle_0 9 rfl rfl)
theorem dX0_isle_10 : decode cX0_isle 10 = .ok (.iload_n 2, 1) := dk_28 (dk_at dksX0_isle_0 10 rfl rfl)
theorem dX0_isle_11 : decode cX0_isle 11 = .ok (.tableswitch 104 0 5 #[37, 37, 49, 58, 67, 95], 37) := by decide +kernel
theorem dX0_isle_48 : decode cX0_isle 48 = .ok (.aload_n 0, 1) := dk_42 (dk_at dksX0_isle_2 0 rfl rfl)
theorem dX0_isle_49 : decode cX0_isle 49 = .ok (.getfield 35, 3) := dk_180 0 35 (dk_at dksX0_isle_2 1 rfl rfl)
theorem dX0_isle_52 : decode cX0_isle 52 = .ok (.getfield 100, 3) := dk_180 0 100 (dk_at dksX0_isle_2 4 rfl rfl)
theorem dX0_isle_55 : decode cX0_isle 55 = .ok (.iload_n 1, 1) := dk_27 (dk_at dksX0_isle_2 7 rfl rfl)
theorem dX0_isle_56 : decode cX0_isle 56 = .ok (.aaload, 1) := dk_50 (dk_at dksX0_isle_2 8 rfl rfl)
theorem dX0_isle_57 : decode cX0_isle 57 = .ok (.iload_n 2, 1) := dk_28 (dk_at dksX0_isle_2 9 rfl rfl)
theorem dX0_isle_58 : decode cX0_isle 58 = .ok (.iaload, 1) := dk_46 (dk_at dksX0_isle_2 10 rfl rfl)
theorem dX0_isle_59 : decode cX0_isle 59 = .ok (.ireturn, 1) := dk_172 (dk_at dksX0_isle_2 11 rfl rfl)
theorem dX0_isle_60 : decode cX0_isle 60 = .ok (.aload_n 0, 1) := dk_42 (dk_at dksX0_isle_2 12 rfl rfl)
theorem dX0_isle_61 : decode cX0_isle 61 = .ok (.getfield 35, 3) := dk_180 0 35 (dk_at dksX0_isle_2 13 rfl rfl)
theorem dX0_isle_64 : decode cX0_isle 64 = .ok (.iload_n 1, 1) := dk_27 (dk_at dksX0_isle_2 16 rfl rfl)
theorem dX0_isle_65 : decode cX0_isle 65 = .ok (.invokevirtual 104, 3) := dk_182 0 104 (dk_at dksX0_isle_2 17 rfl rfl)
theorem dX0_isle_68 : decode cX0_isle 68 = .ok (.ireturn, 1) := dk_172 (dk_at dksX0_isle_2 20 rfl rfl)
theorem dX0_isle_69 : decode cX0_isle 69 = .ok (.aload_n 0, 1) := dk_42 (dk_at dksX0_isle_2 21 rfl rfl)
theorem dX0_isle_70 : decode cX0_isle 70 = .ok (.getfield 35, 3) := dk_180 0 35 (dk_at dksX0_isle_3 0 rfl rfl)
theorem dX0_isle_73 : decode cX0_isle 73 = .ok (.iload_n 1, 1) := dk_27 (dk_at dksX0_isle_3 3 rfl rfl)
theorem dX0_isle_74 : decode cX0_isle 74 = .ok (.invokevirtual 108, 3) := dk_182 0 108 (dk_at dksX0_isle_3 4 rfl rfl)
theorem dX0_isle_77 : decode cX0_isle 77 = .ok (.ireturn, 1) := dk_172 (dk_at dksX0_isle_3 7 rfl rfl)
theorem dX0_isle_78 : decode cX0_isle 78 = .ok (.aload_n 0, 1) := dk_42 (dk_at dksX0_isle_3 8 rfl rfl)
theorem dX0_isle_79 : decode cX0_isle 79 = .ok (.getfield 35, 3) := dk_180 0 35 (dk_at dksX0_isle_3 9 rfl rfl)
theorem dX0_isle_82 : decode cX0_isle 82 = .ok (.iload_n 1, 1) := dk_27 (dk_at dksX0_isle_3 12 rfl rfl)
theorem dX0_isle_83 : decode cX0_isle 83 = .ok (.invokevirtual 111, 3) := dk_182 0 111 (dk_at dksX0_isle_3 13 rfl rfl)
theorem dX0_isle_86 : decode cX0_isle 86 = .ok (.ifCond .le 18, 3) := dk_158 0 18 (dk_at dksX0_isle_3 16 rfl rfl)
theorem dX0_isle_89 : decode cX0_isle 89 = .ok (.aload_n 0, 1) := dk_42 (dk_at dksX0_isle_3 19 rfl rfl)
theorem dX0_isle_90 : decode cX0_isle 90 = .ok (.getfield 35, 3) := dk_180 0 35 (dk_at dksX0_isle_3 20 rfl rfl)
theorem dX0_isle_93 : decode cX0_isle 93 = .ok (.iload_n 1, 1) := dk_27 (dk_at dksX0_isle_3 23 rfl rfl)
theorem dX0_isle_94 : decode cX0_isle 94 = .ok (.invokevirtual 108, 3) := dk_182 0 108 (dk_at dksX0_isle_4 0 rfl rfl)
theorem dX0_isle_97 : decode cX0_isle 97 = .ok (.ifCond .le 7, 3) := dk_158 0 7 (dk_at dksX0_isle_4 3 rfl rfl)
theorem dX0_isle_100 : decode cX0_isle 100 = .ok (.iconst 1, 1) := dk_4 (dk_at dksX0_isle_4 6 rfl rfl)
theorem dX0_isle_101 : decode cX0_isle 101 = .ok (.goto 4, 3) := dk_167 0 4 (dk_at dksX0_isle_4 7 rfl rfl)
theorem dX0_isle_104 : decode cX0_isle 104 = .ok (.iconst 0, 1) := dk_3 (dk_at dksX0_isle_4 10 rfl rfl)
theorem dX0_isle_105 : decode cX0_isle 105 = .ok (.ireturn, 1) := dk_172 (dk_at dksX0_isle_4 11 rfl rfl)
theorem dX0_isle_106 : decode cX0_isle 106 = .ok (.aload_n 0, 1) := dk_42 (dk_at dksX0_isle_4 12 rfl rfl)
theorem dX0_isle_107 : decode cX0_isle 107 = .ok (.getfield 35, 3) := dk_180 0 35 (dk_at dksX0_isle_4 13 rfl rfl)
theorem dX0_isle_110 : decode cX0_isle 110 = .ok (.iload_n 1, 1) := dk_27 (dk_at dksX0_isle_4 16 rfl rfl)
theorem dX0_isle_111 : decode cX0_isle 111 = .ok (.invokevirtual 114, 3) := dk_182 0 114 (dk_at dksX0_isle_4 17 rfl rfl)
theorem dX0_isle_114 : decode cX0_isle 114 = .ok (.ireturn, 1) := dk_172 (dk_at dksX0_isle_4 20 rfl rfl)
theorem dX0_isle_115 : decode cX0_isle 115 = .ok (.iconst (-1), 1) := dk_2 (dk_at dksX0_isle_4 21 rfl rfl)
theorem dX0_isle_116 : decode cX0_isle 116 = .ok (.ireturn, 1) := dk_172 (dk_at dksX0_isle_4 22 rfl rfl)
abbrev cX0_isIsle : ByteArray := prog_1_method_8_code
def yX0_isIsle : MethodName := ⟨RX0, "isIsle", "(I)Z"⟩
def dkwX0_isIsle_0 : List UInt8 := [27, 133, 9, 42, 180, 0, 35, 180, 0, 75, 4, 100, 133, 184, 0, 5, 172]
abbrev dktX0_isIsle_0 : List UInt8 := dkwX0_isIsle_0 ++ []
theorem dksX0_isIsle_0 : cX0_isIsle.data.toList.drop 0 = dktX0_isIsle_0 := by decide +kernel
theorem dX0_isIsle_0 : decode cX0_isIsle 0 = .ok (.iload_n 1, 1) := dk_27 (dk_at dksX0_isIsle_0 0 rfl rfl)
theorem dX0_isIsle_1 : decode cX0_isIsle 1 = .ok (.i2l, 1) := dk_133 (dk_at dksX0_isIsle_0 1 rfl rfl)
theorem dX0_isIsle_2 : decode cX0_isIsle 2 = .ok (.lconst 0, 1) := dk_9 (dk_at dksX0_isIsle_0 2 rfl rfl)
theorem dX0_isIsle_3 : decode cX0_isIsle 3 = .ok (.aload_n 0, 1) := dk_42 (dk_at dksX0_isIsle_0 3 rfl rfl)
theorem dX0_isIsle_4 : decode cX0_isIsle 4 = .ok (.getfield 35, 3) := dk_180 0 35 (dk_at dksX0_isIsle_0 4 rfl rfl)
theorem dX0_isIsle_7 : decode cX0_isIsle 7 = .ok (.getfield 75, 3) := dk_180 0 75 (dk_at dksX0_isIsle_0 7 rfl rfl)
theorem dX0_isIsle_10 : decode cX0_isIsle 10 = .ok (.iconst 1, 1) := dk_4 (dk_at dksX0_isIsle_0 10 rfl rfl)
theorem dX0_isIsle_11 : decode cX0_isIsle 11 = .ok (.isub, 1) := dk_100 (dk_at dksX0_isIsle_0 11 rfl rfl)
theorem dX0_isIsle_12 : decode cX0_isIsle 12 = .ok (.i2l, 1) := dk_133 (dk_at dksX0_isIsle_0 12 rfl rfl)
theorem dX0_isIsle_13 : decode cX0_isIsle 13 = .ok (.invokestatic 5, 3) := dk_184 0 5 (dk_at dksX0_isIsle_0 13 rfl rfl)
theorem dX0_isIsle_16 : decode cX0_isIsle 16 = .ok (.ireturn, 1) := dk_172 (dk_at dksX0_isIsle_0 16 rfl rfl)
abbrev cX0_cross : ByteArray := prog_1_method_15_code
def yX0_cross : MethodName := ⟨RX0, "cross", "(II)I"⟩
def dkwX0_cross_1 : List UInt8 := [172]
abbrev dktX0_cross_1 : List UInt8 := dkwX0_cross_1 ++ []
def dkwX0_cross_0 : List UInt8 := [42, 27, 28, 182, 0, 117, 153, 0, 17, 42, 180, 0, 35, 180, 0, 121, 27, 50, 28, 46, 167, 0, 4, 2]
abbrev dktX0_cross_0 : List UInt8 := dkwX0_cross_0 ++ dktX0_cross_1
theorem dksX0_cross_0 : cX0_cross.data.toList.drop 0 = dktX0_cross_0 := by decide +kernel
theorem dksX0_cross_1 : cX0_cross.data.toList.drop 24 = dktX0_cross_1 := dk_seg dksX0_cross_0 24 rfl rfl
theorem dX0_cross_0 : decode cX0_cross 0 = .ok (.aload_n 0, 1) := dk_42 (dk_at dksX0_cross_0 0 rfl rfl)
theorem dX0_cross_1 : decode cX0_cross 1 = .ok (.iload_n 1, 1) := dk_27 (dk_at dksX0_cross_0 1 rfl rfl)
theorem dX0_cross_2 : decode cX0_cross 2 = .ok (.iload_n 2, 1) := dk_28 (dk_at dksX0_cross_0 2 rfl rfl)
theorem dX0_cross_3 : decode cX0_cross 3 = .ok (.invokevirtual 117, 3) := dk_182 0 117 (dk_at dksX0_cross_0 3 rfl rfl)
theorem dX0_cross_6 : decode cX0_cross 6 = .ok (.ifCond .eq 17, 3) := dk_153 0 17 (dk_at dksX0_cross_0 6 rfl rfl)
theorem dX0_cross_9 : decode cX0_cross 9 = .ok (.aload_n 0, 1) := dk_42 (dk_at dksX0_cross_0 9 rfl rfl)
theorem dX0_cross_10 : decode cX0_cross 10 = .ok (.getfield 35, 3) := dk_180 0 35 (dk_at dksX0_cross_0 10 rfl rfl)
theorem dX0_cross_13 : decode cX0_cross 13 = .ok (.getfield 121, 3) := dk_180 0 121 (dk_at dksX0_cross_0 13 rfl rfl)
theorem dX0_cross_16 : decode cX0_cross 16 = .ok (.iload_n 1, 1) := dk_27 (dk_at dksX0_cross_0 16 rfl rfl)
theorem dX0_cross_17 : decode cX0_cross 17 = .ok (.aaload, 1) := dk_50 (dk_at dksX0_cross_0 17 rfl rfl)
theorem dX0_cross_18 : decode cX0_cross 18 = .ok (.iload_n 2, 1) := dk_28 (dk_at dksX0_cross_0 18 rfl rfl)
theorem dX0_cross_19 : decode cX0_cross 19 = .ok (.iaload, 1) := dk_46 (dk_at dksX0_cross_0 19 rfl rfl)
theorem dX0_cross_20 : decode cX0_cross 20 = .ok (.goto 4, 3) := dk_167 0 4 (dk_at dksX0_cross_0 20 rfl rfl)
theorem dX0_cross_23 : decode cX0_cross 23 = .ok (.iconst (-1), 1) := dk_2 (dk_at dksX0_cross_0 23 rfl rfl)
theorem dX0_cross_24 : decode cX0_cross 24 = .ok (.ireturn, 1) := dk_172 (dk_at dksX0_cross_1 0 rfl rfl)
abbrev cX0_areTwo : ByteArray := prog_1_method_9_code
def yX0_areTwo : MethodName := ⟨RX0, "areTwo", "(II)Z"⟩
def dkwX0_areTwo_1 : List UInt8 := [167, 0, 4, 3, 172]
abbrev dktX0_areTwo_1 : List UInt8 := dkwX0_areTwo_1 ++ []
def dkwX0_areTwo_0 : List UInt8 := [42, 27, 182, 0, 78, 153, 0, 20, 42, 28, 182, 0, 78, 153, 0, 12, 27, 28, 159, 0, 7, 4]
abbrev dktX0_areTwo_0 : List UInt8 := dkwX0_areTwo_0 ++ dktX0_areTwo_1
theorem dksX0_areTwo_0 : cX0_areTwo.data.toList.drop 0 = dktX0_areTwo_0 := by decide +kernel
theorem dksX0_areTwo_1 : cX0_areTwo.data.toList.drop 22 = dktX0_areTwo_1 := dk_seg dksX0_areTwo_0 22 rfl rfl
theorem dX0_areTwo_0 : decode cX0_areTwo 0 = .ok (.aload_n 0, 1) := dk_42 (dk_at dksX0_areTwo_0 0 rfl rfl)
theorem dX0_areTwo_1 : decode cX0_areTwo 1 = .ok (.iload_n 1, 1) := dk_27 (dk_at dksX0_areTwo_0 1 rfl rfl)
theorem dX0_areTwo_2 : decode cX0_areTwo 2 = .ok (.invokevirtual 78, 3) := dk_182 0 78 (dk_at dksX0_areTwo_0 2 rfl rfl)
theorem dX0_areTwo_5 : decode cX0_areTwo 5 = .ok (.ifCond .eq 20, 3) := dk_153 0 20 (dk_at dksX0_areTwo_0 5 rfl rfl)
theorem dX0_areTwo_8 : decode cX0_areTwo 8 = .ok (.aload_n 0, 1) := dk_42 (dk_at dksX0_areTwo_0 8 rfl rfl)
theorem dX0_areTwo_9 : decode cX0_areTwo 9 = .ok (.iload_n 2, 1) := dk_28 (dk_at dksX0_areTwo_0 9 rfl rfl)
theorem dX0_areTwo_10 : decode cX0_areTwo 10 = .ok (.invokevirtual 78, 3) := dk_182 0 78 (dk_at dksX0_areTwo_0 10 rfl rfl)
theorem dX0_areTwo_13 : decode cX0_areTwo 13 = .ok (.ifCond .eq 12, 3) := dk_153 0 12 (dk_at dksX0_areTwo_0 13 rfl rfl)
theorem dX0_areTwo_16 : decode cX0_areTwo 16 = .ok (.iload_n 1, 1) := dk_27 (dk_at dksX0_areTwo_0 16 rfl rfl)
theorem dX0_areTwo_17 : decode cX0_areTwo 17 = .ok (.iload_n 2, 1) := dk_28 (dk_at dksX0_areTwo_0 17 rfl rfl)
theorem dX0_areTwo_18 : decode cX0_areTwo 18 = .ok (.if_icmp .eq 7, 3) := dk_159 0 7 (dk_at dksX0_areTwo_0 18 rfl rfl)
theorem dX0_areTwo_21 : decode cX0_areTwo 21 = .ok (.iconst 1, 1) := dk_4 (dk_at dksX0_areTwo_0 21 rfl rfl)
theorem dX0_areTwo_22 : decode cX0_areTwo 22 = .ok (.goto 4, 3) := dk_167 0 4 (dk_at dksX0_areTwo_1 0 rfl rfl)
theorem dX0_areTwo_25 : decode cX0_areTwo 25 = .ok (.iconst 0, 1) := dk_3 (dk_at dksX0_areTwo_1 3 rfl rfl)
theorem dX0_areTwo_26 : decode cX0_areTwo 26 = .ok (.ireturn, 1) := dk_172 (dk_at dksX0_areTwo_1 4 rfl rfl)
abbrev cX0_rope : ByteArray := prog_1_method_16_code
def yX0_rope : MethodName := ⟨RX0, "rope", "(II)I"⟩
def dkwX0_rope_1 : List UInt8 := [180, 0, 129, 27, 50, 28, 46, 167, 0, 4, 2, 172]
abbrev dktX0_rope_1 : List UInt8 := dkwX0_rope_1 ++ []
def dkwX0_rope_0 : List UInt8 := [42, 27, 182, 0, 124, 153, 0, 29, 28, 133, 9, 20, 0, 127, 184, 0, 5, 153, 0, 17, 42, 180, 0, 35]
abbrev dktX0_rope_0 : List UInt8 := dkwX0_rope_0 ++ dktX0_rope_1
theorem dksX0_rope_0 : cX0_rope.data.toList.drop 0 = dktX0_rope_0 := by decide +kernel
theorem dksX0_rope_1 : cX0_rope.data.toList.drop 24 = dktX0_rope_1 := dk_seg dksX0_rope_0 24 rfl rfl
theorem dX0_rope_0 : decode cX0_rope 0 = .ok (.aload_n 0, 1) := dk_42 (dk_at dksX0_rope_0 0 rfl rfl)
theorem dX0_rope_1 : decode cX0_rope 1 = .ok (.iload_n 1, 1) := dk_27 (dk_at dksX0_rope_0 1 rfl rfl)
theorem dX0_rope_2 : decode cX0_rope 2 = .ok (.invokevirtual 124, 3) := dk_182 0 124 (dk_at dksX0_rope_0 2 rfl rfl)
theorem dX0_rope_5 : decode cX0_rope 5 = .ok (.ifCond .eq 29, 3) := dk_153 0 29 (dk_at dksX0_rope_0 5 rfl rfl)
theorem dX0_rope_8 : decode cX0_rope 8 = .ok (.iload_n 2, 1) := dk_28 (dk_at dksX0_rope_0 8 rfl rfl)
theorem dX0_rope_9 : decode cX0_rope 9 = .ok (.i2l, 1) := dk_133 (dk_at dksX0_rope_0 9 rfl rfl)
theorem dX0_rope_10 : decode cX0_rope 10 = .ok (.lconst 0, 1) := dk_9 (dk_at dksX0_rope_0 10 rfl rfl)
theorem dX0_rope_11 : decode cX0_rope 11 = .ok (.ldc2_w 127, 3) := dk_20 0 127 (dk_at dksX0_rope_0 11 rfl rfl)
theorem dX0_rope_14 : decode cX0_rope 14 = .ok (.invokestatic 5, 3) := dk_184 0 5 (dk_at dksX0_rope_0 14 rfl rfl)
theorem dX0_rope_17 : decode cX0_rope 17 = .ok (.ifCond .eq 17, 3) := dk_153 0 17 (dk_at dksX0_rope_0 17 rfl rfl)
theorem dX0_rope_20 : decode cX0_rope 20 = .ok (.aload_n 0, 1) := dk_42 (dk_at dksX0_rope_0 20 rfl rfl)
theorem dX0_rope_21 : decode cX0_rope 21 = .ok (.getfield 35, 3) := dk_180 0 35 (dk_at dksX0_rope_0 21 rfl rfl)
theorem dX0_rope_24 : decode cX0_rope 24 = .ok (.getfield 129, 3) := dk_180 0 129 (dk_at dksX0_rope_1 0 rfl rfl)
theorem dX0_rope_27 : decode cX0_rope 27 = .ok (.iload_n 1, 1) := dk_27 (dk_at dksX0_rope_1 3 rfl rfl)
theorem dX0_rope_28 : decode cX0_rope 28 = .ok (.aaload, 1) := dk_50 (dk_at dksX0_rope_1 4 rfl rfl)
theorem dX0_rope_29 : decode cX0_rope 29 = .ok (.iload_n 2, 1) := dk_28 (dk_at dksX0_rope_1 5 rfl rfl)
theorem dX0_rope_30 : decode cX0_rope 30 = .ok (.iaload, 1) := dk_46 (dk_at dksX0_rope_1 6 rfl rfl)
theorem dX0_rope_31 : decode cX0_rope 31 = .ok (.goto 4, 3) := dk_167 0 4 (dk_at dksX0_rope_1 7 rfl rfl)
theorem dX0_rope_34 : decode cX0_rope 34 = .ok (.iconst (-1), 1) := dk_2 (dk_at dksX0_rope_1 10 rfl rfl)
theorem dX0_rope_35 : decode cX0_rope 35 = .ok (.ireturn, 1) := dk_172 (dk_at dksX0_rope_1 11 rfl rfl)
abbrev cX0_isRope : ByteArray := prog_1_method_10_code
def yX0_isRope : MethodName := ⟨RX0, "isRope", "(I)Z"⟩
def dkwX0_isRope_0 : List UInt8 := [27, 133, 9, 42, 180, 0, 35, 180, 0, 82, 4, 100, 133, 184, 0, 5, 172]
abbrev dktX0_isRope_0 : List UInt8 := dkwX0_isRope_0 ++ []
theorem dksX0_isRope_0 : cX0_isRope.data.toList.drop 0 = dktX0_isRope_0 := by decide +kernel
theorem dX0_isRope_0 : decode cX0_isRope 0 = .ok (.iload_n 1, 1) := dk_27 (dk_at dksX0_isRope_0 0 rfl rfl)
theorem dX0_isRope_1 : decode cX0_isRope 1 = .ok (.i2l, 1) := dk_133 (dk_at dksX0_isRope_0 1 rfl rfl)
theorem dX0_isRope_2 : decode cX0_isRope 2 = .ok (.lconst 0, 1) := dk_9 (dk_at dksX0_isRope_0 2 rfl rfl)
theorem dX0_isRope_3 : decode cX0_isRope 3 = .ok (.aload_n 0, 1) := dk_42 (dk_at dksX0_isRope_0 3 rfl rfl)
theorem dX0_isRope_4 : decode cX0_isRope 4 = .ok (.getfield 35, 3) := dk_180 0 35 (dk_at dksX0_isRope_0 4 rfl rfl)
theorem dX0_isRope_7 : decode cX0_isRope 7 = .ok (.getfield 82, 3) := dk_180 0 82 (dk_at dksX0_isRope_0 7 rfl rfl)
theorem dX0_isRope_10 : decode cX0_isRope 10 = .ok (.iconst 1, 1) := dk_4 (dk_at dksX0_isRope_0 10 rfl rfl)
theorem dX0_isRope_11 : decode cX0_isRope 11 = .ok (.isub, 1) := dk_100 (dk_at dksX0_isRope_0 11 rfl rfl)
theorem dX0_isRope_12 : decode cX0_isRope 12 = .ok (.i2l, 1) := dk_133 (dk_at dksX0_isRope_0 12 rfl rfl)
theorem dX0_isRope_13 : decode cX0_isRope 13 = .ok (.invokestatic 5, 3) := dk_184 0 5 (dk_at dksX0_isRope_0 13 rfl rfl)
theorem dX0_isRope_16 : decode cX0_isRope 16 = .ok (.ireturn, 1) := dk_172 (dk_at dksX0_isRope_0 16 rfl rfl)
abbrev cX0_far : ByteArray := prog_1_method_17_code
def yX0_far : MethodName := ⟨RX0, "far", "(II)I"⟩
def dkwX0_far_0 : List UInt8 := [42, 27, 28, 182, 0, 117, 153, 0, 15, 42, 180, 0, 35, 27, 28, 182, 0, 132, 167, 0, 4, 2, 172]
abbrev dktX0_far_0 : List UInt8 := dkwX0_far_0 ++ []
theorem dksX0_far_0 : cX0_far.data.toList.drop 0 = dktX0_far_0 := by decide +kernel
theorem dX0_far_0 : decode cX0_far 0 = .ok (.aload_n 0, 1) := dk_42 (dk_at dksX0_far_0 0 rfl rfl)
theorem dX0_far_1 : decode cX0_far 1 = .ok (.iload_n 1, 1) := dk_27 (dk_at dksX0_far_0 1 rfl rfl)
theorem dX0_far_2 : decode cX0_far 2 = .ok (.iload_n 2, 1) := dk_28 (dk_at dksX0_far_0 2 rfl rfl)
theorem dX0_far_3 : decode cX0_far 3 = .ok (.invokevirtual 117, 3) := dk_182 0 117 (dk_at dksX0_far_0 3 rfl rfl)
theorem dX0_far_6 : decode cX0_far 6 = .ok (.ifCond .eq 15, 3) := dk_153 0 15 (dk_at dksX0_far_0 6 rfl rfl)
theorem dX0_far_9 : decode cX0_far 9 = .ok (.aload_n 0, 1) := dk_42 (dk_at dksX0_far_0 9 rfl rfl)
theorem dX0_far_10 : decode cX0_far 10 = .ok (.getfield 35, 3) := dk_180 0 35 (dk_at dksX0_far_0 10 rfl rfl)
theorem dX0_far_13 : decode cX0_far 13 = .ok (.iload_n 1, 1) := dk_27 (dk_at dksX0_far_0 13 rfl rfl)
theorem dX0_far_14 : decode cX0_far 14 = .ok (.iload_n 2, 1) := dk_28 (dk_at dksX0_far_0 14 rfl rfl)
theorem dX0_far_15 : decode cX0_far 15 = .ok (.invokevirtual 132, 3) := dk_182 0 132 (dk_at dksX0_far_0 15 rfl rfl)
theorem dX0_far_18 : decode cX0_far 18 = .ok (.goto 4, 3) := dk_167 0 4 (dk_at dksX0_far_0 18 rfl rfl)
theorem dX0_far_21 : decode cX0_far 21 = .ok (.iconst (-1), 1) := dk_2 (dk_at dksX0_far_0 21 rfl rfl)
theorem dX0_far_22 : decode cX0_far 22 = .ok (.ireturn, 1) := dk_172 (dk_at dksX0_far_0 22 rfl rfl)
abbrev cX0_alter : ByteArray := prog_1_method_18_code
def yX0_alter : MethodName := ⟨RX0, "alter", "(III)I"⟩
def dkwX0_alter_4 : List UInt8 := [27, 50, 28, 46, 54, 6, 42, 180, 0, 35, 180, 0, 100, 27, 50, 28, 29, 79, 21, 6, 172]
abbrev dktX0_alter_4 : List UInt8 := dkwX0_alter_4 ++ []
def dkwX0_alter_3 : List UInt8 := [153, 0, 7, 4, 167, 0, 4, 3, 54, 5, 21, 5, 154, 0, 5, 2, 172, 42, 180, 0, 35, 180, 0, 100]
abbrev dktX0_alter_3 : List UInt8 := dkwX0_alter_3 ++ dktX0_alter_4
def dkwX0_alter_2 : List UInt8 := [9, 20, 0, 139, 184, 0, 5, 167, 0, 25, 28, 4, 160, 0, 19, 29, 184, 0, 141, 153, 0, 12, 21, 4]
abbrev dktX0_alter_2 : List UInt8 := dkwX0_alter_2 ++ dktX0_alter_3
def dkwX0_alter_1 : List UInt8 := [180, 0, 35, 29, 182, 0, 136, 27, 160, 0, 7, 4, 167, 0, 4, 3, 54, 4, 28, 154, 0, 15, 29, 133]
abbrev dktX0_alter_1 : List UInt8 := dkwX0_alter_1 ++ dktX0_alter_2
def dkwX0_alter_0 : List UInt8 := [42, 27, 182, 0, 78, 154, 0, 5, 2, 172, 42, 180, 0, 35, 29, 182, 0, 136, 16, 252, 159, 0, 15, 42]
abbrev dktX0_alter_0 : List UInt8 := dkwX0_alter_0 ++ dktX0_alter_1
theorem dksX0_alter_0 : cX0_alter.data.toList.drop 0 = dktX0_alter_0 := by decide +kernel
theorem dksX0_alter_1 : cX0_alter.data.toList.drop 24 = dktX0_alter_1 := dk_seg dksX0_alter_0 24 rfl rfl
theorem dksX0_alter_2 : cX0_alter.data.toList.drop 48 = dktX0_alter_2 := dk_seg dksX0_alter_1 24 rfl rfl
theorem dksX0_alter_3 : cX0_alter.data.toList.drop 72 = dktX0_alter_3 := dk_seg dksX0_alter_2 24 rfl rfl
theorem dksX0_alter_4 : cX0_alter.data.toList.drop 96 = dktX0_alter_4 := dk_seg dksX0_alter_3 24 rfl rfl
theorem dX0_alter_0 : decode cX0_alter 0 = .ok (.aload_n 0, 1) := dk_42 (dk_at dksX0_alter_0 0 rfl rfl)
theorem dX0_alter_1 : decode cX0_alter 1 = .ok (.iload_n 1, 1) := dk_27 (dk_at dksX0_alter_0 1 rfl rfl)
theorem dX0_alter_2 : decode cX0_alter 2 = .ok (.invokevirtual 78, 3) := dk_182 0 78 (dk_at dksX0_alter_0 2 rfl rfl)
theorem dX0_alter_5 : decode cX0_alter 5 = .ok (.ifCond .ne 5, 3) := dk_154 0 5 (dk_at dksX0_alter_0 5 rfl rfl)
theorem dX0_alter_8 : decode cX0_alter 8 = .ok (.iconst (-1), 1) := dk_2 (dk_at dksX0_alter_0 8 rfl rfl)
theorem dX0_alter_9 : decode cX0_alter 9 = .ok (.ireturn, 1) := dk_172 (dk_at dksX0_alter_0 9 rfl rfl)
theorem dX0_alter_10 : decode cX0_alter 10 = .ok (.aload_n 0, 1) := dk_42 (dk_at dksX0_alter_0 10 rfl rfl)
theorem dX0_alter_11 : decode cX0_alter 11 = .ok (.getfield 35, 3) := dk_180 0 35 (dk_at dksX0_alter_0 11 rfl rfl)
theorem dX0_alter_14 : decode cX0_alter 14 = .ok (.iload_n 3, 1) := dk_29 (dk_at dksX0_alter_0 14 rfl rfl)
theorem dX0_alter_15 : decode cX0_alter 15 = .ok (.invokevirtual 136, 3) := dk_182 0 136 (dk_at dksX0_alter_0 15 rfl rfl)
theorem dX0_alter_18 : decode cX0_alter 18 = .ok (.bipush (-4), 2) := dk_16 252 (dk_at dksX0_alter_0 18 rfl rfl)
theorem dX0_alter_20 : decode cX0_alter 20 = .ok (.if_icmp .eq 15, 3) := dk_159 0 15 (dk_at dksX0_alter_0 20 rfl rfl)
theorem dX0_alter_23 : decode cX0_alter 23 = .ok (.aload_n 0, 1) := dk_42 (dk_at dksX0_alter_0 23 rfl rfl)
theorem dX0_alter_24 : decode cX0_alter 24 = .ok (.getfield 35, 3) := dk_180 0 35 (dk_at dksX0_alter_1 0 rfl rfl)
theorem dX0_alter_27 : decode cX0_alter 27 = .ok (.iload_n 3, 1) := dk_29 (dk_at dksX0_alter_1 3 rfl rfl)
theorem dX0_alter_28 : decode cX0_alter 28 = .ok (.invokevirtual 136, 3) := dk_182 0 136 (dk_at dksX0_alter_1 4 rfl rfl)
theorem dX0_alter_31 : decode cX0_alter 31 = .ok (.iload_n 1, 1) := dk_27 (dk_at dksX0_alter_1 7 rfl rfl)
theorem dX0_alter_32 : decode cX0_alter 32 = .ok (.if_icmp .ne 7, 3) := dk_160 0 7 (dk_at dksX0_alter_1 8 rfl rfl)
theorem dX0_alter_35 : decode cX0_alter 35 = .ok (.iconst 1, 1) := dk_4 (dk_at dksX0_alter_1 11 rfl rfl)
theorem dX0_alter_36 : decode cX0_alter 36 = .ok (.goto 4, 3) := dk_167 0 4 (dk_at dksX0_alter_1 12 rfl rfl)
theorem dX0_alter_39 : decode cX0_alter 39 = .ok (.iconst 0, 1) := dk_3 (dk_at dksX0_alter_1 15 rfl rfl)
theorem dX0_alter_40 : decode cX0_alter 40 = .ok (.istore 4, 2) := dk_54 4 (dk_at dksX0_alter_1 16 rfl rfl)
theorem dX0_alter_42 : decode cX0_alter 42 = .ok (.iload_n 2, 1) := dk_28 (dk_at dksX0_alter_1 18 rfl rfl)
theorem dX0_alter_43 : decode cX0_alter 43 = .ok (.ifCond .ne 15, 3) := dk_154 0 15 (dk_at dksX0_alter_1 19 rfl rfl)
theorem dX0_alter_46 : decode cX0_alter 46 = .ok (.iload_n 3, 1) := dk_29 (dk_at dksX0_alter_1 22 rfl rfl)
theorem dX0_alter_47 : decode cX0_alter 47 = .ok (.i2l, 1) := dk_133 (dk_at dksX0_alter_1 23 rfl rfl)
theorem dX0_alter_48 : decode cX0_alter 48 = .ok (.lconst 0, 1) := dk_9 (dk_at dksX0_alter_2 0 rfl rfl)
theorem dX0_alter_49 : decode cX0_alter 49 = .ok (.ldc2_w 139, 3) := dk_20 0 139 (dk_at dksX0_alter_2 1 rfl rfl)
theorem dX0_alter_52 : decode cX0_alter 52 = .ok (.invokestatic 5, 3) := dk_184 0 5 (dk_at dksX0_alter_2 4 rfl rfl)
theorem dX0_alter_55 : decode cX0_alter 55 = .ok (.goto 25, 3) := dk_167 0 25 (dk_at dksX0_alter_2 7 rfl rfl)
theorem dX0_alter_58 : decode cX0_alter 58 = .ok (.iload_n 2, 1) := dk_28 (dk_at dksX0_alter_2 10 rfl rfl)
theorem dX0_alter_59 : decode cX0_alter 59 = .ok (.iconst 1, 1) := dk_4 (dk_at dksX0_alter_2 11 rfl rfl)
theorem dX0_alter_60 : decode cX0_alter 60 = .ok (.if_icmp .ne 19, 3) := dk_160 0 19 (dk_at dksX0_alter_2 12 rfl rfl)
theorem dX0_alter_63 : decode cX0_alter 63 = .ok (.iload_n 3, 1) := dk_29 (dk_at dksX0_alter_2 15 rfl rfl)
theorem dX0_alter_64 : decode cX0_alter 64 = .ok (.invokestatic 141, 3) := dk_184 0 141 (dk_at dksX0_alter_2 16 rfl rfl)
theorem dX0_alter_67 : decode cX0_alter 67 = .ok (.ifCond .eq 12, 3) := dk_153 0 12 (dk_at dksX0_alter_2 19 rfl rfl)
theorem dX0_alter_70 : decode cX0_alter 70 = .ok (.iload 4, 2) := dk_21 4 (dk_at dksX0_alter_2 22 rfl rfl)
theorem dX0_alter_72 : decode cX0_alter 72 = .ok (.ifCond .eq 7, 3) := dk_153 0 7 (dk_at dksX0_alter_3 0 rfl rfl)
theorem dX0_alter_75 : decode cX0_alter 75 = .ok (.iconst 1, 1) := dk_4 (dk_at dksX0_alter_3 3 rfl rfl)
theorem dX0_alter_76 : decode cX0_alter 76 = .ok (.goto 4, 3) := dk_167 0 4 (dk_at dksX0_alter_3 4 rfl rfl)
theorem dX0_alter_79 : decode cX0_alter 79 = .ok (.iconst 0, 1) := dk_3 (dk_at dksX0_alter_3 7 rfl rfl)
theorem dX0_alter_80 : decode cX0_alter 80 = .ok (.istore 5, 2) := dk_54 5 (dk_at dksX0_alter_3 8 rfl rfl)
theorem dX0_alter_82 : decode cX0_alter 82 = .ok (.iload 5, 2) := dk_21 5 (dk_at dksX0_alter_3 10 rfl rfl)
theorem dX0_alter_84 : decode cX0_alter 84 = .ok (.ifCond .ne 5, 3) := dk_154 0 5 (dk_at dksX0_alter_3 12 rfl rfl)
theorem dX0_alter_87 : decode cX0_alter 87 = .ok (.iconst (-1), 1) := dk_2 (dk_at dksX0_alter_3 15 rfl rfl)
theorem dX0_alter_88 : decode cX0_alter 88 = .ok (.ireturn, 1) := dk_172 (dk_at dksX0_alter_3 16 rfl rfl)
theorem dX0_alter_89 : decode cX0_alter 89 = .ok (.aload_n 0, 1) := dk_42 (dk_at dksX0_alter_3 17 rfl rfl)
theorem dX0_alter_90 : decode cX0_alter 90 = .ok (.getfield 35, 3) := dk_180 0 35 (dk_at dksX0_alter_3 18 rfl rfl)
theorem dX0_alter_93 : decode cX0_alter 93 = .ok (.getfield 100, 3) := dk_180 0 100 (dk_at dksX0_alter_3 21 rfl rfl)
theorem dX0_alter_96 : decode cX0_alter 96 = .ok (.iload_n 1, 1) := dk_27 (dk_at dksX0_alter_4 0 rfl rfl)
theorem dX0_alter_97 : decode cX0_alter 97 = .ok (.aaload, 1) := dk_50 (dk_at dksX0_alter_4 1 rfl rfl)
theorem dX0_alter_98 : decode cX0_alter 98 = .ok (.iload_n 2, 1) := dk_28 (dk_at dksX0_alter_4 2 rfl rfl)
theorem dX0_alter_99 : decode cX0_alter 99 = .ok (.iaload, 1) := dk_46 (dk_at dksX0_alter_4 3 rfl rfl)
theorem dX0_alter_100 : decode cX0_alter 100 = .ok (.istore 6, 2) := dk_54 6 (dk_at dksX0_alter_4 4 rfl rfl)
theorem dX0_alter_102 : decode cX0_alter 102 = .ok (.aload_n 0, 1) := dk_42 (dk_at dksX0_alter_4 6 rfl rfl)
theorem dX0_alter_103 : decode cX0_alter 103 = .ok (.getfield 35, 3) := dk_180 0 35 (dk_at dksX0_alter_4 7 rfl rfl)
theorem dX0_alter_106 : decode cX0_alter 106 = .ok (.getfield 100, 3) := dk_180 0 100 (dk_at dksX0_alter_4 10 rfl rfl)
theorem dX0_alter_109 : decode cX0_alter 109 = .ok (.iload_n 1, 1) := dk_27 (dk_at dksX0_alter_4 13 rfl rfl)
theorem dX0_alter_110 : decode cX0_alter 110 = .ok (.aaload, 1) := dk_50 (dk_at dksX0_alter_4 14 rfl rfl)
theorem dX0_alter_111 : decode cX0_alter 111 = .ok (.iload_n 2, 1) := dk_28 (dk_at dksX0_alter_4 15 rfl rfl)
theorem dX0_alter_112 : decode cX0_alter 112 = .ok (.iload_n 3, 1) := dk_29 (dk_at dksX0_alter_4 16 rfl rfl)
theorem dX0_alter_113 : decode cX0_alter 113 = .ok (.iastore, 1) := dk_79 (dk_at dksX0_alter_4 17 rfl rfl)
theorem dX0_alter_114 : decode cX0_alter 114 = .ok (.iload 6, 2) := dk_21 6 (dk_at dksX0_alter_4 18 rfl rfl)
theorem dX0_alter_116 : decode cX0_alter 116 = .ok (.ireturn, 1) := dk_172 (dk_at dksX0_alter_4 20 rfl rfl)
abbrev cX0_isFathom : ByteArray := prog_1_method_3_code
def yX0_isFathom : MethodName := ⟨RX0, "isFathom", "(I)Z"⟩
def dkwX0_isFathom_0 : List UInt8 := [26, 133, 9, 20, 0, 3, 184, 0, 5, 172]
abbrev dktX0_isFathom_0 : List UInt8 := dkwX0_isFathom_0 ++ []
theorem dksX0_isFathom_0 : cX0_isFathom.data.toList.drop 0 = dktX0_isFathom_0 := by decide +kernel
theorem dX0_isFathom_0 : decode cX0_isFathom 0 = .ok (.iload_n 0, 1) := dk_26 (dk_at dksX0_isFathom_0 0 rfl rfl)
theorem dX0_isFathom_1 : decode cX0_isFathom 1 = .ok (.i2l, 1) := dk_133 (dk_at dksX0_isFathom_0 1 rfl rfl)
theorem dX0_isFathom_2 : decode cX0_isFathom 2 = .ok (.lconst 0, 1) := dk_9 (dk_at dksX0_isFathom_0 2 rfl rfl)
theorem dX0_isFathom_3 : decode cX0_isFathom 3 = .ok (.ldc2_w 3, 3) := dk_20 0 3 (dk_at dksX0_isFathom_0 3 rfl rfl)
theorem dX0_isFathom_6 : decode cX0_isFathom 6 = .ok (.invokestatic 5, 3) := dk_184 0 5 (dk_at dksX0_isFathom_0 6 rfl rfl)
theorem dX0_isFathom_9 : decode cX0_isFathom 9 = .ok (.ireturn, 1) := dk_172 (dk_at dksX0_isFathom_0 9 rfl rfl)
abbrev cX0_sulk : ByteArray := prog_1_method_20_code
def yX0_sulk : MethodName := ⟨RX0, "sulk", "(III)I"⟩
def dkwX0_sulk_0 : List UInt8 := [42, 27, 28, 29, 182, 0, 144, 172]
abbrev dktX0_sulk_0 : List UInt8 := dkwX0_sulk_0 ++ []
theorem dksX0_sulk_0 : cX0_sulk.data.toList.drop 0 = dktX0_sulk_0 := by decide +kernel
theorem dX0_sulk_0 : decode cX0_sulk 0 = .ok (.aload_n 0, 1) := dk_42 (dk_at dksX0_sulk_0 0 rfl rfl)
theorem dX0_sulk_1 : decode cX0_sulk 1 = .ok (.iload_n 1, 1) := dk_27 (dk_at dksX0_sulk_0 1 rfl rfl)
theorem dX0_sulk_2 : decode cX0_sulk 2 = .ok (.iload_n 2, 1) := dk_28 (dk_at dksX0_sulk_0 2 rfl rfl)
theorem dX0_sulk_3 : decode cX0_sulk 3 = .ok (.iload_n 3, 1) := dk_29 (dk_at dksX0_sulk_0 3 rfl rfl)
theorem dX0_sulk_4 : decode cX0_sulk 4 = .ok (.invokevirtual 144, 3) := dk_182 0 144 (dk_at dksX0_sulk_0 4 rfl rfl)
theorem dX0_sulk_7 : decode cX0_sulk 7 = .ok (.ireturn, 1) := dk_172 (dk_at dksX0_sulk_0 7 rfl rfl)
abbrev cX0_sulked : ByteArray := prog_1_method_19_code
def yX0_sulked : MethodName := ⟨RX0, "sulked", "(III)I"⟩
def dkwX0_sulked_2 : List UInt8 := [21, 4, 172]
abbrev dktX0_sulked_2 : List UInt8 := dkwX0_sulked_2 ++ []
def dkwX0_sulked_1 : List UInt8 := [180, 0, 35, 180, 0, 121, 27, 50, 28, 46, 54, 4, 42, 180, 0, 35, 180, 0, 121, 27, 50, 28, 29, 79]
abbrev dktX0_sulked_1 : List UInt8 := dkwX0_sulked_1 ++ dktX0_sulked_2
def dkwX0_sulked_0 : List UInt8 := [42, 27, 28, 182, 0, 117, 153, 0, 15, 29, 133, 9, 20, 0, 139, 184, 0, 5, 154, 0, 5, 2, 172, 42]
abbrev dktX0_sulked_0 : List UInt8 := dkwX0_sulked_0 ++ dktX0_sulked_1
theorem dksX0_sulked_0 : cX0_sulked.data.toList.drop 0 = dktX0_sulked_0 := by decide +kernel
theorem dksX0_sulked_1 : cX0_sulked.data.toList.drop 24 = dktX0_sulked_1 := dk_seg dksX0_sulked_0 24 rfl rfl
theorem dksX0_sulked_2 : cX0_sulked.data.toList.drop 48 = dktX0_sulked_2 := dk_seg dksX0_sulked_1 24 rfl rfl
theorem dX0_sulked_0 : decode cX0_sulked 0 = .ok (.aload_n 0, 1) := dk_42 (dk_at dksX0_sulked_0 0 rfl rfl)
theorem dX0_sulked_1 : decode cX0_sulked 1 = .ok (.iload_n 1, 1) := dk_27 (dk_at dksX0_sulked_0 1 rfl rfl)
theorem dX0_sulked_2 : decode cX0_sulked 2 = .ok (.iload_n 2, 1) := dk_28 (dk_at dksX0_sulked_0 2 rfl rfl)
theorem dX0_sulked_3 : decode cX0_sulked 3 = .ok (.invokevirtual 117, 3) := dk_182 0 117 (dk_at dksX0_sulked_0 3 rfl rfl)
theorem dX0_sulked_6 : decode cX0_sulked 6 = .ok (.ifCond .eq 15, 3) := dk_153 0 15 (dk_at dksX0_sulked_0 6 rfl rfl)
theorem dX0_sulked_9 : decode cX0_sulked 9 = .ok (.iload_n 3, 1) := dk_29 (dk_at dksX0_sulked_0 9 rfl rfl)
theorem dX0_sulked_10 : decode cX0_sulked 10 = .ok (.i2l, 1) := dk_133 (dk_at dksX0_sulked_0 10 rfl rfl)
theorem dX0_sulked_11 : decode cX0_sulked 11 = .ok (.lconst 0, 1) := dk_9 (dk_at dksX0_sulked_0 11 rfl rfl)
theorem dX0_sulked_12 : decode cX0_sulked 12 = .ok (.ldc2_w 139, 3) := dk_20 0 139 (dk_at dksX0_sulked_0 12 rfl rfl)
theorem dX0_sulked_15 : decode cX0_sulked 15 = .ok (.invokestatic 5, 3) := dk_184 0 5 (dk_at dksX0_sulked_0 15 rfl rfl)
theorem dX0_sulked_18 : decode cX0_sulked 18 = .ok (.ifCond .ne 5, 3) := dk_154 0 5 (dk_at dksX0_sulked_0 18 rfl rfl)
theorem dX0_sulked_21 : decode cX0_sulked 21 = .ok (.iconst (-1), 1) := dk_2 (dk_at dksX0_sulked_0 21 rfl rfl)
theorem dX0_sulked_22 : decode cX0_sulked 22 = .ok (.ireturn, 1) := dk_172 (dk_at dksX0_sulked_0 22 rfl rfl)
theorem dX0_sulked_23 : decode cX0_sulked 23 = .ok (.aload_n 0, 1) := dk_42 (dk_at dksX0_sulked_0 23 rfl rfl)
theorem dX0_sulked_24 : decode cX0_sulked 24 = .ok (.getfield 35, 3) := dk_180 0 35 (dk_at dksX0_sulked_1 0 rfl rfl)
theorem dX0_sulked_27 : decode cX0_sulked 27 = .ok (.getfield 121, 3) := dk_180 0 121 (dk_at dksX0_sulked_1 3 rfl rfl)
theorem dX0_sulked_30 : decode cX0_sulked 30 = .ok (.iload_n 1, 1) := dk_27 (dk_at dksX0_sulked_1 6 rfl rfl)
theorem dX0_sulked_31 : decode cX0_sulked 31 = .ok (.aaload, 1) := dk_50 (dk_at dksX0_sulked_1 7 rfl rfl)
theorem dX0_sulked_32 : decode cX0_sulked 32 = .ok (.iload_n 2, 1) := dk_28 (dk_at dksX0_sulked_1 8 rfl rfl)
theorem dX0_sulked_33 : decode cX0_sulked 33 = .ok (.iaload, 1) := dk_46 (dk_at dksX0_sulked_1 9 rfl rfl)
theorem dX0_sulked_34 : decode cX0_sulked 34 = .ok (.istore 4, 2) := dk_54 4 (dk_at dksX0_sulked_1 10 rfl rfl)
theorem dX0_sulked_36 : decode cX0_sulked 36 = .ok (.aload_n 0, 1) := dk_42 (dk_at dksX0_sulked_1 12 rfl rfl)
theorem dX0_sulked_37 : decode cX0_sulked 37 = .ok (.getfield 35, 3) := dk_180 0 35 (dk_at dksX0_sulked_1 13 rfl rfl)
theorem dX0_sulked_40 : decode cX0_sulked 40 = .ok (.getfield 121, 3) := dk_180 0 121 (dk_at dksX0_sulked_1 16 rfl rfl)
theorem dX0_sulked_43 : decode cX0_sulked 43 = .ok (.iload_n 1, 1) := dk_27 (dk_at dksX0_sulked_1 19 rfl rfl)
theorem dX0_sulked_44 : decode cX0_sulked 44 = .ok (.aaload, 1) := dk_50 (dk_at dksX0_sulked_1 20 rfl rfl)
theorem dX0_sulked_45 : decode cX0_sulked 45 = .ok (.iload_n 2, 1) := dk_28 (dk_at dksX0_sulked_1 21 rfl rfl)
theorem dX0_sulked_46 : decode cX0_sulked 46 = .ok (.iload_n 3, 1) := dk_29 (dk_at dksX0_sulked_1 22 rfl rfl)
theorem dX0_sulked_47 : decode cX0_sulked 47 = .ok (.iastore, 1) := dk_79 (dk_at dksX0_sulked_1 23 rfl rfl)
theorem dX0_sulked_48 : decode cX0_sulked 48 = .ok (.iload 4, 2) := dk_21 4 (dk_at dksX0_sulked_2 0 rfl rfl)
theorem dX0_sulked_50 : decode cX0_sulked 50 = .ok (.ireturn, 1) := dk_172 (dk_at dksX0_sulked_2 2 rfl rfl)
abbrev cX0_haul : ByteArray := prog_1_method_21_code
def yX0_haul : MethodName := ⟨RX0, "haul", "(II)I"⟩
def dkwX0_haul_2 : List UInt8 := [172]
abbrev dktX0_haul_2 : List UInt8 := dkwX0_haul_2 ++ []
def dkwX0_haul_1 : List UInt8 := [180, 0, 35, 180, 0, 129, 27, 50, 5, 46, 62, 42, 180, 0, 35, 180, 0, 129, 27, 50, 5, 28, 79, 29]
abbrev dktX0_haul_1 : List UInt8 := dkwX0_haul_1 ++ dktX0_haul_2
def dkwX0_haul_0 : List UInt8 := [42, 27, 182, 0, 124, 153, 0, 15, 28, 133, 10, 20, 0, 148, 184, 0, 5, 154, 0, 5, 2, 172, 42]
abbrev dktX0_haul_0 : List UInt8 := dkwX0_haul_0 ++ dktX0_haul_1
theorem dksX0_haul_0 : cX0_haul.data.toList.drop 0 = dktX0_haul_0 := by decide +kernel
theorem dksX0_haul_1 : cX0_haul.data.toList.drop 23 = dktX0_haul_1 := dk_seg dksX0_haul_0 23 rfl rfl
theorem dksX0_haul_2 : cX0_haul.data.toList.drop 47 = dktX0_haul_2 := dk_seg dksX0_haul_1 24 rfl rfl
theorem dX0_haul_0 : decode cX0_haul 0 = .ok (.aload_n 0, 1) := dk_42 (dk_at dksX0_haul_0 0 rfl rfl)
theorem dX0_haul_1 : decode cX0_haul 1 = .ok (.iload_n 1, 1) := dk_27 (dk_at dksX0_haul_0 1 rfl rfl)
theorem dX0_haul_2 : decode cX0_haul 2 = .ok (.invokevirtual 124, 3) := dk_182 0 124 (dk_at dksX0_haul_0 2 rfl rfl)
theorem dX0_haul_5 : decode cX0_haul 5 = .ok (.ifCond .eq 15, 3) := dk_153 0 15 (dk_at dksX0_haul_0 5 rfl rfl)
theorem dX0_haul_8 : decode cX0_haul 8 = .ok (.iload_n 2, 1) := dk_28 (dk_at dksX0_haul_0 8 rfl rfl)
theorem dX0_haul_9 : decode cX0_haul 9 = .ok (.i2l, 1) := dk_133 (dk_at dksX0_haul_0 9 rfl rfl)
theorem dX0_haul_10 : decode cX0_haul 10 = .ok (.lconst 1, 1) := dk_10 (dk_at dksX0_haul_0 10 rfl rfl)
theorem dX0_haul_11 : decode cX0_haul 11 = .ok (.ldc2_w 148, 3) := dk_20 0 148 (dk_at dksX0_haul_0 11 rfl rfl)
theorem dX0_haul_14 : decode cX0_haul 14 = .ok (.invokestatic 5, 3) := dk_184 0 5 (dk_at dksX0_haul_0 14 rfl rfl)
theorem dX0_haul_17 : decode cX0_haul 17 = .ok (.ifCond .ne 5, 3) := dk_154 0 5 (dk_at dksX0_haul_0 17 rfl rfl)
theorem dX0_haul_20 : decode cX0_haul 20 = .ok (.iconst (-1), 1) := dk_2 (dk_at dksX0_haul_0 20 rfl rfl)
theorem dX0_haul_21 : decode cX0_haul 21 = .ok (.ireturn, 1) := dk_172 (dk_at dksX0_haul_0 21 rfl rfl)
theorem dX0_haul_22 : decode cX0_haul 22 = .ok (.aload_n 0, 1) := dk_42 (dk_at dksX0_haul_0 22 rfl rfl)
theorem dX0_haul_23 : decode cX0_haul 23 = .ok (.getfield 35, 3) := dk_180 0 35 (dk_at dksX0_haul_1 0 rfl rfl)
theorem dX0_haul_26 : decode cX0_haul 26 = .ok (.getfield 129, 3) := dk_180 0 129 (dk_at dksX0_haul_1 3 rfl rfl)
theorem dX0_haul_29 : decode cX0_haul 29 = .ok (.iload_n 1, 1) := dk_27 (dk_at dksX0_haul_1 6 rfl rfl)
theorem dX0_haul_30 : decode cX0_haul 30 = .ok (.aaload, 1) := dk_50 (dk_at dksX0_haul_1 7 rfl rfl)
theorem dX0_haul_31 : decode cX0_haul 31 = .ok (.iconst 2, 1) := dk_5 (dk_at dksX0_haul_1 8 rfl rfl)
theorem dX0_haul_32 : decode cX0_haul 32 = .ok (.iaload, 1) := dk_46 (dk_at dksX0_haul_1 9 rfl rfl)
theorem dX0_haul_33 : decode cX0_haul 33 = .ok (.istore_n 3, 1) := dk_62 (dk_at dksX0_haul_1 10 rfl rfl)
theorem dX0_haul_34 : decode cX0_haul 34 = .ok (.aload_n 0, 1) := dk_42 (dk_at dksX0_haul_1 11 rfl rfl)
theorem dX0_haul_35 : decode cX0_haul 35 = .ok (.getfield 35, 3) := dk_180 0 35 (dk_at dksX0_haul_1 12 rfl rfl)
theorem dX0_haul_38 : decode cX0_haul 38 = .ok (.getfield 129, 3) := dk_180 0 129 (dk_at dksX0_haul_1 15 rfl rfl)
theorem dX0_haul_41 : decode cX0_haul 41 = .ok (.iload_n 1, 1) := dk_27 (dk_at dksX0_haul_1 18 rfl rfl)
theorem dX0_haul_42 : decode cX0_haul 42 = .ok (.aaload, 1) := dk_50 (dk_at dksX0_haul_1 19 rfl rfl)
theorem dX0_haul_43 : decode cX0_haul 43 = .ok (.iconst 2, 1) := dk_5 (dk_at dksX0_haul_1 20 rfl rfl)
theorem dX0_haul_44 : decode cX0_haul 44 = .ok (.iload_n 2, 1) := dk_28 (dk_at dksX0_haul_1 21 rfl rfl)
theorem dX0_haul_45 : decode cX0_haul 45 = .ok (.iastore, 1) := dk_79 (dk_at dksX0_haul_1 22 rfl rfl)
theorem dX0_haul_46 : decode cX0_haul 46 = .ok (.iload_n 3, 1) := dk_29 (dk_at dksX0_haul_1 23 rfl rfl)
theorem dX0_haul_47 : decode cX0_haul 47 = .ok (.ireturn, 1) := dk_172 (dk_at dksX0_haul_2 0 rfl rfl)
abbrev cX0_wed : ByteArray := prog_1_method_22_code
def yX0_wed : MethodName := ⟨RX0, "wed", "(III)I"⟩
def dkwX0_wed_2 : List UInt8 := [42, 180, 0, 35, 180, 0, 82, 172]
abbrev dktX0_wed_2 : List UInt8 := dkwX0_wed_2 ++ []
def dkwX0_wed_1 : List UInt8 := [180, 0, 35, 180, 0, 82, 16, 6, 160, 0, 6, 16, 253, 172, 42, 180, 0, 35, 27, 28, 29, 182, 0, 150]
abbrev dktX0_wed_1 : List UInt8 := dkwX0_wed_1 ++ dktX0_wed_2
def dkwX0_wed_0 : List UInt8 := [42, 27, 28, 182, 0, 117, 153, 0, 15, 29, 133, 10, 20, 0, 148, 184, 0, 5, 154, 0, 5, 2, 172, 42]
abbrev dktX0_wed_0 : List UInt8 := dkwX0_wed_0 ++ dktX0_wed_1
theorem dksX0_wed_0 : cX0_wed.data.toList.drop 0 = dktX0_wed_0 := by decide +kernel
theorem dksX0_wed_1 : cX0_wed.data.toList.drop 24 = dktX0_wed_1 := dk_seg dksX0_wed_0 24 rfl rfl
theorem dksX0_wed_2 : cX0_wed.data.toList.drop 48 = dktX0_wed_2 := dk_seg dksX0_wed_1 24 rfl rfl
theorem dX0_wed_0 : decode cX0_wed 0 = .ok (.aload_n 0, 1) := dk_42 (dk_at dksX0_wed_0 0 rfl rfl)
theorem dX0_wed_1 : decode cX0_wed 1 = .ok (.iload_n 1, 1) := dk_27 (dk_at dksX0_wed_0 1 rfl rfl)
theorem dX0_wed_2 : decode cX0_wed 2 = .ok (.iload_n 2, 1) := dk_28 (dk_at dksX0_wed_0 2 rfl rfl)
theorem dX0_wed_3 : decode cX0_wed 3 = .ok (.invokevirtual 117, 3) := dk_182 0 117 (dk_at dksX0_wed_0 3 rfl rfl)
theorem dX0_wed_6 : decode cX0_wed 6 = .ok (.ifCond .eq 15, 3) := dk_153 0 15 (dk_at dksX0_wed_0 6 rfl rfl)
theorem dX0_wed_9 : decode cX0_wed 9 = .ok (.iload_n 3, 1) := dk_29 (dk_at dksX0_wed_0 9 rfl rfl)
theorem dX0_wed_10 : decode cX0_wed 10 = .ok (.i2l, 1) := dk_133 (dk_at dksX0_wed_0 10 rfl rfl)
theorem dX0_wed_11 : decode cX0_wed 11 = .ok (.lconst 1, 1) := dk_10 (dk_at dksX0_wed_0 11 rfl rfl)
theorem dX0_wed_12 : decode cX0_wed 12 = .ok (.ldc2_w 148, 3) := dk_20 0 148 (dk_at dksX0_wed_0 12 rfl rfl)
theorem dX0_wed_15 : decode cX0_wed 15 = .ok (.invokestatic 5, 3) := dk_184 0 5 (dk_at dksX0_wed_0 15 rfl rfl)
theorem dX0_wed_18 : decode cX0_wed 18 = .ok (.ifCond .ne 5, 3) := dk_154 0 5 (dk_at dksX0_wed_0 18 rfl rfl)
theorem dX0_wed_21 : decode cX0_wed 21 = .ok (.iconst (-1), 1) := dk_2 (dk_at dksX0_wed_0 21 rfl rfl)
theorem dX0_wed_22 : decode cX0_wed 22 = .ok (.ireturn, 1) := dk_172 (dk_at dksX0_wed_0 22 rfl rfl)
theorem dX0_wed_23 : decode cX0_wed 23 = .ok (.aload_n 0, 1) := dk_42 (dk_at dksX0_wed_0 23 rfl rfl)
theorem dX0_wed_24 : decode cX0_wed 24 = .ok (.getfield 35, 3) := dk_180 0 35 (dk_at dksX0_wed_1 0 rfl rfl)
theorem dX0_wed_27 : decode cX0_wed 27 = .ok (.getfield 82, 3) := dk_180 0 82 (dk_at dksX0_wed_1 3 rfl rfl)
theorem dX0_wed_30 : decode cX0_wed 30 = .ok (.bipush 6, 2) := dk_16 6 (dk_at dksX0_wed_1 6 rfl rfl)
theorem dX0_wed_32 : decode cX0_wed 32 = .ok (.if_icmp .ne 6, 3) := dk_160 0 6 (dk_at dksX0_wed_1 8 rfl rfl)
theorem dX0_wed_35 : decode cX0_wed 35 = .ok (.bipush (-3), 2) := dk_16 253 (dk_at dksX0_wed_1 11 rfl rfl)
theorem dX0_wed_37 : decode cX0_wed 37 = .ok (.ireturn, 1) := dk_172 (dk_at dksX0_wed_1 13 rfl rfl)
theorem dX0_wed_38 : decode cX0_wed 38 = .ok (.aload_n 0, 1) := dk_42 (dk_at dksX0_wed_1 14 rfl rfl)
theorem dX0_wed_39 : decode cX0_wed 39 = .ok (.getfield 35, 3) := dk_180 0 35 (dk_at dksX0_wed_1 15 rfl rfl)
theorem dX0_wed_42 : decode cX0_wed 42 = .ok (.iload_n 1, 1) := dk_27 (dk_at dksX0_wed_1 18 rfl rfl)
theorem dX0_wed_43 : decode cX0_wed 43 = .ok (.iload_n 2, 1) := dk_28 (dk_at dksX0_wed_1 19 rfl rfl)
theorem dX0_wed_44 : decode cX0_wed 44 = .ok (.iload_n 3, 1) := dk_29 (dk_at dksX0_wed_1 20 rfl rfl)
theorem dX0_wed_45 : decode cX0_wed 45 = .ok (.invokevirtual 150, 3) := dk_182 0 150 (dk_at dksX0_wed_1 21 rfl rfl)
theorem dX0_wed_48 : decode cX0_wed 48 = .ok (.aload_n 0, 1) := dk_42 (dk_at dksX0_wed_2 0 rfl rfl)
theorem dX0_wed_49 : decode cX0_wed 49 = .ok (.getfield 35, 3) := dk_180 0 35 (dk_at dksX0_wed_2 1 rfl rfl)
theorem dX0_wed_52 : decode cX0_wed 52 = .ok (.getfield 82, 3) := dk_180 0 82 (dk_at dksX0_wed_2 4 rfl rfl)
theorem dX0_wed_55 : decode cX0_wed 55 = .ok (.ireturn, 1) := dk_172 (dk_at dksX0_wed_2 7 rfl rfl)
abbrev cX0_loose : ByteArray := prog_1_method_23_code
def yX0_loose : MethodName := ⟨RX0, "loose", "(I)I"⟩
def dkwX0_loose_1 : List UInt8 := [180, 0, 82, 61, 42, 180, 0, 35, 27, 181, 0, 82, 28, 172]
abbrev dktX0_loose_1 : List UInt8 := dkwX0_loose_1 ++ []
def dkwX0_loose_0 : List UInt8 := [27, 133, 9, 42, 180, 0, 35, 180, 0, 82, 133, 184, 0, 5, 154, 0, 5, 2, 172, 42, 180, 0, 35]
abbrev dktX0_loose_0 : List UInt8 := dkwX0_loose_0 ++ dktX0_loose_1
theorem dksX0_loose_0 : cX0_loose.data.toList.drop 0 = dktX0_loose_0 := by decide +kernel
theorem dksX0_loose_1 : cX0_loose.data.toList.drop 23 = dktX0_loose_1 := dk_seg dksX0_loose_0 23 rfl rfl
theorem dX0_loose_0 : decode cX0_loose 0 = .ok (.iload_n 1, 1) := dk_27 (dk_at dksX0_loose_0 0 rfl rfl)
theorem dX0_loose_1 : decode cX0_loose 1 = .ok (.i2l, 1) := dk_133 (dk_at dksX0_loose_0 1 rfl rfl)
theorem dX0_loose_2 : decode cX0_loose 2 = .ok (.lconst 0, 1) := dk_9 (dk_at dksX0_loose_0 2 rfl rfl)
theorem dX0_loose_3 : decode cX0_loose 3 = .ok (.aload_n 0, 1) := dk_42 (dk_at dksX0_loose_0 3 rfl rfl)
theorem dX0_loose_4 : decode cX0_loose 4 = .ok (.getfield 35, 3) := dk_180 0 35 (dk_at dksX0_loose_0 4 rfl rfl)
theorem dX0_loose_7 : decode cX0_loose 7 = .ok (.getfield 82, 3) := dk_180 0 82 (dk_at dksX0_loose_0 7 rfl rfl)
theorem dX0_loose_10 : decode cX0_loose 10 = .ok (.i2l, 1) := dk_133 (dk_at dksX0_loose_0 10 rfl rfl)
theorem dX0_loose_11 : decode cX0_loose 11 = .ok (.invokestatic 5, 3) := dk_184 0 5 (dk_at dksX0_loose_0 11 rfl rfl)
theorem dX0_loose_14 : decode cX0_loose 14 = .ok (.ifCond .ne 5, 3) := dk_154 0 5 (dk_at dksX0_loose_0 14 rfl rfl)
theorem dX0_loose_17 : decode cX0_loose 17 = .ok (.iconst (-1), 1) := dk_2 (dk_at dksX0_loose_0 17 rfl rfl)
theorem dX0_loose_18 : decode cX0_loose 18 = .ok (.ireturn, 1) := dk_172 (dk_at dksX0_loose_0 18 rfl rfl)
theorem dX0_loose_19 : decode cX0_loose 19 = .ok (.aload_n 0, 1) := dk_42 (dk_at dksX0_loose_0 19 rfl rfl)
theorem dX0_loose_20 : decode cX0_loose 20 = .ok (.getfield 35, 3) := dk_180 0 35 (dk_at dksX0_loose_0 20 rfl rfl)
theorem dX0_loose_23 : decode cX0_loose 23 = .ok (.getfield 82, 3) := dk_180 0 82 (dk_at dksX0_loose_1 0 rfl rfl)
theorem dX0_loose_26 : decode cX0_loose 26 = .ok (.istore_n 2, 1) := dk_61 (dk_at dksX0_loose_1 3 rfl rfl)
theorem dX0_loose_27 : decode cX0_loose 27 = .ok (.aload_n 0, 1) := dk_42 (dk_at dksX0_loose_1 4 rfl rfl)
theorem dX0_loose_28 : decode cX0_loose 28 = .ok (.getfield 35, 3) := dk_180 0 35 (dk_at dksX0_loose_1 5 rfl rfl)
theorem dX0_loose_31 : decode cX0_loose 31 = .ok (.iload_n 1, 1) := dk_27 (dk_at dksX0_loose_1 8 rfl rfl)
theorem dX0_loose_32 : decode cX0_loose 32 = .ok (.putfield 82, 3) := dk_181 0 82 (dk_at dksX0_loose_1 9 rfl rfl)
theorem dX0_loose_35 : decode cX0_loose 35 = .ok (.iload_n 2, 1) := dk_28 (dk_at dksX0_loose_1 12 rfl rfl)
theorem dX0_loose_36 : decode cX0_loose 36 = .ok (.ireturn, 1) := dk_172 (dk_at dksX0_loose_1 13 rfl rfl)
abbrev cX0_feast : ByteArray := prog_1_method_24_code
def yX0_feast : MethodName := ⟨RX0, "feast", "(I)I"⟩
def dkwX0_feast_1 : List UInt8 := [180, 0, 35, 27, 181, 0, 90, 28, 172]
abbrev dktX0_feast_1 : List UInt8 := dkwX0_feast_1 ++ []
def dkwX0_feast_0 : List UInt8 := [27, 133, 9, 20, 0, 154, 184, 0, 5, 154, 0, 5, 2, 172, 42, 180, 0, 35, 180, 0, 90, 61, 42]
abbrev dktX0_feast_0 : List UInt8 := dkwX0_feast_0 ++ dktX0_feast_1
theorem dksX0_feast_0 : cX0_feast.data.toList.drop 0 = dktX0_feast_0 := by decide +kernel
theorem dksX0_feast_1 : cX0_feast.data.toList.drop 23 = dktX0_feast_1 := dk_seg dksX0_feast_0 23 rfl rfl
theorem dX0_feast_0 : decode cX0_feast 0 = .ok (.iload_n 1, 1) := dk_27 (dk_at dksX0_feast_0 0 rfl rfl)
theorem dX0_feast_1 : decode cX0_feast 1 = .ok (.i2l, 1) := dk_133 (dk_at dksX0_feast_0 1 rfl rfl)
theorem dX0_feast_2 : decode cX0_feast 2 = .ok (.lconst 0, 1) := dk_9 (dk_at dksX0_feast_0 2 rfl rfl)
theorem dX0_feast_3 : decode cX0_feast 3 = .ok (.ldc2_w 154, 3) := dk_20 0 154 (dk_at dksX0_feast_0 3 rfl rfl)
theorem dX0_feast_6 : decode cX0_feast 6 = .ok (.invokestatic 5, 3) := dk_184 0 5 (dk_at dksX0_feast_0 6 rfl rfl)
theorem dX0_feast_9 : decode cX0_feast 9 = .ok (.ifCond .ne 5, 3) := dk_154 0 5 (dk_at dksX0_feast_0 9 rfl rfl)
theorem dX0_feast_12 : decode cX0_feast 12 = .ok (.iconst (-1), 1) := dk_2 (dk_at dksX0_feast_0 12 rfl rfl)
theorem dX0_feast_13 : decode cX0_feast 13 = .ok (.ireturn, 1) := dk_172 (dk_at dksX0_feast_0 13 rfl rfl)
theorem dX0_feast_14 : decode cX0_feast 14 = .ok (.aload_n 0, 1) := dk_42 (dk_at dksX0_feast_0 14 rfl rfl)
theorem dX0_feast_15 : decode cX0_feast 15 = .ok (.getfield 35, 3) := dk_180 0 35 (dk_at dksX0_feast_0 15 rfl rfl)
theorem dX0_feast_18 : decode cX0_feast 18 = .ok (.getfield 90, 3) := dk_180 0 90 (dk_at dksX0_feast_0 18 rfl rfl)
theorem dX0_feast_21 : decode cX0_feast 21 = .ok (.istore_n 2, 1) := dk_61 (dk_at dksX0_feast_0 21 rfl rfl)
theorem dX0_feast_22 : decode cX0_feast 22 = .ok (.aload_n 0, 1) := dk_42 (dk_at dksX0_feast_0 22 rfl rfl)
theorem dX0_feast_23 : decode cX0_feast 23 = .ok (.getfield 35, 3) := dk_180 0 35 (dk_at dksX0_feast_1 0 rfl rfl)
theorem dX0_feast_26 : decode cX0_feast 26 = .ok (.iload_n 1, 1) := dk_27 (dk_at dksX0_feast_1 3 rfl rfl)
theorem dX0_feast_27 : decode cX0_feast 27 = .ok (.putfield 90, 3) := dk_181 0 90 (dk_at dksX0_feast_1 4 rfl rfl)
theorem dX0_feast_30 : decode cX0_feast 30 = .ok (.iload_n 2, 1) := dk_28 (dk_at dksX0_feast_1 7 rfl rfl)
theorem dX0_feast_31 : decode cX0_feast 31 = .ok (.ireturn, 1) := dk_172 (dk_at dksX0_feast_1 8 rfl rfl)
abbrev cX0_days : ByteArray := prog_1_method_25_code
def yX0_days : MethodName := ⟨RX0, "days", "(I)I"⟩
def dkwX0_days_2 : List UInt8 := [42, 180, 0, 35, 182, 0, 156, 132, 3, 1, 167, 255, 241, 42, 180, 0, 35, 180, 0, 93, 28, 100, 172]
abbrev dktX0_days_2 : List UInt8 := dkwX0_days_2 ++ []
def dkwX0_days_1 : List UInt8 := [17, 3, 231, 164, 0, 6, 16, 253, 172, 42, 180, 0, 35, 180, 0, 93, 61, 3, 62, 29, 27, 162, 0, 16]
abbrev dktX0_days_1 : List UInt8 := dkwX0_days_1 ++ dktX0_days_2
def dkwX0_days_0 : List UInt8 := [27, 133, 9, 20, 0, 148, 184, 0, 5, 154, 0, 5, 2, 172, 42, 180, 0, 35, 180, 0, 87, 27, 96]
abbrev dktX0_days_0 : List UInt8 := dkwX0_days_0 ++ dktX0_days_1
theorem dksX0_days_0 : cX0_days.data.toList.drop 0 = dktX0_days_0 := by decide +kernel
theorem dksX0_days_1 : cX0_days.data.toList.drop 23 = dktX0_days_1 := dk_seg dksX0_days_0 23 rfl rfl
theorem dksX0_days_2 : cX0_days.data.toList.drop 47 = dktX0_days_2 := dk_seg dksX0_days_1 24 rfl rfl
theorem dX0_days_0 : decode cX0_days 0 = .ok (.iload_n 1, 1) := dk_27 (dk_at dksX0_days_0 0 rfl rfl)
theorem dX0_days_1 : decode cX0_days 1 = .ok (.i2l, 1) := dk_133 (dk_at dksX0_days_0 1 rfl rfl)
theorem dX0_days_2 : decode cX0_days 2 = .ok (.lconst 0, 1) := dk_9 (dk_at dksX0_days_0 2 rfl rfl)
theorem dX0_days_3 : decode cX0_days 3 = .ok (.ldc2_w 148, 3) := dk_20 0 148 (dk_at dksX0_days_0 3 rfl rfl)
theorem dX0_days_6 : decode cX0_days 6 = .ok (.invokestatic 5, 3) := dk_184 0 5 (dk_at dksX0_days_0 6 rfl rfl)
theorem dX0_days_9 : decode cX0_days 9 = .ok (.ifCond .ne 5, 3) := dk_154 0 5 (dk_at dksX0_days_0 9 rfl rfl)
theorem dX0_days_12 : decode cX0_days 12 = .ok (.iconst (-1), 1) := dk_2 (dk_at dksX0_days_0 12 rfl rfl)
theorem dX0_days_13 : decode cX0_days 13 = .ok (.ireturn, 1) := dk_172 (dk_at dksX0_days_0 13 rfl rfl)
theorem dX0_days_14 : decode cX0_days 14 = .ok (.aload_n 0, 1) := dk_42 (dk_at dksX0_days_0 14 rfl rfl)
theorem dX0_days_15 : decode cX0_days 15 = .ok (.getfield 35, 3) := dk_180 0 35 (dk_at dksX0_days_0 15 rfl rfl)
theorem dX0_days_18 : decode cX0_days 18 = .ok (.getfield 87, 3) := dk_180 0 87 (dk_at dksX0_days_0 18 rfl rfl)
theorem dX0_days_21 : decode cX0_days 21 = .ok (.iload_n 1, 1) := dk_27 (dk_at dksX0_days_0 21 rfl rfl)
theorem dX0_days_22 : decode cX0_days 22 = .ok (.iadd, 1) := dk_96 (dk_at dksX0_days_0 22 rfl rfl)
theorem dX0_days_23 : decode cX0_days 23 = .ok (.sipush 999, 3) := dk_17 3 231 (dk_at dksX0_days_1 0 rfl rfl)
theorem dX0_days_26 : decode cX0_days 26 = .ok (.if_icmp .le 6, 3) := dk_164 0 6 (dk_at dksX0_days_1 3 rfl rfl)
theorem dX0_days_29 : decode cX0_days 29 = .ok (.bipush (-3), 2) := dk_16 253 (dk_at dksX0_days_1 6 rfl rfl)
theorem dX0_days_31 : decode cX0_days 31 = .ok (.ireturn, 1) := dk_172 (dk_at dksX0_days_1 8 rfl rfl)
theorem dX0_days_32 : decode cX0_days 32 = .ok (.aload_n 0, 1) := dk_42 (dk_at dksX0_days_1 9 rfl rfl)
theorem dX0_days_33 : decode cX0_days 33 = .ok (.getfield 35, 3) := dk_180 0 35 (dk_at dksX0_days_1 10 rfl rfl)
theorem dX0_days_36 : decode cX0_days 36 = .ok (.getfield 93, 3) := dk_180 0 93 (dk_at dksX0_days_1 13 rfl rfl)
theorem dX0_days_39 : decode cX0_days 39 = .ok (.istore_n 2, 1) := dk_61 (dk_at dksX0_days_1 16 rfl rfl)
theorem dX0_days_40 : decode cX0_days 40 = .ok (.iconst 0, 1) := dk_3 (dk_at dksX0_days_1 17 rfl rfl)
theorem dX0_days_41 : decode cX0_days 41 = .ok (.istore_n 3, 1) := dk_62 (dk_at dksX0_days_1 18 rfl rfl)
theorem dX0_days_42 : decode cX0_days 42 = .ok (.iload_n 3, 1) := dk_29 (dk_at dksX0_days_1 19 rfl rfl)
theorem dX0_days_43 : decode cX0_days 43 = .ok (.iload_n 1, 1) := dk_27 (dk_at dksX0_days_1 20 rfl rfl)
theorem dX0_days_44 : decode cX0_days 44 = .ok (.if_icmp .ge 16, 3) := dk_162 0 16 (dk_at dksX0_days_1 21 rfl rfl)
theorem dX0_days_47 : decode cX0_days 47 = .ok (.aload_n 0, 1) := dk_42 (dk_at dksX0_days_2 0 rfl rfl)
theorem dX0_days_48 : decode cX0_days 48 = .ok (.getfield 35, 3) := dk_180 0 35 (dk_at dksX0_days_2 1 rfl rfl)
theorem dX0_days_51 : decode cX0_days 51 = .ok (.invokevirtual 156, 3) := dk_182 0 156 (dk_at dksX0_days_2 4 rfl rfl)
theorem dX0_days_54 : decode cX0_days 54 = .ok (.iinc 3 1, 3) := dk_132 3 1 (dk_at dksX0_days_2 7 rfl rfl)
theorem dX0_days_57 : decode cX0_days 57 = .ok (.goto (-15), 3) := dk_167 255 241 (dk_at dksX0_days_2 10 rfl rfl)
theorem dX0_days_60 : decode cX0_days 60 = .ok (.aload_n 0, 1) := dk_42 (dk_at dksX0_days_2 13 rfl rfl)
theorem dX0_days_61 : decode cX0_days 61 = .ok (.getfield 35, 3) := dk_180 0 35 (dk_at dksX0_days_2 14 rfl rfl)
theorem dX0_days_64 : decode cX0_days 64 = .ok (.getfield 93, 3) := dk_180 0 93 (dk_at dksX0_days_2 17 rfl rfl)
theorem dX0_days_67 : decode cX0_days 67 = .ok (.iload_n 2, 1) := dk_28 (dk_at dksX0_days_2 20 rfl rfl)
theorem dX0_days_68 : decode cX0_days 68 = .ok (.isub, 1) := dk_100 (dk_at dksX0_days_2 21 rfl rfl)
theorem dX0_days_69 : decode cX0_days 69 = .ok (.ireturn, 1) := dk_172 (dk_at dksX0_days_2 22 rfl rfl)
abbrev cX0_runs : ByteArray := prog_1_method_29_code
def yX0_runs : MethodName := ⟨RX0, "runs", "(II)I"⟩
def dkwX0_runs_5 : List UInt8 := [160, 0, 7, 29, 167, 0, 7, 42, 182, 0, 177, 172]
abbrev dktX0_runs_5 : List UInt8 := dkwX0_runs_5 ++ []
def dkwX0_runs_4 : List UInt8 := [160, 0, 21, 42, 180, 0, 159, 180, 0, 93, 42, 180, 0, 35, 180, 0, 93, 100, 167, 0, 16, 28, 5]
abbrev dktX0_runs_4 : List UInt8 := dkwX0_runs_4 ++ dktX0_runs_5
def dkwX0_runs_3 : List UInt8 := [132, 4, 1, 167, 255, 228, 28, 154, 0, 13, 42, 180, 0, 159, 182, 0, 96, 167, 0, 39, 28, 4]
abbrev dktX0_runs_3 : List UInt8 := dkwX0_runs_3 ++ dktX0_runs_4
def dkwX0_runs_2 : List UInt8 := [162, 0, 28, 42, 180, 0, 159, 182, 0, 156, 29, 42, 180, 0, 159, 182, 0, 96, 184, 0, 172, 62]
abbrev dktX0_runs_2 : List UInt8 := dkwX0_runs_2 ++ dktX0_runs_3
def dkwX0_runs_1 : List UInt8 := [180, 0, 159, 42, 180, 0, 35, 182, 0, 42, 42, 180, 0, 159, 182, 0, 96, 62, 3, 54, 4, 21, 4, 27]
abbrev dktX0_runs_1 : List UInt8 := dkwX0_runs_1 ++ dktX0_runs_2
def dkwX0_runs_0 : List UInt8 := [27, 184, 0, 169, 153, 0, 15, 28, 133, 9, 20, 0, 139, 184, 0, 5, 154, 0, 5, 2, 172, 42]
abbrev dktX0_runs_0 : List UInt8 := dkwX0_runs_0 ++ dktX0_runs_1
theorem dksX0_runs_0 : cX0_runs.data.toList.drop 0 = dktX0_runs_0 := by decide +kernel
theorem dksX0_runs_1 : cX0_runs.data.toList.drop 22 = dktX0_runs_1 := dk_seg dksX0_runs_0 22 rfl rfl
theorem dksX0_runs_2 : cX0_runs.data.toList.drop 46 = dktX0_runs_2 := dk_seg dksX0_runs_1 24 rfl rfl
theorem dksX0_runs_3 : cX0_runs.data.toList.drop 68 = dktX0_runs_3 := dk_seg dksX0_runs_2 22 rfl rfl
theorem dksX0_runs_4 : cX0_runs.data.toList.drop 90 = dktX0_runs_4 := dk_seg dksX0_runs_3 22 rfl rfl
theorem dksX0_runs_5 : cX0_runs.data.toList.drop 113 = dktX0_runs_5 := dk_seg dksX0_runs_4 23 rfl rfl
theorem dX0_runs_0 : decode cX0_runs 0 = .ok (.iload_n 1, 1) := dk_27 (dk_at dksX0_runs_0 0 rfl rfl)
theorem dX0_runs_1 : decode cX0_runs 1 = .ok (.invokestatic 169, 3) := dk_184 0 169 (dk_at dksX0_runs_0 1 rfl rfl)
theorem dX0_runs_4 : decode cX0_runs 4 = .ok (.ifCond .eq 15, 3) := dk_153 0 15 (dk_at dksX0_runs_0 4 rfl rfl)
theorem dX0_runs_7 : decode cX0_runs 7 = .ok (.iload_n 2, 1) := dk_28 (dk_at dksX0_runs_0 7 rfl rfl)
theorem dX0_runs_8 : decode cX0_runs 8 = .ok (.i2l, 1) := dk_133 (dk_at dksX0_runs_0 8 rfl rfl)
theorem dX0_runs_9 : decode cX0_runs 9 = .ok (.lconst 0, 1) := dk_9 (dk_at dksX0_runs_0 9 rfl rfl)
theorem dX0_runs_10 : decode cX0_runs 10 = .ok (.ldc2_w 139, 3) := dk_20 0 139 (dk_at dksX0_runs_0 10 rfl rfl)
theorem dX0_runs_13 : decode cX0_runs 13 = .ok (.invokestatic 5, 3) := dk_184 0 5 (dk_at dksX0_runs_0 13 rfl rfl)
theorem dX0_runs_16 : decode cX0_runs 16 = .ok (.ifCond .ne 5, 3) := dk_154 0 5 (dk_at dksX0_runs_0 16 rfl rfl)
theorem dX0_runs_19 : decode cX0_runs 19 = .ok (.iconst (-1), 1) := dk_2 (dk_at dksX0_runs_0 19 rfl rfl)
theorem dX0_runs_20 : decode cX0_runs 20 = .ok (.ireturn, 1) := dk_172 (dk_at dksX0_runs_0 20 rfl rfl)
theorem dX0_runs_21 : decode cX0_runs 21 = .ok (.aload_n 0, 1) := dk_42 (dk_at dksX0_runs_0 21 rfl rfl)
theorem dX0_runs_22 : decode cX0_runs 22 = .ok (.getfield 159, 3) := dk_180 0 159 (dk_at dksX0_runs_1 0 rfl rfl)
theorem dX0_runs_25 : decode cX0_runs 25 = .ok (.aload_n 0, 1) := dk_42 (dk_at dksX0_runs_1 3 rfl rfl)
theorem dX0_runs_26 : decode cX0_runs 26 = .ok (.getfield 35, 3) := dk_180 0 35 (dk_at dksX0_runs_1 4 rfl rfl)
theorem dX0_runs_29 : decode cX0_runs 29 = .ok (.invokevirtual 42, 3) := dk_182 0 42 (dk_at dksX0_runs_1 7 rfl rfl)
theorem dX0_runs_32 : decode cX0_runs 32 = .ok (.aload_n 0, 1) := dk_42 (dk_at dksX0_runs_1 10 rfl rfl)
theorem dX0_runs_33 : decode cX0_runs 33 = .ok (.getfield 159, 3) := dk_180 0 159 (dk_at dksX0_runs_1 11 rfl rfl)
theorem dX0_runs_36 : decode cX0_runs 36 = .ok (.invokevirtual 96, 3) := dk_182 0 96 (dk_at dksX0_runs_1 14 rfl rfl)
theorem dX0_runs_39 : decode cX0_runs 39 = .ok (.istore_n 3, 1) := dk_62 (dk_at dksX0_runs_1 17 rfl rfl)
theorem dX0_runs_40 : decode cX0_runs 40 = .ok (.iconst 0, 1) := dk_3 (dk_at dksX0_runs_1 18 rfl rfl)
theorem dX0_runs_41 : decode cX0_runs 41 = .ok (.istore 4, 2) := dk_54 4 (dk_at dksX0_runs_1 19 rfl rfl)
theorem dX0_runs_43 : decode cX0_runs 43 = .ok (.iload 4, 2) := dk_21 4 (dk_at dksX0_runs_1 21 rfl rfl)
theorem dX0_runs_45 : decode cX0_runs 45 = .ok (.iload_n 1, 1) := dk_27 (dk_at dksX0_runs_1 23 rfl rfl)
theorem dX0_runs_46 : decode cX0_runs 46 = .ok (.if_icmp .ge 28, 3) := dk_162 0 28 (dk_at dksX0_runs_2 0 rfl rfl)
theorem dX0_runs_49 : decode cX0_runs 49 = .ok (.aload_n 0, 1) := dk_42 (dk_at dksX0_runs_2 3 rfl rfl)
theorem dX0_runs_50 : decode cX0_runs 50 = .ok (.getfield 159, 3) := dk_180 0 159 (dk_at dksX0_runs_2 4 rfl rfl)
theorem dX0_runs_53 : decode cX0_runs 53 = .ok (.invokevirtual 156, 3) := dk_182 0 156 (dk_at dksX0_runs_2 7 rfl rfl)
theorem dX0_runs_56 : decode cX0_runs 56 = .ok (.iload_n 3, 1) := dk_29 (dk_at dksX0_runs_2 10 rfl rfl)
theorem dX0_runs_57 : decode cX0_runs 57 = .ok (.aload_n 0, 1) := dk_42 (dk_at dksX0_runs_2 11 rfl rfl)
theorem dX0_runs_58 : decode cX0_runs 58 = .ok (.getfield 159, 3) := dk_180 0 159 (dk_at dksX0_runs_2 12 rfl rfl)
theorem dX0_runs_61 : decode cX0_runs 61 = .ok (.invokevirtual 96, 3) := dk_182 0 96 (dk_at dksX0_runs_2 15 rfl rfl)
theorem dX0_runs_64 : decode cX0_runs 64 = .ok (.invokestatic 172, 3) := dk_184 0 172 (dk_at dksX0_runs_2 18 rfl rfl)
theorem dX0_runs_67 : decode cX0_runs 67 = .ok (.istore_n 3, 1) := dk_62 (dk_at dksX0_runs_2 21 rfl rfl)
theorem dX0_runs_68 : decode cX0_runs 68 = .ok (.iinc 4 1, 3) := dk_132 4 1 (dk_at dksX0_runs_3 0 rfl rfl)
theorem dX0_runs_71 : decode cX0_runs 71 = .ok (.goto (-28), 3) := dk_167 255 228 (dk_at dksX0_runs_3 3 rfl rfl)
theorem dX0_runs_74 : decode cX0_runs 74 = .ok (.iload_n 2, 1) := dk_28 (dk_at dksX0_runs_3 6 rfl rfl)
theorem dX0_runs_75 : decode cX0_runs 75 = .ok (.ifCond .ne 13, 3) := dk_154 0 13 (dk_at dksX0_runs_3 7 rfl rfl)
theorem dX0_runs_78 : decode cX0_runs 78 = .ok (.aload_n 0, 1) := dk_42 (dk_at dksX0_runs_3 10 rfl rfl)
theorem dX0_runs_79 : decode cX0_runs 79 = .ok (.getfield 159, 3) := dk_180 0 159 (dk_at dksX0_runs_3 11 rfl rfl)
theorem dX0_runs_82 : decode cX0_runs 82 = .ok (.invokevirtual 96, 3) := dk_182 0 96 (dk_at dksX0_runs_3 14 rfl rfl)
theorem dX0_runs_85 : decode cX0_runs 85 = .ok (.goto 39, 3) := dk_167 0 39 (dk_at dksX0_runs_3 17 rfl rfl)
theorem dX0_runs_88 : decode cX0_runs 88 = .ok (.iload_n 2, 1) := dk_28 (dk_at dksX0_runs_3 20 rfl rfl)
theorem dX0_runs_89 : decode cX0_runs 89 = .ok (.iconst 1, 1) := dk_4 (dk_at dksX0_runs_3 21 rfl rfl)
theorem dX0_runs_90 : decode cX0_runs 90 = .ok (.if_icmp .ne 21, 3) := dk_160 0 21 (dk_at dksX0_runs_4 0 rfl rfl)
theorem dX0_runs_93 : decode cX0_runs 93 = .ok (.aload_n 0, 1) := dk_42 (dk_at dksX0_runs_4 3 rfl rfl)
theorem dX0_runs_94 : decode cX0_runs 94 = .ok (.getfield 159, 3) := dk_180 0 159 (dk_at dksX0_runs_4 4 rfl rfl)
theorem dX0_runs_97 : decode cX0_runs 97 = .ok (.getfield 93, 3) := dk_180 0 93 (dk_at dksX0_runs_4 7 rfl rfl)
theorem dX0_runs_100 : decode cX0_runs 100 = .ok (.aload_n 0, 1) := dk_42 (dk_at dksX0_runs_4 10 rfl rfl)
theorem dX0_runs_101 : decode cX0_runs 101 = .ok (.getfield 35, 3) := dk_180 0 35 (dk_at dksX0_runs_4 11 rfl rfl)
theorem dX0_runs_104 : decode cX0_runs 104 = .ok (.getfield 93, 3) := dk_180 0 93 (dk_at dksX0_runs_4 14 rfl rfl)
theorem dX0_runs_107 : decode cX0_runs 107 = .ok (.isub, 1) := dk_100 (dk_at dksX0_runs_4 17 rfl rfl)
theorem dX0_runs_108 : decode cX0_runs 108 = .ok (.goto 16, 3) := dk_167 0 16 (dk_at dksX0_runs_4 18 rfl rfl)
theorem dX0_runs_111 : decode cX0_runs 111 = .ok (.iload_n 2, 1) := dk_28 (dk_at dksX0_runs_4 21 rfl rfl)
theorem dX0_runs_112 : decode cX0_runs 112 = .ok (.iconst 2, 1) := dk_5 (dk_at dksX0_runs_4 22 rfl rfl)
theorem dX0_runs_113 : decode cX0_runs 113 = .ok (.if_icmp .ne 7, 3) := dk_160 0 7 (dk_at dksX0_runs_5 0 rfl rfl)
theorem dX0_runs_116 : decode cX0_runs 116 = .ok (.iload_n 3, 1) := dk_29 (dk_at dksX0_runs_5 3 rfl rfl)
theorem dX0_runs_117 : decode cX0_runs 117 = .ok (.goto 7, 3) := dk_167 0 7 (dk_at dksX0_runs_5 4 rfl rfl)
theorem dX0_runs_120 : decode cX0_runs 120 = .ok (.aload_n 0, 1) := dk_42 (dk_at dksX0_runs_5 7 rfl rfl)
theorem dX0_runs_121 : decode cX0_runs 121 = .ok (.invokevirtual 177, 3) := dk_182 0 177 (dk_at dksX0_runs_5 8 rfl rfl)
theorem dX0_runs_124 : decode cX0_runs 124 = .ok (.ireturn, 1) := dk_172 (dk_at dksX0_runs_5 11 rfl rfl)
abbrev cX0_isLong : ByteArray := prog_1_method_11_code
def yX0_isLong : MethodName := ⟨RX0, "isLong", "(I)Z"⟩
def dkwX0_isLong_0 : List UInt8 := [26, 133, 9, 20, 0, 85, 184, 0, 5, 172]
abbrev dktX0_isLong_0 : List UInt8 := dkwX0_isLong_0 ++ []
theorem dksX0_isLong_0 : cX0_isLong.data.toList.drop 0 = dktX0_isLong_0 := by decide +kernel
theorem dX0_isLong_0 : decode cX0_isLong 0 = .ok (.iload_n 0, 1) := dk_26 (dk_at dksX0_isLong_0 0 rfl rfl)
theorem dX0_isLong_1 : decode cX0_isLong 1 = .ok (.i2l, 1) := dk_133 (dk_at dksX0_isLong_0 1 rfl rfl)
theorem dX0_isLong_2 : decode cX0_isLong 2 = .ok (.lconst 0, 1) := dk_9 (dk_at dksX0_isLong_0 2 rfl rfl)
theorem dX0_isLong_3 : decode cX0_isLong 3 = .ok (.ldc2_w 85, 3) := dk_20 0 85 (dk_at dksX0_isLong_0 3 rfl rfl)
theorem dX0_isLong_6 : decode cX0_isLong 6 = .ok (.invokestatic 5, 3) := dk_184 0 5 (dk_at dksX0_isLong_0 6 rfl rfl)
theorem dX0_isLong_9 : decode cX0_isLong 9 = .ok (.ireturn, 1) := dk_172 (dk_at dksX0_isLong_0 9 rfl rfl)
abbrev cX0_movedMany : ByteArray := prog_1_method_28_code
def yX0_movedMany : MethodName := ⟨RX0, "movedMany", "()I"⟩
def dkwX0_movedMany_2 : List UInt8 := [27, 172]
abbrev dktX0_movedMany_2 : List UInt8 := dkwX0_movedMany_2 ++ []
def dkwX0_movedMany_1 : List UInt8 := [42, 180, 0, 35, 28, 182, 0, 166, 160, 0, 7, 3, 167, 0, 4, 4, 96, 60, 132, 2, 1, 167, 255, 215]
abbrev dktX0_movedMany_1 : List UInt8 := dkwX0_movedMany_1 ++ dktX0_movedMany_2
def dkwX0_movedMany_0 : List UInt8 := [3, 60, 3, 61, 28, 42, 180, 0, 35, 180, 0, 75, 162, 0, 36, 27, 42, 180, 0, 159, 28, 182, 0, 166]
abbrev dktX0_movedMany_0 : List UInt8 := dkwX0_movedMany_0 ++ dktX0_movedMany_1
theorem dksX0_movedMany_0 : cX0_movedMany.data.toList.drop 0 = dktX0_movedMany_0 := by decide +kernel
theorem dksX0_movedMany_1 : cX0_movedMany.data.toList.drop 24 = dktX0_movedMany_1 := dk_seg dksX0_movedMany_0 24 rfl rfl
theorem dksX0_movedMany_2 : cX0_movedMany.data.toList.drop 48 = dktX0_movedMany_2 := dk_seg dksX0_movedMany_1 24 rfl rfl
theorem dX0_movedMany_0 : decode cX0_movedMany 0 = .ok (.iconst 0, 1) := dk_3 (dk_at dksX0_movedMany_0 0 rfl rfl)
theorem dX0_movedMany_1 : decode cX0_movedMany 1 = .ok (.istore_n 1, 1) := dk_60 (dk_at dksX0_movedMany_0 1 rfl rfl)
theorem dX0_movedMany_2 : decode cX0_movedMany 2 = .ok (.iconst 0, 1) := dk_3 (dk_at dksX0_movedMany_0 2 rfl rfl)
theorem dX0_movedMany_3 : decode cX0_movedMany 3 = .ok (.istore_n 2, 1) := dk_61 (dk_at dksX0_movedMany_0 3 rfl rfl)
theorem dX0_movedMany_4 : decode cX0_movedMany 4 = .ok (.iload_n 2, 1) := dk_28 (dk_at dksX0_movedMany_0 4 rfl rfl)
theorem dX0_movedMany_5 : decode cX0_movedMany 5 = .ok (.aload_n 0, 1) := dk_42 (dk_at dksX0_movedMany_0 5 rfl rfl)
theorem dX0_movedMany_6 : decode cX0_movedMany 6 = .ok (.getfield 35, 3) := dk_180 0 35 (dk_at dksX0_movedMany_0 6 rfl rfl)
theorem dX0_movedMany_9 : decode cX0_movedMany 9 = .ok (.getfield 75, 3) := dk_180 0 75 (dk_at dksX0_movedMany_0 9 rfl rfl)
theorem dX0_movedMany_12 : decode cX0_movedMany 12 = .ok (.if_icmp .ge 36, 3) := dk_162 0 36 (dk_at dksX0_movedMany_0 12 rfl rfl)
theorem dX0_movedMany_15 : decode cX0_movedMany 15 = .ok (.iload_n 1, 1) := dk_27 (dk_at dksX0_movedMany_0 15 rfl rfl)
theorem dX0_movedMany_16 : decode cX0_movedMany 16 = .ok (.aload_n 0, 1) := dk_42 (dk_at dksX0_movedMany_0 16 rfl rfl)
theorem dX0_movedMany_17 : decode cX0_movedMany 17 = .ok (.getfield 159, 3) := dk_180 0 159 (dk_at dksX0_movedMany_0 17 rfl rfl)
theorem dX0_movedMany_20 : decode cX0_movedMany 20 = .ok (.iload_n 2, 1) := dk_28 (dk_at dksX0_movedMany_0 20 rfl rfl)
theorem dX0_movedMany_21 : decode cX0_movedMany 21 = .ok (.invokevirtual 166, 3) := dk_182 0 166 (dk_at dksX0_movedMany_0 21 rfl rfl)
theorem dX0_movedMany_24 : decode cX0_movedMany 24 = .ok (.aload_n 0, 1) := dk_42 (dk_at dksX0_movedMany_1 0 rfl rfl)
theorem dX0_movedMany_25 : decode cX0_movedMany 25 = .ok (.getfield 35, 3) := dk_180 0 35 (dk_at dksX0_movedMany_1 1 rfl rfl)
theorem dX0_movedMany_28 : decode cX0_movedMany 28 = .ok (.iload_n 2, 1) := dk_28 (dk_at dksX0_movedMany_1 4 rfl rfl)
theorem dX0_movedMany_29 : decode cX0_movedMany 29 = .ok (.invokevirtual 166, 3) := dk_182 0 166 (dk_at dksX0_movedMany_1 5 rfl rfl)
theorem dX0_movedMany_32 : decode cX0_movedMany 32 = .ok (.if_icmp .ne 7, 3) := dk_160 0 7 (dk_at dksX0_movedMany_1 8 rfl rfl)
theorem dX0_movedMany_35 : decode cX0_movedMany 35 = .ok (.iconst 0, 1) := dk_3 (dk_at dksX0_movedMany_1 11 rfl rfl)
theorem dX0_movedMany_36 : decode cX0_movedMany 36 = .ok (.goto 4, 3) := dk_167 0 4 (dk_at dksX0_movedMany_1 12 rfl rfl)
theorem dX0_movedMany_39 : decode cX0_movedMany 39 = .ok (.iconst 1, 1) := dk_4 (dk_at dksX0_movedMany_1 15 rfl rfl)
theorem dX0_movedMany_40 : decode cX0_movedMany 40 = .ok (.iadd, 1) := dk_96 (dk_at dksX0_movedMany_1 16 rfl rfl)
theorem dX0_movedMany_41 : decode cX0_movedMany 41 = .ok (.istore_n 1, 1) := dk_60 (dk_at dksX0_movedMany_1 17 rfl rfl)
theorem dX0_movedMany_42 : decode cX0_movedMany 42 = .ok (.iinc 2 1, 3) := dk_132 2 1 (dk_at dksX0_movedMany_1 18 rfl rfl)
theorem dX0_movedMany_45 : decode cX0_movedMany 45 = .ok (.goto (-41), 3) := dk_167 255 215 (dk_at dksX0_movedMany_1 21 rfl rfl)
theorem dX0_movedMany_48 : decode cX0_movedMany 48 = .ok (.iload_n 1, 1) := dk_27 (dk_at dksX0_movedMany_2 0 rfl rfl)
theorem dX0_movedMany_49 : decode cX0_movedMany 49 = .ok (.ireturn, 1) := dk_172 (dk_at dksX0_movedMany_2 1 rfl rfl)
abbrev cX0_ahead : ByteArray := prog_1_method_30_code
def yX0_ahead : MethodName := ⟨RX0, "ahead", "(II)I"⟩
def dkwX0_ahead_1 : List UInt8 := [182, 0, 162, 42, 180, 0, 159, 27, 182, 0, 166, 172]
abbrev dktX0_ahead_1 : List UInt8 := dkwX0_ahead_1 ++ []
def dkwX0_ahead_0 : List UInt8 := [42, 27, 182, 0, 78, 153, 0, 10, 28, 184, 0, 169, 154, 0, 5, 2, 172, 42, 42, 180, 0, 35, 28]
abbrev dktX0_ahead_0 : List UInt8 := dkwX0_ahead_0 ++ dktX0_ahead_1
theorem dksX0_ahead_0 : cX0_ahead.data.toList.drop 0 = dktX0_ahead_0 := by decide +kernel
theorem dksX0_ahead_1 : cX0_ahead.data.toList.drop 23 = dktX0_ahead_1 := dk_seg dksX0_ahead_0 23 rfl rfl
theorem dX0_ahead_0 : decode cX0_ahead 0 = .ok (.aload_n 0, 1) := dk_42 (dk_at dksX0_ahead_0 0 rfl rfl)
theorem dX0_ahead_1 : decode cX0_ahead 1 = .ok (.iload_n 1, 1) := dk_27 (dk_at dksX0_ahead_0 1 rfl rfl)
theorem dX0_ahead_2 : decode cX0_ahead 2 = .ok (.invokevirtual 78, 3) := dk_182 0 78 (dk_at dksX0_ahead_0 2 rfl rfl)
theorem dX0_ahead_5 : decode cX0_ahead 5 = .ok (.ifCond .eq 10, 3) := dk_153 0 10 (dk_at dksX0_ahead_0 5 rfl rfl)
theorem dX0_ahead_8 : decode cX0_ahead 8 = .ok (.iload_n 2, 1) := dk_28 (dk_at dksX0_ahead_0 8 rfl rfl)
theorem dX0_ahead_9 : decode cX0_ahead 9 = .ok (.invokestatic 169, 3) := dk_184 0 169 (dk_at dksX0_ahead_0 9 rfl rfl)
theorem dX0_ahead_12 : decode cX0_ahead 12 = .ok (.ifCond .ne 5, 3) := dk_154 0 5 (dk_at dksX0_ahead_0 12 rfl rfl)
theorem dX0_ahead_15 : decode cX0_ahead 15 = .ok (.iconst (-1), 1) := dk_2 (dk_at dksX0_ahead_0 15 rfl rfl)
theorem dX0_ahead_16 : decode cX0_ahead 16 = .ok (.ireturn, 1) := dk_172 (dk_at dksX0_ahead_0 16 rfl rfl)
theorem dX0_ahead_17 : decode cX0_ahead 17 = .ok (.aload_n 0, 1) := dk_42 (dk_at dksX0_ahead_0 17 rfl rfl)
theorem dX0_ahead_18 : decode cX0_ahead 18 = .ok (.aload_n 0, 1) := dk_42 (dk_at dksX0_ahead_0 18 rfl rfl)
theorem dX0_ahead_19 : decode cX0_ahead 19 = .ok (.getfield 35, 3) := dk_180 0 35 (dk_at dksX0_ahead_0 19 rfl rfl)
theorem dX0_ahead_22 : decode cX0_ahead 22 = .ok (.iload_n 2, 1) := dk_28 (dk_at dksX0_ahead_0 22 rfl rfl)
theorem dX0_ahead_23 : decode cX0_ahead 23 = .ok (.invokevirtual 162, 3) := dk_182 0 162 (dk_at dksX0_ahead_1 0 rfl rfl)
theorem dX0_ahead_26 : decode cX0_ahead 26 = .ok (.aload_n 0, 1) := dk_42 (dk_at dksX0_ahead_1 3 rfl rfl)
theorem dX0_ahead_27 : decode cX0_ahead 27 = .ok (.getfield 159, 3) := dk_180 0 159 (dk_at dksX0_ahead_1 4 rfl rfl)
theorem dX0_ahead_30 : decode cX0_ahead 30 = .ok (.iload_n 1, 1) := dk_27 (dk_at dksX0_ahead_1 7 rfl rfl)
theorem dX0_ahead_31 : decode cX0_ahead 31 = .ok (.invokevirtual 166, 3) := dk_182 0 166 (dk_at dksX0_ahead_1 8 rfl rfl)
theorem dX0_ahead_34 : decode cX0_ahead 34 = .ok (.ireturn, 1) := dk_172 (dk_at dksX0_ahead_1 11 rfl rfl)
abbrev cX0_daysOf : ByteArray := prog_1_method_26_code
def yX0_daysOf : MethodName := ⟨RX0, "daysOf", "(LTemperIsles$Firth;I)V"⟩
def dkwX0_daysOf_1 : List UInt8 := [132, 3, 1, 167, 255, 241, 177]
abbrev dktX0_daysOf_1 : List UInt8 := dkwX0_daysOf_1 ++ []
def dkwX0_daysOf_0 : List UInt8 := [42, 180, 0, 159, 43, 182, 0, 42, 3, 62, 29, 28, 162, 0, 16, 42, 180, 0, 159, 182, 0, 156]
abbrev dktX0_daysOf_0 : List UInt8 := dkwX0_daysOf_0 ++ dktX0_daysOf_1
theorem dksX0_daysOf_0 : cX0_daysOf.data.toList.drop 0 = dktX0_daysOf_0 := by decide +kernel
theorem dksX0_daysOf_1 : cX0_daysOf.data.toList.drop 22 = dktX0_daysOf_1 := dk_seg dksX0_daysOf_0 22 rfl rfl
theorem dX0_daysOf_0 : decode cX0_daysOf 0 = .ok (.aload_n 0, 1) := dk_42 (dk_at dksX0_daysOf_0 0 rfl rfl)
theorem dX0_daysOf_1 : decode cX0_daysOf 1 = .ok (.getfield 159, 3) := dk_180 0 159 (dk_at dksX0_daysOf_0 1 rfl rfl)
theorem dX0_daysOf_4 : decode cX0_daysOf 4 = .ok (.aload_n 1, 1) := dk_43 (dk_at dksX0_daysOf_0 4 rfl rfl)
theorem dX0_daysOf_5 : decode cX0_daysOf 5 = .ok (.invokevirtual 42, 3) := dk_182 0 42 (dk_at dksX0_daysOf_0 5 rfl rfl)
theorem dX0_daysOf_8 : decode cX0_daysOf 8 = .ok (.iconst 0, 1) := dk_3 (dk_at dksX0_daysOf_0 8 rfl rfl)
theorem dX0_daysOf_9 : decode cX0_daysOf 9 = .ok (.istore_n 3, 1) := dk_62 (dk_at dksX0_daysOf_0 9 rfl rfl)
theorem dX0_daysOf_10 : decode cX0_daysOf 10 = .ok (.iload_n 3, 1) := dk_29 (dk_at dksX0_daysOf_0 10 rfl rfl)
theorem dX0_daysOf_11 : decode cX0_daysOf 11 = .ok (.iload_n 2, 1) := dk_28 (dk_at dksX0_daysOf_0 11 rfl rfl)
theorem dX0_daysOf_12 : decode cX0_daysOf 12 = .ok (.if_icmp .ge 16, 3) := dk_162 0 16 (dk_at dksX0_daysOf_0 12 rfl rfl)
theorem dX0_daysOf_15 : decode cX0_daysOf 15 = .ok (.aload_n 0, 1) := dk_42 (dk_at dksX0_daysOf_0 15 rfl rfl)
theorem dX0_daysOf_16 : decode cX0_daysOf 16 = .ok (.getfield 159, 3) := dk_180 0 159 (dk_at dksX0_daysOf_0 16 rfl rfl)
theorem dX0_daysOf_19 : decode cX0_daysOf 19 = .ok (.invokevirtual 156, 3) := dk_182 0 156 (dk_at dksX0_daysOf_0 19 rfl rfl)
theorem dX0_daysOf_22 : decode cX0_daysOf 22 = .ok (.iinc 3 1, 3) := dk_132 3 1 (dk_at dksX0_daysOf_1 0 rfl rfl)
theorem dX0_daysOf_25 : decode cX0_daysOf 25 = .ok (.goto (-15), 3) := dk_167 255 241 (dk_at dksX0_daysOf_1 3 rfl rfl)
theorem dX0_daysOf_28 : decode cX0_daysOf 28 = .ok (.return_, 1) := dk_177 (dk_at dksX0_daysOf_1 6 rfl rfl)
abbrev cX0_within : ByteArray := prog_1_method_31_code
def yX0_within : MethodName := ⟨RX0, "within", "(I)I"⟩
def dkwX0_within_2 : List UInt8 := [182, 0, 156, 132, 2, 1, 167, 255, 227, 16, 252, 172]
abbrev dktX0_within_2 : List UInt8 := dkwX0_within_2 ++ []
def dkwX0_within_1 : List UInt8 := [16, 60, 163, 0, 29, 42, 180, 0, 159, 182, 0, 96, 27, 163, 0, 5, 28, 172, 42, 180, 0, 159]
abbrev dktX0_within_1 : List UInt8 := dkwX0_within_1 ++ dktX0_within_2
def dkwX0_within_0 : List UInt8 := [27, 184, 0, 141, 154, 0, 5, 2, 172, 42, 180, 0, 159, 42, 180, 0, 35, 182, 0, 42, 3, 61, 28]
abbrev dktX0_within_0 : List UInt8 := dkwX0_within_0 ++ dktX0_within_1
theorem dksX0_within_0 : cX0_within.data.toList.drop 0 = dktX0_within_0 := by decide +kernel
theorem dksX0_within_1 : cX0_within.data.toList.drop 23 = dktX0_within_1 := dk_seg dksX0_within_0 23 rfl rfl
theorem dksX0_within_2 : cX0_within.data.toList.drop 45 = dktX0_within_2 := dk_seg dksX0_within_1 22 rfl rfl
theorem dX0_within_0 : decode cX0_within 0 = .ok (.iload_n 1, 1) := dk_27 (dk_at dksX0_within_0 0 rfl rfl)
theorem dX0_within_1 : decode cX0_within 1 = .ok (.invokestatic 141, 3) := dk_184 0 141 (dk_at dksX0_within_0 1 rfl rfl)
theorem dX0_within_4 : decode cX0_within 4 = .ok (.ifCond .ne 5, 3) := dk_154 0 5 (dk_at dksX0_within_0 4 rfl rfl)
theorem dX0_within_7 : decode cX0_within 7 = .ok (.iconst (-1), 1) := dk_2 (dk_at dksX0_within_0 7 rfl rfl)
theorem dX0_within_8 : decode cX0_within 8 = .ok (.ireturn, 1) := dk_172 (dk_at dksX0_within_0 8 rfl rfl)
theorem dX0_within_9 : decode cX0_within 9 = .ok (.aload_n 0, 1) := dk_42 (dk_at dksX0_within_0 9 rfl rfl)
theorem dX0_within_10 : decode cX0_within 10 = .ok (.getfield 159, 3) := dk_180 0 159 (dk_at dksX0_within_0 10 rfl rfl)
theorem dX0_within_13 : decode cX0_within 13 = .ok (.aload_n 0, 1) := dk_42 (dk_at dksX0_within_0 13 rfl rfl)
theorem dX0_within_14 : decode cX0_within 14 = .ok (.getfield 35, 3) := dk_180 0 35 (dk_at dksX0_within_0 14 rfl rfl)
theorem dX0_within_17 : decode cX0_within 17 = .ok (.invokevirtual 42, 3) := dk_182 0 42 (dk_at dksX0_within_0 17 rfl rfl)
theorem dX0_within_20 : decode cX0_within 20 = .ok (.iconst 0, 1) := dk_3 (dk_at dksX0_within_0 20 rfl rfl)
theorem dX0_within_21 : decode cX0_within 21 = .ok (.istore_n 2, 1) := dk_61 (dk_at dksX0_within_0 21 rfl rfl)
theorem dX0_within_22 : decode cX0_within 22 = .ok (.iload_n 2, 1) := dk_28 (dk_at dksX0_within_0 22 rfl rfl)
theorem dX0_within_23 : decode cX0_within 23 = .ok (.bipush 60, 2) := dk_16 60 (dk_at dksX0_within_1 0 rfl rfl)
theorem dX0_within_25 : decode cX0_within 25 = .ok (.if_icmp .gt 29, 3) := dk_163 0 29 (dk_at dksX0_within_1 2 rfl rfl)
theorem dX0_within_28 : decode cX0_within 28 = .ok (.aload_n 0, 1) := dk_42 (dk_at dksX0_within_1 5 rfl rfl)
theorem dX0_within_29 : decode cX0_within 29 = .ok (.getfield 159, 3) := dk_180 0 159 (dk_at dksX0_within_1 6 rfl rfl)
theorem dX0_within_32 : decode cX0_within 32 = .ok (.invokevirtual 96, 3) := dk_182 0 96 (dk_at dksX0_within_1 9 rfl rfl)
theorem dX0_within_35 : decode cX0_within 35 = .ok (.iload_n 1, 1) := dk_27 (dk_at dksX0_within_1 12 rfl rfl)
theorem dX0_within_36 : decode cX0_within 36 = .ok (.if_icmp .gt 5, 3) := dk_163 0 5 (dk_at dksX0_within_1 13 rfl rfl)
theorem dX0_within_39 : decode cX0_within 39 = .ok (.iload_n 2, 1) := dk_28 (dk_at dksX0_within_1 16 rfl rfl)
theorem dX0_within_40 : decode cX0_within 40 = .ok (.ireturn, 1) := dk_172 (dk_at dksX0_within_1 17 rfl rfl)
theorem dX0_within_41 : decode cX0_within 41 = .ok (.aload_n 0, 1) := dk_42 (dk_at dksX0_within_1 18 rfl rfl)
theorem dX0_within_42 : decode cX0_within 42 = .ok (.getfield 159, 3) := dk_180 0 159 (dk_at dksX0_within_1 19 rfl rfl)
theorem dX0_within_45 : decode cX0_within 45 = .ok (.invokevirtual 156, 3) := dk_182 0 156 (dk_at dksX0_within_2 0 rfl rfl)
theorem dX0_within_48 : decode cX0_within 48 = .ok (.iinc 2 1, 3) := dk_132 2 1 (dk_at dksX0_within_2 3 rfl rfl)
theorem dX0_within_51 : decode cX0_within 51 = .ok (.goto (-29), 3) := dk_167 255 227 (dk_at dksX0_within_2 6 rfl rfl)
theorem dX0_within_54 : decode cX0_within 54 = .ok (.bipush (-4), 2) := dk_16 252 (dk_at dksX0_within_2 9 rfl rfl)
theorem dX0_within_56 : decode cX0_within 56 = .ok (.ireturn, 1) := dk_172 (dk_at dksX0_within_2 11 rfl rfl)
abbrev cX0_match : ByteArray := prog_1_method_33_code
def yX0_match : MethodName := ⟨RX0, "match", "(II)I"⟩
def dkwX0_match_7 : List UInt8 := [167, 0, 7, 42, 180, 0, 180, 172]
abbrev dktX0_match_7 : List UInt8 := dkwX0_match_7 ++ []
def dkwX0_match_6 : List UInt8 := [132, 5, 1, 167, 255, 188, 132, 4, 1, 167, 255, 164, 29, 16, 252, 159, 0, 7, 28, 154, 0, 7, 29]
abbrev dktX0_match_6 : List UInt8 := dkwX0_match_6 ++ dktX0_match_7
def dkwX0_match_5 : List UInt8 := [16, 30, 182, 0, 186, 182, 0, 193, 153, 0, 14, 16, 10, 21, 4, 104, 21, 5, 96, 167, 0, 4, 29, 62]
abbrev dktX0_match_5 : List UInt8 := dkwX0_match_5 ++ dktX0_match_6
def dkwX0_match_4 : List UInt8 := [180, 0, 35, 182, 0, 42, 42, 180, 0, 190, 21, 4, 21, 5, 27, 182, 0, 150, 42, 42, 42, 180, 0, 190]
abbrev dktX0_match_4 : List UInt8 := dkwX0_match_4 ++ dktX0_match_5
def dkwX0_match_3 : List UInt8 := [21, 4, 4, 96, 54, 5, 21, 5, 42, 180, 0, 35, 180, 0, 75, 162, 0, 62, 42, 180, 0, 190, 42]
abbrev dktX0_match_3 : List UInt8 := dkwX0_match_3 ++ dktX0_match_4
def dkwX0_match_2 : List UInt8 := [182, 0, 186, 181, 0, 180, 16, 252, 62, 3, 54, 4, 21, 4, 42, 180, 0, 35, 180, 0, 75, 162, 0, 86]
abbrev dktX0_match_2 : List UInt8 := dkwX0_match_2 ++ dktX0_match_3
def dkwX0_match_1 : List UInt8 := [180, 0, 35, 180, 0, 82, 16, 6, 160, 0, 6, 16, 253, 172, 42, 42, 42, 180, 0, 35, 16, 30]
abbrev dktX0_match_1 : List UInt8 := dkwX0_match_1 ++ dktX0_match_2
def dkwX0_match_0 : List UInt8 := [27, 133, 10, 20, 0, 148, 184, 0, 5, 153, 0, 10, 28, 184, 0, 183, 154, 0, 5, 2, 172, 42]
abbrev dktX0_match_0 : List UInt8 := dkwX0_match_0 ++ dktX0_match_1
theorem dksX0_match_0 : cX0_match.data.toList.drop 0 = dktX0_match_0 := by decide +kernel
theorem dksX0_match_1 : cX0_match.data.toList.drop 22 = dktX0_match_1 := dk_seg dksX0_match_0 22 rfl rfl
theorem dksX0_match_2 : cX0_match.data.toList.drop 44 = dktX0_match_2 := dk_seg dksX0_match_1 22 rfl rfl
theorem dksX0_match_3 : cX0_match.data.toList.drop 68 = dktX0_match_3 := dk_seg dksX0_match_2 24 rfl rfl
theorem dksX0_match_4 : cX0_match.data.toList.drop 91 = dktX0_match_4 := dk_seg dksX0_match_3 23 rfl rfl
theorem dksX0_match_5 : cX0_match.data.toList.drop 115 = dktX0_match_5 := dk_seg dksX0_match_4 24 rfl rfl
theorem dksX0_match_6 : cX0_match.data.toList.drop 139 = dktX0_match_6 := dk_seg dksX0_match_5 24 rfl rfl
theorem dksX0_match_7 : cX0_match.data.toList.drop 162 = dktX0_match_7 := dk_seg dksX0_match_6 23 rfl rfl
theorem dX0_match_0 : decode cX0_match 0 = .ok (.iload_n 1, 1) := dk_27 (dk_at dksX0_match_0 0 rfl rfl)
theorem dX0_match_1 : decode cX0_match 1 = .ok (.i2l, 1) := dk_133 (dk_at dksX0_match_0 1 rfl rfl)
theorem dX0_match_2 : decode cX0_match 2 = .ok (.lconst 1, 1) := dk_10 (dk_at dksX0_match_0 2 rfl rfl)
theorem dX0_match_3 : decode cX0_match 3 = .ok (.ldc2_w 148, 3) := dk_20 0 148 (dk_at dksX0_match_0 3 rfl rfl)
theorem dX0_match_6 : decode cX0_match 6 = .ok (.invokestatic 5, 3) := dk_184 0 5 (dk_at dksX0_match_0 6 rfl rfl)
theorem dX0_match_9 : decode cX0_match 9 = .ok (.ifCond .eq 10, 3) := dk_153 0 10 (dk_at dksX0_match_0 9 rfl rfl)
theorem dX0_match_12 : decode cX0_match 12 = .ok (.iload_n 2, 1) := dk_28 (dk_at dksX0_match_0 12 rfl rfl)
theorem dX0_match_13 : decode cX0_match 13 = .ok (.invokestatic 183, 3) := dk_184 0 183 (dk_at dksX0_match_0 13 rfl rfl)
theorem dX0_match_16 : decode cX0_match 16 = .ok (.ifCond .ne 5, 3) := dk_154 0 5 (dk_at dksX0_match_0 16 rfl rfl)
theorem dX0_match_19 : decode cX0_match 19 = .ok (.iconst (-1), 1) := dk_2 (dk_at dksX0_match_0 19 rfl rfl)
theorem dX0_match_20 : decode cX0_match 20 = .ok (.ireturn, 1) := dk_172 (dk_at dksX0_match_0 20 rfl rfl)
theorem dX0_match_21 : decode cX0_match 21 = .ok (.aload_n 0, 1) := dk_42 (dk_at dksX0_match_0 21 rfl rfl)
theorem dX0_match_22 : decode cX0_match 22 = .ok (.getfield 35, 3) := dk_180 0 35 (dk_at dksX0_match_1 0 rfl rfl)
theorem dX0_match_25 : decode cX0_match 25 = .ok (.getfield 82, 3) := dk_180 0 82 (dk_at dksX0_match_1 3 rfl rfl)
theorem dX0_match_28 : decode cX0_match 28 = .ok (.bipush 6, 2) := dk_16 6 (dk_at dksX0_match_1 6 rfl rfl)
theorem dX0_match_30 : decode cX0_match 30 = .ok (.if_icmp .ne 6, 3) := dk_160 0 6 (dk_at dksX0_match_1 8 rfl rfl)
theorem dX0_match_33 : decode cX0_match 33 = .ok (.bipush (-3), 2) := dk_16 253 (dk_at dksX0_match_1 11 rfl rfl)
theorem dX0_match_35 : decode cX0_match 35 = .ok (.ireturn, 1) := dk_172 (dk_at dksX0_match_1 13 rfl rfl)
theorem dX0_match_36 : decode cX0_match 36 = .ok (.aload_n 0, 1) := dk_42 (dk_at dksX0_match_1 14 rfl rfl)
theorem dX0_match_37 : decode cX0_match 37 = .ok (.aload_n 0, 1) := dk_42 (dk_at dksX0_match_1 15 rfl rfl)
theorem dX0_match_38 : decode cX0_match 38 = .ok (.aload_n 0, 1) := dk_42 (dk_at dksX0_match_1 16 rfl rfl)
theorem dX0_match_39 : decode cX0_match 39 = .ok (.getfield 35, 3) := dk_180 0 35 (dk_at dksX0_match_1 17 rfl rfl)
theorem dX0_match_42 : decode cX0_match 42 = .ok (.bipush 30, 2) := dk_16 30 (dk_at dksX0_match_1 20 rfl rfl)
theorem dX0_match_44 : decode cX0_match 44 = .ok (.invokevirtual 186, 3) := dk_182 0 186 (dk_at dksX0_match_2 0 rfl rfl)
theorem dX0_match_47 : decode cX0_match 47 = .ok (.putfield 180, 3) := dk_181 0 180 (dk_at dksX0_match_2 3 rfl rfl)
theorem dX0_match_50 : decode cX0_match 50 = .ok (.bipush (-4), 2) := dk_16 252 (dk_at dksX0_match_2 6 rfl rfl)
theorem dX0_match_52 : decode cX0_match 52 = .ok (.istore_n 3, 1) := dk_62 (dk_at dksX0_match_2 8 rfl rfl)
theorem dX0_match_53 : decode cX0_match 53 = .ok (.iconst 0, 1) := dk_3 (dk_at dksX0_match_2 9 rfl rfl)
theorem dX0_match_54 : decode cX0_match 54 = .ok (.istore 4, 2) := dk_54 4 (dk_at dksX0_match_2 10 rfl rfl)
theorem dX0_match_56 : decode cX0_match 56 = .ok (.iload 4, 2) := dk_21 4 (dk_at dksX0_match_2 12 rfl rfl)
theorem dX0_match_58 : decode cX0_match 58 = .ok (.aload_n 0, 1) := dk_42 (dk_at dksX0_match_2 14 rfl rfl)
theorem dX0_match_59 : decode cX0_match 59 = .ok (.getfield 35, 3) := dk_180 0 35 (dk_at dksX0_match_2 15 rfl rfl)
theorem dX0_match_62 : decode cX0_match 62 = .ok (.getfield 75, 3) := dk_180 0 75 (dk_at dksX0_match_2 18 rfl rfl)
theorem dX0_match_65 : decode cX0_match 65 = .ok (.if_icmp .ge 86, 3) := dk_162 0 86 (dk_at dksX0_match_2 21 rfl rfl)
theorem dX0_match_68 : decode cX0_match 68 = .ok (.iload 4, 2) := dk_21 4 (dk_at dksX0_match_3 0 rfl rfl)
theorem dX0_match_70 : decode cX0_match 70 = .ok (.iconst 1, 1) := dk_4 (dk_at dksX0_match_3 2 rfl rfl)
theorem dX0_match_71 : decode cX0_match 71 = .ok (.iadd, 1) := dk_96 (dk_at dksX0_match_3 3 rfl rfl)
theorem dX0_match_72 : decode cX0_match 72 = .ok (.istore 5, 2) := dk_54 5 (dk_at dksX0_match_3 4 rfl rfl)
theorem dX0_match_74 : decode cX0_match 74 = .ok (.iload 5, 2) := dk_21 5 (dk_at dksX0_match_3 6 rfl rfl)
theorem dX0_match_76 : decode cX0_match 76 = .ok (.aload_n 0, 1) := dk_42 (dk_at dksX0_match_3 8 rfl rfl)
theorem dX0_match_77 : decode cX0_match 77 = .ok (.getfield 35, 3) := dk_180 0 35 (dk_at dksX0_match_3 9 rfl rfl)
theorem dX0_match_80 : decode cX0_match 80 = .ok (.getfield 75, 3) := dk_180 0 75 (dk_at dksX0_match_3 12 rfl rfl)
theorem dX0_match_83 : decode cX0_match 83 = .ok (.if_icmp .ge 62, 3) := dk_162 0 62 (dk_at dksX0_match_3 15 rfl rfl)
theorem dX0_match_86 : decode cX0_match 86 = .ok (.aload_n 0, 1) := dk_42 (dk_at dksX0_match_3 18 rfl rfl)
theorem dX0_match_87 : decode cX0_match 87 = .ok (.getfield 190, 3) := dk_180 0 190 (dk_at dksX0_match_3 19 rfl rfl)
theorem dX0_match_90 : decode cX0_match 90 = .ok (.aload_n 0, 1) := dk_42 (dk_at dksX0_match_3 22 rfl rfl)
theorem dX0_match_91 : decode cX0_match 91 = .ok (.getfield 35, 3) := dk_180 0 35 (dk_at dksX0_match_4 0 rfl rfl)
theorem dX0_match_94 : decode cX0_match 94 = .ok (.invokevirtual 42, 3) := dk_182 0 42 (dk_at dksX0_match_4 3 rfl rfl)
theorem dX0_match_97 : decode cX0_match 97 = .ok (.aload_n 0, 1) := dk_42 (dk_at dksX0_match_4 6 rfl rfl)
theorem dX0_match_98 : decode cX0_match 98 = .ok (.getfield 190, 3) := dk_180 0 190 (dk_at dksX0_match_4 7 rfl rfl)
theorem dX0_match_101 : decode cX0_match 101 = .ok (.iload 4, 2) := dk_21 4 (dk_at dksX0_match_4 10 rfl rfl)
theorem dX0_match_103 : decode cX0_match 103 = .ok (.iload 5, 2) := dk_21 5 (dk_at dksX0_match_4 12 rfl rfl)
theorem dX0_match_105 : decode cX0_match 105 = .ok (.iload_n 1, 1) := dk_27 (dk_at dksX0_match_4 14 rfl rfl)
theorem dX0_match_106 : decode cX0_match 106 = .ok (.invokevirtual 150, 3) := dk_182 0 150 (dk_at dksX0_match_4 15 rfl rfl)
theorem dX0_match_109 : decode cX0_match 109 = .ok (.aload_n 0, 1) := dk_42 (dk_at dksX0_match_4 18 rfl rfl)
theorem dX0_match_110 : decode cX0_match 110 = .ok (.aload_n 0, 1) := dk_42 (dk_at dksX0_match_4 19 rfl rfl)
theorem dX0_match_111 : decode cX0_match 111 = .ok (.aload_n 0, 1) := dk_42 (dk_at dksX0_match_4 20 rfl rfl)
theorem dX0_match_112 : decode cX0_match 112 = .ok (.getfield 190, 3) := dk_180 0 190 (dk_at dksX0_match_4 21 rfl rfl)
theorem dX0_match_115 : decode cX0_match 115 = .ok (.bipush 30, 2) := dk_16 30 (dk_at dksX0_match_5 0 rfl rfl)
theorem dX0_match_117 : decode cX0_match 117 = .ok (.invokevirtual 186, 3) := dk_182 0 186 (dk_at dksX0_match_5 2 rfl rfl)
theorem dX0_match_120 : decode cX0_match 120 = .ok (.invokevirtual 193, 3) := dk_182 0 193 (dk_at dksX0_match_5 5 rfl rfl)
theorem dX0_match_123 : decode cX0_match 123 = .ok (.ifCond .eq 14, 3) := dk_153 0 14 (dk_at dksX0_match_5 8 rfl rfl)
theorem dX0_match_126 : decode cX0_match 126 = .ok (.bipush 10, 2) := dk_16 10 (dk_at dksX0_match_5 11 rfl rfl)
theorem dX0_match_128 : decode cX0_match 128 = .ok (.iload 4, 2) := dk_21 4 (dk_at dksX0_match_5 13 rfl rfl)
theorem dX0_match_130 : decode cX0_match 130 = .ok (.imul, 1) := dk_104 (dk_at dksX0_match_5 15 rfl rfl)
theorem dX0_match_131 : decode cX0_match 131 = .ok (.iload 5, 2) := dk_21 5 (dk_at dksX0_match_5 16 rfl rfl)
theorem dX0_match_133 : decode cX0_match 133 = .ok (.iadd, 1) := dk_96 (dk_at dksX0_match_5 18 rfl rfl)
theorem dX0_match_134 : decode cX0_match 134 = .ok (.goto 4, 3) := dk_167 0 4 (dk_at dksX0_match_5 19 rfl rfl)
theorem dX0_match_137 : decode cX0_match 137 = .ok (.iload_n 3, 1) := dk_29 (dk_at dksX0_match_5 22 rfl rfl)
theorem dX0_match_138 : decode cX0_match 138 = .ok (.istore_n 3, 1) := dk_62 (dk_at dksX0_match_5 23 rfl rfl)
theorem dX0_match_139 : decode cX0_match 139 = .ok (.iinc 5 1, 3) := dk_132 5 1 (dk_at dksX0_match_6 0 rfl rfl)
theorem dX0_match_142 : decode cX0_match 142 = .ok (.goto (-68), 3) := dk_167 255 188 (dk_at dksX0_match_6 3 rfl rfl)
theorem dX0_match_145 : decode cX0_match 145 = .ok (.iinc 4 1, 3) := dk_132 4 1 (dk_at dksX0_match_6 6 rfl rfl)
theorem dX0_match_148 : decode cX0_match 148 = .ok (.goto (-92), 3) := dk_167 255 164 (dk_at dksX0_match_6 9 rfl rfl)
theorem dX0_match_151 : decode cX0_match 151 = .ok (.iload_n 3, 1) := dk_29 (dk_at dksX0_match_6 12 rfl rfl)
theorem dX0_match_152 : decode cX0_match 152 = .ok (.bipush (-4), 2) := dk_16 252 (dk_at dksX0_match_6 13 rfl rfl)
theorem dX0_match_154 : decode cX0_match 154 = .ok (.if_icmp .eq 7, 3) := dk_159 0 7 (dk_at dksX0_match_6 15 rfl rfl)
theorem dX0_match_157 : decode cX0_match 157 = .ok (.iload_n 2, 1) := dk_28 (dk_at dksX0_match_6 18 rfl rfl)
theorem dX0_match_158 : decode cX0_match 158 = .ok (.ifCond .ne 7, 3) := dk_154 0 7 (dk_at dksX0_match_6 19 rfl rfl)
theorem dX0_match_161 : decode cX0_match 161 = .ok (.iload_n 3, 1) := dk_29 (dk_at dksX0_match_6 22 rfl rfl)
theorem dX0_match_162 : decode cX0_match 162 = .ok (.goto 7, 3) := dk_167 0 7 (dk_at dksX0_match_7 0 rfl rfl)
theorem dX0_match_165 : decode cX0_match 165 = .ok (.aload_n 0, 1) := dk_42 (dk_at dksX0_match_7 3 rfl rfl)
theorem dX0_match_166 : decode cX0_match 166 = .ok (.getfield 180, 3) := dk_180 0 180 (dk_at dksX0_match_7 4 rfl rfl)
theorem dX0_match_169 : decode cX0_match 169 = .ok (.ireturn, 1) := dk_172 (dk_at dksX0_match_7 7 rfl rfl)
abbrev cX0_isPart : ByteArray := prog_1_method_12_code
def yX0_isPart : MethodName := ⟨RX0, "isPart", "(I)Z"⟩
def dkwX0_isPart_0 : List UInt8 := [26, 133, 9, 10, 184, 0, 5, 172]
abbrev dktX0_isPart_0 : List UInt8 := dkwX0_isPart_0 ++ []
theorem dksX0_isPart_0 : cX0_isPart.data.toList.drop 0 = dktX0_isPart_0 := by decide +kernel
theorem dX0_isPart_0 : decode cX0_isPart 0 = .ok (.iload_n 0, 1) := dk_26 (dk_at dksX0_isPart_0 0 rfl rfl)
theorem dX0_isPart_1 : decode cX0_isPart 1 = .ok (.i2l, 1) := dk_133 (dk_at dksX0_isPart_0 1 rfl rfl)
theorem dX0_isPart_2 : decode cX0_isPart 2 = .ok (.lconst 0, 1) := dk_9 (dk_at dksX0_isPart_0 2 rfl rfl)
theorem dX0_isPart_3 : decode cX0_isPart 3 = .ok (.lconst 1, 1) := dk_10 (dk_at dksX0_isPart_0 3 rfl rfl)
theorem dX0_isPart_4 : decode cX0_isPart 4 = .ok (.invokestatic 5, 3) := dk_184 0 5 (dk_at dksX0_isPart_0 4 rfl rfl)
theorem dX0_isPart_7 : decode cX0_isPart 7 = .ok (.ireturn, 1) := dk_172 (dk_at dksX0_isPart_0 7 rfl rfl)
abbrev cX0_spreadBehind : ByteArray := prog_1_method_27_code
def yX0_spreadBehind : MethodName := ⟨RX0, "spreadBehind", "(LTemperIsles$Firth;I)I"⟩
def dkwX0_spreadBehind_0 : List UInt8 := [42, 43, 28, 182, 0, 162, 42, 180, 0, 159, 182, 0, 96, 172]
abbrev dktX0_spreadBehind_0 : List UInt8 := dkwX0_spreadBehind_0 ++ []
theorem dksX0_spreadBehind_0 : cX0_spreadBehind.data.toList.drop 0 = dktX0_spreadBehind_0 := by decide +kernel
theorem dX0_spreadBehind_0 : decode cX0_spreadBehind 0 = .ok (.aload_n 0, 1) := dk_42 (dk_at dksX0_spreadBehind_0 0 rfl rfl)
theorem dX0_spreadBehind_1 : decode cX0_spreadBehind 1 = .ok (.aload_n 1, 1) := dk_43 (dk_at dksX0_spreadBehind_0 1 rfl rfl)
theorem dX0_spreadBehind_2 : decode cX0_spreadBehind 2 = .ok (.iload_n 2, 1) := dk_28 (dk_at dksX0_spreadBehind_0 2 rfl rfl)
theorem dX0_spreadBehind_3 : decode cX0_spreadBehind 3 = .ok (.invokevirtual 162, 3) := dk_182 0 162 (dk_at dksX0_spreadBehind_0 3 rfl rfl)
theorem dX0_spreadBehind_6 : decode cX0_spreadBehind 6 = .ok (.aload_n 0, 1) := dk_42 (dk_at dksX0_spreadBehind_0 6 rfl rfl)
theorem dX0_spreadBehind_7 : decode cX0_spreadBehind 7 = .ok (.getfield 159, 3) := dk_180 0 159 (dk_at dksX0_spreadBehind_0 7 rfl rfl)
theorem dX0_spreadBehind_10 : decode cX0_spreadBehind 10 = .ok (.invokevirtual 96, 3) := dk_182 0 96 (dk_at dksX0_spreadBehind_0 10 rfl rfl)
theorem dX0_spreadBehind_13 : decode cX0_spreadBehind 13 = .ok (.ireturn, 1) := dk_172 (dk_at dksX0_spreadBehind_0 13 rfl rfl)
abbrev cX0_isLess : ByteArray := prog_1_method_32_code
def yX0_isLess : MethodName := ⟨RX0, "isLess", "(I)Z"⟩
def dkwX0_isLess_1 : List UInt8 := [181, 0, 180, 28, 172]
abbrev dktX0_isLess_1 : List UInt8 := dkwX0_isLess_1 ++ []
def dkwX0_isLess_0 : List UInt8 := [27, 42, 180, 0, 180, 162, 0, 7, 4, 167, 0, 4, 3, 61, 42, 42, 180, 0, 180, 27, 184, 0, 172]
abbrev dktX0_isLess_0 : List UInt8 := dkwX0_isLess_0 ++ dktX0_isLess_1
theorem dksX0_isLess_0 : cX0_isLess.data.toList.drop 0 = dktX0_isLess_0 := by decide +kernel
theorem dksX0_isLess_1 : cX0_isLess.data.toList.drop 23 = dktX0_isLess_1 := dk_seg dksX0_isLess_0 23 rfl rfl
theorem dX0_isLess_0 : decode cX0_isLess 0 = .ok (.iload_n 1, 1) := dk_27 (dk_at dksX0_isLess_0 0 rfl rfl)
theorem dX0_isLess_1 : decode cX0_isLess 1 = .ok (.aload_n 0, 1) := dk_42 (dk_at dksX0_isLess_0 1 rfl rfl)
theorem dX0_isLess_2 : decode cX0_isLess 2 = .ok (.getfield 180, 3) := dk_180 0 180 (dk_at dksX0_isLess_0 2 rfl rfl)
theorem dX0_isLess_5 : decode cX0_isLess 5 = .ok (.if_icmp .ge 7, 3) := dk_162 0 7 (dk_at dksX0_isLess_0 5 rfl rfl)
theorem dX0_isLess_8 : decode cX0_isLess 8 = .ok (.iconst 1, 1) := dk_4 (dk_at dksX0_isLess_0 8 rfl rfl)
theorem dX0_isLess_9 : decode cX0_isLess 9 = .ok (.goto 4, 3) := dk_167 0 4 (dk_at dksX0_isLess_0 9 rfl rfl)
theorem dX0_isLess_12 : decode cX0_isLess 12 = .ok (.iconst 0, 1) := dk_3 (dk_at dksX0_isLess_0 12 rfl rfl)
theorem dX0_isLess_13 : decode cX0_isLess 13 = .ok (.istore_n 2, 1) := dk_61 (dk_at dksX0_isLess_0 13 rfl rfl)
theorem dX0_isLess_14 : decode cX0_isLess 14 = .ok (.aload_n 0, 1) := dk_42 (dk_at dksX0_isLess_0 14 rfl rfl)
theorem dX0_isLess_15 : decode cX0_isLess 15 = .ok (.aload_n 0, 1) := dk_42 (dk_at dksX0_isLess_0 15 rfl rfl)
theorem dX0_isLess_16 : decode cX0_isLess 16 = .ok (.getfield 180, 3) := dk_180 0 180 (dk_at dksX0_isLess_0 16 rfl rfl)
theorem dX0_isLess_19 : decode cX0_isLess 19 = .ok (.iload_n 1, 1) := dk_27 (dk_at dksX0_isLess_0 19 rfl rfl)
theorem dX0_isLess_20 : decode cX0_isLess 20 = .ok (.invokestatic 172, 3) := dk_184 0 172 (dk_at dksX0_isLess_0 20 rfl rfl)
theorem dX0_isLess_23 : decode cX0_isLess 23 = .ok (.putfield 180, 3) := dk_181 0 180 (dk_at dksX0_isLess_1 0 rfl rfl)
theorem dX0_isLess_26 : decode cX0_isLess 26 = .ok (.iload_n 2, 1) := dk_28 (dk_at dksX0_isLess_1 3 rfl rfl)
theorem dX0_isLess_27 : decode cX0_isLess 27 = .ok (.ireturn, 1) := dk_172 (dk_at dksX0_isLess_1 4 rfl rfl)
abbrev cX0_fray : ByteArray := prog_1_method_36_code
def yX0_fray : MethodName := ⟨RX0, "fray", "(I)I"⟩
def dkwX0_fray_3 : List UInt8 := [159, 0, 7, 27, 154, 0, 7, 28, 167, 0, 7, 42, 180, 0, 180, 172]
abbrev dktX0_fray_3 : List UInt8 := dkwX0_fray_3 ++ []
def dkwX0_fray_2 : List UInt8 := [182, 0, 196, 182, 0, 193, 153, 0, 7, 29, 167, 0, 4, 28, 61, 132, 3, 1, 167, 255, 216, 28, 16, 252]
abbrev dktX0_fray_2 : List UInt8 := dkwX0_fray_2 ++ dktX0_fray_3
def dkwX0_fray_1 : List UInt8 := [3, 62, 29, 42, 180, 0, 35, 180, 0, 82, 162, 0, 35, 42, 29, 182, 0, 200, 42, 42, 42, 180, 0, 190]
abbrev dktX0_fray_1 : List UInt8 := dkwX0_fray_1 ++ dktX0_fray_2
def dkwX0_fray_0 : List UInt8 := [27, 184, 0, 183, 154, 0, 5, 2, 172, 42, 42, 42, 180, 0, 35, 182, 0, 196, 181, 0, 180, 16, 252, 61]
abbrev dktX0_fray_0 : List UInt8 := dkwX0_fray_0 ++ dktX0_fray_1
theorem dksX0_fray_0 : cX0_fray.data.toList.drop 0 = dktX0_fray_0 := by decide +kernel
theorem dksX0_fray_1 : cX0_fray.data.toList.drop 24 = dktX0_fray_1 := dk_seg dksX0_fray_0 24 rfl rfl
theorem dksX0_fray_2 : cX0_fray.data.toList.drop 48 = dktX0_fray_2 := dk_seg dksX0_fray_1 24 rfl rfl
theorem dksX0_fray_3 : cX0_fray.data.toList.drop 72 = dktX0_fray_3 := dk_seg dksX0_fray_2 24 rfl rfl
theorem dX0_fray_0 : decode cX0_fray 0 = .ok (.iload_n 1, 1) := dk_27 (dk_at dksX0_fray_0 0 rfl rfl)
theorem dX0_fray_1 : decode cX0_fray 1 = .ok (.invokestatic 183, 3) := dk_184 0 183 (dk_at dksX0_fray_0 1 rfl rfl)
theorem dX0_fray_4 : decode cX0_fray 4 = .ok (.ifCond .ne 5, 3) := dk_154 0 5 (dk_at dksX0_fray_0 4 rfl rfl)
theorem dX0_fray_7 : decode cX0_fray 7 = .ok (.iconst (-1), 1) := dk_2 (dk_at dksX0_fray_0 7 rfl rfl)
theorem dX0_fray_8 : decode cX0_fray 8 = .ok (.ireturn, 1) := dk_172 (dk_at dksX0_fray_0 8 rfl rfl)
theorem dX0_fray_9 : decode cX0_fray 9 = .ok (.aload_n 0, 1) := dk_42 (dk_at dksX0_fray_0 9 rfl rfl)
theorem dX0_fray_10 : decode cX0_fray 10 = .ok (.aload_n 0, 1) := dk_42 (dk_at dksX0_fray_0 10 rfl rfl)
theorem dX0_fray_11 : decode cX0_fray 11 = .ok (.aload_n 0, 1) := dk_42 (dk_at dksX0_fray_0 11 rfl rfl)
theorem dX0_fray_12 : decode cX0_fray 12 = .ok (.getfield 35, 3) := dk_180 0 35 (dk_at dksX0_fray_0 12 rfl rfl)
theorem dX0_fray_15 : decode cX0_fray 15 = .ok (.invokevirtual 196, 3) := dk_182 0 196 (dk_at dksX0_fray_0 15 rfl rfl)
theorem dX0_fray_18 : decode cX0_fray 18 = .ok (.putfield 180, 3) := dk_181 0 180 (dk_at dksX0_fray_0 18 rfl rfl)
theorem dX0_fray_21 : decode cX0_fray 21 = .ok (.bipush (-4), 2) := dk_16 252 (dk_at dksX0_fray_0 21 rfl rfl)
theorem dX0_fray_23 : decode cX0_fray 23 = .ok (.istore_n 2, 1) := dk_61 (dk_at dksX0_fray_0 23 rfl rfl)
theorem dX0_fray_24 : decode cX0_fray 24 = .ok (.iconst 0, 1) := dk_3 (dk_at dksX0_fray_1 0 rfl rfl)
theorem dX0_fray_25 : decode cX0_fray 25 = .ok (.istore_n 3, 1) := dk_62 (dk_at dksX0_fray_1 1 rfl rfl)
theorem dX0_fray_26 : decode cX0_fray 26 = .ok (.iload_n 3, 1) := dk_29 (dk_at dksX0_fray_1 2 rfl rfl)
theorem dX0_fray_27 : decode cX0_fray 27 = .ok (.aload_n 0, 1) := dk_42 (dk_at dksX0_fray_1 3 rfl rfl)
theorem dX0_fray_28 : decode cX0_fray 28 = .ok (.getfield 35, 3) := dk_180 0 35 (dk_at dksX0_fray_1 4 rfl rfl)
theorem dX0_fray_31 : decode cX0_fray 31 = .ok (.getfield 82, 3) := dk_180 0 82 (dk_at dksX0_fray_1 7 rfl rfl)
theorem dX0_fray_34 : decode cX0_fray 34 = .ok (.if_icmp .ge 35, 3) := dk_162 0 35 (dk_at dksX0_fray_1 10 rfl rfl)
theorem dX0_fray_37 : decode cX0_fray 37 = .ok (.aload_n 0, 1) := dk_42 (dk_at dksX0_fray_1 13 rfl rfl)
theorem dX0_fray_38 : decode cX0_fray 38 = .ok (.iload_n 3, 1) := dk_29 (dk_at dksX0_fray_1 14 rfl rfl)
theorem dX0_fray_39 : decode cX0_fray 39 = .ok (.invokevirtual 200, 3) := dk_182 0 200 (dk_at dksX0_fray_1 15 rfl rfl)
theorem dX0_fray_42 : decode cX0_fray 42 = .ok (.aload_n 0, 1) := dk_42 (dk_at dksX0_fray_1 18 rfl rfl)
theorem dX0_fray_43 : decode cX0_fray 43 = .ok (.aload_n 0, 1) := dk_42 (dk_at dksX0_fray_1 19 rfl rfl)
theorem dX0_fray_44 : decode cX0_fray 44 = .ok (.aload_n 0, 1) := dk_42 (dk_at dksX0_fray_1 20 rfl rfl)
theorem dX0_fray_45 : decode cX0_fray 45 = .ok (.getfield 190, 3) := dk_180 0 190 (dk_at dksX0_fray_1 21 rfl rfl)
theorem dX0_fray_48 : decode cX0_fray 48 = .ok (.invokevirtual 196, 3) := dk_182 0 196 (dk_at dksX0_fray_2 0 rfl rfl)
theorem dX0_fray_51 : decode cX0_fray 51 = .ok (.invokevirtual 193, 3) := dk_182 0 193 (dk_at dksX0_fray_2 3 rfl rfl)
theorem dX0_fray_54 : decode cX0_fray 54 = .ok (.ifCond .eq 7, 3) := dk_153 0 7 (dk_at dksX0_fray_2 6 rfl rfl)
theorem dX0_fray_57 : decode cX0_fray 57 = .ok (.iload_n 3, 1) := dk_29 (dk_at dksX0_fray_2 9 rfl rfl)
theorem dX0_fray_58 : decode cX0_fray 58 = .ok (.goto 4, 3) := dk_167 0 4 (dk_at dksX0_fray_2 10 rfl rfl)
theorem dX0_fray_61 : decode cX0_fray 61 = .ok (.iload_n 2, 1) := dk_28 (dk_at dksX0_fray_2 13 rfl rfl)
theorem dX0_fray_62 : decode cX0_fray 62 = .ok (.istore_n 2, 1) := dk_61 (dk_at dksX0_fray_2 14 rfl rfl)
theorem dX0_fray_63 : decode cX0_fray 63 = .ok (.iinc 3 1, 3) := dk_132 3 1 (dk_at dksX0_fray_2 15 rfl rfl)
theorem dX0_fray_66 : decode cX0_fray 66 = .ok (.goto (-40), 3) := dk_167 255 216 (dk_at dksX0_fray_2 18 rfl rfl)
theorem dX0_fray_69 : decode cX0_fray 69 = .ok (.iload_n 2, 1) := dk_28 (dk_at dksX0_fray_2 21 rfl rfl)
theorem dX0_fray_70 : decode cX0_fray 70 = .ok (.bipush (-4), 2) := dk_16 252 (dk_at dksX0_fray_2 22 rfl rfl)
theorem dX0_fray_72 : decode cX0_fray 72 = .ok (.if_icmp .eq 7, 3) := dk_159 0 7 (dk_at dksX0_fray_3 0 rfl rfl)
theorem dX0_fray_75 : decode cX0_fray 75 = .ok (.iload_n 1, 1) := dk_27 (dk_at dksX0_fray_3 3 rfl rfl)
theorem dX0_fray_76 : decode cX0_fray 76 = .ok (.ifCond .ne 7, 3) := dk_154 0 7 (dk_at dksX0_fray_3 4 rfl rfl)
theorem dX0_fray_79 : decode cX0_fray 79 = .ok (.iload_n 2, 1) := dk_28 (dk_at dksX0_fray_3 7 rfl rfl)
theorem dX0_fray_80 : decode cX0_fray 80 = .ok (.goto 7, 3) := dk_167 0 7 (dk_at dksX0_fray_3 8 rfl rfl)
theorem dX0_fray_83 : decode cX0_fray 83 = .ok (.aload_n 0, 1) := dk_42 (dk_at dksX0_fray_3 11 rfl rfl)
theorem dX0_fray_84 : decode cX0_fray 84 = .ok (.getfield 180, 3) := dk_180 0 180 (dk_at dksX0_fray_3 12 rfl rfl)
theorem dX0_fray_87 : decode cX0_fray 87 = .ok (.ireturn, 1) := dk_172 (dk_at dksX0_fray_3 15 rfl rfl)
abbrev cX0_bumpsOf : ByteArray := prog_1_method_34_code
def yX0_bumpsOf : MethodName := ⟨RX0, "bumpsOf", "(LTemperIsles$Firth;)I"⟩
def dkwX0_bumpsOf_0 : List UInt8 := [42, 43, 16, 30, 182, 0, 162, 42, 180, 0, 159, 180, 0, 93, 42, 180, 0, 35, 180, 0, 93, 100, 172]
abbrev dktX0_bumpsOf_0 : List UInt8 := dkwX0_bumpsOf_0 ++ []
theorem dksX0_bumpsOf_0 : cX0_bumpsOf.data.toList.drop 0 = dktX0_bumpsOf_0 := by decide +kernel
theorem dX0_bumpsOf_0 : decode cX0_bumpsOf 0 = .ok (.aload_n 0, 1) := dk_42 (dk_at dksX0_bumpsOf_0 0 rfl rfl)
theorem dX0_bumpsOf_1 : decode cX0_bumpsOf 1 = .ok (.aload_n 1, 1) := dk_43 (dk_at dksX0_bumpsOf_0 1 rfl rfl)
theorem dX0_bumpsOf_2 : decode cX0_bumpsOf 2 = .ok (.bipush 30, 2) := dk_16 30 (dk_at dksX0_bumpsOf_0 2 rfl rfl)
theorem dX0_bumpsOf_4 : decode cX0_bumpsOf 4 = .ok (.invokevirtual 162, 3) := dk_182 0 162 (dk_at dksX0_bumpsOf_0 4 rfl rfl)
theorem dX0_bumpsOf_7 : decode cX0_bumpsOf 7 = .ok (.aload_n 0, 1) := dk_42 (dk_at dksX0_bumpsOf_0 7 rfl rfl)
theorem dX0_bumpsOf_8 : decode cX0_bumpsOf 8 = .ok (.getfield 159, 3) := dk_180 0 159 (dk_at dksX0_bumpsOf_0 8 rfl rfl)
theorem dX0_bumpsOf_11 : decode cX0_bumpsOf 11 = .ok (.getfield 93, 3) := dk_180 0 93 (dk_at dksX0_bumpsOf_0 11 rfl rfl)
theorem dX0_bumpsOf_14 : decode cX0_bumpsOf 14 = .ok (.aload_n 0, 1) := dk_42 (dk_at dksX0_bumpsOf_0 14 rfl rfl)
theorem dX0_bumpsOf_15 : decode cX0_bumpsOf 15 = .ok (.getfield 35, 3) := dk_180 0 35 (dk_at dksX0_bumpsOf_0 15 rfl rfl)
theorem dX0_bumpsOf_18 : decode cX0_bumpsOf 18 = .ok (.getfield 93, 3) := dk_180 0 93 (dk_at dksX0_bumpsOf_0 18 rfl rfl)
theorem dX0_bumpsOf_21 : decode cX0_bumpsOf 21 = .ok (.isub, 1) := dk_100 (dk_at dksX0_bumpsOf_0 21 rfl rfl)
theorem dX0_bumpsOf_22 : decode cX0_bumpsOf 22 = .ok (.ireturn, 1) := dk_172 (dk_at dksX0_bumpsOf_0 22 rfl rfl)
abbrev cX0_looses : ByteArray := prog_1_method_35_code
def yX0_looses : MethodName := ⟨RX0, "looses", "(I)V"⟩
def dkwX0_looses_3 : List UInt8 := [177]
abbrev dktX0_looses_3 : List UInt8 := dkwX0_looses_3 ++ []
def dkwX0_looses_2 : List UInt8 := [3, 6, 184, 0, 19, 132, 2, 1, 167, 255, 216, 42, 180, 0, 190, 89, 180, 0, 82, 4, 100, 181, 0, 82]
abbrev dktX0_looses_2 : List UInt8 := dkwX0_looses_2 ++ dktX0_looses_3
def dkwX0_looses_1 : List UInt8 := [162, 0, 35, 42, 180, 0, 35, 180, 0, 129, 28, 50, 3, 42, 180, 0, 190, 180, 0, 129, 28, 4, 100, 50]
abbrev dktX0_looses_1 : List UInt8 := dkwX0_looses_1 ++ dktX0_looses_2
def dkwX0_looses_0 : List UInt8 := [42, 180, 0, 190, 42, 180, 0, 35, 182, 0, 42, 27, 4, 96, 61, 28, 42, 180, 0, 35, 180, 0, 82]
abbrev dktX0_looses_0 : List UInt8 := dkwX0_looses_0 ++ dktX0_looses_1
theorem dksX0_looses_0 : cX0_looses.data.toList.drop 0 = dktX0_looses_0 := by decide +kernel
theorem dksX0_looses_1 : cX0_looses.data.toList.drop 23 = dktX0_looses_1 := dk_seg dksX0_looses_0 23 rfl rfl
theorem dksX0_looses_2 : cX0_looses.data.toList.drop 47 = dktX0_looses_2 := dk_seg dksX0_looses_1 24 rfl rfl
theorem dksX0_looses_3 : cX0_looses.data.toList.drop 71 = dktX0_looses_3 := dk_seg dksX0_looses_2 24 rfl rfl
theorem dX0_looses_0 : decode cX0_looses 0 = .ok (.aload_n 0, 1) := dk_42 (dk_at dksX0_looses_0 0 rfl rfl)
theorem dX0_looses_1 : decode cX0_looses 1 = .ok (.getfield 190, 3) := dk_180 0 190 (dk_at dksX0_looses_0 1 rfl rfl)
theorem dX0_looses_4 : decode cX0_looses 4 = .ok (.aload_n 0, 1) := dk_42 (dk_at dksX0_looses_0 4 rfl rfl)
theorem dX0_looses_5 : decode cX0_looses 5 = .ok (.getfield 35, 3) := dk_180 0 35 (dk_at dksX0_looses_0 5 rfl rfl)
theorem dX0_looses_8 : decode cX0_looses 8 = .ok (.invokevirtual 42, 3) := dk_182 0 42 (dk_at dksX0_looses_0 8 rfl rfl)
theorem dX0_looses_11 : decode cX0_looses 11 = .ok (.iload_n 1, 1) := dk_27 (dk_at dksX0_looses_0 11 rfl rfl)
theorem dX0_looses_12 : decode cX0_looses 12 = .ok (.iconst 1, 1) := dk_4 (dk_at dksX0_looses_0 12 rfl rfl)
theorem dX0_looses_13 : decode cX0_looses 13 = .ok (.iadd, 1) := dk_96 (dk_at dksX0_looses_0 13 rfl rfl)
theorem dX0_looses_14 : decode cX0_looses 14 = .ok (.istore_n 2, 1) := dk_61 (dk_at dksX0_looses_0 14 rfl rfl)
theorem dX0_looses_15 : decode cX0_looses 15 = .ok (.iload_n 2, 1) := dk_28 (dk_at dksX0_looses_0 15 rfl rfl)
theorem dX0_looses_16 : decode cX0_looses 16 = .ok (.aload_n 0, 1) := dk_42 (dk_at dksX0_looses_0 16 rfl rfl)
theorem dX0_looses_17 : decode cX0_looses 17 = .ok (.getfield 35, 3) := dk_180 0 35 (dk_at dksX0_looses_0 17 rfl rfl)
theorem dX0_looses_20 : decode cX0_looses 20 = .ok (.getfield 82, 3) := dk_180 0 82 (dk_at dksX0_looses_0 20 rfl rfl)
theorem dX0_looses_23 : decode cX0_looses 23 = .ok (.if_icmp .ge 35, 3) := dk_162 0 35 (dk_at dksX0_looses_1 0 rfl rfl)
theorem dX0_looses_26 : decode cX0_looses 26 = .ok (.aload_n 0, 1) := dk_42 (dk_at dksX0_looses_1 3 rfl rfl)
theorem dX0_looses_27 : decode cX0_looses 27 = .ok (.getfield 35, 3) := dk_180 0 35 (dk_at dksX0_looses_1 4 rfl rfl)
theorem dX0_looses_30 : decode cX0_looses 30 = .ok (.getfield 129, 3) := dk_180 0 129 (dk_at dksX0_looses_1 7 rfl rfl)
theorem dX0_looses_33 : decode cX0_looses 33 = .ok (.iload_n 2, 1) := dk_28 (dk_at dksX0_looses_1 10 rfl rfl)
theorem dX0_looses_34 : decode cX0_looses 34 = .ok (.aaload, 1) := dk_50 (dk_at dksX0_looses_1 11 rfl rfl)
theorem dX0_looses_35 : decode cX0_looses 35 = .ok (.iconst 0, 1) := dk_3 (dk_at dksX0_looses_1 12 rfl rfl)
theorem dX0_looses_36 : decode cX0_looses 36 = .ok (.aload_n 0, 1) := dk_42 (dk_at dksX0_looses_1 13 rfl rfl)
theorem dX0_looses_37 : decode cX0_looses 37 = .ok (.getfield 190, 3) := dk_180 0 190 (dk_at dksX0_looses_1 14 rfl rfl)
theorem dX0_looses_40 : decode cX0_looses 40 = .ok (.getfield 129, 3) := dk_180 0 129 (dk_at dksX0_looses_1 17 rfl rfl)
theorem dX0_looses_43 : decode cX0_looses 43 = .ok (.iload_n 2, 1) := dk_28 (dk_at dksX0_looses_1 20 rfl rfl)
theorem dX0_looses_44 : decode cX0_looses 44 = .ok (.iconst 1, 1) := dk_4 (dk_at dksX0_looses_1 21 rfl rfl)
theorem dX0_looses_45 : decode cX0_looses 45 = .ok (.isub, 1) := dk_100 (dk_at dksX0_looses_1 22 rfl rfl)
theorem dX0_looses_46 : decode cX0_looses 46 = .ok (.aaload, 1) := dk_50 (dk_at dksX0_looses_1 23 rfl rfl)
theorem dX0_looses_47 : decode cX0_looses 47 = .ok (.iconst 0, 1) := dk_3 (dk_at dksX0_looses_2 0 rfl rfl)
theorem dX0_looses_48 : decode cX0_looses 48 = .ok (.iconst 3, 1) := dk_6 (dk_at dksX0_looses_2 1 rfl rfl)
theorem dX0_looses_49 : decode cX0_looses 49 = .ok (.invokestatic 19, 3) := dk_184 0 19 (dk_at dksX0_looses_2 2 rfl rfl)
theorem dX0_looses_52 : decode cX0_looses 52 = .ok (.iinc 2 1, 3) := dk_132 2 1 (dk_at dksX0_looses_2 5 rfl rfl)
theorem dX0_looses_55 : decode cX0_looses 55 = .ok (.goto (-40), 3) := dk_167 255 216 (dk_at dksX0_looses_2 8 rfl rfl)
theorem dX0_looses_58 : decode cX0_looses 58 = .ok (.aload_n 0, 1) := dk_42 (dk_at dksX0_looses_2 11 rfl rfl)
theorem dX0_looses_59 : decode cX0_looses 59 = .ok (.getfield 190, 3) := dk_180 0 190 (dk_at dksX0_looses_2 12 rfl rfl)
theorem dX0_looses_62 : decode cX0_looses 62 = .ok (.dup, 1) := dk_89 (dk_at dksX0_looses_2 15 rfl rfl)
theorem dX0_looses_63 : decode cX0_looses 63 = .ok (.getfield 82, 3) := dk_180 0 82 (dk_at dksX0_looses_2 16 rfl rfl)
theorem dX0_looses_66 : decode cX0_looses 66 = .ok (.iconst 1, 1) := dk_4 (dk_at dksX0_looses_2 19 rfl rfl)
theorem dX0_looses_67 : decode cX0_looses 67 = .ok (.isub, 1) := dk_100 (dk_at dksX0_looses_2 20 rfl rfl)
theorem dX0_looses_68 : decode cX0_looses 68 = .ok (.putfield 82, 3) := dk_181 0 82 (dk_at dksX0_looses_2 21 rfl rfl)
theorem dX0_looses_71 : decode cX0_looses 71 = .ok (.return_, 1) := dk_177 (dk_at dksX0_looses_3 0 rfl rfl)
abbrev cX0_soothe : ByteArray := prog_1_method_37_code
def yX0_soothe : MethodName := ⟨RX0, "soothe", "(I)I"⟩
def dkwX0_soothe_6 : List UInt8 := [154, 0, 7, 28, 167, 0, 7, 42, 180, 0, 180, 172]
abbrev dktX0_soothe_6 : List UInt8 := dkwX0_soothe_6 ++ []
def dkwX0_soothe_5 : List UInt8 := [167, 0, 4, 28, 61, 132, 4, 1, 167, 255, 173, 132, 3, 1, 167, 255, 153, 28, 16, 252, 159, 0, 7, 27]
abbrev dktX0_soothe_5 : List UInt8 := dkwX0_soothe_5 ++ dktX0_soothe_6
def dkwX0_soothe_4 : List UInt8 := [42, 42, 42, 180, 0, 190, 16, 30, 182, 0, 186, 182, 0, 193, 153, 0, 13, 16, 10, 29, 104, 21, 4, 96]
abbrev dktX0_soothe_4 : List UInt8 := dkwX0_soothe_4 ++ dktX0_soothe_5
def dkwX0_soothe_3 : List UInt8 := [42, 180, 0, 190, 42, 180, 0, 35, 182, 0, 42, 42, 180, 0, 190, 180, 0, 121, 29, 50, 21, 4, 3, 79]
abbrev dktX0_soothe_3 : List UInt8 := dkwX0_soothe_3 ++ dktX0_soothe_4
def dkwX0_soothe_2 : List UInt8 := [180, 0, 35, 180, 0, 75, 162, 0, 77, 42, 180, 0, 35, 180, 0, 121, 29, 50, 21, 4, 46, 158, 0, 56]
abbrev dktX0_soothe_2 : List UInt8 := dkwX0_soothe_2 ++ dktX0_soothe_3
def dkwX0_soothe_1 : List UInt8 := [16, 252, 61, 3, 62, 29, 42, 180, 0, 35, 180, 0, 75, 162, 0, 98, 3, 54, 4, 21, 4, 42]
abbrev dktX0_soothe_1 : List UInt8 := dkwX0_soothe_1 ++ dktX0_soothe_2
def dkwX0_soothe_0 : List UInt8 := [27, 184, 0, 183, 154, 0, 5, 2, 172, 42, 42, 42, 180, 0, 35, 16, 30, 182, 0, 186, 181, 0, 180]
abbrev dktX0_soothe_0 : List UInt8 := dkwX0_soothe_0 ++ dktX0_soothe_1
theorem dksX0_soothe_0 : cX0_soothe.data.toList.drop 0 = dktX0_soothe_0 := by decide +kernel
theorem dksX0_soothe_1 : cX0_soothe.data.toList.drop 23 = dktX0_soothe_1 := dk_seg dksX0_soothe_0 23 rfl rfl
theorem dksX0_soothe_2 : cX0_soothe.data.toList.drop 45 = dktX0_soothe_2 := dk_seg dksX0_soothe_1 22 rfl rfl
theorem dksX0_soothe_3 : cX0_soothe.data.toList.drop 69 = dktX0_soothe_3 := dk_seg dksX0_soothe_2 24 rfl rfl
theorem dksX0_soothe_4 : cX0_soothe.data.toList.drop 93 = dktX0_soothe_4 := dk_seg dksX0_soothe_3 24 rfl rfl
theorem dksX0_soothe_5 : cX0_soothe.data.toList.drop 117 = dktX0_soothe_5 := dk_seg dksX0_soothe_4 24 rfl rfl
theorem dksX0_soothe_6 : cX0_soothe.data.toList.drop 141 = dktX0_soothe_6 := dk_seg dksX0_soothe_5 24 rfl rfl
theorem dX0_soothe_0 : decode cX0_soothe 0 = .ok (.iload_n 1, 1) := dk_27 (dk_at dksX0_soothe_0 0 rfl rfl)
theorem dX0_soothe_1 : decode cX0_soothe 1 = .ok (.invokestatic 183, 3) := dk_184 0 183 (dk_at dksX0_soothe_0 1 rfl rfl)
theorem dX0_soothe_4 : decode cX0_soothe 4 = .ok (.ifCond .ne 5, 3) := dk_154 0 5 (dk_at dksX0_soothe_0 4 rfl rfl)
theorem dX0_soothe_7 : decode cX0_soothe 7 = .ok (.iconst (-1), 1) := dk_2 (dk_at dksX0_soothe_0 7 rfl rfl)
theorem dX0_soothe_8 : decode cX0_soothe 8 = .ok (.ireturn, 1) := dk_172 (dk_at dksX0_soothe_0 8 rfl rfl)
theorem dX0_soothe_9 : decode cX0_soothe 9 = .ok (.aload_n 0, 1) := dk_42 (dk_at dksX0_soothe_0 9 rfl rfl)
theorem dX0_soothe_10 : decode cX0_soothe 10 = .ok (.aload_n 0, 1) := dk_42 (dk_at dksX0_soothe_0 10 rfl rfl)
theorem dX0_soothe_11 : decode cX0_soothe 11 = .ok (.aload_n 0, 1) := dk_42 (dk_at dksX0_soothe_0 11 rfl rfl)
theorem dX0_soothe_12 : decode cX0_soothe 12 = .ok (.getfield 35, 3) := dk_180 0 35 (dk_at dksX0_soothe_0 12 rfl rfl)
theorem dX0_soothe_15 : decode cX0_soothe 15 = .ok (.bipush 30, 2) := dk_16 30 (dk_at dksX0_soothe_0 15 rfl rfl)
theorem dX0_soothe_17 : decode cX0_soothe 17 = .ok (.invokevirtual 186, 3) := dk_182 0 186 (dk_at dksX0_soothe_0 17 rfl rfl)
theorem dX0_soothe_20 : decode cX0_soothe 20 = .ok (.putfield 180, 3) := dk_181 0 180 (dk_at dksX0_soothe_0 20 rfl rfl)
theorem dX0_soothe_23 : decode cX0_soothe 23 = .ok (.bipush (-4), 2) := dk_16 252 (dk_at dksX0_soothe_1 0 rfl rfl)
theorem dX0_soothe_25 : decode cX0_soothe 25 = .ok (.istore_n 2, 1) := dk_61 (dk_at dksX0_soothe_1 2 rfl rfl)
theorem dX0_soothe_26 : decode cX0_soothe 26 = .ok (.iconst 0, 1) := dk_3 (dk_at dksX0_soothe_1 3 rfl rfl)
theorem dX0_soothe_27 : decode cX0_soothe 27 = .ok (.istore_n 3, 1) := dk_62 (dk_at dksX0_soothe_1 4 rfl rfl)
theorem dX0_soothe_28 : decode cX0_soothe 28 = .ok (.iload_n 3, 1) := dk_29 (dk_at dksX0_soothe_1 5 rfl rfl)
theorem dX0_soothe_29 : decode cX0_soothe 29 = .ok (.aload_n 0, 1) := dk_42 (dk_at dksX0_soothe_1 6 rfl rfl)
theorem dX0_soothe_30 : decode cX0_soothe 30 = .ok (.getfield 35, 3) := dk_180 0 35 (dk_at dksX0_soothe_1 7 rfl rfl)
theorem dX0_soothe_33 : decode cX0_soothe 33 = .ok (.getfield 75, 3) := dk_180 0 75 (dk_at dksX0_soothe_1 10 rfl rfl)
theorem dX0_soothe_36 : decode cX0_soothe 36 = .ok (.if_icmp .ge 98, 3) := dk_162 0 98 (dk_at dksX0_soothe_1 13 rfl rfl)
theorem dX0_soothe_39 : decode cX0_soothe 39 = .ok (.iconst 0, 1) := dk_3 (dk_at dksX0_soothe_1 16 rfl rfl)
theorem dX0_soothe_40 : decode cX0_soothe 40 = .ok (.istore 4, 2) := dk_54 4 (dk_at dksX0_soothe_1 17 rfl rfl)
theorem dX0_soothe_42 : decode cX0_soothe 42 = .ok (.iload 4, 2) := dk_21 4 (dk_at dksX0_soothe_1 19 rfl rfl)
theorem dX0_soothe_44 : decode cX0_soothe 44 = .ok (.aload_n 0, 1) := dk_42 (dk_at dksX0_soothe_1 21 rfl rfl)
theorem dX0_soothe_45 : decode cX0_soothe 45 = .ok (.getfield 35, 3) := dk_180 0 35 (dk_at dksX0_soothe_2 0 rfl rfl)
theorem dX0_soothe_48 : decode cX0_soothe 48 = .ok (.getfield 75, 3) := dk_180 0 75 (dk_at dksX0_soothe_2 3 rfl rfl)
theorem dX0_soothe_51 : decode cX0_soothe 51 = .ok (.if_icmp .ge 77, 3) := dk_162 0 77 (dk_at dksX0_soothe_2 6 rfl rfl)
theorem dX0_soothe_54 : decode cX0_soothe 54 = .ok (.aload_n 0, 1) := dk_42 (dk_at dksX0_soothe_2 9 rfl rfl)
theorem dX0_soothe_55 : decode cX0_soothe 55 = .ok (.getfield 35, 3) := dk_180 0 35 (dk_at dksX0_soothe_2 10 rfl rfl)
theorem dX0_soothe_58 : decode cX0_soothe 58 = .ok (.getfield 121, 3) := dk_180 0 121 (dk_at dksX0_soothe_2 13 rfl rfl)
theorem dX0_soothe_61 : decode cX0_soothe 61 = .ok (.iload_n 3, 1) := dk_29 (dk_at dksX0_soothe_2 16 rfl rfl)
theorem dX0_soothe_62 : decode cX0_soothe 62 = .ok (.aaload, 1) := dk_50 (dk_at dksX0_soothe_2 17 rfl rfl)
theorem dX0_soothe_63 : decode cX0_soothe 63 = .ok (.iload 4, 2) := dk_21 4 (dk_at dksX0_soothe_2 18 rfl rfl)
theorem dX0_soothe_65 : decode cX0_soothe 65 = .ok (.iaload, 1) := dk_46 (dk_at dksX0_soothe_2 20 rfl rfl)
theorem dX0_soothe_66 : decode cX0_soothe 66 = .ok (.ifCond .le 56, 3) := dk_158 0 56 (dk_at dksX0_soothe_2 21 rfl rfl)
theorem dX0_soothe_69 : decode cX0_soothe 69 = .ok (.aload_n 0, 1) := dk_42 (dk_at dksX0_soothe_3 0 rfl rfl)
theorem dX0_soothe_70 : decode cX0_soothe 70 = .ok (.getfield 190, 3) := dk_180 0 190 (dk_at dksX0_soothe_3 1 rfl rfl)
theorem dX0_soothe_73 : decode cX0_soothe 73 = .ok (.aload_n 0, 1) := dk_42 (dk_at dksX0_soothe_3 4 rfl rfl)
theorem dX0_soothe_74 : decode cX0_soothe 74 = .ok (.getfield 35, 3) := dk_180 0 35 (dk_at dksX0_soothe_3 5 rfl rfl)
theorem dX0_soothe_77 : decode cX0_soothe 77 = .ok (.invokevirtual 42, 3) := dk_182 0 42 (dk_at dksX0_soothe_3 8 rfl rfl)
theorem dX0_soothe_80 : decode cX0_soothe 80 = .ok (.aload_n 0, 1) := dk_42 (dk_at dksX0_soothe_3 11 rfl rfl)
theorem dX0_soothe_81 : decode cX0_soothe 81 = .ok (.getfield 190, 3) := dk_180 0 190 (dk_at dksX0_soothe_3 12 rfl rfl)
theorem dX0_soothe_84 : decode cX0_soothe 84 = .ok (.getfield 121, 3) := dk_180 0 121 (dk_at dksX0_soothe_3 15 rfl rfl)
theorem dX0_soothe_87 : decode cX0_soothe 87 = .ok (.iload_n 3, 1) := dk_29 (dk_at dksX0_soothe_3 18 rfl rfl)
theorem dX0_soothe_88 : decode cX0_soothe 88 = .ok (.aaload, 1) := dk_50 (dk_at dksX0_soothe_3 19 rfl rfl)
theorem dX0_soothe_89 : decode cX0_soothe 89 = .ok (.iload 4, 2) := dk_21 4 (dk_at dksX0_soothe_3 20 rfl rfl)
theorem dX0_soothe_91 : decode cX0_soothe 91 = .ok (.iconst 0, 1) := dk_3 (dk_at dksX0_soothe_3 22 rfl rfl)
theorem dX0_soothe_92 : decode cX0_soothe 92 = .ok (.iastore, 1) := dk_79 (dk_at dksX0_soothe_3 23 rfl rfl)
theorem dX0_soothe_93 : decode cX0_soothe 93 = .ok (.aload_n 0, 1) := dk_42 (dk_at dksX0_soothe_4 0 rfl rfl)
theorem dX0_soothe_94 : decode cX0_soothe 94 = .ok (.aload_n 0, 1) := dk_42 (dk_at dksX0_soothe_4 1 rfl rfl)
theorem dX0_soothe_95 : decode cX0_soothe 95 = .ok (.aload_n 0, 1) := dk_42 (dk_at dksX0_soothe_4 2 rfl rfl)
theorem dX0_soothe_96 : decode cX0_soothe 96 = .ok (.getfield 190, 3) := dk_180 0 190 (dk_at dksX0_soothe_4 3 rfl rfl)
theorem dX0_soothe_99 : decode cX0_soothe 99 = .ok (.bipush 30, 2) := dk_16 30 (dk_at dksX0_soothe_4 6 rfl rfl)
theorem dX0_soothe_101 : decode cX0_soothe 101 = .ok (.invokevirtual 186, 3) := dk_182 0 186 (dk_at dksX0_soothe_4 8 rfl rfl)
theorem dX0_soothe_104 : decode cX0_soothe 104 = .ok (.invokevirtual 193, 3) := dk_182 0 193 (dk_at dksX0_soothe_4 11 rfl rfl)
theorem dX0_soothe_107 : decode cX0_soothe 107 = .ok (.ifCond .eq 13, 3) := dk_153 0 13 (dk_at dksX0_soothe_4 14 rfl rfl)
theorem dX0_soothe_110 : decode cX0_soothe 110 = .ok (.bipush 10, 2) := dk_16 10 (dk_at dksX0_soothe_4 17 rfl rfl)
theorem dX0_soothe_112 : decode cX0_soothe 112 = .ok (.iload_n 3, 1) := dk_29 (dk_at dksX0_soothe_4 19 rfl rfl)
theorem dX0_soothe_113 : decode cX0_soothe 113 = .ok (.imul, 1) := dk_104 (dk_at dksX0_soothe_4 20 rfl rfl)
theorem dX0_soothe_114 : decode cX0_soothe 114 = .ok (.iload 4, 2) := dk_21 4 (dk_at dksX0_soothe_4 21 rfl rfl)
theorem dX0_soothe_116 : decode cX0_soothe 116 = .ok (.iadd, 1) := dk_96 (dk_at dksX0_soothe_4 23 rfl rfl)
theorem dX0_soothe_117 : decode cX0_soothe 117 = .ok (.goto 4, 3) := dk_167 0 4 (dk_at dksX0_soothe_5 0 rfl rfl)
theorem dX0_soothe_120 : decode cX0_soothe 120 = .ok (.iload_n 2, 1) := dk_28 (dk_at dksX0_soothe_5 3 rfl rfl)
theorem dX0_soothe_121 : decode cX0_soothe 121 = .ok (.istore_n 2, 1) := dk_61 (dk_at dksX0_soothe_5 4 rfl rfl)
theorem dX0_soothe_122 : decode cX0_soothe 122 = .ok (.iinc 4 1, 3) := dk_132 4 1 (dk_at dksX0_soothe_5 5 rfl rfl)
theorem dX0_soothe_125 : decode cX0_soothe 125 = .ok (.goto (-83), 3) := dk_167 255 173 (dk_at dksX0_soothe_5 8 rfl rfl)
theorem dX0_soothe_128 : decode cX0_soothe 128 = .ok (.iinc 3 1, 3) := dk_132 3 1 (dk_at dksX0_soothe_5 11 rfl rfl)
theorem dX0_soothe_131 : decode cX0_soothe 131 = .ok (.goto (-103), 3) := dk_167 255 153 (dk_at dksX0_soothe_5 14 rfl rfl)
theorem dX0_soothe_134 : decode cX0_soothe 134 = .ok (.iload_n 2, 1) := dk_28 (dk_at dksX0_soothe_5 17 rfl rfl)
theorem dX0_soothe_135 : decode cX0_soothe 135 = .ok (.bipush (-4), 2) := dk_16 252 (dk_at dksX0_soothe_5 18 rfl rfl)
theorem dX0_soothe_137 : decode cX0_soothe 137 = .ok (.if_icmp .eq 7, 3) := dk_159 0 7 (dk_at dksX0_soothe_5 20 rfl rfl)
theorem dX0_soothe_140 : decode cX0_soothe 140 = .ok (.iload_n 1, 1) := dk_27 (dk_at dksX0_soothe_5 23 rfl rfl)
theorem dX0_soothe_141 : decode cX0_soothe 141 = .ok (.ifCond .ne 7, 3) := dk_154 0 7 (dk_at dksX0_soothe_6 0 rfl rfl)
theorem dX0_soothe_144 : decode cX0_soothe 144 = .ok (.iload_n 2, 1) := dk_28 (dk_at dksX0_soothe_6 3 rfl rfl)
theorem dX0_soothe_145 : decode cX0_soothe 145 = .ok (.goto 7, 3) := dk_167 0 7 (dk_at dksX0_soothe_6 4 rfl rfl)
theorem dX0_soothe_148 : decode cX0_soothe 148 = .ok (.aload_n 0, 1) := dk_42 (dk_at dksX0_soothe_6 7 rfl rfl)
theorem dX0_soothe_149 : decode cX0_soothe 149 = .ok (.getfield 180, 3) := dk_180 0 180 (dk_at dksX0_soothe_6 8 rfl rfl)
theorem dX0_soothe_152 : decode cX0_soothe 152 = .ok (.ireturn, 1) := dk_172 (dk_at dksX0_soothe_6 11 rfl rfl)
abbrev cX0_holy : ByteArray := prog_1_method_38_code
def yX0_holy : MethodName := ⟨RX0, "holy", "(II)I"⟩
def dkwX0_holy_4 : List UInt8 := [180, 0, 180, 172]
abbrev dktX0_holy_4 : List UInt8 := dkwX0_holy_4 ++ []
def dkwX0_holy_3 : List UInt8 := [21, 4, 167, 0, 4, 29, 62, 132, 4, 1, 167, 255, 214, 28, 154, 0, 7, 29, 167, 0, 7, 42]
abbrev dktX0_holy_3 : List UInt8 := dkwX0_holy_3 ++ dktX0_holy_4
def dkwX0_holy_2 : List UInt8 := [180, 0, 190, 21, 4, 181, 0, 90, 42, 42, 42, 180, 0, 190, 27, 182, 0, 186, 182, 0, 193, 153, 0, 8]
abbrev dktX0_holy_2 : List UInt8 := dkwX0_holy_2 ++ dktX0_holy_3
def dkwX0_holy_1 : List UInt8 := [42, 180, 0, 190, 42, 180, 0, 35, 182, 0, 42, 3, 54, 4, 21, 4, 16, 7, 162, 0, 41, 42]
abbrev dktX0_holy_1 : List UInt8 := dkwX0_holy_1 ++ dktX0_holy_2
def dkwX0_holy_0 : List UInt8 := [27, 184, 0, 169, 153, 0, 10, 28, 184, 0, 183, 154, 0, 5, 2, 172, 42, 18, 204, 181, 0, 180, 3, 62]
abbrev dktX0_holy_0 : List UInt8 := dkwX0_holy_0 ++ dktX0_holy_1
theorem dksX0_holy_0 : cX0_holy.data.toList.drop 0 = dktX0_holy_0 := by decide +kernel
theorem dksX0_holy_1 : cX0_holy.data.toList.drop 24 = dktX0_holy_1 := dk_seg dksX0_holy_0 24 rfl rfl
theorem dksX0_holy_2 : cX0_holy.data.toList.drop 46 = dktX0_holy_2 := dk_seg dksX0_holy_1 22 rfl rfl
theorem dksX0_holy_3 : cX0_holy.data.toList.drop 70 = dktX0_holy_3 := dk_seg dksX0_holy_2 24 rfl rfl
theorem dksX0_holy_4 : cX0_holy.data.toList.drop 92 = dktX0_holy_4 := dk_seg dksX0_holy_3 22 rfl rfl
theorem dX0_holy_0 : decode cX0_holy 0 = .ok (.iload_n 1, 1) := dk_27 (dk_at dksX0_holy_0 0 rfl rfl)
theorem dX0_holy_1 : decode cX0_holy 1 = .ok (.invokestatic 169, 3) := dk_184 0 169 (dk_at dksX0_holy_0 1 rfl rfl)
theorem dX0_holy_4 : decode cX0_holy 4 = .ok (.ifCond .eq 10, 3) := dk_153 0 10 (dk_at dksX0_holy_0 4 rfl rfl)
theorem dX0_holy_7 : decode cX0_holy 7 = .ok (.iload_n 2, 1) := dk_28 (dk_at dksX0_holy_0 7 rfl rfl)
theorem dX0_holy_8 : decode cX0_holy 8 = .ok (.invokestatic 183, 3) := dk_184 0 183 (dk_at dksX0_holy_0 8 rfl rfl)
theorem dX0_holy_11 : decode cX0_holy 11 = .ok (.ifCond .ne 5, 3) := dk_154 0 5 (dk_at dksX0_holy_0 11 rfl rfl)
theorem dX0_holy_14 : decode cX0_holy 14 = .ok (.iconst (-1), 1) := dk_2 (dk_at dksX0_holy_0 14 rfl rfl)
theorem dX0_holy_15 : decode cX0_holy 15 = .ok (.ireturn, 1) := dk_172 (dk_at dksX0_holy_0 15 rfl rfl)
theorem dX0_holy_16 : decode cX0_holy 16 = .ok (.aload_n 0, 1) := dk_42 (dk_at dksX0_holy_0 16 rfl rfl)
theorem dX0_holy_17 : decode cX0_holy 17 = .ok (.ldc 204, 2) := dk_18 204 (dk_at dksX0_holy_0 17 rfl rfl)
theorem dX0_holy_19 : decode cX0_holy 19 = .ok (.putfield 180, 3) := dk_181 0 180 (dk_at dksX0_holy_0 19 rfl rfl)
theorem dX0_holy_22 : decode cX0_holy 22 = .ok (.iconst 0, 1) := dk_3 (dk_at dksX0_holy_0 22 rfl rfl)
theorem dX0_holy_23 : decode cX0_holy 23 = .ok (.istore_n 3, 1) := dk_62 (dk_at dksX0_holy_0 23 rfl rfl)
theorem dX0_holy_24 : decode cX0_holy 24 = .ok (.aload_n 0, 1) := dk_42 (dk_at dksX0_holy_1 0 rfl rfl)
theorem dX0_holy_25 : decode cX0_holy 25 = .ok (.getfield 190, 3) := dk_180 0 190 (dk_at dksX0_holy_1 1 rfl rfl)
theorem dX0_holy_28 : decode cX0_holy 28 = .ok (.aload_n 0, 1) := dk_42 (dk_at dksX0_holy_1 4 rfl rfl)
theorem dX0_holy_29 : decode cX0_holy 29 = .ok (.getfield 35, 3) := dk_180 0 35 (dk_at dksX0_holy_1 5 rfl rfl)
theorem dX0_holy_32 : decode cX0_holy 32 = .ok (.invokevirtual 42, 3) := dk_182 0 42 (dk_at dksX0_holy_1 8 rfl rfl)
theorem dX0_holy_35 : decode cX0_holy 35 = .ok (.iconst 0, 1) := dk_3 (dk_at dksX0_holy_1 11 rfl rfl)
theorem dX0_holy_36 : decode cX0_holy 36 = .ok (.istore 4, 2) := dk_54 4 (dk_at dksX0_holy_1 12 rfl rfl)
theorem dX0_holy_38 : decode cX0_holy 38 = .ok (.iload 4, 2) := dk_21 4 (dk_at dksX0_holy_1 14 rfl rfl)
theorem dX0_holy_40 : decode cX0_holy 40 = .ok (.bipush 7, 2) := dk_16 7 (dk_at dksX0_holy_1 16 rfl rfl)
theorem dX0_holy_42 : decode cX0_holy 42 = .ok (.if_icmp .ge 41, 3) := dk_162 0 41 (dk_at dksX0_holy_1 18 rfl rfl)
theorem dX0_holy_45 : decode cX0_holy 45 = .ok (.aload_n 0, 1) := dk_42 (dk_at dksX0_holy_1 21 rfl rfl)
theorem dX0_holy_46 : decode cX0_holy 46 = .ok (.getfield 190, 3) := dk_180 0 190 (dk_at dksX0_holy_2 0 rfl rfl)
theorem dX0_holy_49 : decode cX0_holy 49 = .ok (.iload 4, 2) := dk_21 4 (dk_at dksX0_holy_2 3 rfl rfl)
theorem dX0_holy_51 : decode cX0_holy 51 = .ok (.putfield 90, 3) := dk_181 0 90 (dk_at dksX0_holy_2 5 rfl rfl)
theorem dX0_holy_54 : decode cX0_holy 54 = .ok (.aload_n 0, 1) := dk_42 (dk_at dksX0_holy_2 8 rfl rfl)
theorem dX0_holy_55 : decode cX0_holy 55 = .ok (.aload_n 0, 1) := dk_42 (dk_at dksX0_holy_2 9 rfl rfl)
theorem dX0_holy_56 : decode cX0_holy 56 = .ok (.aload_n 0, 1) := dk_42 (dk_at dksX0_holy_2 10 rfl rfl)
theorem dX0_holy_57 : decode cX0_holy 57 = .ok (.getfield 190, 3) := dk_180 0 190 (dk_at dksX0_holy_2 11 rfl rfl)
theorem dX0_holy_60 : decode cX0_holy 60 = .ok (.iload_n 1, 1) := dk_27 (dk_at dksX0_holy_2 14 rfl rfl)
theorem dX0_holy_61 : decode cX0_holy 61 = .ok (.invokevirtual 186, 3) := dk_182 0 186 (dk_at dksX0_holy_2 15 rfl rfl)
theorem dX0_holy_64 : decode cX0_holy 64 = .ok (.invokevirtual 193, 3) := dk_182 0 193 (dk_at dksX0_holy_2 18 rfl rfl)
theorem dX0_holy_67 : decode cX0_holy 67 = .ok (.ifCond .eq 8, 3) := dk_153 0 8 (dk_at dksX0_holy_2 21 rfl rfl)
theorem dX0_holy_70 : decode cX0_holy 70 = .ok (.iload 4, 2) := dk_21 4 (dk_at dksX0_holy_3 0 rfl rfl)
theorem dX0_holy_72 : decode cX0_holy 72 = .ok (.goto 4, 3) := dk_167 0 4 (dk_at dksX0_holy_3 2 rfl rfl)
theorem dX0_holy_75 : decode cX0_holy 75 = .ok (.iload_n 3, 1) := dk_29 (dk_at dksX0_holy_3 5 rfl rfl)
theorem dX0_holy_76 : decode cX0_holy 76 = .ok (.istore_n 3, 1) := dk_62 (dk_at dksX0_holy_3 6 rfl rfl)
theorem dX0_holy_77 : decode cX0_holy 77 = .ok (.iinc 4 1, 3) := dk_132 4 1 (dk_at dksX0_holy_3 7 rfl rfl)
theorem dX0_holy_80 : decode cX0_holy 80 = .ok (.goto (-42), 3) := dk_167 255 214 (dk_at dksX0_holy_3 10 rfl rfl)
theorem dX0_holy_83 : decode cX0_holy 83 = .ok (.iload_n 2, 1) := dk_28 (dk_at dksX0_holy_3 13 rfl rfl)
theorem dX0_holy_84 : decode cX0_holy 84 = .ok (.ifCond .ne 7, 3) := dk_154 0 7 (dk_at dksX0_holy_3 14 rfl rfl)
theorem dX0_holy_87 : decode cX0_holy 87 = .ok (.iload_n 3, 1) := dk_29 (dk_at dksX0_holy_3 17 rfl rfl)
theorem dX0_holy_88 : decode cX0_holy 88 = .ok (.goto 7, 3) := dk_167 0 7 (dk_at dksX0_holy_3 18 rfl rfl)
theorem dX0_holy_91 : decode cX0_holy 91 = .ok (.aload_n 0, 1) := dk_42 (dk_at dksX0_holy_3 21 rfl rfl)
theorem dX0_holy_92 : decode cX0_holy 92 = .ok (.getfield 180, 3) := dk_180 0 180 (dk_at dksX0_holy_4 0 rfl rfl)
theorem dX0_holy_95 : decode cX0_holy 95 = .ok (.ireturn, 1) := dk_172 (dk_at dksX0_holy_4 3 rfl rfl)
abbrev cX0_kind : ByteArray := prog_1_method_39_code
def yX0_kind : MethodName := ⟨RX0, "kind", "(III)I"⟩
def dkwX0_kind_4 : List UInt8 := [132, 5, 1, 167, 255, 209, 29, 154, 0, 8, 21, 4, 167, 0, 7, 42, 180, 0, 180, 172]
abbrev dktX0_kind_4 : List UInt8 := dkwX0_kind_4 ++ []
def dkwX0_kind_3 : List UInt8 := [180, 0, 190, 28, 182, 0, 186, 182, 0, 193, 153, 0, 8, 21, 5, 167, 0, 5, 21, 4, 54, 4]
abbrev dktX0_kind_3 : List UInt8 := dkwX0_kind_3 ++ dktX0_kind_4
def dkwX0_kind_2 : List UInt8 := [21, 5, 7, 162, 0, 47, 42, 180, 0, 190, 180, 0, 100, 27, 50, 3, 21, 5, 79, 42, 42, 42]
abbrev dktX0_kind_2 : List UInt8 := dkwX0_kind_2 ++ dktX0_kind_3
def dkwX0_kind_1 : List UInt8 := [42, 18, 204, 181, 0, 180, 3, 54, 4, 42, 180, 0, 190, 42, 180, 0, 35, 182, 0, 42, 3, 54, 5]
abbrev dktX0_kind_1 : List UInt8 := dkwX0_kind_1 ++ dktX0_kind_2
def dkwX0_kind_0 : List UInt8 := [42, 27, 182, 0, 78, 153, 0, 17, 28, 184, 0, 169, 153, 0, 10, 29, 184, 0, 183, 154, 0, 5, 2, 172]
abbrev dktX0_kind_0 : List UInt8 := dkwX0_kind_0 ++ dktX0_kind_1
theorem dksX0_kind_0 : cX0_kind.data.toList.drop 0 = dktX0_kind_0 := by decide +kernel
theorem dksX0_kind_1 : cX0_kind.data.toList.drop 24 = dktX0_kind_1 := dk_seg dksX0_kind_0 24 rfl rfl
theorem dksX0_kind_2 : cX0_kind.data.toList.drop 47 = dktX0_kind_2 := dk_seg dksX0_kind_1 23 rfl rfl
theorem dksX0_kind_3 : cX0_kind.data.toList.drop 69 = dktX0_kind_3 := dk_seg dksX0_kind_2 22 rfl rfl
theorem dksX0_kind_4 : cX0_kind.data.toList.drop 91 = dktX0_kind_4 := dk_seg dksX0_kind_3 22 rfl rfl
theorem dX0_kind_0 : decode cX0_kind 0 = .ok (.aload_n 0, 1) := dk_42 (dk_at dksX0_kind_0 0 rfl rfl)
theorem dX0_kind_1 : decode cX0_kind 1 = .ok (.iload_n 1, 1) := dk_27 (dk_at dksX0_kind_0 1 rfl rfl)
theorem dX0_kind_2 : decode cX0_kind 2 = .ok (.invokevirtual 78, 3) := dk_182 0 78 (dk_at dksX0_kind_0 2 rfl rfl)
theorem dX0_kind_5 : decode cX0_kind 5 = .ok (.ifCond .eq 17, 3) := dk_153 0 17 (dk_at dksX0_kind_0 5 rfl rfl)
theorem dX0_kind_8 : decode cX0_kind 8 = .ok (.iload_n 2, 1) := dk_28 (dk_at dksX0_kind_0 8 rfl rfl)
theorem dX0_kind_9 : decode cX0_kind 9 = .ok (.invokestatic 169, 3) := dk_184 0 169 (dk_at dksX0_kind_0 9 rfl rfl)
theorem dX0_kind_12 : decode cX0_kind 12 = .ok (.ifCond .eq 10, 3) := dk_153 0 10 (dk_at dksX0_kind_0 12 rfl rfl)
theorem dX0_kind_15 : decode cX0_kind 15 = .ok (.iload_n 3, 1) := dk_29 (dk_at dksX0_kind_0 15 rfl rfl)
theorem dX0_kind_16 : decode cX0_kind 16 = .ok (.invokestatic 183, 3) := dk_184 0 183 (dk_at dksX0_kind_0 16 rfl rfl)
theorem dX0_kind_19 : decode cX0_kind 19 = .ok (.ifCond .ne 5, 3) := dk_154 0 5 (dk_at dksX0_kind_0 19 rfl rfl)
theorem dX0_kind_22 : decode cX0_kind 22 = .ok (.iconst (-1), 1) := dk_2 (dk_at dksX0_kind_0 22 rfl rfl)
theorem dX0_kind_23 : decode cX0_kind 23 = .ok (.ireturn, 1) := dk_172 (dk_at dksX0_kind_0 23 rfl rfl)
theorem dX0_kind_24 : decode cX0_kind 24 = .ok (.aload_n 0, 1) := dk_42 (dk_at dksX0_kind_1 0 rfl rfl)
theorem dX0_kind_25 : decode cX0_kind 25 = .ok (.ldc 204, 2) := dk_18 204 (dk_at dksX0_kind_1 1 rfl rfl)
theorem dX0_kind_27 : decode cX0_kind 27 = .ok (.putfield 180, 3) := dk_181 0 180 (dk_at dksX0_kind_1 3 rfl rfl)
theorem dX0_kind_30 : decode cX0_kind 30 = .ok (.iconst 0, 1) := dk_3 (dk_at dksX0_kind_1 6 rfl rfl)
theorem dX0_kind_31 : decode cX0_kind 31 = .ok (.istore 4, 2) := dk_54 4 (dk_at dksX0_kind_1 7 rfl rfl)
theorem dX0_kind_33 : decode cX0_kind 33 = .ok (.aload_n 0, 1) := dk_42 (dk_at dksX0_kind_1 9 rfl rfl)
theorem dX0_kind_34 : decode cX0_kind 34 = .ok (.getfield 190, 3) := dk_180 0 190 (dk_at dksX0_kind_1 10 rfl rfl)
theorem dX0_kind_37 : decode cX0_kind 37 = .ok (.aload_n 0, 1) := dk_42 (dk_at dksX0_kind_1 13 rfl rfl)
theorem dX0_kind_38 : decode cX0_kind 38 = .ok (.getfield 35, 3) := dk_180 0 35 (dk_at dksX0_kind_1 14 rfl rfl)
theorem dX0_kind_41 : decode cX0_kind 41 = .ok (.invokevirtual 42, 3) := dk_182 0 42 (dk_at dksX0_kind_1 17 rfl rfl)
theorem dX0_kind_44 : decode cX0_kind 44 = .ok (.iconst 0, 1) := dk_3 (dk_at dksX0_kind_1 20 rfl rfl)
theorem dX0_kind_45 : decode cX0_kind 45 = .ok (.istore 5, 2) := dk_54 5 (dk_at dksX0_kind_1 21 rfl rfl)
theorem dX0_kind_47 : decode cX0_kind 47 = .ok (.iload 5, 2) := dk_21 5 (dk_at dksX0_kind_2 0 rfl rfl)
theorem dX0_kind_49 : decode cX0_kind 49 = .ok (.iconst 4, 1) := dk_7 (dk_at dksX0_kind_2 2 rfl rfl)
theorem dX0_kind_50 : decode cX0_kind 50 = .ok (.if_icmp .ge 47, 3) := dk_162 0 47 (dk_at dksX0_kind_2 3 rfl rfl)
theorem dX0_kind_53 : decode cX0_kind 53 = .ok (.aload_n 0, 1) := dk_42 (dk_at dksX0_kind_2 6 rfl rfl)
theorem dX0_kind_54 : decode cX0_kind 54 = .ok (.getfield 190, 3) := dk_180 0 190 (dk_at dksX0_kind_2 7 rfl rfl)
theorem dX0_kind_57 : decode cX0_kind 57 = .ok (.getfield 100, 3) := dk_180 0 100 (dk_at dksX0_kind_2 10 rfl rfl)
theorem dX0_kind_60 : decode cX0_kind 60 = .ok (.iload_n 1, 1) := dk_27 (dk_at dksX0_kind_2 13 rfl rfl)
theorem dX0_kind_61 : decode cX0_kind 61 = .ok (.aaload, 1) := dk_50 (dk_at dksX0_kind_2 14 rfl rfl)
theorem dX0_kind_62 : decode cX0_kind 62 = .ok (.iconst 0, 1) := dk_3 (dk_at dksX0_kind_2 15 rfl rfl)
theorem dX0_kind_63 : decode cX0_kind 63 = .ok (.iload 5, 2) := dk_21 5 (dk_at dksX0_kind_2 16 rfl rfl)
theorem dX0_kind_65 : decode cX0_kind 65 = .ok (.iastore, 1) := dk_79 (dk_at dksX0_kind_2 18 rfl rfl)
theorem dX0_kind_66 : decode cX0_kind 66 = .ok (.aload_n 0, 1) := dk_42 (dk_at dksX0_kind_2 19 rfl rfl)
theorem dX0_kind_67 : decode cX0_kind 67 = .ok (.aload_n 0, 1) := dk_42 (dk_at dksX0_kind_2 20 rfl rfl)
theorem dX0_kind_68 : decode cX0_kind 68 = .ok (.aload_n 0, 1) := dk_42 (dk_at dksX0_kind_2 21 rfl rfl)
theorem dX0_kind_69 : decode cX0_kind 69 = .ok (.getfield 190, 3) := dk_180 0 190 (dk_at dksX0_kind_3 0 rfl rfl)
theorem dX0_kind_72 : decode cX0_kind 72 = .ok (.iload_n 2, 1) := dk_28 (dk_at dksX0_kind_3 3 rfl rfl)
theorem dX0_kind_73 : decode cX0_kind 73 = .ok (.invokevirtual 186, 3) := dk_182 0 186 (dk_at dksX0_kind_3 4 rfl rfl)
theorem dX0_kind_76 : decode cX0_kind 76 = .ok (.invokevirtual 193, 3) := dk_182 0 193 (dk_at dksX0_kind_3 7 rfl rfl)
theorem dX0_kind_79 : decode cX0_kind 79 = .ok (.ifCond .eq 8, 3) := dk_153 0 8 (dk_at dksX0_kind_3 10 rfl rfl)
theorem dX0_kind_82 : decode cX0_kind 82 = .ok (.iload 5, 2) := dk_21 5 (dk_at dksX0_kind_3 13 rfl rfl)
theorem dX0_kind_84 : decode cX0_kind 84 = .ok (.goto 5, 3) := dk_167 0 5 (dk_at dksX0_kind_3 15 rfl rfl)
theorem dX0_kind_87 : decode cX0_kind 87 = .ok (.iload 4, 2) := dk_21 4 (dk_at dksX0_kind_3 18 rfl rfl)
theorem dX0_kind_89 : decode cX0_kind 89 = .ok (.istore 4, 2) := dk_54 4 (dk_at dksX0_kind_3 20 rfl rfl)
theorem dX0_kind_91 : decode cX0_kind 91 = .ok (.iinc 5 1, 3) := dk_132 5 1 (dk_at dksX0_kind_4 0 rfl rfl)
theorem dX0_kind_94 : decode cX0_kind 94 = .ok (.goto (-47), 3) := dk_167 255 209 (dk_at dksX0_kind_4 3 rfl rfl)
theorem dX0_kind_97 : decode cX0_kind 97 = .ok (.iload_n 3, 1) := dk_29 (dk_at dksX0_kind_4 6 rfl rfl)
theorem dX0_kind_98 : decode cX0_kind 98 = .ok (.ifCond .ne 8, 3) := dk_154 0 8 (dk_at dksX0_kind_4 7 rfl rfl)
theorem dX0_kind_101 : decode cX0_kind 101 = .ok (.iload 4, 2) := dk_21 4 (dk_at dksX0_kind_4 10 rfl rfl)
theorem dX0_kind_103 : decode cX0_kind 103 = .ok (.goto 7, 3) := dk_167 0 7 (dk_at dksX0_kind_4 12 rfl rfl)
theorem dX0_kind_106 : decode cX0_kind 106 = .ok (.aload_n 0, 1) := dk_42 (dk_at dksX0_kind_4 15 rfl rfl)
theorem dX0_kind_107 : decode cX0_kind 107 = .ok (.getfield 180, 3) := dk_180 0 180 (dk_at dksX0_kind_4 16 rfl rfl)
theorem dX0_kind_110 : decode cX0_kind 110 = .ok (.ireturn, 1) := dk_172 (dk_at dksX0_kind_4 19 rfl rfl)
abbrev cX0_slack : ByteArray := prog_1_method_40_code
def yX0_slack : MethodName := ⟨RX0, "slack", "(III)I"⟩
def dkwX0_slack_3 : List UInt8 := [172, 132, 4, 255, 167, 255, 219, 16, 252, 172]
abbrev dktX0_slack_3 : List UInt8 := dkwX0_slack_3 ++ []
def dkwX0_slack_2 : List UInt8 := [180, 0, 129, 27, 50, 5, 21, 4, 79, 42, 42, 180, 0, 190, 28, 182, 0, 186, 29, 163, 0, 6, 21, 4]
abbrev dktX0_slack_2 : List UInt8 := dkwX0_slack_2 ++ dktX0_slack_3
def dkwX0_slack_1 : List UInt8 := [42, 180, 0, 190, 42, 180, 0, 35, 182, 0, 42, 16, 30, 54, 4, 21, 4, 158, 0, 38, 42, 180, 0, 190]
abbrev dktX0_slack_1 : List UInt8 := dkwX0_slack_1 ++ dktX0_slack_2
def dkwX0_slack_0 : List UInt8 := [42, 27, 182, 0, 124, 153, 0, 17, 28, 184, 0, 169, 153, 0, 10, 29, 184, 0, 141, 154, 0, 5, 2, 172]
abbrev dktX0_slack_0 : List UInt8 := dkwX0_slack_0 ++ dktX0_slack_1
theorem dksX0_slack_0 : cX0_slack.data.toList.drop 0 = dktX0_slack_0 := by decide +kernel
theorem dksX0_slack_1 : cX0_slack.data.toList.drop 24 = dktX0_slack_1 := dk_seg dksX0_slack_0 24 rfl rfl
theorem dksX0_slack_2 : cX0_slack.data.toList.drop 48 = dktX0_slack_2 := dk_seg dksX0_slack_1 24 rfl rfl
theorem dksX0_slack_3 : cX0_slack.data.toList.drop 72 = dktX0_slack_3 := dk_seg dksX0_slack_2 24 rfl rfl
theorem dX0_slack_0 : decode cX0_slack 0 = .ok (.aload_n 0, 1) := dk_42 (dk_at dksX0_slack_0 0 rfl rfl)
theorem dX0_slack_1 : decode cX0_slack 1 = .ok (.iload_n 1, 1) := dk_27 (dk_at dksX0_slack_0 1 rfl rfl)
theorem dX0_slack_2 : decode cX0_slack 2 = .ok (.invokevirtual 124, 3) := dk_182 0 124 (dk_at dksX0_slack_0 2 rfl rfl)
theorem dX0_slack_5 : decode cX0_slack 5 = .ok (.ifCond .eq 17, 3) := dk_153 0 17 (dk_at dksX0_slack_0 5 rfl rfl)
theorem dX0_slack_8 : decode cX0_slack 8 = .ok (.iload_n 2, 1) := dk_28 (dk_at dksX0_slack_0 8 rfl rfl)
theorem dX0_slack_9 : decode cX0_slack 9 = .ok (.invokestatic 169, 3) := dk_184 0 169 (dk_at dksX0_slack_0 9 rfl rfl)
theorem dX0_slack_12 : decode cX0_slack 12 = .ok (.ifCond .eq 10, 3) := dk_153 0 10 (dk_at dksX0_slack_0 12 rfl rfl)
theorem dX0_slack_15 : decode cX0_slack 15 = .ok (.iload_n 3, 1) := dk_29 (dk_at dksX0_slack_0 15 rfl rfl)
theorem dX0_slack_16 : decode cX0_slack 16 = .ok (.invokestatic 141, 3) := dk_184 0 141 (dk_at dksX0_slack_0 16 rfl rfl)
theorem dX0_slack_19 : decode cX0_slack 19 = .ok (.ifCond .ne 5, 3) := dk_154 0 5 (dk_at dksX0_slack_0 19 rfl rfl)
theorem dX0_slack_22 : decode cX0_slack 22 = .ok (.iconst (-1), 1) := dk_2 (dk_at dksX0_slack_0 22 rfl rfl)
theorem dX0_slack_23 : decode cX0_slack 23 = .ok (.ireturn, 1) := dk_172 (dk_at dksX0_slack_0 23 rfl rfl)
theorem dX0_slack_24 : decode cX0_slack 24 = .ok (.aload_n 0, 1) := dk_42 (dk_at dksX0_slack_1 0 rfl rfl)
theorem dX0_slack_25 : decode cX0_slack 25 = .ok (.getfield 190, 3) := dk_180 0 190 (dk_at dksX0_slack_1 1 rfl rfl)
theorem dX0_slack_28 : decode cX0_slack 28 = .ok (.aload_n 0, 1) := dk_42 (dk_at dksX0_slack_1 4 rfl rfl)
theorem dX0_slack_29 : decode cX0_slack 29 = .ok (.getfield 35, 3) := dk_180 0 35 (dk_at dksX0_slack_1 5 rfl rfl)
theorem dX0_slack_32 : decode cX0_slack 32 = .ok (.invokevirtual 42, 3) := dk_182 0 42 (dk_at dksX0_slack_1 8 rfl rfl)
theorem dX0_slack_35 : decode cX0_slack 35 = .ok (.bipush 30, 2) := dk_16 30 (dk_at dksX0_slack_1 11 rfl rfl)
theorem dX0_slack_37 : decode cX0_slack 37 = .ok (.istore 4, 2) := dk_54 4 (dk_at dksX0_slack_1 13 rfl rfl)
theorem dX0_slack_39 : decode cX0_slack 39 = .ok (.iload 4, 2) := dk_21 4 (dk_at dksX0_slack_1 15 rfl rfl)
theorem dX0_slack_41 : decode cX0_slack 41 = .ok (.ifCond .le 38, 3) := dk_158 0 38 (dk_at dksX0_slack_1 17 rfl rfl)
theorem dX0_slack_44 : decode cX0_slack 44 = .ok (.aload_n 0, 1) := dk_42 (dk_at dksX0_slack_1 20 rfl rfl)
theorem dX0_slack_45 : decode cX0_slack 45 = .ok (.getfield 190, 3) := dk_180 0 190 (dk_at dksX0_slack_1 21 rfl rfl)
theorem dX0_slack_48 : decode cX0_slack 48 = .ok (.getfield 129, 3) := dk_180 0 129 (dk_at dksX0_slack_2 0 rfl rfl)
theorem dX0_slack_51 : decode cX0_slack 51 = .ok (.iload_n 1, 1) := dk_27 (dk_at dksX0_slack_2 3 rfl rfl)
theorem dX0_slack_52 : decode cX0_slack 52 = .ok (.aaload, 1) := dk_50 (dk_at dksX0_slack_2 4 rfl rfl)
theorem dX0_slack_53 : decode cX0_slack 53 = .ok (.iconst 2, 1) := dk_5 (dk_at dksX0_slack_2 5 rfl rfl)
theorem dX0_slack_54 : decode cX0_slack 54 = .ok (.iload 4, 2) := dk_21 4 (dk_at dksX0_slack_2 6 rfl rfl)
theorem dX0_slack_56 : decode cX0_slack 56 = .ok (.iastore, 1) := dk_79 (dk_at dksX0_slack_2 8 rfl rfl)
theorem dX0_slack_57 : decode cX0_slack 57 = .ok (.aload_n 0, 1) := dk_42 (dk_at dksX0_slack_2 9 rfl rfl)
theorem dX0_slack_58 : decode cX0_slack 58 = .ok (.aload_n 0, 1) := dk_42 (dk_at dksX0_slack_2 10 rfl rfl)
theorem dX0_slack_59 : decode cX0_slack 59 = .ok (.getfield 190, 3) := dk_180 0 190 (dk_at dksX0_slack_2 11 rfl rfl)
theorem dX0_slack_62 : decode cX0_slack 62 = .ok (.iload_n 2, 1) := dk_28 (dk_at dksX0_slack_2 14 rfl rfl)
theorem dX0_slack_63 : decode cX0_slack 63 = .ok (.invokevirtual 186, 3) := dk_182 0 186 (dk_at dksX0_slack_2 15 rfl rfl)
theorem dX0_slack_66 : decode cX0_slack 66 = .ok (.iload_n 3, 1) := dk_29 (dk_at dksX0_slack_2 18 rfl rfl)
theorem dX0_slack_67 : decode cX0_slack 67 = .ok (.if_icmp .gt 6, 3) := dk_163 0 6 (dk_at dksX0_slack_2 19 rfl rfl)
theorem dX0_slack_70 : decode cX0_slack 70 = .ok (.iload 4, 2) := dk_21 4 (dk_at dksX0_slack_2 22 rfl rfl)
theorem dX0_slack_72 : decode cX0_slack 72 = .ok (.ireturn, 1) := dk_172 (dk_at dksX0_slack_3 0 rfl rfl)
theorem dX0_slack_73 : decode cX0_slack 73 = .ok (.iinc 4 (-1), 3) := dk_132 4 255 (dk_at dksX0_slack_3 1 rfl rfl)
theorem dX0_slack_76 : decode cX0_slack 76 = .ok (.goto (-37), 3) := dk_167 255 219 (dk_at dksX0_slack_3 4 rfl rfl)
theorem dX0_slack_79 : decode cX0_slack 79 = .ok (.bipush (-4), 2) := dk_16 252 (dk_at dksX0_slack_3 7 rfl rfl)
theorem dX0_slack_81 : decode cX0_slack 81 = .ok (.ireturn, 1) := dk_172 (dk_at dksX0_slack_3 9 rfl rfl)
abbrev cX0_luck : ByteArray := prog_1_method_44_code
def yX0_luck : MethodName := ⟨RX0, "luck", "(IIII)J"⟩
def dkwX0_luck_2 : List UInt8 := [167, 0, 6, 20, 0, 224, 173]
abbrev dktX0_luck_2 : List UInt8 := dkwX0_luck_2 ++ []
def dkwX0_luck_1 : List UInt8 := [29, 184, 0, 141, 153, 0, 23, 21, 4, 184, 0, 183, 153, 0, 15, 42, 27, 28, 29, 21, 4, 182, 0, 220]
abbrev dktX0_luck_1 : List UInt8 := dkwX0_luck_1 ++ dktX0_luck_2
def dkwX0_luck_0 : List UInt8 := [27, 133, 9, 20, 0, 209, 184, 0, 5, 153, 0, 42, 28, 133, 9, 20, 0, 218, 184, 0, 5, 153, 0, 30]
abbrev dktX0_luck_0 : List UInt8 := dkwX0_luck_0 ++ dktX0_luck_1
theorem dksX0_luck_0 : cX0_luck.data.toList.drop 0 = dktX0_luck_0 := by decide +kernel
theorem dksX0_luck_1 : cX0_luck.data.toList.drop 24 = dktX0_luck_1 := dk_seg dksX0_luck_0 24 rfl rfl
theorem dksX0_luck_2 : cX0_luck.data.toList.drop 48 = dktX0_luck_2 := dk_seg dksX0_luck_1 24 rfl rfl
theorem dX0_luck_0 : decode cX0_luck 0 = .ok (.iload_n 1, 1) := dk_27 (dk_at dksX0_luck_0 0 rfl rfl)
theorem dX0_luck_1 : decode cX0_luck 1 = .ok (.i2l, 1) := dk_133 (dk_at dksX0_luck_0 1 rfl rfl)
theorem dX0_luck_2 : decode cX0_luck 2 = .ok (.lconst 0, 1) := dk_9 (dk_at dksX0_luck_0 2 rfl rfl)
theorem dX0_luck_3 : decode cX0_luck 3 = .ok (.ldc2_w 209, 3) := dk_20 0 209 (dk_at dksX0_luck_0 3 rfl rfl)
theorem dX0_luck_6 : decode cX0_luck 6 = .ok (.invokestatic 5, 3) := dk_184 0 5 (dk_at dksX0_luck_0 6 rfl rfl)
theorem dX0_luck_9 : decode cX0_luck 9 = .ok (.ifCond .eq 42, 3) := dk_153 0 42 (dk_at dksX0_luck_0 9 rfl rfl)
theorem dX0_luck_12 : decode cX0_luck 12 = .ok (.iload_n 2, 1) := dk_28 (dk_at dksX0_luck_0 12 rfl rfl)
theorem dX0_luck_13 : decode cX0_luck 13 = .ok (.i2l, 1) := dk_133 (dk_at dksX0_luck_0 13 rfl rfl)
theorem dX0_luck_14 : decode cX0_luck 14 = .ok (.lconst 0, 1) := dk_9 (dk_at dksX0_luck_0 14 rfl rfl)
theorem dX0_luck_15 : decode cX0_luck 15 = .ok (.ldc2_w 218, 3) := dk_20 0 218 (dk_at dksX0_luck_0 15 rfl rfl)
theorem dX0_luck_18 : decode cX0_luck 18 = .ok (.invokestatic 5, 3) := dk_184 0 5 (dk_at dksX0_luck_0 18 rfl rfl)
theorem dX0_luck_21 : decode cX0_luck 21 = .ok (.ifCond .eq 30, 3) := dk_153 0 30 (dk_at dksX0_luck_0 21 rfl rfl)
theorem dX0_luck_24 : decode cX0_luck 24 = .ok (.iload_n 3, 1) := dk_29 (dk_at dksX0_luck_1 0 rfl rfl)
theorem dX0_luck_25 : decode cX0_luck 25 = .ok (.invokestatic 141, 3) := dk_184 0 141 (dk_at dksX0_luck_1 1 rfl rfl)
theorem dX0_luck_28 : decode cX0_luck 28 = .ok (.ifCond .eq 23, 3) := dk_153 0 23 (dk_at dksX0_luck_1 4 rfl rfl)
theorem dX0_luck_31 : decode cX0_luck 31 = .ok (.iload 4, 2) := dk_21 4 (dk_at dksX0_luck_1 7 rfl rfl)
theorem dX0_luck_33 : decode cX0_luck 33 = .ok (.invokestatic 183, 3) := dk_184 0 183 (dk_at dksX0_luck_1 9 rfl rfl)
theorem dX0_luck_36 : decode cX0_luck 36 = .ok (.ifCond .eq 15, 3) := dk_153 0 15 (dk_at dksX0_luck_1 12 rfl rfl)
theorem dX0_luck_39 : decode cX0_luck 39 = .ok (.aload_n 0, 1) := dk_42 (dk_at dksX0_luck_1 15 rfl rfl)
theorem dX0_luck_40 : decode cX0_luck 40 = .ok (.iload_n 1, 1) := dk_27 (dk_at dksX0_luck_1 16 rfl rfl)
theorem dX0_luck_41 : decode cX0_luck 41 = .ok (.iload_n 2, 1) := dk_28 (dk_at dksX0_luck_1 17 rfl rfl)
theorem dX0_luck_42 : decode cX0_luck 42 = .ok (.iload_n 3, 1) := dk_29 (dk_at dksX0_luck_1 18 rfl rfl)
theorem dX0_luck_43 : decode cX0_luck 43 = .ok (.iload 4, 2) := dk_21 4 (dk_at dksX0_luck_1 19 rfl rfl)
theorem dX0_luck_45 : decode cX0_luck 45 = .ok (.invokevirtual 220, 3) := dk_182 0 220 (dk_at dksX0_luck_1 21 rfl rfl)
theorem dX0_luck_48 : decode cX0_luck 48 = .ok (.goto 6, 3) := dk_167 0 6 (dk_at dksX0_luck_2 0 rfl rfl)
theorem dX0_luck_51 : decode cX0_luck 51 = .ok (.ldc2_w 224, 3) := dk_20 0 224 (dk_at dksX0_luck_2 3 rfl rfl)
theorem dX0_luck_54 : decode cX0_luck 54 = .ok (.lreturn, 1) := dk_173 (dk_at dksX0_luck_2 6 rfl rfl)
abbrev cX0_byStorms : ByteArray := prog_1_method_43_code
def yX0_byStorms : MethodName := ⟨RX0, "byStorms", "(IIII)J"⟩
def dkwX0_byStorms_7 : List UInt8 := [167, 255, 125, 22, 5, 22, 7, 21, 4, 184, 0, 214, 173]
abbrev dktX0_byStorms_7 : List UInt8 := dkwX0_byStorms_7 ++ []
def dkwX0_byStorms_6 : List UInt8 := [180, 0, 159, 182, 0, 96, 29, 163, 0, 7, 4, 167, 0, 4, 3, 133, 105, 97, 55, 5, 132, 9, 1]
abbrev dktX0_byStorms_6 : List UInt8 := dkwX0_byStorms_6 ++ dktX0_byStorms_7
def dkwX0_byStorms_5 : List UInt8 := [167, 255, 197, 22, 5, 22, 10, 29, 16, 252, 160, 0, 13, 42, 180, 0, 159, 182, 0, 96, 167, 0, 19, 42]
abbrev dktX0_byStorms_5 : List UInt8 := dkwX0_byStorms_5 ++ dktX0_byStorms_6
def dkwX0_byStorms_4 : List UInt8 := [167, 0, 20, 22, 10, 16, 10, 27, 100, 133, 105, 55, 10, 42, 180, 0, 159, 182, 0, 156, 132, 12, 1]
abbrev dktX0_byStorms_4 : List UInt8 := dkwX0_byStorms_4 ++ dktX0_byStorms_5
def dkwX0_byStorms_3 : List UInt8 := [153, 0, 26, 22, 10, 27, 133, 105, 55, 10, 42, 180, 0, 159, 89, 180, 0, 87, 4, 96, 181, 0, 87]
abbrev dktX0_byStorms_3 : List UInt8 := dkwX0_byStorms_3 ++ dktX0_byStorms_4
def dkwX0_byStorms_2 : List UInt8 := [42, 180, 0, 35, 182, 0, 42, 3, 54, 12, 21, 12, 28, 162, 0, 59, 21, 9, 21, 12, 184, 0, 211]
abbrev dktX0_byStorms_2 : List UInt8 := dkwX0_byStorms_2 ++ dktX0_byStorms_3
def dkwX0_byStorms_1 : List UInt8 := [132, 9, 1, 167, 255, 239, 3, 54, 9, 21, 9, 4, 28, 120, 162, 0, 129, 10, 55, 10, 42, 180, 0, 159]
abbrev dktX0_byStorms_1 : List UInt8 := dkwX0_byStorms_1 ++ dktX0_byStorms_2
def dkwX0_byStorms_0 : List UInt8 := [9, 55, 5, 10, 55, 7, 3, 54, 9, 21, 9, 28, 162, 0, 17, 22, 7, 20, 0, 209, 105, 55, 7]
abbrev dktX0_byStorms_0 : List UInt8 := dkwX0_byStorms_0 ++ dktX0_byStorms_1
theorem dksX0_byStorms_0 : cX0_byStorms.data.toList.drop 0 = dktX0_byStorms_0 := by decide +kernel
theorem dksX0_byStorms_1 : cX0_byStorms.data.toList.drop 23 = dktX0_byStorms_1 := dk_seg dksX0_byStorms_0 23 rfl rfl
theorem dksX0_byStorms_2 : cX0_byStorms.data.toList.drop 47 = dktX0_byStorms_2 := dk_seg dksX0_byStorms_1 24 rfl rfl
theorem dksX0_byStorms_3 : cX0_byStorms.data.toList.drop 70 = dktX0_byStorms_3 := dk_seg dksX0_byStorms_2 23 rfl rfl
theorem dksX0_byStorms_4 : cX0_byStorms.data.toList.drop 93 = dktX0_byStorms_4 := dk_seg dksX0_byStorms_3 23 rfl rfl
theorem dksX0_byStorms_5 : cX0_byStorms.data.toList.drop 116 = dktX0_byStorms_5 := dk_seg dksX0_byStorms_4 23 rfl rfl
theorem dksX0_byStorms_6 : cX0_byStorms.data.toList.drop 140 = dktX0_byStorms_6 := dk_seg dksX0_byStorms_5 24 rfl rfl
theorem dksX0_byStorms_7 : cX0_byStorms.data.toList.drop 163 = dktX0_byStorms_7 := dk_seg dksX0_byStorms_6 23 rfl rfl
theorem dX0_byStorms_0 : decode cX0_byStorms 0 = .ok (.lconst 0, 1) := dk_9 (dk_at dksX0_byStorms_0 0 rfl rfl)
theorem dX0_byStorms_1 : decode cX0_byStorms 1 = .ok (.lstore 5, 2) := dk_55 5 (dk_at dksX0_byStorms_0 1 rfl rfl)
theorem dX0_byStorms_3 : decode cX0_byStorms 3 = .ok (.lconst 1, 1) := dk_10 (dk_at dksX0_byStorms_0 3 rfl rfl)
theorem dX0_byStorms_4 : decode cX0_byStorms 4 = .ok (.lstore 7, 2) := dk_55 7 (dk_at dksX0_byStorms_0 4 rfl rfl)
theorem dX0_byStorms_6 : decode cX0_byStorms 6 = .ok (.iconst 0, 1) := dk_3 (dk_at dksX0_byStorms_0 6 rfl rfl)
theorem dX0_byStorms_7 : decode cX0_byStorms 7 = .ok (.istore 9, 2) := dk_54 9 (dk_at dksX0_byStorms_0 7 rfl rfl)
theorem dX0_byStorms_9 : decode cX0_byStorms 9 = .ok (.iload 9, 2) := dk_21 9 (dk_at dksX0_byStorms_0 9 rfl rfl)
theorem dX0_byStorms_11 : decode cX0_byStorms 11 = .ok (.iload_n 2, 1) := dk_28 (dk_at dksX0_byStorms_0 11 rfl rfl)
theorem dX0_byStorms_12 : decode cX0_byStorms 12 = .ok (.if_icmp .ge 17, 3) := dk_162 0 17 (dk_at dksX0_byStorms_0 12 rfl rfl)
theorem dX0_byStorms_15 : decode cX0_byStorms 15 = .ok (.lload 7, 2) := dk_22 7 (dk_at dksX0_byStorms_0 15 rfl rfl)
theorem dX0_byStorms_17 : decode cX0_byStorms 17 = .ok (.ldc2_w 209, 3) := dk_20 0 209 (dk_at dksX0_byStorms_0 17 rfl rfl)
theorem dX0_byStorms_20 : decode cX0_byStorms 20 = .ok (.lmul, 1) := dk_105 (dk_at dksX0_byStorms_0 20 rfl rfl)
theorem dX0_byStorms_21 : decode cX0_byStorms 21 = .ok (.lstore 7, 2) := dk_55 7 (dk_at dksX0_byStorms_0 21 rfl rfl)
theorem dX0_byStorms_23 : decode cX0_byStorms 23 = .ok (.iinc 9 1, 3) := dk_132 9 1 (dk_at dksX0_byStorms_1 0 rfl rfl)
theorem dX0_byStorms_26 : decode cX0_byStorms 26 = .ok (.goto (-17), 3) := dk_167 255 239 (dk_at dksX0_byStorms_1 3 rfl rfl)
theorem dX0_byStorms_29 : decode cX0_byStorms 29 = .ok (.iconst 0, 1) := dk_3 (dk_at dksX0_byStorms_1 6 rfl rfl)
theorem dX0_byStorms_30 : decode cX0_byStorms 30 = .ok (.istore 9, 2) := dk_54 9 (dk_at dksX0_byStorms_1 7 rfl rfl)
theorem dX0_byStorms_32 : decode cX0_byStorms 32 = .ok (.iload 9, 2) := dk_21 9 (dk_at dksX0_byStorms_1 9 rfl rfl)
theorem dX0_byStorms_34 : decode cX0_byStorms 34 = .ok (.iconst 1, 1) := dk_4 (dk_at dksX0_byStorms_1 11 rfl rfl)
theorem dX0_byStorms_35 : decode cX0_byStorms 35 = .ok (.iload_n 2, 1) := dk_28 (dk_at dksX0_byStorms_1 12 rfl rfl)
theorem dX0_byStorms_36 : decode cX0_byStorms 36 = .ok (.ishl, 1) := dk_120 (dk_at dksX0_byStorms_1 13 rfl rfl)
theorem dX0_byStorms_37 : decode cX0_byStorms 37 = .ok (.if_icmp .ge 129, 3) := dk_162 0 129 (dk_at dksX0_byStorms_1 14 rfl rfl)
theorem dX0_byStorms_40 : decode cX0_byStorms 40 = .ok (.lconst 1, 1) := dk_10 (dk_at dksX0_byStorms_1 17 rfl rfl)
theorem dX0_byStorms_41 : decode cX0_byStorms 41 = .ok (.lstore 10, 2) := dk_55 10 (dk_at dksX0_byStorms_1 18 rfl rfl)
theorem dX0_byStorms_43 : decode cX0_byStorms 43 = .ok (.aload_n 0, 1) := dk_42 (dk_at dksX0_byStorms_1 20 rfl rfl)
theorem dX0_byStorms_44 : decode cX0_byStorms 44 = .ok (.getfield 159, 3) := dk_180 0 159 (dk_at dksX0_byStorms_1 21 rfl rfl)
theorem dX0_byStorms_47 : decode cX0_byStorms 47 = .ok (.aload_n 0, 1) := dk_42 (dk_at dksX0_byStorms_2 0 rfl rfl)
theorem dX0_byStorms_48 : decode cX0_byStorms 48 = .ok (.getfield 35, 3) := dk_180 0 35 (dk_at dksX0_byStorms_2 1 rfl rfl)
theorem dX0_byStorms_51 : decode cX0_byStorms 51 = .ok (.invokevirtual 42, 3) := dk_182 0 42 (dk_at dksX0_byStorms_2 4 rfl rfl)
theorem dX0_byStorms_54 : decode cX0_byStorms 54 = .ok (.iconst 0, 1) := dk_3 (dk_at dksX0_byStorms_2 7 rfl rfl)
theorem dX0_byStorms_55 : decode cX0_byStorms 55 = .ok (.istore 12, 2) := dk_54 12 (dk_at dksX0_byStorms_2 8 rfl rfl)
theorem dX0_byStorms_57 : decode cX0_byStorms 57 = .ok (.iload 12, 2) := dk_21 12 (dk_at dksX0_byStorms_2 10 rfl rfl)
theorem dX0_byStorms_59 : decode cX0_byStorms 59 = .ok (.iload_n 2, 1) := dk_28 (dk_at dksX0_byStorms_2 12 rfl rfl)
theorem dX0_byStorms_60 : decode cX0_byStorms 60 = .ok (.if_icmp .ge 59, 3) := dk_162 0 59 (dk_at dksX0_byStorms_2 13 rfl rfl)
theorem dX0_byStorms_63 : decode cX0_byStorms 63 = .ok (.iload 9, 2) := dk_21 9 (dk_at dksX0_byStorms_2 16 rfl rfl)
theorem dX0_byStorms_65 : decode cX0_byStorms 65 = .ok (.iload 12, 2) := dk_21 12 (dk_at dksX0_byStorms_2 18 rfl rfl)
theorem dX0_byStorms_67 : decode cX0_byStorms 67 = .ok (.invokestatic 211, 3) := dk_184 0 211 (dk_at dksX0_byStorms_2 20 rfl rfl)
theorem dX0_byStorms_70 : decode cX0_byStorms 70 = .ok (.ifCond .eq 26, 3) := dk_153 0 26 (dk_at dksX0_byStorms_3 0 rfl rfl)
theorem dX0_byStorms_73 : decode cX0_byStorms 73 = .ok (.lload 10, 2) := dk_22 10 (dk_at dksX0_byStorms_3 3 rfl rfl)
theorem dX0_byStorms_75 : decode cX0_byStorms 75 = .ok (.iload_n 1, 1) := dk_27 (dk_at dksX0_byStorms_3 5 rfl rfl)
theorem dX0_byStorms_76 : decode cX0_byStorms 76 = .ok (.i2l, 1) := dk_133 (dk_at dksX0_byStorms_3 6 rfl rfl)
theorem dX0_byStorms_77 : decode cX0_byStorms 77 = .ok (.lmul, 1) := dk_105 (dk_at dksX0_byStorms_3 7 rfl rfl)
theorem dX0_byStorms_78 : decode cX0_byStorms 78 = .ok (.lstore 10, 2) := dk_55 10 (dk_at dksX0_byStorms_3 8 rfl rfl)
theorem dX0_byStorms_80 : decode cX0_byStorms 80 = .ok (.aload_n 0, 1) := dk_42 (dk_at dksX0_byStorms_3 10 rfl rfl)
theorem dX0_byStorms_81 : decode cX0_byStorms 81 = .ok (.getfield 159, 3) := dk_180 0 159 (dk_at dksX0_byStorms_3 11 rfl rfl)
theorem dX0_byStorms_84 : decode cX0_byStorms 84 = .ok (.dup, 1) := dk_89 (dk_at dksX0_byStorms_3 14 rfl rfl)
theorem dX0_byStorms_85 : decode cX0_byStorms 85 = .ok (.getfield 87, 3) := dk_180 0 87 (dk_at dksX0_byStorms_3 15 rfl rfl)
theorem dX0_byStorms_88 : decode cX0_byStorms 88 = .ok (.iconst 1, 1) := dk_4 (dk_at dksX0_byStorms_3 18 rfl rfl)
theorem dX0_byStorms_89 : decode cX0_byStorms 89 = .ok (.iadd, 1) := dk_96 (dk_at dksX0_byStorms_3 19 rfl rfl)
theorem dX0_byStorms_90 : decode cX0_byStorms 90 = .ok (.putfield 87, 3) := dk_181 0 87 (dk_at dksX0_byStorms_3 20 rfl rfl)
theorem dX0_byStorms_93 : decode cX0_byStorms 93 = .ok (.goto 20, 3) := dk_167 0 20 (dk_at dksX0_byStorms_4 0 rfl rfl)
theorem dX0_byStorms_96 : decode cX0_byStorms 96 = .ok (.lload 10, 2) := dk_22 10 (dk_at dksX0_byStorms_4 3 rfl rfl)
theorem dX0_byStorms_98 : decode cX0_byStorms 98 = .ok (.bipush 10, 2) := dk_16 10 (dk_at dksX0_byStorms_4 5 rfl rfl)
theorem dX0_byStorms_100 : decode cX0_byStorms 100 = .ok (.iload_n 1, 1) := dk_27 (dk_at dksX0_byStorms_4 7 rfl rfl)
theorem dX0_byStorms_101 : decode cX0_byStorms 101 = .ok (.isub, 1) := dk_100 (dk_at dksX0_byStorms_4 8 rfl rfl)
theorem dX0_byStorms_102 : decode cX0_byStorms 102 = .ok (.i2l, 1) := dk_133 (dk_at dksX0_byStorms_4 9 rfl rfl)
theorem dX0_byStorms_103 : decode cX0_byStorms 103 = .ok (.lmul, 1) := dk_105 (dk_at dksX0_byStorms_4 10 rfl rfl)
theorem dX0_byStorms_104 : decode cX0_byStorms 104 = .ok (.lstore 10, 2) := dk_55 10 (dk_at dksX0_byStorms_4 11 rfl rfl)
theorem dX0_byStorms_106 : decode cX0_byStorms 106 = .ok (.aload_n 0, 1) := dk_42 (dk_at dksX0_byStorms_4 13 rfl rfl)
theorem dX0_byStorms_107 : decode cX0_byStorms 107 = .ok (.getfield 159, 3) := dk_180 0 159 (dk_at dksX0_byStorms_4 14 rfl rfl)
theorem dX0_byStorms_110 : decode cX0_byStorms 110 = .ok (.invokevirtual 156, 3) := dk_182 0 156 (dk_at dksX0_byStorms_4 17 rfl rfl)
theorem dX0_byStorms_113 : decode cX0_byStorms 113 = .ok (.iinc 12 1, 3) := dk_132 12 1 (dk_at dksX0_byStorms_4 20 rfl rfl)
theorem dX0_byStorms_116 : decode cX0_byStorms 116 = .ok (.goto (-59), 3) := dk_167 255 197 (dk_at dksX0_byStorms_5 0 rfl rfl)
theorem dX0_byStorms_119 : decode cX0_byStorms 119 = .ok (.lload 5, 2) := dk_22 5 (dk_at dksX0_byStorms_5 3 rfl rfl)
theorem dX0_byStorms_121 : decode cX0_byStorms 121 = .ok (.lload 10, 2) := dk_22 10 (dk_at dksX0_byStorms_5 5 rfl rfl)
theorem dX0_byStorms_123 : decode cX0_byStorms 123 = .ok (.iload_n 3, 1) := dk_29 (dk_at dksX0_byStorms_5 7 rfl rfl)
theorem dX0_byStorms_124 : decode cX0_byStorms 124 = .ok (.bipush (-4), 2) := dk_16 252 (dk_at dksX0_byStorms_5 8 rfl rfl)
theorem dX0_byStorms_126 : decode cX0_byStorms 126 = .ok (.if_icmp .ne 13, 3) := dk_160 0 13 (dk_at dksX0_byStorms_5 10 rfl rfl)
theorem dX0_byStorms_129 : decode cX0_byStorms 129 = .ok (.aload_n 0, 1) := dk_42 (dk_at dksX0_byStorms_5 13 rfl rfl)
theorem dX0_byStorms_130 : decode cX0_byStorms 130 = .ok (.getfield 159, 3) := dk_180 0 159 (dk_at dksX0_byStorms_5 14 rfl rfl)
theorem dX0_byStorms_133 : decode cX0_byStorms 133 = .ok (.invokevirtual 96, 3) := dk_182 0 96 (dk_at dksX0_byStorms_5 17 rfl rfl)
theorem dX0_byStorms_136 : decode cX0_byStorms 136 = .ok (.goto 19, 3) := dk_167 0 19 (dk_at dksX0_byStorms_5 20 rfl rfl)
theorem dX0_byStorms_139 : decode cX0_byStorms 139 = .ok (.aload_n 0, 1) := dk_42 (dk_at dksX0_byStorms_5 23 rfl rfl)
theorem dX0_byStorms_140 : decode cX0_byStorms 140 = .ok (.getfield 159, 3) := dk_180 0 159 (dk_at dksX0_byStorms_6 0 rfl rfl)
theorem dX0_byStorms_143 : decode cX0_byStorms 143 = .ok (.invokevirtual 96, 3) := dk_182 0 96 (dk_at dksX0_byStorms_6 3 rfl rfl)
theorem dX0_byStorms_146 : decode cX0_byStorms 146 = .ok (.iload_n 3, 1) := dk_29 (dk_at dksX0_byStorms_6 6 rfl rfl)
theorem dX0_byStorms_147 : decode cX0_byStorms 147 = .ok (.if_icmp .gt 7, 3) := dk_163 0 7 (dk_at dksX0_byStorms_6 7 rfl rfl)
theorem dX0_byStorms_150 : decode cX0_byStorms 150 = .ok (.iconst 1, 1) := dk_4 (dk_at dksX0_byStorms_6 10 rfl rfl)
theorem dX0_byStorms_151 : decode cX0_byStorms 151 = .ok (.goto 4, 3) := dk_167 0 4 (dk_at dksX0_byStorms_6 11 rfl rfl)
theorem dX0_byStorms_154 : decode cX0_byStorms 154 = .ok (.iconst 0, 1) := dk_3 (dk_at dksX0_byStorms_6 14 rfl rfl)
theorem dX0_byStorms_155 : decode cX0_byStorms 155 = .ok (.i2l, 1) := dk_133 (dk_at dksX0_byStorms_6 15 rfl rfl)
theorem dX0_byStorms_156 : decode cX0_byStorms 156 = .ok (.lmul, 1) := dk_105 (dk_at dksX0_byStorms_6 16 rfl rfl)
theorem dX0_byStorms_157 : decode cX0_byStorms 157 = .ok (.ladd, 1) := dk_97 (dk_at dksX0_byStorms_6 17 rfl rfl)
theorem dX0_byStorms_158 : decode cX0_byStorms 158 = .ok (.lstore 5, 2) := dk_55 5 (dk_at dksX0_byStorms_6 18 rfl rfl)
theorem dX0_byStorms_160 : decode cX0_byStorms 160 = .ok (.iinc 9 1, 3) := dk_132 9 1 (dk_at dksX0_byStorms_6 20 rfl rfl)
theorem dX0_byStorms_163 : decode cX0_byStorms 163 = .ok (.goto (-131), 3) := dk_167 255 125 (dk_at dksX0_byStorms_7 0 rfl rfl)
theorem dX0_byStorms_166 : decode cX0_byStorms 166 = .ok (.lload 5, 2) := dk_22 5 (dk_at dksX0_byStorms_7 3 rfl rfl)
theorem dX0_byStorms_168 : decode cX0_byStorms 168 = .ok (.lload 7, 2) := dk_22 7 (dk_at dksX0_byStorms_7 5 rfl rfl)
theorem dX0_byStorms_170 : decode cX0_byStorms 170 = .ok (.iload 4, 2) := dk_21 4 (dk_at dksX0_byStorms_7 7 rfl rfl)
theorem dX0_byStorms_172 : decode cX0_byStorms 172 = .ok (.invokestatic 214, 3) := dk_184 0 214 (dk_at dksX0_byStorms_7 9 rfl rfl)
theorem dX0_byStorms_175 : decode cX0_byStorms 175 = .ok (.lreturn, 1) := dk_173 (dk_at dksX0_byStorms_7 12 rfl rfl)
abbrev cX0_lowest : ByteArray := prog_1_method_42_code
def yX0_lowest : MethodName := ⟨RX0, "lowest", "(JJI)J"⟩
def dkwX0_lowest_0 : List UInt8 := [21, 4, 154, 0, 7, 30, 167, 0, 4, 32, 30, 32, 184, 0, 205, 109, 173]
abbrev dktX0_lowest_0 : List UInt8 := dkwX0_lowest_0 ++ []
theorem dksX0_lowest_0 : cX0_lowest.data.toList.drop 0 = dktX0_lowest_0 := by decide +kernel
theorem dX0_lowest_0 : decode cX0_lowest 0 = .ok (.iload 4, 2) := dk_21 4 (dk_at dksX0_lowest_0 0 rfl rfl)
theorem dX0_lowest_2 : decode cX0_lowest 2 = .ok (.ifCond .ne 7, 3) := dk_154 0 7 (dk_at dksX0_lowest_0 2 rfl rfl)
theorem dX0_lowest_5 : decode cX0_lowest 5 = .ok (.lload_n 0, 1) := dk_30 (dk_at dksX0_lowest_0 5 rfl rfl)
theorem dX0_lowest_6 : decode cX0_lowest 6 = .ok (.goto 4, 3) := dk_167 0 4 (dk_at dksX0_lowest_0 6 rfl rfl)
theorem dX0_lowest_9 : decode cX0_lowest 9 = .ok (.lload_n 2, 1) := dk_32 (dk_at dksX0_lowest_0 9 rfl rfl)
theorem dX0_lowest_10 : decode cX0_lowest 10 = .ok (.lload_n 0, 1) := dk_30 (dk_at dksX0_lowest_0 10 rfl rfl)
theorem dX0_lowest_11 : decode cX0_lowest 11 = .ok (.lload_n 2, 1) := dk_32 (dk_at dksX0_lowest_0 11 rfl rfl)
theorem dX0_lowest_12 : decode cX0_lowest 12 = .ok (.invokestatic 205, 3) := dk_184 0 205 (dk_at dksX0_lowest_0 12 rfl rfl)
theorem dX0_lowest_15 : decode cX0_lowest 15 = .ok (.ldiv, 1) := dk_109 (dk_at dksX0_lowest_0 15 rfl rfl)
theorem dX0_lowest_16 : decode cX0_lowest 16 = .ok (.lreturn, 1) := dk_173 (dk_at dksX0_lowest_0 16 rfl rfl)
abbrev cX0_divisor : ByteArray := prog_1_method_41_code
def yX0_divisor : MethodName := ⟨RX0, "divisor", "(JJ)J"⟩
def dkwX0_divisor_0 : List UInt8 := [32, 9, 148, 154, 0, 7, 30, 167, 0, 10, 32, 30, 32, 113, 184, 0, 205, 173]
abbrev dktX0_divisor_0 : List UInt8 := dkwX0_divisor_0 ++ []
theorem dksX0_divisor_0 : cX0_divisor.data.toList.drop 0 = dktX0_divisor_0 := by decide +kernel
theorem dX0_divisor_0 : decode cX0_divisor 0 = .ok (.lload_n 2, 1) := dk_32 (dk_at dksX0_divisor_0 0 rfl rfl)
theorem dX0_divisor_1 : decode cX0_divisor 1 = .ok (.lconst 0, 1) := dk_9 (dk_at dksX0_divisor_0 1 rfl rfl)
theorem dX0_divisor_2 : decode cX0_divisor 2 = .ok (.lcmp, 1) := dk_148 (dk_at dksX0_divisor_0 2 rfl rfl)
theorem dX0_divisor_3 : decode cX0_divisor 3 = .ok (.ifCond .ne 7, 3) := dk_154 0 7 (dk_at dksX0_divisor_0 3 rfl rfl)
theorem dX0_divisor_6 : decode cX0_divisor 6 = .ok (.lload_n 0, 1) := dk_30 (dk_at dksX0_divisor_0 6 rfl rfl)
theorem dX0_divisor_7 : decode cX0_divisor 7 = .ok (.goto 10, 3) := dk_167 0 10 (dk_at dksX0_divisor_0 7 rfl rfl)
theorem dX0_divisor_10 : decode cX0_divisor 10 = .ok (.lload_n 2, 1) := dk_32 (dk_at dksX0_divisor_0 10 rfl rfl)
theorem dX0_divisor_11 : decode cX0_divisor 11 = .ok (.lload_n 0, 1) := dk_30 (dk_at dksX0_divisor_0 11 rfl rfl)
theorem dX0_divisor_12 : decode cX0_divisor 12 = .ok (.lload_n 2, 1) := dk_32 (dk_at dksX0_divisor_0 12 rfl rfl)
theorem dX0_divisor_13 : decode cX0_divisor 13 = .ok (.lrem, 1) := dk_113 (dk_at dksX0_divisor_0 13 rfl rfl)
theorem dX0_divisor_14 : decode cX0_divisor 14 = .ok (.invokestatic 205, 3) := dk_184 0 205 (dk_at dksX0_divisor_0 14 rfl rfl)
theorem dX0_divisor_17 : decode cX0_divisor 17 = .ok (.lreturn, 1) := dk_173 (dk_at dksX0_divisor_0 17 rfl rfl)
abbrev cX0_mean : ByteArray := prog_1_method_45_code
def yX0_mean : MethodName := ⟨RX0, "mean", "(III)J"⟩
def dkwX0_mean_1 : List UInt8 := [29, 184, 0, 183, 153, 0, 15, 42, 27, 28, 16, 252, 29, 182, 0, 220, 167, 0, 6, 20, 0, 224, 173]
abbrev dktX0_mean_1 : List UInt8 := dkwX0_mean_1 ++ []
def dkwX0_mean_0 : List UInt8 := [27, 133, 9, 20, 0, 209, 184, 0, 5, 153, 0, 34, 28, 133, 9, 20, 0, 218, 184, 0, 5, 153, 0, 22]
abbrev dktX0_mean_0 : List UInt8 := dkwX0_mean_0 ++ dktX0_mean_1
theorem dksX0_mean_0 : cX0_mean.data.toList.drop 0 = dktX0_mean_0 := by decide +kernel
theorem dksX0_mean_1 : cX0_mean.data.toList.drop 24 = dktX0_mean_1 := dk_seg dksX0_mean_0 24 rfl rfl
theorem dX0_mean_0 : decode cX0_mean 0 = .ok (.iload_n 1, 1) := dk_27 (dk_at dksX0_mean_0 0 rfl rfl)
theorem dX0_mean_1 : decode cX0_mean 1 = .ok (.i2l, 1) := dk_133 (dk_at dksX0_mean_0 1 rfl rfl)
theorem dX0_mean_2 : decode cX0_mean 2 = .ok (.lconst 0, 1) := dk_9 (dk_at dksX0_mean_0 2 rfl rfl)
theorem dX0_mean_3 : decode cX0_mean 3 = .ok (.ldc2_w 209, 3) := dk_20 0 209 (dk_at dksX0_mean_0 3 rfl rfl)
theorem dX0_mean_6 : decode cX0_mean 6 = .ok (.invokestatic 5, 3) := dk_184 0 5 (dk_at dksX0_mean_0 6 rfl rfl)
theorem dX0_mean_9 : decode cX0_mean 9 = .ok (.ifCond .eq 34, 3) := dk_153 0 34 (dk_at dksX0_mean_0 9 rfl rfl)
theorem dX0_mean_12 : decode cX0_mean 12 = .ok (.iload_n 2, 1) := dk_28 (dk_at dksX0_mean_0 12 rfl rfl)
theorem dX0_mean_13 : decode cX0_mean 13 = .ok (.i2l, 1) := dk_133 (dk_at dksX0_mean_0 13 rfl rfl)
theorem dX0_mean_14 : decode cX0_mean 14 = .ok (.lconst 0, 1) := dk_9 (dk_at dksX0_mean_0 14 rfl rfl)
theorem dX0_mean_15 : decode cX0_mean 15 = .ok (.ldc2_w 218, 3) := dk_20 0 218 (dk_at dksX0_mean_0 15 rfl rfl)
theorem dX0_mean_18 : decode cX0_mean 18 = .ok (.invokestatic 5, 3) := dk_184 0 5 (dk_at dksX0_mean_0 18 rfl rfl)
theorem dX0_mean_21 : decode cX0_mean 21 = .ok (.ifCond .eq 22, 3) := dk_153 0 22 (dk_at dksX0_mean_0 21 rfl rfl)
theorem dX0_mean_24 : decode cX0_mean 24 = .ok (.iload_n 3, 1) := dk_29 (dk_at dksX0_mean_1 0 rfl rfl)
theorem dX0_mean_25 : decode cX0_mean 25 = .ok (.invokestatic 183, 3) := dk_184 0 183 (dk_at dksX0_mean_1 1 rfl rfl)
theorem dX0_mean_28 : decode cX0_mean 28 = .ok (.ifCond .eq 15, 3) := dk_153 0 15 (dk_at dksX0_mean_1 4 rfl rfl)
theorem dX0_mean_31 : decode cX0_mean 31 = .ok (.aload_n 0, 1) := dk_42 (dk_at dksX0_mean_1 7 rfl rfl)
theorem dX0_mean_32 : decode cX0_mean 32 = .ok (.iload_n 1, 1) := dk_27 (dk_at dksX0_mean_1 8 rfl rfl)
theorem dX0_mean_33 : decode cX0_mean 33 = .ok (.iload_n 2, 1) := dk_28 (dk_at dksX0_mean_1 9 rfl rfl)
theorem dX0_mean_34 : decode cX0_mean 34 = .ok (.bipush (-4), 2) := dk_16 252 (dk_at dksX0_mean_1 10 rfl rfl)
theorem dX0_mean_36 : decode cX0_mean 36 = .ok (.iload_n 3, 1) := dk_29 (dk_at dksX0_mean_1 12 rfl rfl)
theorem dX0_mean_37 : decode cX0_mean 37 = .ok (.invokevirtual 220, 3) := dk_182 0 220 (dk_at dksX0_mean_1 13 rfl rfl)
theorem dX0_mean_40 : decode cX0_mean 40 = .ok (.goto 6, 3) := dk_167 0 6 (dk_at dksX0_mean_1 16 rfl rfl)
theorem dX0_mean_43 : decode cX0_mean 43 = .ok (.ldc2_w 224, 3) := dk_20 0 224 (dk_at dksX0_mean_1 19 rfl rfl)
theorem dX0_mean_46 : decode cX0_mean 46 = .ok (.lreturn, 1) := dk_173 (dk_at dksX0_mean_1 22 rfl rfl)
abbrev cX0_see : ByteArray := prog_1_method_46_code
def yX0_see : MethodName := ⟨RX0, "see", "(III)I"⟩
def dkwX0_see_3 : List UInt8 := [180, 0, 48, 50, 5, 29, 79, 42, 89, 180, 0, 48, 4, 96, 181, 0, 48, 42, 180, 0, 48, 172]
abbrev dktX0_see_3 : List UInt8 := dkwX0_see_3 ++ []
def dkwX0_see_2 : List UInt8 := [180, 0, 48, 50, 3, 27, 79, 42, 180, 0, 228, 42, 180, 0, 48, 50, 4, 28, 79, 42, 180, 0, 228, 42]
abbrev dktX0_see_2 : List UInt8 := dkwX0_see_2 ++ dktX0_see_3
def dkwX0_see_1 : List UInt8 := [154, 0, 5, 2, 172, 42, 180, 0, 48, 16, 6, 160, 0, 6, 16, 253, 172, 42, 180, 0, 228, 42]
abbrev dktX0_see_1 : List UInt8 := dkwX0_see_1 ++ dktX0_see_2
def dkwX0_see_0 : List UInt8 := [27, 133, 9, 20, 0, 226, 184, 0, 5, 153, 0, 18, 42, 28, 182, 0, 78, 153, 0, 10, 29, 184, 0, 141]
abbrev dktX0_see_0 : List UInt8 := dkwX0_see_0 ++ dktX0_see_1
theorem dksX0_see_0 : cX0_see.data.toList.drop 0 = dktX0_see_0 := by decide +kernel
theorem dksX0_see_1 : cX0_see.data.toList.drop 24 = dktX0_see_1 := dk_seg dksX0_see_0 24 rfl rfl
theorem dksX0_see_2 : cX0_see.data.toList.drop 46 = dktX0_see_2 := dk_seg dksX0_see_1 22 rfl rfl
theorem dksX0_see_3 : cX0_see.data.toList.drop 70 = dktX0_see_3 := dk_seg dksX0_see_2 24 rfl rfl
theorem dX0_see_0 : decode cX0_see 0 = .ok (.iload_n 1, 1) := dk_27 (dk_at dksX0_see_0 0 rfl rfl)
theorem dX0_see_1 : decode cX0_see 1 = .ok (.i2l, 1) := dk_133 (dk_at dksX0_see_0 1 rfl rfl)
theorem dX0_see_2 : decode cX0_see 2 = .ok (.lconst 0, 1) := dk_9 (dk_at dksX0_see_0 2 rfl rfl)
theorem dX0_see_3 : decode cX0_see 3 = .ok (.ldc2_w 226, 3) := dk_20 0 226 (dk_at dksX0_see_0 3 rfl rfl)
theorem dX0_see_6 : decode cX0_see 6 = .ok (.invokestatic 5, 3) := dk_184 0 5 (dk_at dksX0_see_0 6 rfl rfl)
theorem dX0_see_9 : decode cX0_see 9 = .ok (.ifCond .eq 18, 3) := dk_153 0 18 (dk_at dksX0_see_0 9 rfl rfl)
theorem dX0_see_12 : decode cX0_see 12 = .ok (.aload_n 0, 1) := dk_42 (dk_at dksX0_see_0 12 rfl rfl)
theorem dX0_see_13 : decode cX0_see 13 = .ok (.iload_n 2, 1) := dk_28 (dk_at dksX0_see_0 13 rfl rfl)
theorem dX0_see_14 : decode cX0_see 14 = .ok (.invokevirtual 78, 3) := dk_182 0 78 (dk_at dksX0_see_0 14 rfl rfl)
theorem dX0_see_17 : decode cX0_see 17 = .ok (.ifCond .eq 10, 3) := dk_153 0 10 (dk_at dksX0_see_0 17 rfl rfl)
theorem dX0_see_20 : decode cX0_see 20 = .ok (.iload_n 3, 1) := dk_29 (dk_at dksX0_see_0 20 rfl rfl)
theorem dX0_see_21 : decode cX0_see 21 = .ok (.invokestatic 141, 3) := dk_184 0 141 (dk_at dksX0_see_0 21 rfl rfl)
theorem dX0_see_24 : decode cX0_see 24 = .ok (.ifCond .ne 5, 3) := dk_154 0 5 (dk_at dksX0_see_1 0 rfl rfl)
theorem dX0_see_27 : decode cX0_see 27 = .ok (.iconst (-1), 1) := dk_2 (dk_at dksX0_see_1 3 rfl rfl)
theorem dX0_see_28 : decode cX0_see 28 = .ok (.ireturn, 1) := dk_172 (dk_at dksX0_see_1 4 rfl rfl)
theorem dX0_see_29 : decode cX0_see 29 = .ok (.aload_n 0, 1) := dk_42 (dk_at dksX0_see_1 5 rfl rfl)
theorem dX0_see_30 : decode cX0_see 30 = .ok (.getfield 48, 3) := dk_180 0 48 (dk_at dksX0_see_1 6 rfl rfl)
theorem dX0_see_33 : decode cX0_see 33 = .ok (.bipush 6, 2) := dk_16 6 (dk_at dksX0_see_1 9 rfl rfl)
theorem dX0_see_35 : decode cX0_see 35 = .ok (.if_icmp .ne 6, 3) := dk_160 0 6 (dk_at dksX0_see_1 11 rfl rfl)
theorem dX0_see_38 : decode cX0_see 38 = .ok (.bipush (-3), 2) := dk_16 253 (dk_at dksX0_see_1 14 rfl rfl)
theorem dX0_see_40 : decode cX0_see 40 = .ok (.ireturn, 1) := dk_172 (dk_at dksX0_see_1 16 rfl rfl)
theorem dX0_see_41 : decode cX0_see 41 = .ok (.aload_n 0, 1) := dk_42 (dk_at dksX0_see_1 17 rfl rfl)
theorem dX0_see_42 : decode cX0_see 42 = .ok (.getfield 228, 3) := dk_180 0 228 (dk_at dksX0_see_1 18 rfl rfl)
theorem dX0_see_45 : decode cX0_see 45 = .ok (.aload_n 0, 1) := dk_42 (dk_at dksX0_see_1 21 rfl rfl)
theorem dX0_see_46 : decode cX0_see 46 = .ok (.getfield 48, 3) := dk_180 0 48 (dk_at dksX0_see_2 0 rfl rfl)
theorem dX0_see_49 : decode cX0_see 49 = .ok (.aaload, 1) := dk_50 (dk_at dksX0_see_2 3 rfl rfl)
theorem dX0_see_50 : decode cX0_see 50 = .ok (.iconst 0, 1) := dk_3 (dk_at dksX0_see_2 4 rfl rfl)
theorem dX0_see_51 : decode cX0_see 51 = .ok (.iload_n 1, 1) := dk_27 (dk_at dksX0_see_2 5 rfl rfl)
theorem dX0_see_52 : decode cX0_see 52 = .ok (.iastore, 1) := dk_79 (dk_at dksX0_see_2 6 rfl rfl)
theorem dX0_see_53 : decode cX0_see 53 = .ok (.aload_n 0, 1) := dk_42 (dk_at dksX0_see_2 7 rfl rfl)
theorem dX0_see_54 : decode cX0_see 54 = .ok (.getfield 228, 3) := dk_180 0 228 (dk_at dksX0_see_2 8 rfl rfl)
theorem dX0_see_57 : decode cX0_see 57 = .ok (.aload_n 0, 1) := dk_42 (dk_at dksX0_see_2 11 rfl rfl)
theorem dX0_see_58 : decode cX0_see 58 = .ok (.getfield 48, 3) := dk_180 0 48 (dk_at dksX0_see_2 12 rfl rfl)
theorem dX0_see_61 : decode cX0_see 61 = .ok (.aaload, 1) := dk_50 (dk_at dksX0_see_2 15 rfl rfl)
theorem dX0_see_62 : decode cX0_see 62 = .ok (.iconst 1, 1) := dk_4 (dk_at dksX0_see_2 16 rfl rfl)
theorem dX0_see_63 : decode cX0_see 63 = .ok (.iload_n 2, 1) := dk_28 (dk_at dksX0_see_2 17 rfl rfl)
theorem dX0_see_64 : decode cX0_see 64 = .ok (.iastore, 1) := dk_79 (dk_at dksX0_see_2 18 rfl rfl)
theorem dX0_see_65 : decode cX0_see 65 = .ok (.aload_n 0, 1) := dk_42 (dk_at dksX0_see_2 19 rfl rfl)
theorem dX0_see_66 : decode cX0_see 66 = .ok (.getfield 228, 3) := dk_180 0 228 (dk_at dksX0_see_2 20 rfl rfl)
theorem dX0_see_69 : decode cX0_see 69 = .ok (.aload_n 0, 1) := dk_42 (dk_at dksX0_see_2 23 rfl rfl)
theorem dX0_see_70 : decode cX0_see 70 = .ok (.getfield 48, 3) := dk_180 0 48 (dk_at dksX0_see_3 0 rfl rfl)
theorem dX0_see_73 : decode cX0_see 73 = .ok (.aaload, 1) := dk_50 (dk_at dksX0_see_3 3 rfl rfl)
theorem dX0_see_74 : decode cX0_see 74 = .ok (.iconst 2, 1) := dk_5 (dk_at dksX0_see_3 4 rfl rfl)
theorem dX0_see_75 : decode cX0_see 75 = .ok (.iload_n 3, 1) := dk_29 (dk_at dksX0_see_3 5 rfl rfl)
theorem dX0_see_76 : decode cX0_see 76 = .ok (.iastore, 1) := dk_79 (dk_at dksX0_see_3 6 rfl rfl)
theorem dX0_see_77 : decode cX0_see 77 = .ok (.aload_n 0, 1) := dk_42 (dk_at dksX0_see_3 7 rfl rfl)
theorem dX0_see_78 : decode cX0_see 78 = .ok (.dup, 1) := dk_89 (dk_at dksX0_see_3 8 rfl rfl)
theorem dX0_see_79 : decode cX0_see 79 = .ok (.getfield 48, 3) := dk_180 0 48 (dk_at dksX0_see_3 9 rfl rfl)
theorem dX0_see_82 : decode cX0_see 82 = .ok (.iconst 1, 1) := dk_4 (dk_at dksX0_see_3 12 rfl rfl)
theorem dX0_see_83 : decode cX0_see 83 = .ok (.iadd, 1) := dk_96 (dk_at dksX0_see_3 13 rfl rfl)
theorem dX0_see_84 : decode cX0_see 84 = .ok (.putfield 48, 3) := dk_181 0 48 (dk_at dksX0_see_3 14 rfl rfl)
theorem dX0_see_87 : decode cX0_see 87 = .ok (.aload_n 0, 1) := dk_42 (dk_at dksX0_see_3 17 rfl rfl)
theorem dX0_see_88 : decode cX0_see 88 = .ok (.getfield 48, 3) := dk_180 0 48 (dk_at dksX0_see_3 18 rfl rfl)
theorem dX0_see_91 : decode cX0_see 91 = .ok (.ireturn, 1) := dk_172 (dk_at dksX0_see_3 21 rfl rfl)
abbrev cX0_forget : ByteArray := prog_1_method_47_code
def yX0_forget : MethodName := ⟨RX0, "forget", "(I)I"⟩
def dkwX0_forget_1 : List UInt8 := [181, 0, 48, 28, 172]
abbrev dktX0_forget_1 : List UInt8 := dkwX0_forget_1 ++ []
def dkwX0_forget_0 : List UInt8 := [27, 133, 9, 42, 180, 0, 48, 133, 184, 0, 5, 154, 0, 5, 2, 172, 42, 180, 0, 48, 61, 42, 27]
abbrev dktX0_forget_0 : List UInt8 := dkwX0_forget_0 ++ dktX0_forget_1
theorem dksX0_forget_0 : cX0_forget.data.toList.drop 0 = dktX0_forget_0 := by decide +kernel
theorem dksX0_forget_1 : cX0_forget.data.toList.drop 23 = dktX0_forget_1 := dk_seg dksX0_forget_0 23 rfl rfl
theorem dX0_forget_0 : decode cX0_forget 0 = .ok (.iload_n 1, 1) := dk_27 (dk_at dksX0_forget_0 0 rfl rfl)
theorem dX0_forget_1 : decode cX0_forget 1 = .ok (.i2l, 1) := dk_133 (dk_at dksX0_forget_0 1 rfl rfl)
theorem dX0_forget_2 : decode cX0_forget 2 = .ok (.lconst 0, 1) := dk_9 (dk_at dksX0_forget_0 2 rfl rfl)
theorem dX0_forget_3 : decode cX0_forget 3 = .ok (.aload_n 0, 1) := dk_42 (dk_at dksX0_forget_0 3 rfl rfl)
theorem dX0_forget_4 : decode cX0_forget 4 = .ok (.getfield 48, 3) := dk_180 0 48 (dk_at dksX0_forget_0 4 rfl rfl)
theorem dX0_forget_7 : decode cX0_forget 7 = .ok (.i2l, 1) := dk_133 (dk_at dksX0_forget_0 7 rfl rfl)
theorem dX0_forget_8 : decode cX0_forget 8 = .ok (.invokestatic 5, 3) := dk_184 0 5 (dk_at dksX0_forget_0 8 rfl rfl)
theorem dX0_forget_11 : decode cX0_forget 11 = .ok (.ifCond .ne 5, 3) := dk_154 0 5 (dk_at dksX0_forget_0 11 rfl rfl)
theorem dX0_forget_14 : decode cX0_forget 14 = .ok (.iconst (-1), 1) := dk_2 (dk_at dksX0_forget_0 14 rfl rfl)
theorem dX0_forget_15 : decode cX0_forget 15 = .ok (.ireturn, 1) := dk_172 (dk_at dksX0_forget_0 15 rfl rfl)
theorem dX0_forget_16 : decode cX0_forget 16 = .ok (.aload_n 0, 1) := dk_42 (dk_at dksX0_forget_0 16 rfl rfl)
theorem dX0_forget_17 : decode cX0_forget 17 = .ok (.getfield 48, 3) := dk_180 0 48 (dk_at dksX0_forget_0 17 rfl rfl)
theorem dX0_forget_20 : decode cX0_forget 20 = .ok (.istore_n 2, 1) := dk_61 (dk_at dksX0_forget_0 20 rfl rfl)
theorem dX0_forget_21 : decode cX0_forget 21 = .ok (.aload_n 0, 1) := dk_42 (dk_at dksX0_forget_0 21 rfl rfl)
theorem dX0_forget_22 : decode cX0_forget 22 = .ok (.iload_n 1, 1) := dk_27 (dk_at dksX0_forget_0 22 rfl rfl)
theorem dX0_forget_23 : decode cX0_forget 23 = .ok (.putfield 48, 3) := dk_181 0 48 (dk_at dksX0_forget_1 0 rfl rfl)
theorem dX0_forget_26 : decode cX0_forget 26 = .ok (.iload_n 2, 1) := dk_28 (dk_at dksX0_forget_1 3 rfl rfl)
theorem dX0_forget_27 : decode cX0_forget 27 = .ok (.ireturn, 1) := dk_172 (dk_at dksX0_forget_1 4 rfl rfl)
abbrev cX0_kinds : ByteArray := prog_1_method_50_code
def yX0_kinds : MethodName := ⟨RX0, "kinds", "(I)I"⟩
def dkwX0_kinds_0 : List UInt8 := [42, 27, 182, 0, 78, 153, 0, 11, 42, 27, 182, 0, 237, 167, 0, 4, 2, 172]
abbrev dktX0_kinds_0 : List UInt8 := dkwX0_kinds_0 ++ []
theorem dksX0_kinds_0 : cX0_kinds.data.toList.drop 0 = dktX0_kinds_0 := by decide +kernel
theorem dX0_kinds_0 : decode cX0_kinds 0 = .ok (.aload_n 0, 1) := dk_42 (dk_at dksX0_kinds_0 0 rfl rfl)
theorem dX0_kinds_1 : decode cX0_kinds 1 = .ok (.iload_n 1, 1) := dk_27 (dk_at dksX0_kinds_0 1 rfl rfl)
theorem dX0_kinds_2 : decode cX0_kinds 2 = .ok (.invokevirtual 78, 3) := dk_182 0 78 (dk_at dksX0_kinds_0 2 rfl rfl)
theorem dX0_kinds_5 : decode cX0_kinds 5 = .ok (.ifCond .eq 11, 3) := dk_153 0 11 (dk_at dksX0_kinds_0 5 rfl rfl)
theorem dX0_kinds_8 : decode cX0_kinds 8 = .ok (.aload_n 0, 1) := dk_42 (dk_at dksX0_kinds_0 8 rfl rfl)
theorem dX0_kinds_9 : decode cX0_kinds 9 = .ok (.iload_n 1, 1) := dk_27 (dk_at dksX0_kinds_0 9 rfl rfl)
theorem dX0_kinds_10 : decode cX0_kinds 10 = .ok (.invokevirtual 237, 3) := dk_182 0 237 (dk_at dksX0_kinds_0 10 rfl rfl)
theorem dX0_kinds_13 : decode cX0_kinds 13 = .ok (.goto 4, 3) := dk_167 0 4 (dk_at dksX0_kinds_0 13 rfl rfl)
theorem dX0_kinds_16 : decode cX0_kinds 16 = .ok (.iconst (-1), 1) := dk_2 (dk_at dksX0_kinds_0 16 rfl rfl)
theorem dX0_kinds_17 : decode cX0_kinds 17 = .ok (.ireturn, 1) := dk_172 (dk_at dksX0_kinds_0 17 rfl rfl)
abbrev cX0_kindsOf : ByteArray := prog_1_method_49_code
def yX0_kindsOf : MethodName := ⟨RX0, "kindsOf", "(I)I"⟩
def dkwX0_kindsOf_2 : List UInt8 := [128, 61, 132, 3, 1, 167, 255, 218, 28, 172]
abbrev dktX0_kindsOf_2 : List UInt8 := dkwX0_kindsOf_2 ++ []
def dkwX0_kindsOf_1 : List UInt8 := [180, 0, 100, 27, 50, 3, 29, 79, 28, 42, 29, 182, 0, 234, 153, 0, 9, 4, 29, 120, 167, 0, 4, 3]
abbrev dktX0_kindsOf_1 : List UInt8 := dkwX0_kindsOf_1 ++ dktX0_kindsOf_2
def dkwX0_kindsOf_0 : List UInt8 := [3, 61, 42, 180, 0, 190, 42, 180, 0, 35, 182, 0, 42, 3, 62, 29, 7, 162, 0, 39, 42, 180, 0, 190]
abbrev dktX0_kindsOf_0 : List UInt8 := dkwX0_kindsOf_0 ++ dktX0_kindsOf_1
theorem dksX0_kindsOf_0 : cX0_kindsOf.data.toList.drop 0 = dktX0_kindsOf_0 := by decide +kernel
theorem dksX0_kindsOf_1 : cX0_kindsOf.data.toList.drop 24 = dktX0_kindsOf_1 := dk_seg dksX0_kindsOf_0 24 rfl rfl
theorem dksX0_kindsOf_2 : cX0_kindsOf.data.toList.drop 48 = dktX0_kindsOf_2 := dk_seg dksX0_kindsOf_1 24 rfl rfl
theorem dX0_kindsOf_0 : decode cX0_kindsOf 0 = .ok (.iconst 0, 1) := dk_3 (dk_at dksX0_kindsOf_0 0 rfl rfl)
theorem dX0_kindsOf_1 : decode cX0_kindsOf 1 = .ok (.istore_n 2, 1) := dk_61 (dk_at dksX0_kindsOf_0 1 rfl rfl)
theorem dX0_kindsOf_2 : decode cX0_kindsOf 2 = .ok (.aload_n 0, 1) := dk_42 (dk_at dksX0_kindsOf_0 2 rfl rfl)
theorem dX0_kindsOf_3 : decode cX0_kindsOf 3 = .ok (.getfield 190, 3) := dk_180 0 190 (dk_at dksX0_kindsOf_0 3 rfl rfl)
theorem dX0_kindsOf_6 : decode cX0_kindsOf 6 = .ok (.aload_n 0, 1) := dk_42 (dk_at dksX0_kindsOf_0 6 rfl rfl)
theorem dX0_kindsOf_7 : decode cX0_kindsOf 7 = .ok (.getfield 35, 3) := dk_180 0 35 (dk_at dksX0_kindsOf_0 7 rfl rfl)
theorem dX0_kindsOf_10 : decode cX0_kindsOf 10 = .ok (.invokevirtual 42, 3) := dk_182 0 42 (dk_at dksX0_kindsOf_0 10 rfl rfl)
theorem dX0_kindsOf_13 : decode cX0_kindsOf 13 = .ok (.iconst 0, 1) := dk_3 (dk_at dksX0_kindsOf_0 13 rfl rfl)
theorem dX0_kindsOf_14 : decode cX0_kindsOf 14 = .ok (.istore_n 3, 1) := dk_62 (dk_at dksX0_kindsOf_0 14 rfl rfl)
theorem dX0_kindsOf_15 : decode cX0_kindsOf 15 = .ok (.iload_n 3, 1) := dk_29 (dk_at dksX0_kindsOf_0 15 rfl rfl)
theorem dX0_kindsOf_16 : decode cX0_kindsOf 16 = .ok (.iconst 4, 1) := dk_7 (dk_at dksX0_kindsOf_0 16 rfl rfl)
theorem dX0_kindsOf_17 : decode cX0_kindsOf 17 = .ok (.if_icmp .ge 39, 3) := dk_162 0 39 (dk_at dksX0_kindsOf_0 17 rfl rfl)
theorem dX0_kindsOf_20 : decode cX0_kindsOf 20 = .ok (.aload_n 0, 1) := dk_42 (dk_at dksX0_kindsOf_0 20 rfl rfl)
theorem dX0_kindsOf_21 : decode cX0_kindsOf 21 = .ok (.getfield 190, 3) := dk_180 0 190 (dk_at dksX0_kindsOf_0 21 rfl rfl)
theorem dX0_kindsOf_24 : decode cX0_kindsOf 24 = .ok (.getfield 100, 3) := dk_180 0 100 (dk_at dksX0_kindsOf_1 0 rfl rfl)
theorem dX0_kindsOf_27 : decode cX0_kindsOf 27 = .ok (.iload_n 1, 1) := dk_27 (dk_at dksX0_kindsOf_1 3 rfl rfl)
theorem dX0_kindsOf_28 : decode cX0_kindsOf 28 = .ok (.aaload, 1) := dk_50 (dk_at dksX0_kindsOf_1 4 rfl rfl)
theorem dX0_kindsOf_29 : decode cX0_kindsOf 29 = .ok (.iconst 0, 1) := dk_3 (dk_at dksX0_kindsOf_1 5 rfl rfl)
theorem dX0_kindsOf_30 : decode cX0_kindsOf 30 = .ok (.iload_n 3, 1) := dk_29 (dk_at dksX0_kindsOf_1 6 rfl rfl)
theorem dX0_kindsOf_31 : decode cX0_kindsOf 31 = .ok (.iastore, 1) := dk_79 (dk_at dksX0_kindsOf_1 7 rfl rfl)
theorem dX0_kindsOf_32 : decode cX0_kindsOf 32 = .ok (.iload_n 2, 1) := dk_28 (dk_at dksX0_kindsOf_1 8 rfl rfl)
theorem dX0_kindsOf_33 : decode cX0_kindsOf 33 = .ok (.aload_n 0, 1) := dk_42 (dk_at dksX0_kindsOf_1 9 rfl rfl)
theorem dX0_kindsOf_34 : decode cX0_kindsOf 34 = .ok (.iload_n 3, 1) := dk_29 (dk_at dksX0_kindsOf_1 10 rfl rfl)
theorem dX0_kindsOf_35 : decode cX0_kindsOf 35 = .ok (.invokevirtual 234, 3) := dk_182 0 234 (dk_at dksX0_kindsOf_1 11 rfl rfl)
theorem dX0_kindsOf_38 : decode cX0_kindsOf 38 = .ok (.ifCond .eq 9, 3) := dk_153 0 9 (dk_at dksX0_kindsOf_1 14 rfl rfl)
theorem dX0_kindsOf_41 : decode cX0_kindsOf 41 = .ok (.iconst 1, 1) := dk_4 (dk_at dksX0_kindsOf_1 17 rfl rfl)
theorem dX0_kindsOf_42 : decode cX0_kindsOf 42 = .ok (.iload_n 3, 1) := dk_29 (dk_at dksX0_kindsOf_1 18 rfl rfl)
theorem dX0_kindsOf_43 : decode cX0_kindsOf 43 = .ok (.ishl, 1) := dk_120 (dk_at dksX0_kindsOf_1 19 rfl rfl)
theorem dX0_kindsOf_44 : decode cX0_kindsOf 44 = .ok (.goto 4, 3) := dk_167 0 4 (dk_at dksX0_kindsOf_1 20 rfl rfl)
theorem dX0_kindsOf_47 : decode cX0_kindsOf 47 = .ok (.iconst 0, 1) := dk_3 (dk_at dksX0_kindsOf_1 23 rfl rfl)
theorem dX0_kindsOf_48 : decode cX0_kindsOf 48 = .ok (.ior, 1) := dk_128 (dk_at dksX0_kindsOf_2 0 rfl rfl)
theorem dX0_kindsOf_49 : decode cX0_kindsOf 49 = .ok (.istore_n 2, 1) := dk_61 (dk_at dksX0_kindsOf_2 1 rfl rfl)
theorem dX0_kindsOf_50 : decode cX0_kindsOf 50 = .ok (.iinc 3 1, 3) := dk_132 3 1 (dk_at dksX0_kindsOf_2 2 rfl rfl)
theorem dX0_kindsOf_53 : decode cX0_kindsOf 53 = .ok (.goto (-38), 3) := dk_167 255 218 (dk_at dksX0_kindsOf_2 5 rfl rfl)
theorem dX0_kindsOf_56 : decode cX0_kindsOf 56 = .ok (.iload_n 2, 1) := dk_28 (dk_at dksX0_kindsOf_2 8 rfl rfl)
theorem dX0_kindsOf_57 : decode cX0_kindsOf 57 = .ok (.ireturn, 1) := dk_172 (dk_at dksX0_kindsOf_2 9 rfl rfl)
abbrev cX0_isAsSeen : ByteArray := prog_1_method_48_code
def yX0_isAsSeen : MethodName := ⟨RX0, "isAsSeen", "(I)Z"⟩
def dkwX0_isAsSeen_6 : List UInt8 := [132, 3, 1, 167, 255, 128, 28, 172]
abbrev dktX0_isAsSeen_6 : List UInt8 := dkwX0_isAsSeen_6 ++ []
def dkwX0_isAsSeen_5 : List UInt8 := [160, 0, 7, 4, 167, 0, 4, 3, 61, 132, 4, 1, 167, 255, 193, 42, 180, 0, 159, 182, 0, 156]
abbrev dktX0_isAsSeen_5 : List UInt8 := dkwX0_isAsSeen_5 ++ dktX0_isAsSeen_6
def dkwX0_isAsSeen_4 : List UInt8 := [180, 0, 159, 42, 180, 0, 228, 21, 4, 50, 4, 46, 182, 0, 166, 42, 180, 0, 228, 21, 4, 50, 5, 46]
abbrev dktX0_isAsSeen_4 : List UInt8 := dkwX0_isAsSeen_4 ++ dktX0_isAsSeen_5
def dkwX0_isAsSeen_3 : List UInt8 := [180, 0, 48, 162, 0, 60, 28, 153, 0, 48, 42, 180, 0, 228, 21, 4, 50, 3, 46, 29, 160, 0, 31, 42]
abbrev dktX0_isAsSeen_3 : List UInt8 := dkwX0_isAsSeen_3 ++ dktX0_isAsSeen_4
def dkwX0_isAsSeen_2 : List UInt8 := [42, 180, 0, 159, 21, 4, 182, 0, 166, 79, 132, 4, 1, 167, 255, 219, 3, 54, 4, 21, 4, 42]
abbrev dktX0_isAsSeen_2 : List UInt8 := dkwX0_isAsSeen_2 ++ dktX0_isAsSeen_3
def dkwX0_isAsSeen_1 : List UInt8 := [21, 4, 42, 180, 0, 159, 180, 0, 75, 162, 0, 31, 42, 180, 0, 231, 27, 50, 8, 29, 104, 21, 4, 96]
abbrev dktX0_isAsSeen_1 : List UInt8 := dkwX0_isAsSeen_1 ++ dktX0_isAsSeen_2
def dkwX0_isAsSeen_0 : List UInt8 := [42, 180, 0, 159, 42, 180, 0, 190, 182, 0, 42, 4, 61, 3, 62, 29, 16, 20, 163, 0, 128, 3, 54, 4]
abbrev dktX0_isAsSeen_0 : List UInt8 := dkwX0_isAsSeen_0 ++ dktX0_isAsSeen_1
theorem dksX0_isAsSeen_0 : cX0_isAsSeen.data.toList.drop 0 = dktX0_isAsSeen_0 := by decide +kernel
theorem dksX0_isAsSeen_1 : cX0_isAsSeen.data.toList.drop 24 = dktX0_isAsSeen_1 := dk_seg dksX0_isAsSeen_0 24 rfl rfl
theorem dksX0_isAsSeen_2 : cX0_isAsSeen.data.toList.drop 48 = dktX0_isAsSeen_2 := dk_seg dksX0_isAsSeen_1 24 rfl rfl
theorem dksX0_isAsSeen_3 : cX0_isAsSeen.data.toList.drop 70 = dktX0_isAsSeen_3 := dk_seg dksX0_isAsSeen_2 22 rfl rfl
theorem dksX0_isAsSeen_4 : cX0_isAsSeen.data.toList.drop 94 = dktX0_isAsSeen_4 := dk_seg dksX0_isAsSeen_3 24 rfl rfl
theorem dksX0_isAsSeen_5 : cX0_isAsSeen.data.toList.drop 118 = dktX0_isAsSeen_5 := dk_seg dksX0_isAsSeen_4 24 rfl rfl
theorem dksX0_isAsSeen_6 : cX0_isAsSeen.data.toList.drop 140 = dktX0_isAsSeen_6 := dk_seg dksX0_isAsSeen_5 22 rfl rfl
theorem dX0_isAsSeen_0 : decode cX0_isAsSeen 0 = .ok (.aload_n 0, 1) := dk_42 (dk_at dksX0_isAsSeen_0 0 rfl rfl)
theorem dX0_isAsSeen_1 : decode cX0_isAsSeen 1 = .ok (.getfield 159, 3) := dk_180 0 159 (dk_at dksX0_isAsSeen_0 1 rfl rfl)
theorem dX0_isAsSeen_4 : decode cX0_isAsSeen 4 = .ok (.aload_n 0, 1) := dk_42 (dk_at dksX0_isAsSeen_0 4 rfl rfl)
theorem dX0_isAsSeen_5 : decode cX0_isAsSeen 5 = .ok (.getfield 190, 3) := dk_180 0 190 (dk_at dksX0_isAsSeen_0 5 rfl rfl)
theorem dX0_isAsSeen_8 : decode cX0_isAsSeen 8 = .ok (.invokevirtual 42, 3) := dk_182 0 42 (dk_at dksX0_isAsSeen_0 8 rfl rfl)
theorem dX0_isAsSeen_11 : decode cX0_isAsSeen 11 = .ok (.iconst 1, 1) := dk_4 (dk_at dksX0_isAsSeen_0 11 rfl rfl)
theorem dX0_isAsSeen_12 : decode cX0_isAsSeen 12 = .ok (.istore_n 2, 1) := dk_61 (dk_at dksX0_isAsSeen_0 12 rfl rfl)
theorem dX0_isAsSeen_13 : decode cX0_isAsSeen 13 = .ok (.iconst 0, 1) := dk_3 (dk_at dksX0_isAsSeen_0 13 rfl rfl)
theorem dX0_isAsSeen_14 : decode cX0_isAsSeen 14 = .ok (.istore_n 3, 1) := dk_62 (dk_at dksX0_isAsSeen_0 14 rfl rfl)
theorem dX0_isAsSeen_15 : decode cX0_isAsSeen 15 = .ok (.iload_n 3, 1) := dk_29 (dk_at dksX0_isAsSeen_0 15 rfl rfl)
theorem dX0_isAsSeen_16 : decode cX0_isAsSeen 16 = .ok (.bipush 20, 2) := dk_16 20 (dk_at dksX0_isAsSeen_0 16 rfl rfl)
theorem dX0_isAsSeen_18 : decode cX0_isAsSeen 18 = .ok (.if_icmp .gt 128, 3) := dk_163 0 128 (dk_at dksX0_isAsSeen_0 18 rfl rfl)
theorem dX0_isAsSeen_21 : decode cX0_isAsSeen 21 = .ok (.iconst 0, 1) := dk_3 (dk_at dksX0_isAsSeen_0 21 rfl rfl)
theorem dX0_isAsSeen_22 : decode cX0_isAsSeen 22 = .ok (.istore 4, 2) := dk_54 4 (dk_at dksX0_isAsSeen_0 22 rfl rfl)
theorem dX0_isAsSeen_24 : decode cX0_isAsSeen 24 = .ok (.iload 4, 2) := dk_21 4 (dk_at dksX0_isAsSeen_1 0 rfl rfl)
theorem dX0_isAsSeen_26 : decode cX0_isAsSeen 26 = .ok (.aload_n 0, 1) := dk_42 (dk_at dksX0_isAsSeen_1 2 rfl rfl)
theorem dX0_isAsSeen_27 : decode cX0_isAsSeen 27 = .ok (.getfield 159, 3) := dk_180 0 159 (dk_at dksX0_isAsSeen_1 3 rfl rfl)
theorem dX0_isAsSeen_30 : decode cX0_isAsSeen 30 = .ok (.getfield 75, 3) := dk_180 0 75 (dk_at dksX0_isAsSeen_1 6 rfl rfl)
theorem dX0_isAsSeen_33 : decode cX0_isAsSeen 33 = .ok (.if_icmp .ge 31, 3) := dk_162 0 31 (dk_at dksX0_isAsSeen_1 9 rfl rfl)
theorem dX0_isAsSeen_36 : decode cX0_isAsSeen 36 = .ok (.aload_n 0, 1) := dk_42 (dk_at dksX0_isAsSeen_1 12 rfl rfl)
theorem dX0_isAsSeen_37 : decode cX0_isAsSeen 37 = .ok (.getfield 231, 3) := dk_180 0 231 (dk_at dksX0_isAsSeen_1 13 rfl rfl)
theorem dX0_isAsSeen_40 : decode cX0_isAsSeen 40 = .ok (.iload_n 1, 1) := dk_27 (dk_at dksX0_isAsSeen_1 16 rfl rfl)
theorem dX0_isAsSeen_41 : decode cX0_isAsSeen 41 = .ok (.aaload, 1) := dk_50 (dk_at dksX0_isAsSeen_1 17 rfl rfl)
theorem dX0_isAsSeen_42 : decode cX0_isAsSeen 42 = .ok (.iconst 5, 1) := dk_8 (dk_at dksX0_isAsSeen_1 18 rfl rfl)
theorem dX0_isAsSeen_43 : decode cX0_isAsSeen 43 = .ok (.iload_n 3, 1) := dk_29 (dk_at dksX0_isAsSeen_1 19 rfl rfl)
theorem dX0_isAsSeen_44 : decode cX0_isAsSeen 44 = .ok (.imul, 1) := dk_104 (dk_at dksX0_isAsSeen_1 20 rfl rfl)
theorem dX0_isAsSeen_45 : decode cX0_isAsSeen 45 = .ok (.iload 4, 2) := dk_21 4 (dk_at dksX0_isAsSeen_1 21 rfl rfl)
theorem dX0_isAsSeen_47 : decode cX0_isAsSeen 47 = .ok (.iadd, 1) := dk_96 (dk_at dksX0_isAsSeen_1 23 rfl rfl)
theorem dX0_isAsSeen_48 : decode cX0_isAsSeen 48 = .ok (.aload_n 0, 1) := dk_42 (dk_at dksX0_isAsSeen_2 0 rfl rfl)
theorem dX0_isAsSeen_49 : decode cX0_isAsSeen 49 = .ok (.getfield 159, 3) := dk_180 0 159 (dk_at dksX0_isAsSeen_2 1 rfl rfl)
theorem dX0_isAsSeen_52 : decode cX0_isAsSeen 52 = .ok (.iload 4, 2) := dk_21 4 (dk_at dksX0_isAsSeen_2 4 rfl rfl)
theorem dX0_isAsSeen_54 : decode cX0_isAsSeen 54 = .ok (.invokevirtual 166, 3) := dk_182 0 166 (dk_at dksX0_isAsSeen_2 6 rfl rfl)
theorem dX0_isAsSeen_57 : decode cX0_isAsSeen 57 = .ok (.iastore, 1) := dk_79 (dk_at dksX0_isAsSeen_2 9 rfl rfl)
theorem dX0_isAsSeen_58 : decode cX0_isAsSeen 58 = .ok (.iinc 4 1, 3) := dk_132 4 1 (dk_at dksX0_isAsSeen_2 10 rfl rfl)
theorem dX0_isAsSeen_61 : decode cX0_isAsSeen 61 = .ok (.goto (-37), 3) := dk_167 255 219 (dk_at dksX0_isAsSeen_2 13 rfl rfl)
theorem dX0_isAsSeen_64 : decode cX0_isAsSeen 64 = .ok (.iconst 0, 1) := dk_3 (dk_at dksX0_isAsSeen_2 16 rfl rfl)
theorem dX0_isAsSeen_65 : decode cX0_isAsSeen 65 = .ok (.istore 4, 2) := dk_54 4 (dk_at dksX0_isAsSeen_2 17 rfl rfl)
theorem dX0_isAsSeen_67 : decode cX0_isAsSeen 67 = .ok (.iload 4, 2) := dk_21 4 (dk_at dksX0_isAsSeen_2 19 rfl rfl)
theorem dX0_isAsSeen_69 : decode cX0_isAsSeen 69 = .ok (.aload_n 0, 1) := dk_42 (dk_at dksX0_isAsSeen_2 21 rfl rfl)
theorem dX0_isAsSeen_70 : decode cX0_isAsSeen 70 = .ok (.getfield 48, 3) := dk_180 0 48 (dk_at dksX0_isAsSeen_3 0 rfl rfl)
theorem dX0_isAsSeen_73 : decode cX0_isAsSeen 73 = .ok (.if_icmp .ge 60, 3) := dk_162 0 60 (dk_at dksX0_isAsSeen_3 3 rfl rfl)
theorem dX0_isAsSeen_76 : decode cX0_isAsSeen 76 = .ok (.iload_n 2, 1) := dk_28 (dk_at dksX0_isAsSeen_3 6 rfl rfl)
theorem dX0_isAsSeen_77 : decode cX0_isAsSeen 77 = .ok (.ifCond .eq 48, 3) := dk_153 0 48 (dk_at dksX0_isAsSeen_3 7 rfl rfl)
theorem dX0_isAsSeen_80 : decode cX0_isAsSeen 80 = .ok (.aload_n 0, 1) := dk_42 (dk_at dksX0_isAsSeen_3 10 rfl rfl)
theorem dX0_isAsSeen_81 : decode cX0_isAsSeen 81 = .ok (.getfield 228, 3) := dk_180 0 228 (dk_at dksX0_isAsSeen_3 11 rfl rfl)
theorem dX0_isAsSeen_84 : decode cX0_isAsSeen 84 = .ok (.iload 4, 2) := dk_21 4 (dk_at dksX0_isAsSeen_3 14 rfl rfl)
theorem dX0_isAsSeen_86 : decode cX0_isAsSeen 86 = .ok (.aaload, 1) := dk_50 (dk_at dksX0_isAsSeen_3 16 rfl rfl)
theorem dX0_isAsSeen_87 : decode cX0_isAsSeen 87 = .ok (.iconst 0, 1) := dk_3 (dk_at dksX0_isAsSeen_3 17 rfl rfl)
theorem dX0_isAsSeen_88 : decode cX0_isAsSeen 88 = .ok (.iaload, 1) := dk_46 (dk_at dksX0_isAsSeen_3 18 rfl rfl)
theorem dX0_isAsSeen_89 : decode cX0_isAsSeen 89 = .ok (.iload_n 3, 1) := dk_29 (dk_at dksX0_isAsSeen_3 19 rfl rfl)
theorem dX0_isAsSeen_90 : decode cX0_isAsSeen 90 = .ok (.if_icmp .ne 31, 3) := dk_160 0 31 (dk_at dksX0_isAsSeen_3 20 rfl rfl)
theorem dX0_isAsSeen_93 : decode cX0_isAsSeen 93 = .ok (.aload_n 0, 1) := dk_42 (dk_at dksX0_isAsSeen_3 23 rfl rfl)
theorem dX0_isAsSeen_94 : decode cX0_isAsSeen 94 = .ok (.getfield 159, 3) := dk_180 0 159 (dk_at dksX0_isAsSeen_4 0 rfl rfl)
theorem dX0_isAsSeen_97 : decode cX0_isAsSeen 97 = .ok (.aload_n 0, 1) := dk_42 (dk_at dksX0_isAsSeen_4 3 rfl rfl)
theorem dX0_isAsSeen_98 : decode cX0_isAsSeen 98 = .ok (.getfield 228, 3) := dk_180 0 228 (dk_at dksX0_isAsSeen_4 4 rfl rfl)
theorem dX0_isAsSeen_101 : decode cX0_isAsSeen 101 = .ok (.iload 4, 2) := dk_21 4 (dk_at dksX0_isAsSeen_4 7 rfl rfl)
theorem dX0_isAsSeen_103 : decode cX0_isAsSeen 103 = .ok (.aaload, 1) := dk_50 (dk_at dksX0_isAsSeen_4 9 rfl rfl)
theorem dX0_isAsSeen_104 : decode cX0_isAsSeen 104 = .ok (.iconst 1, 1) := dk_4 (dk_at dksX0_isAsSeen_4 10 rfl rfl)
theorem dX0_isAsSeen_105 : decode cX0_isAsSeen 105 = .ok (.iaload, 1) := dk_46 (dk_at dksX0_isAsSeen_4 11 rfl rfl)
theorem dX0_isAsSeen_106 : decode cX0_isAsSeen 106 = .ok (.invokevirtual 166, 3) := dk_182 0 166 (dk_at dksX0_isAsSeen_4 12 rfl rfl)
theorem dX0_isAsSeen_109 : decode cX0_isAsSeen 109 = .ok (.aload_n 0, 1) := dk_42 (dk_at dksX0_isAsSeen_4 15 rfl rfl)
theorem dX0_isAsSeen_110 : decode cX0_isAsSeen 110 = .ok (.getfield 228, 3) := dk_180 0 228 (dk_at dksX0_isAsSeen_4 16 rfl rfl)
theorem dX0_isAsSeen_113 : decode cX0_isAsSeen 113 = .ok (.iload 4, 2) := dk_21 4 (dk_at dksX0_isAsSeen_4 19 rfl rfl)
theorem dX0_isAsSeen_115 : decode cX0_isAsSeen 115 = .ok (.aaload, 1) := dk_50 (dk_at dksX0_isAsSeen_4 21 rfl rfl)
theorem dX0_isAsSeen_116 : decode cX0_isAsSeen 116 = .ok (.iconst 2, 1) := dk_5 (dk_at dksX0_isAsSeen_4 22 rfl rfl)
theorem dX0_isAsSeen_117 : decode cX0_isAsSeen 117 = .ok (.iaload, 1) := dk_46 (dk_at dksX0_isAsSeen_4 23 rfl rfl)
theorem dX0_isAsSeen_118 : decode cX0_isAsSeen 118 = .ok (.if_icmp .ne 7, 3) := dk_160 0 7 (dk_at dksX0_isAsSeen_5 0 rfl rfl)
theorem dX0_isAsSeen_121 : decode cX0_isAsSeen 121 = .ok (.iconst 1, 1) := dk_4 (dk_at dksX0_isAsSeen_5 3 rfl rfl)
theorem dX0_isAsSeen_122 : decode cX0_isAsSeen 122 = .ok (.goto 4, 3) := dk_167 0 4 (dk_at dksX0_isAsSeen_5 4 rfl rfl)
theorem dX0_isAsSeen_125 : decode cX0_isAsSeen 125 = .ok (.iconst 0, 1) := dk_3 (dk_at dksX0_isAsSeen_5 7 rfl rfl)
theorem dX0_isAsSeen_126 : decode cX0_isAsSeen 126 = .ok (.istore_n 2, 1) := dk_61 (dk_at dksX0_isAsSeen_5 8 rfl rfl)
theorem dX0_isAsSeen_127 : decode cX0_isAsSeen 127 = .ok (.iinc 4 1, 3) := dk_132 4 1 (dk_at dksX0_isAsSeen_5 9 rfl rfl)
theorem dX0_isAsSeen_130 : decode cX0_isAsSeen 130 = .ok (.goto (-63), 3) := dk_167 255 193 (dk_at dksX0_isAsSeen_5 12 rfl rfl)
theorem dX0_isAsSeen_133 : decode cX0_isAsSeen 133 = .ok (.aload_n 0, 1) := dk_42 (dk_at dksX0_isAsSeen_5 15 rfl rfl)
theorem dX0_isAsSeen_134 : decode cX0_isAsSeen 134 = .ok (.getfield 159, 3) := dk_180 0 159 (dk_at dksX0_isAsSeen_5 16 rfl rfl)
theorem dX0_isAsSeen_137 : decode cX0_isAsSeen 137 = .ok (.invokevirtual 156, 3) := dk_182 0 156 (dk_at dksX0_isAsSeen_5 19 rfl rfl)
theorem dX0_isAsSeen_140 : decode cX0_isAsSeen 140 = .ok (.iinc 3 1, 3) := dk_132 3 1 (dk_at dksX0_isAsSeen_6 0 rfl rfl)
theorem dX0_isAsSeen_143 : decode cX0_isAsSeen 143 = .ok (.goto (-128), 3) := dk_167 255 128 (dk_at dksX0_isAsSeen_6 3 rfl rfl)
theorem dX0_isAsSeen_146 : decode cX0_isAsSeen 146 = .ok (.iload_n 2, 1) := dk_28 (dk_at dksX0_isAsSeen_6 6 rfl rfl)
theorem dX0_isAsSeen_147 : decode cX0_isAsSeen 147 = .ok (.ireturn, 1) := dk_172 (dk_at dksX0_isAsSeen_6 7 rfl rfl)
abbrev cX0_sulks : ByteArray := prog_1_method_51_code
def yX0_sulks : MethodName := ⟨RX0, "sulks", "(II)I"⟩
def dkwX0_sulks_3 : List UInt8 := [172]
abbrev dktX0_sulks_3 : List UInt8 := dkwX0_sulks_3 ++ []
def dkwX0_sulks_2 : List UInt8 := [3, 182, 0, 234, 153, 0, 10, 4, 21, 4, 120, 167, 0, 4, 3, 128, 62, 132, 4, 1, 167, 255, 215, 29]
abbrev dktX0_sulks_2 : List UInt8 := dkwX0_sulks_2 ++ dktX0_sulks_3
def dkwX0_sulks_1 : List UInt8 := [3, 54, 4, 21, 4, 6, 163, 0, 41, 42, 180, 0, 190, 180, 0, 121, 27, 50, 28, 21, 4, 79, 29, 42]
abbrev dktX0_sulks_1 : List UInt8 := dkwX0_sulks_1 ++ dktX0_sulks_2
def dkwX0_sulks_0 : List UInt8 := [42, 27, 28, 182, 0, 117, 154, 0, 5, 2, 172, 3, 62, 42, 180, 0, 190, 42, 180, 0, 35, 182, 0, 42]
abbrev dktX0_sulks_0 : List UInt8 := dkwX0_sulks_0 ++ dktX0_sulks_1
theorem dksX0_sulks_0 : cX0_sulks.data.toList.drop 0 = dktX0_sulks_0 := by decide +kernel
theorem dksX0_sulks_1 : cX0_sulks.data.toList.drop 24 = dktX0_sulks_1 := dk_seg dksX0_sulks_0 24 rfl rfl
theorem dksX0_sulks_2 : cX0_sulks.data.toList.drop 48 = dktX0_sulks_2 := dk_seg dksX0_sulks_1 24 rfl rfl
theorem dksX0_sulks_3 : cX0_sulks.data.toList.drop 72 = dktX0_sulks_3 := dk_seg dksX0_sulks_2 24 rfl rfl
theorem dX0_sulks_0 : decode cX0_sulks 0 = .ok (.aload_n 0, 1) := dk_42 (dk_at dksX0_sulks_0 0 rfl rfl)
theorem dX0_sulks_1 : decode cX0_sulks 1 = .ok (.iload_n 1, 1) := dk_27 (dk_at dksX0_sulks_0 1 rfl rfl)
theorem dX0_sulks_2 : decode cX0_sulks 2 = .ok (.iload_n 2, 1) := dk_28 (dk_at dksX0_sulks_0 2 rfl rfl)
theorem dX0_sulks_3 : decode cX0_sulks 3 = .ok (.invokevirtual 117, 3) := dk_182 0 117 (dk_at dksX0_sulks_0 3 rfl rfl)
theorem dX0_sulks_6 : decode cX0_sulks 6 = .ok (.ifCond .ne 5, 3) := dk_154 0 5 (dk_at dksX0_sulks_0 6 rfl rfl)
theorem dX0_sulks_9 : decode cX0_sulks 9 = .ok (.iconst (-1), 1) := dk_2 (dk_at dksX0_sulks_0 9 rfl rfl)
theorem dX0_sulks_10 : decode cX0_sulks 10 = .ok (.ireturn, 1) := dk_172 (dk_at dksX0_sulks_0 10 rfl rfl)
theorem dX0_sulks_11 : decode cX0_sulks 11 = .ok (.iconst 0, 1) := dk_3 (dk_at dksX0_sulks_0 11 rfl rfl)
theorem dX0_sulks_12 : decode cX0_sulks 12 = .ok (.istore_n 3, 1) := dk_62 (dk_at dksX0_sulks_0 12 rfl rfl)
theorem dX0_sulks_13 : decode cX0_sulks 13 = .ok (.aload_n 0, 1) := dk_42 (dk_at dksX0_sulks_0 13 rfl rfl)
theorem dX0_sulks_14 : decode cX0_sulks 14 = .ok (.getfield 190, 3) := dk_180 0 190 (dk_at dksX0_sulks_0 14 rfl rfl)
theorem dX0_sulks_17 : decode cX0_sulks 17 = .ok (.aload_n 0, 1) := dk_42 (dk_at dksX0_sulks_0 17 rfl rfl)
theorem dX0_sulks_18 : decode cX0_sulks 18 = .ok (.getfield 35, 3) := dk_180 0 35 (dk_at dksX0_sulks_0 18 rfl rfl)
theorem dX0_sulks_21 : decode cX0_sulks 21 = .ok (.invokevirtual 42, 3) := dk_182 0 42 (dk_at dksX0_sulks_0 21 rfl rfl)
theorem dX0_sulks_24 : decode cX0_sulks 24 = .ok (.iconst 0, 1) := dk_3 (dk_at dksX0_sulks_1 0 rfl rfl)
theorem dX0_sulks_25 : decode cX0_sulks 25 = .ok (.istore 4, 2) := dk_54 4 (dk_at dksX0_sulks_1 1 rfl rfl)
theorem dX0_sulks_27 : decode cX0_sulks 27 = .ok (.iload 4, 2) := dk_21 4 (dk_at dksX0_sulks_1 3 rfl rfl)
theorem dX0_sulks_29 : decode cX0_sulks 29 = .ok (.iconst 3, 1) := dk_6 (dk_at dksX0_sulks_1 5 rfl rfl)
theorem dX0_sulks_30 : decode cX0_sulks 30 = .ok (.if_icmp .gt 41, 3) := dk_163 0 41 (dk_at dksX0_sulks_1 6 rfl rfl)
theorem dX0_sulks_33 : decode cX0_sulks 33 = .ok (.aload_n 0, 1) := dk_42 (dk_at dksX0_sulks_1 9 rfl rfl)
theorem dX0_sulks_34 : decode cX0_sulks 34 = .ok (.getfield 190, 3) := dk_180 0 190 (dk_at dksX0_sulks_1 10 rfl rfl)
theorem dX0_sulks_37 : decode cX0_sulks 37 = .ok (.getfield 121, 3) := dk_180 0 121 (dk_at dksX0_sulks_1 13 rfl rfl)
theorem dX0_sulks_40 : decode cX0_sulks 40 = .ok (.iload_n 1, 1) := dk_27 (dk_at dksX0_sulks_1 16 rfl rfl)
theorem dX0_sulks_41 : decode cX0_sulks 41 = .ok (.aaload, 1) := dk_50 (dk_at dksX0_sulks_1 17 rfl rfl)
theorem dX0_sulks_42 : decode cX0_sulks 42 = .ok (.iload_n 2, 1) := dk_28 (dk_at dksX0_sulks_1 18 rfl rfl)
theorem dX0_sulks_43 : decode cX0_sulks 43 = .ok (.iload 4, 2) := dk_21 4 (dk_at dksX0_sulks_1 19 rfl rfl)
theorem dX0_sulks_45 : decode cX0_sulks 45 = .ok (.iastore, 1) := dk_79 (dk_at dksX0_sulks_1 21 rfl rfl)
theorem dX0_sulks_46 : decode cX0_sulks 46 = .ok (.iload_n 3, 1) := dk_29 (dk_at dksX0_sulks_1 22 rfl rfl)
theorem dX0_sulks_47 : decode cX0_sulks 47 = .ok (.aload_n 0, 1) := dk_42 (dk_at dksX0_sulks_1 23 rfl rfl)
theorem dX0_sulks_48 : decode cX0_sulks 48 = .ok (.iconst 0, 1) := dk_3 (dk_at dksX0_sulks_2 0 rfl rfl)
theorem dX0_sulks_49 : decode cX0_sulks 49 = .ok (.invokevirtual 234, 3) := dk_182 0 234 (dk_at dksX0_sulks_2 1 rfl rfl)
theorem dX0_sulks_52 : decode cX0_sulks 52 = .ok (.ifCond .eq 10, 3) := dk_153 0 10 (dk_at dksX0_sulks_2 4 rfl rfl)
theorem dX0_sulks_55 : decode cX0_sulks 55 = .ok (.iconst 1, 1) := dk_4 (dk_at dksX0_sulks_2 7 rfl rfl)
theorem dX0_sulks_56 : decode cX0_sulks 56 = .ok (.iload 4, 2) := dk_21 4 (dk_at dksX0_sulks_2 8 rfl rfl)
theorem dX0_sulks_58 : decode cX0_sulks 58 = .ok (.ishl, 1) := dk_120 (dk_at dksX0_sulks_2 10 rfl rfl)
theorem dX0_sulks_59 : decode cX0_sulks 59 = .ok (.goto 4, 3) := dk_167 0 4 (dk_at dksX0_sulks_2 11 rfl rfl)
theorem dX0_sulks_62 : decode cX0_sulks 62 = .ok (.iconst 0, 1) := dk_3 (dk_at dksX0_sulks_2 14 rfl rfl)
theorem dX0_sulks_63 : decode cX0_sulks 63 = .ok (.ior, 1) := dk_128 (dk_at dksX0_sulks_2 15 rfl rfl)
theorem dX0_sulks_64 : decode cX0_sulks 64 = .ok (.istore_n 3, 1) := dk_62 (dk_at dksX0_sulks_2 16 rfl rfl)
theorem dX0_sulks_65 : decode cX0_sulks 65 = .ok (.iinc 4 1, 3) := dk_132 4 1 (dk_at dksX0_sulks_2 17 rfl rfl)
theorem dX0_sulks_68 : decode cX0_sulks 68 = .ok (.goto (-41), 3) := dk_167 255 215 (dk_at dksX0_sulks_2 20 rfl rfl)
theorem dX0_sulks_71 : decode cX0_sulks 71 = .ok (.iload_n 3, 1) := dk_29 (dk_at dksX0_sulks_2 23 rfl rfl)
theorem dX0_sulks_72 : decode cX0_sulks 72 = .ok (.ireturn, 1) := dk_172 (dk_at dksX0_sulks_3 0 rfl rfl)
abbrev cX0_ask : ByteArray := prog_1_method_53_code
def yX0_ask : MethodName := ⟨RX0, "ask", "(II)I"⟩
def dkwX0_ask_5 : List UInt8 := [21, 4, 167, 0, 7, 42, 180, 0, 180, 172]
abbrev dktX0_ask_5 : List UInt8 := dkwX0_ask_5 ++ []
def dkwX0_ask_4 : List UInt8 := [132, 6, 1, 167, 255, 207, 132, 5, 1, 167, 255, 191, 21, 4, 16, 252, 159, 0, 7, 28, 154, 0, 8]
abbrev dktX0_ask_4 : List UInt8 := dkwX0_ask_4 ++ dktX0_ask_5
def dkwX0_ask_3 : List UInt8 := [182, 0, 248, 182, 0, 193, 153, 0, 14, 16, 10, 21, 5, 104, 21, 6, 96, 167, 0, 5, 21, 4, 54, 4]
abbrev dktX0_ask_3 : List UInt8 := dkwX0_ask_3 ++ dktX0_ask_4
def dkwX0_ask_2 : List UInt8 := [21, 6, 42, 180, 0, 35, 180, 0, 75, 162, 0, 43, 42, 42, 29, 8, 21, 5, 104, 21, 6, 96]
abbrev dktX0_ask_2 : List UInt8 := dkwX0_ask_2 ++ dktX0_ask_3
def dkwX0_ask_1 : List UInt8 := [29, 184, 0, 243, 181, 0, 180, 16, 252, 54, 4, 3, 54, 5, 21, 5, 16, 20, 163, 0, 64, 3, 54, 6]
abbrev dktX0_ask_1 : List UInt8 := dkwX0_ask_1 ++ dktX0_ask_2
def dkwX0_ask_0 : List UInt8 := [42, 27, 182, 0, 78, 153, 0, 10, 28, 184, 0, 183, 154, 0, 5, 2, 172, 42, 27, 182, 0, 237, 62, 42]
abbrev dktX0_ask_0 : List UInt8 := dkwX0_ask_0 ++ dktX0_ask_1
theorem dksX0_ask_0 : cX0_ask.data.toList.drop 0 = dktX0_ask_0 := by decide +kernel
theorem dksX0_ask_1 : cX0_ask.data.toList.drop 24 = dktX0_ask_1 := dk_seg dksX0_ask_0 24 rfl rfl
theorem dksX0_ask_2 : cX0_ask.data.toList.drop 48 = dktX0_ask_2 := dk_seg dksX0_ask_1 24 rfl rfl
theorem dksX0_ask_3 : cX0_ask.data.toList.drop 70 = dktX0_ask_3 := dk_seg dksX0_ask_2 22 rfl rfl
theorem dksX0_ask_4 : cX0_ask.data.toList.drop 94 = dktX0_ask_4 := dk_seg dksX0_ask_3 24 rfl rfl
theorem dksX0_ask_5 : cX0_ask.data.toList.drop 117 = dktX0_ask_5 := dk_seg dksX0_ask_4 23 rfl rfl
theorem dX0_ask_0 : decode cX0_ask 0 = .ok (.aload_n 0, 1) := dk_42 (dk_at dksX0_ask_0 0 rfl rfl)
theorem dX0_ask_1 : decode cX0_ask 1 = .ok (.iload_n 1, 1) := dk_27 (dk_at dksX0_ask_0 1 rfl rfl)
theorem dX0_ask_2 : decode cX0_ask 2 = .ok (.invokevirtual 78, 3) := dk_182 0 78 (dk_at dksX0_ask_0 2 rfl rfl)
theorem dX0_ask_5 : decode cX0_ask 5 = .ok (.ifCond .eq 10, 3) := dk_153 0 10 (dk_at dksX0_ask_0 5 rfl rfl)
theorem dX0_ask_8 : decode cX0_ask 8 = .ok (.iload_n 2, 1) := dk_28 (dk_at dksX0_ask_0 8 rfl rfl)
theorem dX0_ask_9 : decode cX0_ask 9 = .ok (.invokestatic 183, 3) := dk_184 0 183 (dk_at dksX0_ask_0 9 rfl rfl)
theorem dX0_ask_12 : decode cX0_ask 12 = .ok (.ifCond .ne 5, 3) := dk_154 0 5 (dk_at dksX0_ask_0 12 rfl rfl)
theorem dX0_ask_15 : decode cX0_ask 15 = .ok (.iconst (-1), 1) := dk_2 (dk_at dksX0_ask_0 15 rfl rfl)
theorem dX0_ask_16 : decode cX0_ask 16 = .ok (.ireturn, 1) := dk_172 (dk_at dksX0_ask_0 16 rfl rfl)
theorem dX0_ask_17 : decode cX0_ask 17 = .ok (.aload_n 0, 1) := dk_42 (dk_at dksX0_ask_0 17 rfl rfl)
theorem dX0_ask_18 : decode cX0_ask 18 = .ok (.iload_n 1, 1) := dk_27 (dk_at dksX0_ask_0 18 rfl rfl)
theorem dX0_ask_19 : decode cX0_ask 19 = .ok (.invokevirtual 237, 3) := dk_182 0 237 (dk_at dksX0_ask_0 19 rfl rfl)
theorem dX0_ask_22 : decode cX0_ask 22 = .ok (.istore_n 3, 1) := dk_62 (dk_at dksX0_ask_0 22 rfl rfl)
theorem dX0_ask_23 : decode cX0_ask 23 = .ok (.aload_n 0, 1) := dk_42 (dk_at dksX0_ask_0 23 rfl rfl)
theorem dX0_ask_24 : decode cX0_ask 24 = .ok (.iload_n 3, 1) := dk_29 (dk_at dksX0_ask_1 0 rfl rfl)
theorem dX0_ask_25 : decode cX0_ask 25 = .ok (.invokestatic 243, 3) := dk_184 0 243 (dk_at dksX0_ask_1 1 rfl rfl)
theorem dX0_ask_28 : decode cX0_ask 28 = .ok (.putfield 180, 3) := dk_181 0 180 (dk_at dksX0_ask_1 4 rfl rfl)
theorem dX0_ask_31 : decode cX0_ask 31 = .ok (.bipush (-4), 2) := dk_16 252 (dk_at dksX0_ask_1 7 rfl rfl)
theorem dX0_ask_33 : decode cX0_ask 33 = .ok (.istore 4, 2) := dk_54 4 (dk_at dksX0_ask_1 9 rfl rfl)
theorem dX0_ask_35 : decode cX0_ask 35 = .ok (.iconst 0, 1) := dk_3 (dk_at dksX0_ask_1 11 rfl rfl)
theorem dX0_ask_36 : decode cX0_ask 36 = .ok (.istore 5, 2) := dk_54 5 (dk_at dksX0_ask_1 12 rfl rfl)
theorem dX0_ask_38 : decode cX0_ask 38 = .ok (.iload 5, 2) := dk_21 5 (dk_at dksX0_ask_1 14 rfl rfl)
theorem dX0_ask_40 : decode cX0_ask 40 = .ok (.bipush 20, 2) := dk_16 20 (dk_at dksX0_ask_1 16 rfl rfl)
theorem dX0_ask_42 : decode cX0_ask 42 = .ok (.if_icmp .gt 64, 3) := dk_163 0 64 (dk_at dksX0_ask_1 18 rfl rfl)
theorem dX0_ask_45 : decode cX0_ask 45 = .ok (.iconst 0, 1) := dk_3 (dk_at dksX0_ask_1 21 rfl rfl)
theorem dX0_ask_46 : decode cX0_ask 46 = .ok (.istore 6, 2) := dk_54 6 (dk_at dksX0_ask_1 22 rfl rfl)
theorem dX0_ask_48 : decode cX0_ask 48 = .ok (.iload 6, 2) := dk_21 6 (dk_at dksX0_ask_2 0 rfl rfl)
theorem dX0_ask_50 : decode cX0_ask 50 = .ok (.aload_n 0, 1) := dk_42 (dk_at dksX0_ask_2 2 rfl rfl)
theorem dX0_ask_51 : decode cX0_ask 51 = .ok (.getfield 35, 3) := dk_180 0 35 (dk_at dksX0_ask_2 3 rfl rfl)
theorem dX0_ask_54 : decode cX0_ask 54 = .ok (.getfield 75, 3) := dk_180 0 75 (dk_at dksX0_ask_2 6 rfl rfl)
theorem dX0_ask_57 : decode cX0_ask 57 = .ok (.if_icmp .ge 43, 3) := dk_162 0 43 (dk_at dksX0_ask_2 9 rfl rfl)
theorem dX0_ask_60 : decode cX0_ask 60 = .ok (.aload_n 0, 1) := dk_42 (dk_at dksX0_ask_2 12 rfl rfl)
theorem dX0_ask_61 : decode cX0_ask 61 = .ok (.aload_n 0, 1) := dk_42 (dk_at dksX0_ask_2 13 rfl rfl)
theorem dX0_ask_62 : decode cX0_ask 62 = .ok (.iload_n 3, 1) := dk_29 (dk_at dksX0_ask_2 14 rfl rfl)
theorem dX0_ask_63 : decode cX0_ask 63 = .ok (.iconst 5, 1) := dk_8 (dk_at dksX0_ask_2 15 rfl rfl)
theorem dX0_ask_64 : decode cX0_ask 64 = .ok (.iload 5, 2) := dk_21 5 (dk_at dksX0_ask_2 16 rfl rfl)
theorem dX0_ask_66 : decode cX0_ask 66 = .ok (.imul, 1) := dk_104 (dk_at dksX0_ask_2 18 rfl rfl)
theorem dX0_ask_67 : decode cX0_ask 67 = .ok (.iload 6, 2) := dk_21 6 (dk_at dksX0_ask_2 19 rfl rfl)
theorem dX0_ask_69 : decode cX0_ask 69 = .ok (.iadd, 1) := dk_96 (dk_at dksX0_ask_2 21 rfl rfl)
theorem dX0_ask_70 : decode cX0_ask 70 = .ok (.invokevirtual 248, 3) := dk_182 0 248 (dk_at dksX0_ask_3 0 rfl rfl)
theorem dX0_ask_73 : decode cX0_ask 73 = .ok (.invokevirtual 193, 3) := dk_182 0 193 (dk_at dksX0_ask_3 3 rfl rfl)
theorem dX0_ask_76 : decode cX0_ask 76 = .ok (.ifCond .eq 14, 3) := dk_153 0 14 (dk_at dksX0_ask_3 6 rfl rfl)
theorem dX0_ask_79 : decode cX0_ask 79 = .ok (.bipush 10, 2) := dk_16 10 (dk_at dksX0_ask_3 9 rfl rfl)
theorem dX0_ask_81 : decode cX0_ask 81 = .ok (.iload 5, 2) := dk_21 5 (dk_at dksX0_ask_3 11 rfl rfl)
theorem dX0_ask_83 : decode cX0_ask 83 = .ok (.imul, 1) := dk_104 (dk_at dksX0_ask_3 13 rfl rfl)
theorem dX0_ask_84 : decode cX0_ask 84 = .ok (.iload 6, 2) := dk_21 6 (dk_at dksX0_ask_3 14 rfl rfl)
theorem dX0_ask_86 : decode cX0_ask 86 = .ok (.iadd, 1) := dk_96 (dk_at dksX0_ask_3 16 rfl rfl)
theorem dX0_ask_87 : decode cX0_ask 87 = .ok (.goto 5, 3) := dk_167 0 5 (dk_at dksX0_ask_3 17 rfl rfl)
theorem dX0_ask_90 : decode cX0_ask 90 = .ok (.iload 4, 2) := dk_21 4 (dk_at dksX0_ask_3 20 rfl rfl)
theorem dX0_ask_92 : decode cX0_ask 92 = .ok (.istore 4, 2) := dk_54 4 (dk_at dksX0_ask_3 22 rfl rfl)
theorem dX0_ask_94 : decode cX0_ask 94 = .ok (.iinc 6 1, 3) := dk_132 6 1 (dk_at dksX0_ask_4 0 rfl rfl)
theorem dX0_ask_97 : decode cX0_ask 97 = .ok (.goto (-49), 3) := dk_167 255 207 (dk_at dksX0_ask_4 3 rfl rfl)
theorem dX0_ask_100 : decode cX0_ask 100 = .ok (.iinc 5 1, 3) := dk_132 5 1 (dk_at dksX0_ask_4 6 rfl rfl)
theorem dX0_ask_103 : decode cX0_ask 103 = .ok (.goto (-65), 3) := dk_167 255 191 (dk_at dksX0_ask_4 9 rfl rfl)
theorem dX0_ask_106 : decode cX0_ask 106 = .ok (.iload 4, 2) := dk_21 4 (dk_at dksX0_ask_4 12 rfl rfl)
theorem dX0_ask_108 : decode cX0_ask 108 = .ok (.bipush (-4), 2) := dk_16 252 (dk_at dksX0_ask_4 14 rfl rfl)
theorem dX0_ask_110 : decode cX0_ask 110 = .ok (.if_icmp .eq 7, 3) := dk_159 0 7 (dk_at dksX0_ask_4 16 rfl rfl)
theorem dX0_ask_113 : decode cX0_ask 113 = .ok (.iload_n 2, 1) := dk_28 (dk_at dksX0_ask_4 19 rfl rfl)
theorem dX0_ask_114 : decode cX0_ask 114 = .ok (.ifCond .ne 8, 3) := dk_154 0 8 (dk_at dksX0_ask_4 20 rfl rfl)
theorem dX0_ask_117 : decode cX0_ask 117 = .ok (.iload 4, 2) := dk_21 4 (dk_at dksX0_ask_5 0 rfl rfl)
theorem dX0_ask_119 : decode cX0_ask 119 = .ok (.goto 7, 3) := dk_167 0 7 (dk_at dksX0_ask_5 2 rfl rfl)
theorem dX0_ask_122 : decode cX0_ask 122 = .ok (.aload_n 0, 1) := dk_42 (dk_at dksX0_ask_5 5 rfl rfl)
theorem dX0_ask_123 : decode cX0_ask 123 = .ok (.getfield 180, 3) := dk_180 0 180 (dk_at dksX0_ask_5 6 rfl rfl)
theorem dX0_ask_126 : decode cX0_ask 126 = .ok (.ireturn, 1) := dk_172 (dk_at dksX0_ask_5 9 rfl rfl)
abbrev cX0_worstAt : ByteArray := prog_1_method_52_code
def yX0_worstAt : MethodName := ⟨RX0, "worstAt", "(II)I"⟩
def dkwX0_worstAt_3 : List UInt8 := [54, 5, 132, 6, 1, 167, 255, 198, 29, 21, 5, 184, 0, 240, 62, 132, 4, 1, 167, 255, 173, 29, 172]
abbrev dktX0_worstAt_3 : List UInt8 := dkwX0_worstAt_3 ++ []
def dkwX0_worstAt_2 : List UInt8 := [21, 4, 50, 28, 46, 42, 180, 0, 231, 21, 6, 50, 28, 46, 160, 0, 7, 4, 167, 0, 4, 3, 96]
abbrev dktX0_worstAt_2 : List UInt8 := dkwX0_worstAt_2 ++ dktX0_worstAt_3
def dkwX0_worstAt_1 : List UInt8 := [21, 4, 184, 0, 211, 153, 0, 49, 21, 5, 27, 21, 6, 184, 0, 211, 153, 0, 28, 42, 180, 0, 231]
abbrev dktX0_worstAt_1 : List UInt8 := dkwX0_worstAt_1 ++ dktX0_worstAt_2
def dkwX0_worstAt_0 : List UInt8 := [3, 62, 3, 54, 4, 21, 4, 7, 162, 0, 83, 3, 54, 5, 3, 54, 6, 21, 6, 7, 162, 0, 58, 27]
abbrev dktX0_worstAt_0 : List UInt8 := dkwX0_worstAt_0 ++ dktX0_worstAt_1
theorem dksX0_worstAt_0 : cX0_worstAt.data.toList.drop 0 = dktX0_worstAt_0 := by decide +kernel
theorem dksX0_worstAt_1 : cX0_worstAt.data.toList.drop 24 = dktX0_worstAt_1 := dk_seg dksX0_worstAt_0 24 rfl rfl
theorem dksX0_worstAt_2 : cX0_worstAt.data.toList.drop 47 = dktX0_worstAt_2 := dk_seg dksX0_worstAt_1 23 rfl rfl
theorem dksX0_worstAt_3 : cX0_worstAt.data.toList.drop 70 = dktX0_worstAt_3 := dk_seg dksX0_worstAt_2 23 rfl rfl
theorem dX0_worstAt_0 : decode cX0_worstAt 0 = .ok (.iconst 0, 1) := dk_3 (dk_at dksX0_worstAt_0 0 rfl rfl)
theorem dX0_worstAt_1 : decode cX0_worstAt 1 = .ok (.istore_n 3, 1) := dk_62 (dk_at dksX0_worstAt_0 1 rfl rfl)
theorem dX0_worstAt_2 : decode cX0_worstAt 2 = .ok (.iconst 0, 1) := dk_3 (dk_at dksX0_worstAt_0 2 rfl rfl)
theorem dX0_worstAt_3 : decode cX0_worstAt 3 = .ok (.istore 4, 2) := dk_54 4 (dk_at dksX0_worstAt_0 3 rfl rfl)
theorem dX0_worstAt_5 : decode cX0_worstAt 5 = .ok (.iload 4, 2) := dk_21 4 (dk_at dksX0_worstAt_0 5 rfl rfl)
theorem dX0_worstAt_7 : decode cX0_worstAt 7 = .ok (.iconst 4, 1) := dk_7 (dk_at dksX0_worstAt_0 7 rfl rfl)
theorem dX0_worstAt_8 : decode cX0_worstAt 8 = .ok (.if_icmp .ge 83, 3) := dk_162 0 83 (dk_at dksX0_worstAt_0 8 rfl rfl)
theorem dX0_worstAt_11 : decode cX0_worstAt 11 = .ok (.iconst 0, 1) := dk_3 (dk_at dksX0_worstAt_0 11 rfl rfl)
theorem dX0_worstAt_12 : decode cX0_worstAt 12 = .ok (.istore 5, 2) := dk_54 5 (dk_at dksX0_worstAt_0 12 rfl rfl)
theorem dX0_worstAt_14 : decode cX0_worstAt 14 = .ok (.iconst 0, 1) := dk_3 (dk_at dksX0_worstAt_0 14 rfl rfl)
theorem dX0_worstAt_15 : decode cX0_worstAt 15 = .ok (.istore 6, 2) := dk_54 6 (dk_at dksX0_worstAt_0 15 rfl rfl)
theorem dX0_worstAt_17 : decode cX0_worstAt 17 = .ok (.iload 6, 2) := dk_21 6 (dk_at dksX0_worstAt_0 17 rfl rfl)
theorem dX0_worstAt_19 : decode cX0_worstAt 19 = .ok (.iconst 4, 1) := dk_7 (dk_at dksX0_worstAt_0 19 rfl rfl)
theorem dX0_worstAt_20 : decode cX0_worstAt 20 = .ok (.if_icmp .ge 58, 3) := dk_162 0 58 (dk_at dksX0_worstAt_0 20 rfl rfl)
theorem dX0_worstAt_23 : decode cX0_worstAt 23 = .ok (.iload_n 1, 1) := dk_27 (dk_at dksX0_worstAt_0 23 rfl rfl)
theorem dX0_worstAt_24 : decode cX0_worstAt 24 = .ok (.iload 4, 2) := dk_21 4 (dk_at dksX0_worstAt_1 0 rfl rfl)
theorem dX0_worstAt_26 : decode cX0_worstAt 26 = .ok (.invokestatic 211, 3) := dk_184 0 211 (dk_at dksX0_worstAt_1 2 rfl rfl)
theorem dX0_worstAt_29 : decode cX0_worstAt 29 = .ok (.ifCond .eq 49, 3) := dk_153 0 49 (dk_at dksX0_worstAt_1 5 rfl rfl)
theorem dX0_worstAt_32 : decode cX0_worstAt 32 = .ok (.iload 5, 2) := dk_21 5 (dk_at dksX0_worstAt_1 8 rfl rfl)
theorem dX0_worstAt_34 : decode cX0_worstAt 34 = .ok (.iload_n 1, 1) := dk_27 (dk_at dksX0_worstAt_1 10 rfl rfl)
theorem dX0_worstAt_35 : decode cX0_worstAt 35 = .ok (.iload 6, 2) := dk_21 6 (dk_at dksX0_worstAt_1 11 rfl rfl)
theorem dX0_worstAt_37 : decode cX0_worstAt 37 = .ok (.invokestatic 211, 3) := dk_184 0 211 (dk_at dksX0_worstAt_1 13 rfl rfl)
theorem dX0_worstAt_40 : decode cX0_worstAt 40 = .ok (.ifCond .eq 28, 3) := dk_153 0 28 (dk_at dksX0_worstAt_1 16 rfl rfl)
theorem dX0_worstAt_43 : decode cX0_worstAt 43 = .ok (.aload_n 0, 1) := dk_42 (dk_at dksX0_worstAt_1 19 rfl rfl)
theorem dX0_worstAt_44 : decode cX0_worstAt 44 = .ok (.getfield 231, 3) := dk_180 0 231 (dk_at dksX0_worstAt_1 20 rfl rfl)
theorem dX0_worstAt_47 : decode cX0_worstAt 47 = .ok (.iload 4, 2) := dk_21 4 (dk_at dksX0_worstAt_2 0 rfl rfl)
theorem dX0_worstAt_49 : decode cX0_worstAt 49 = .ok (.aaload, 1) := dk_50 (dk_at dksX0_worstAt_2 2 rfl rfl)
theorem dX0_worstAt_50 : decode cX0_worstAt 50 = .ok (.iload_n 2, 1) := dk_28 (dk_at dksX0_worstAt_2 3 rfl rfl)
theorem dX0_worstAt_51 : decode cX0_worstAt 51 = .ok (.iaload, 1) := dk_46 (dk_at dksX0_worstAt_2 4 rfl rfl)
theorem dX0_worstAt_52 : decode cX0_worstAt 52 = .ok (.aload_n 0, 1) := dk_42 (dk_at dksX0_worstAt_2 5 rfl rfl)
theorem dX0_worstAt_53 : decode cX0_worstAt 53 = .ok (.getfield 231, 3) := dk_180 0 231 (dk_at dksX0_worstAt_2 6 rfl rfl)
theorem dX0_worstAt_56 : decode cX0_worstAt 56 = .ok (.iload 6, 2) := dk_21 6 (dk_at dksX0_worstAt_2 9 rfl rfl)
theorem dX0_worstAt_58 : decode cX0_worstAt 58 = .ok (.aaload, 1) := dk_50 (dk_at dksX0_worstAt_2 11 rfl rfl)
theorem dX0_worstAt_59 : decode cX0_worstAt 59 = .ok (.iload_n 2, 1) := dk_28 (dk_at dksX0_worstAt_2 12 rfl rfl)
theorem dX0_worstAt_60 : decode cX0_worstAt 60 = .ok (.iaload, 1) := dk_46 (dk_at dksX0_worstAt_2 13 rfl rfl)
theorem dX0_worstAt_61 : decode cX0_worstAt 61 = .ok (.if_icmp .ne 7, 3) := dk_160 0 7 (dk_at dksX0_worstAt_2 14 rfl rfl)
theorem dX0_worstAt_64 : decode cX0_worstAt 64 = .ok (.iconst 1, 1) := dk_4 (dk_at dksX0_worstAt_2 17 rfl rfl)
theorem dX0_worstAt_65 : decode cX0_worstAt 65 = .ok (.goto 4, 3) := dk_167 0 4 (dk_at dksX0_worstAt_2 18 rfl rfl)
theorem dX0_worstAt_68 : decode cX0_worstAt 68 = .ok (.iconst 0, 1) := dk_3 (dk_at dksX0_worstAt_2 21 rfl rfl)
theorem dX0_worstAt_69 : decode cX0_worstAt 69 = .ok (.iadd, 1) := dk_96 (dk_at dksX0_worstAt_2 22 rfl rfl)
theorem dX0_worstAt_70 : decode cX0_worstAt 70 = .ok (.istore 5, 2) := dk_54 5 (dk_at dksX0_worstAt_3 0 rfl rfl)
theorem dX0_worstAt_72 : decode cX0_worstAt 72 = .ok (.iinc 6 1, 3) := dk_132 6 1 (dk_at dksX0_worstAt_3 2 rfl rfl)
theorem dX0_worstAt_75 : decode cX0_worstAt 75 = .ok (.goto (-58), 3) := dk_167 255 198 (dk_at dksX0_worstAt_3 5 rfl rfl)
theorem dX0_worstAt_78 : decode cX0_worstAt 78 = .ok (.iload_n 3, 1) := dk_29 (dk_at dksX0_worstAt_3 8 rfl rfl)
theorem dX0_worstAt_79 : decode cX0_worstAt 79 = .ok (.iload 5, 2) := dk_21 5 (dk_at dksX0_worstAt_3 9 rfl rfl)
theorem dX0_worstAt_81 : decode cX0_worstAt 81 = .ok (.invokestatic 240, 3) := dk_184 0 240 (dk_at dksX0_worstAt_3 11 rfl rfl)
theorem dX0_worstAt_84 : decode cX0_worstAt 84 = .ok (.istore_n 3, 1) := dk_62 (dk_at dksX0_worstAt_3 14 rfl rfl)
theorem dX0_worstAt_85 : decode cX0_worstAt 85 = .ok (.iinc 4 1, 3) := dk_132 4 1 (dk_at dksX0_worstAt_3 15 rfl rfl)
theorem dX0_worstAt_88 : decode cX0_worstAt 88 = .ok (.goto (-83), 3) := dk_167 255 173 (dk_at dksX0_worstAt_3 18 rfl rfl)
theorem dX0_worstAt_91 : decode cX0_worstAt 91 = .ok (.iload_n 3, 1) := dk_29 (dk_at dksX0_worstAt_3 21 rfl rfl)
theorem dX0_worstAt_92 : decode cX0_worstAt 92 = .ok (.ireturn, 1) := dk_172 (dk_at dksX0_worstAt_3 22 rfl rfl)
abbrev cX0_drift : ByteArray := prog_1_method_54_code
def yX0_drift : MethodName := ⟨RX0, "drift", "(III)I"⟩
def dkwX0_drift_7 : List UInt8 := [167, 0, 18, 42, 180, 0, 159, 180, 0, 93, 42, 180, 0, 35, 180, 0, 93, 100, 172]
abbrev dktX0_drift_7 : List UInt8 := dkwX0_drift_7 ++ []
def dkwX0_drift_6 : List UInt8 := [180, 0, 159, 182, 0, 156, 132, 5, 1, 167, 255, 160, 29, 154, 0, 13, 42, 180, 0, 159, 182, 0, 96]
abbrev dktX0_drift_6 : List UInt8 := dkwX0_drift_6 ++ dktX0_drift_7
def dkwX0_drift_5 : List UInt8 := [50, 21, 8, 21, 7, 21, 8, 160, 0, 7, 3, 167, 0, 10, 21, 6, 16, 64, 108, 7, 112, 79, 42]
abbrev dktX0_drift_5 : List UInt8 := dkwX0_drift_5 ++ dktX0_drift_6
def dkwX0_drift_4 : List UInt8 := [21, 6, 16, 8, 108, 42, 180, 0, 159, 180, 0, 75, 112, 54, 8, 42, 180, 0, 159, 180, 0, 121, 21, 7]
abbrev dktX0_drift_4 : List UInt8 := dkwX0_drift_4 ++ dktX0_drift_5
def dkwX0_drift_3 : List UInt8 := [21, 4, 16, 16, 122, 17, 127, 255, 126, 54, 6, 21, 6, 42, 180, 0, 159, 180, 0, 75, 112, 54, 7]
abbrev dktX0_drift_3 : List UInt8 := dkwX0_drift_3 ++ dktX0_drift_4
def dkwX0_drift_2 : List UInt8 := [182, 0, 42, 3, 54, 5, 21, 5, 28, 162, 0, 96, 21, 4, 18, 251, 104, 17, 48, 57, 96, 54, 4]
abbrev dktX0_drift_2 : List UInt8 := dkwX0_drift_2 ++ dktX0_drift_3
def dkwX0_drift_1 : List UInt8 := [180, 0, 35, 180, 0, 75, 154, 0, 6, 16, 254, 172, 27, 54, 4, 42, 180, 0, 159, 42, 180, 0, 35]
abbrev dktX0_drift_1 : List UInt8 := dkwX0_drift_1 ++ dktX0_drift_2
def dkwX0_drift_0 : List UInt8 := [28, 133, 10, 20, 0, 85, 184, 0, 5, 153, 0, 10, 29, 184, 0, 183, 154, 0, 5, 2, 172, 42]
abbrev dktX0_drift_0 : List UInt8 := dkwX0_drift_0 ++ dktX0_drift_1
theorem dksX0_drift_0 : cX0_drift.data.toList.drop 0 = dktX0_drift_0 := by decide +kernel
theorem dksX0_drift_1 : cX0_drift.data.toList.drop 22 = dktX0_drift_1 := dk_seg dksX0_drift_0 22 rfl rfl
theorem dksX0_drift_2 : cX0_drift.data.toList.drop 45 = dktX0_drift_2 := dk_seg dksX0_drift_1 23 rfl rfl
theorem dksX0_drift_3 : cX0_drift.data.toList.drop 68 = dktX0_drift_3 := dk_seg dksX0_drift_2 23 rfl rfl
theorem dksX0_drift_4 : cX0_drift.data.toList.drop 91 = dktX0_drift_4 := dk_seg dksX0_drift_3 23 rfl rfl
theorem dksX0_drift_5 : cX0_drift.data.toList.drop 115 = dktX0_drift_5 := dk_seg dksX0_drift_4 24 rfl rfl
theorem dksX0_drift_6 : cX0_drift.data.toList.drop 138 = dktX0_drift_6 := dk_seg dksX0_drift_5 23 rfl rfl
theorem dksX0_drift_7 : cX0_drift.data.toList.drop 161 = dktX0_drift_7 := dk_seg dksX0_drift_6 23 rfl rfl
theorem dX0_drift_0 : decode cX0_drift 0 = .ok (.iload_n 2, 1) := dk_28 (dk_at dksX0_drift_0 0 rfl rfl)
theorem dX0_drift_1 : decode cX0_drift 1 = .ok (.i2l, 1) := dk_133 (dk_at dksX0_drift_0 1 rfl rfl)
theorem dX0_drift_2 : decode cX0_drift 2 = .ok (.lconst 1, 1) := dk_10 (dk_at dksX0_drift_0 2 rfl rfl)
theorem dX0_drift_3 : decode cX0_drift 3 = .ok (.ldc2_w 85, 3) := dk_20 0 85 (dk_at dksX0_drift_0 3 rfl rfl)
theorem dX0_drift_6 : decode cX0_drift 6 = .ok (.invokestatic 5, 3) := dk_184 0 5 (dk_at dksX0_drift_0 6 rfl rfl)
theorem dX0_drift_9 : decode cX0_drift 9 = .ok (.ifCond .eq 10, 3) := dk_153 0 10 (dk_at dksX0_drift_0 9 rfl rfl)
theorem dX0_drift_12 : decode cX0_drift 12 = .ok (.iload_n 3, 1) := dk_29 (dk_at dksX0_drift_0 12 rfl rfl)
theorem dX0_drift_13 : decode cX0_drift 13 = .ok (.invokestatic 183, 3) := dk_184 0 183 (dk_at dksX0_drift_0 13 rfl rfl)
theorem dX0_drift_16 : decode cX0_drift 16 = .ok (.ifCond .ne 5, 3) := dk_154 0 5 (dk_at dksX0_drift_0 16 rfl rfl)
theorem dX0_drift_19 : decode cX0_drift 19 = .ok (.iconst (-1), 1) := dk_2 (dk_at dksX0_drift_0 19 rfl rfl)
theorem dX0_drift_20 : decode cX0_drift 20 = .ok (.ireturn, 1) := dk_172 (dk_at dksX0_drift_0 20 rfl rfl)
theorem dX0_drift_21 : decode cX0_drift 21 = .ok (.aload_n 0, 1) := dk_42 (dk_at dksX0_drift_0 21 rfl rfl)
theorem dX0_drift_22 : decode cX0_drift 22 = .ok (.getfield 35, 3) := dk_180 0 35 (dk_at dksX0_drift_1 0 rfl rfl)
theorem dX0_drift_25 : decode cX0_drift 25 = .ok (.getfield 75, 3) := dk_180 0 75 (dk_at dksX0_drift_1 3 rfl rfl)
theorem dX0_drift_28 : decode cX0_drift 28 = .ok (.ifCond .ne 6, 3) := dk_154 0 6 (dk_at dksX0_drift_1 6 rfl rfl)
theorem dX0_drift_31 : decode cX0_drift 31 = .ok (.bipush (-2), 2) := dk_16 254 (dk_at dksX0_drift_1 9 rfl rfl)
theorem dX0_drift_33 : decode cX0_drift 33 = .ok (.ireturn, 1) := dk_172 (dk_at dksX0_drift_1 11 rfl rfl)
theorem dX0_drift_34 : decode cX0_drift 34 = .ok (.iload_n 1, 1) := dk_27 (dk_at dksX0_drift_1 12 rfl rfl)
theorem dX0_drift_35 : decode cX0_drift 35 = .ok (.istore 4, 2) := dk_54 4 (dk_at dksX0_drift_1 13 rfl rfl)
theorem dX0_drift_37 : decode cX0_drift 37 = .ok (.aload_n 0, 1) := dk_42 (dk_at dksX0_drift_1 15 rfl rfl)
theorem dX0_drift_38 : decode cX0_drift 38 = .ok (.getfield 159, 3) := dk_180 0 159 (dk_at dksX0_drift_1 16 rfl rfl)
theorem dX0_drift_41 : decode cX0_drift 41 = .ok (.aload_n 0, 1) := dk_42 (dk_at dksX0_drift_1 19 rfl rfl)
theorem dX0_drift_42 : decode cX0_drift 42 = .ok (.getfield 35, 3) := dk_180 0 35 (dk_at dksX0_drift_1 20 rfl rfl)
theorem dX0_drift_45 : decode cX0_drift 45 = .ok (.invokevirtual 42, 3) := dk_182 0 42 (dk_at dksX0_drift_2 0 rfl rfl)
theorem dX0_drift_48 : decode cX0_drift 48 = .ok (.iconst 0, 1) := dk_3 (dk_at dksX0_drift_2 3 rfl rfl)
theorem dX0_drift_49 : decode cX0_drift 49 = .ok (.istore 5, 2) := dk_54 5 (dk_at dksX0_drift_2 4 rfl rfl)
theorem dX0_drift_51 : decode cX0_drift 51 = .ok (.iload 5, 2) := dk_21 5 (dk_at dksX0_drift_2 6 rfl rfl)
theorem dX0_drift_53 : decode cX0_drift 53 = .ok (.iload_n 2, 1) := dk_28 (dk_at dksX0_drift_2 8 rfl rfl)
theorem dX0_drift_54 : decode cX0_drift 54 = .ok (.if_icmp .ge 96, 3) := dk_162 0 96 (dk_at dksX0_drift_2 9 rfl rfl)
theorem dX0_drift_57 : decode cX0_drift 57 = .ok (.iload 4, 2) := dk_21 4 (dk_at dksX0_drift_2 12 rfl rfl)
theorem dX0_drift_59 : decode cX0_drift 59 = .ok (.ldc 251, 2) := dk_18 251 (dk_at dksX0_drift_2 14 rfl rfl)
theorem dX0_drift_61 : decode cX0_drift 61 = .ok (.imul, 1) := dk_104 (dk_at dksX0_drift_2 16 rfl rfl)
theorem dX0_drift_62 : decode cX0_drift 62 = .ok (.sipush 12345, 3) := dk_17 48 57 (dk_at dksX0_drift_2 17 rfl rfl)
theorem dX0_drift_65 : decode cX0_drift 65 = .ok (.iadd, 1) := dk_96 (dk_at dksX0_drift_2 20 rfl rfl)
theorem dX0_drift_66 : decode cX0_drift 66 = .ok (.istore 4, 2) := dk_54 4 (dk_at dksX0_drift_2 21 rfl rfl)
theorem dX0_drift_68 : decode cX0_drift 68 = .ok (.iload 4, 2) := dk_21 4 (dk_at dksX0_drift_3 0 rfl rfl)
theorem dX0_drift_70 : decode cX0_drift 70 = .ok (.bipush 16, 2) := dk_16 16 (dk_at dksX0_drift_3 2 rfl rfl)
theorem dX0_drift_72 : decode cX0_drift 72 = .ok (.ishr, 1) := dk_122 (dk_at dksX0_drift_3 4 rfl rfl)
theorem dX0_drift_73 : decode cX0_drift 73 = .ok (.sipush 32767, 3) := dk_17 127 255 (dk_at dksX0_drift_3 5 rfl rfl)
theorem dX0_drift_76 : decode cX0_drift 76 = .ok (.iand, 1) := dk_126 (dk_at dksX0_drift_3 8 rfl rfl)
theorem dX0_drift_77 : decode cX0_drift 77 = .ok (.istore 6, 2) := dk_54 6 (dk_at dksX0_drift_3 9 rfl rfl)
theorem dX0_drift_79 : decode cX0_drift 79 = .ok (.iload 6, 2) := dk_21 6 (dk_at dksX0_drift_3 11 rfl rfl)
theorem dX0_drift_81 : decode cX0_drift 81 = .ok (.aload_n 0, 1) := dk_42 (dk_at dksX0_drift_3 13 rfl rfl)
theorem dX0_drift_82 : decode cX0_drift 82 = .ok (.getfield 159, 3) := dk_180 0 159 (dk_at dksX0_drift_3 14 rfl rfl)
theorem dX0_drift_85 : decode cX0_drift 85 = .ok (.getfield 75, 3) := dk_180 0 75 (dk_at dksX0_drift_3 17 rfl rfl)
theorem dX0_drift_88 : decode cX0_drift 88 = .ok (.irem, 1) := dk_112 (dk_at dksX0_drift_3 20 rfl rfl)
theorem dX0_drift_89 : decode cX0_drift 89 = .ok (.istore 7, 2) := dk_54 7 (dk_at dksX0_drift_3 21 rfl rfl)
theorem dX0_drift_91 : decode cX0_drift 91 = .ok (.iload 6, 2) := dk_21 6 (dk_at dksX0_drift_4 0 rfl rfl)
theorem dX0_drift_93 : decode cX0_drift 93 = .ok (.bipush 8, 2) := dk_16 8 (dk_at dksX0_drift_4 2 rfl rfl)
theorem dX0_drift_95 : decode cX0_drift 95 = .ok (.idiv, 1) := dk_108 (dk_at dksX0_drift_4 4 rfl rfl)
theorem dX0_drift_96 : decode cX0_drift 96 = .ok (.aload_n 0, 1) := dk_42 (dk_at dksX0_drift_4 5 rfl rfl)
theorem dX0_drift_97 : decode cX0_drift 97 = .ok (.getfield 159, 3) := dk_180 0 159 (dk_at dksX0_drift_4 6 rfl rfl)
theorem dX0_drift_100 : decode cX0_drift 100 = .ok (.getfield 75, 3) := dk_180 0 75 (dk_at dksX0_drift_4 9 rfl rfl)
theorem dX0_drift_103 : decode cX0_drift 103 = .ok (.irem, 1) := dk_112 (dk_at dksX0_drift_4 12 rfl rfl)
theorem dX0_drift_104 : decode cX0_drift 104 = .ok (.istore 8, 2) := dk_54 8 (dk_at dksX0_drift_4 13 rfl rfl)
theorem dX0_drift_106 : decode cX0_drift 106 = .ok (.aload_n 0, 1) := dk_42 (dk_at dksX0_drift_4 15 rfl rfl)
theorem dX0_drift_107 : decode cX0_drift 107 = .ok (.getfield 159, 3) := dk_180 0 159 (dk_at dksX0_drift_4 16 rfl rfl)
theorem dX0_drift_110 : decode cX0_drift 110 = .ok (.getfield 121, 3) := dk_180 0 121 (dk_at dksX0_drift_4 19 rfl rfl)
theorem dX0_drift_113 : decode cX0_drift 113 = .ok (.iload 7, 2) := dk_21 7 (dk_at dksX0_drift_4 22 rfl rfl)
theorem dX0_drift_115 : decode cX0_drift 115 = .ok (.aaload, 1) := dk_50 (dk_at dksX0_drift_5 0 rfl rfl)
theorem dX0_drift_116 : decode cX0_drift 116 = .ok (.iload 8, 2) := dk_21 8 (dk_at dksX0_drift_5 1 rfl rfl)
theorem dX0_drift_118 : decode cX0_drift 118 = .ok (.iload 7, 2) := dk_21 7 (dk_at dksX0_drift_5 3 rfl rfl)
theorem dX0_drift_120 : decode cX0_drift 120 = .ok (.iload 8, 2) := dk_21 8 (dk_at dksX0_drift_5 5 rfl rfl)
theorem dX0_drift_122 : decode cX0_drift 122 = .ok (.if_icmp .ne 7, 3) := dk_160 0 7 (dk_at dksX0_drift_5 7 rfl rfl)
theorem dX0_drift_125 : decode cX0_drift 125 = .ok (.iconst 0, 1) := dk_3 (dk_at dksX0_drift_5 10 rfl rfl)
theorem dX0_drift_126 : decode cX0_drift 126 = .ok (.goto 10, 3) := dk_167 0 10 (dk_at dksX0_drift_5 11 rfl rfl)
theorem dX0_drift_129 : decode cX0_drift 129 = .ok (.iload 6, 2) := dk_21 6 (dk_at dksX0_drift_5 14 rfl rfl)
theorem dX0_drift_131 : decode cX0_drift 131 = .ok (.bipush 64, 2) := dk_16 64 (dk_at dksX0_drift_5 16 rfl rfl)
theorem dX0_drift_133 : decode cX0_drift 133 = .ok (.idiv, 1) := dk_108 (dk_at dksX0_drift_5 18 rfl rfl)
theorem dX0_drift_134 : decode cX0_drift 134 = .ok (.iconst 4, 1) := dk_7 (dk_at dksX0_drift_5 19 rfl rfl)
theorem dX0_drift_135 : decode cX0_drift 135 = .ok (.irem, 1) := dk_112 (dk_at dksX0_drift_5 20 rfl rfl)
theorem dX0_drift_136 : decode cX0_drift 136 = .ok (.iastore, 1) := dk_79 (dk_at dksX0_drift_5 21 rfl rfl)
theorem dX0_drift_137 : decode cX0_drift 137 = .ok (.aload_n 0, 1) := dk_42 (dk_at dksX0_drift_5 22 rfl rfl)
theorem dX0_drift_138 : decode cX0_drift 138 = .ok (.getfield 159, 3) := dk_180 0 159 (dk_at dksX0_drift_6 0 rfl rfl)
theorem dX0_drift_141 : decode cX0_drift 141 = .ok (.invokevirtual 156, 3) := dk_182 0 156 (dk_at dksX0_drift_6 3 rfl rfl)
theorem dX0_drift_144 : decode cX0_drift 144 = .ok (.iinc 5 1, 3) := dk_132 5 1 (dk_at dksX0_drift_6 6 rfl rfl)
theorem dX0_drift_147 : decode cX0_drift 147 = .ok (.goto (-96), 3) := dk_167 255 160 (dk_at dksX0_drift_6 9 rfl rfl)
theorem dX0_drift_150 : decode cX0_drift 150 = .ok (.iload_n 3, 1) := dk_29 (dk_at dksX0_drift_6 12 rfl rfl)
theorem dX0_drift_151 : decode cX0_drift 151 = .ok (.ifCond .ne 13, 3) := dk_154 0 13 (dk_at dksX0_drift_6 13 rfl rfl)
theorem dX0_drift_154 : decode cX0_drift 154 = .ok (.aload_n 0, 1) := dk_42 (dk_at dksX0_drift_6 16 rfl rfl)
theorem dX0_drift_155 : decode cX0_drift 155 = .ok (.getfield 159, 3) := dk_180 0 159 (dk_at dksX0_drift_6 17 rfl rfl)
theorem dX0_drift_158 : decode cX0_drift 158 = .ok (.invokevirtual 96, 3) := dk_182 0 96 (dk_at dksX0_drift_6 20 rfl rfl)
theorem dX0_drift_161 : decode cX0_drift 161 = .ok (.goto 18, 3) := dk_167 0 18 (dk_at dksX0_drift_7 0 rfl rfl)
theorem dX0_drift_164 : decode cX0_drift 164 = .ok (.aload_n 0, 1) := dk_42 (dk_at dksX0_drift_7 3 rfl rfl)
theorem dX0_drift_165 : decode cX0_drift 165 = .ok (.getfield 159, 3) := dk_180 0 159 (dk_at dksX0_drift_7 4 rfl rfl)
theorem dX0_drift_168 : decode cX0_drift 168 = .ok (.getfield 93, 3) := dk_180 0 93 (dk_at dksX0_drift_7 7 rfl rfl)
theorem dX0_drift_171 : decode cX0_drift 171 = .ok (.aload_n 0, 1) := dk_42 (dk_at dksX0_drift_7 10 rfl rfl)
theorem dX0_drift_172 : decode cX0_drift 172 = .ok (.getfield 35, 3) := dk_180 0 35 (dk_at dksX0_drift_7 11 rfl rfl)
theorem dX0_drift_175 : decode cX0_drift 175 = .ok (.getfield 93, 3) := dk_180 0 93 (dk_at dksX0_drift_7 14 rfl rfl)
theorem dX0_drift_178 : decode cX0_drift 178 = .ok (.isub, 1) := dk_100 (dk_at dksX0_drift_7 17 rfl rfl)
theorem dX0_drift_179 : decode cX0_drift 179 = .ok (.ireturn, 1) := dk_172 (dk_at dksX0_drift_7 18 rfl rfl)
abbrev cX0_keep : ByteArray := prog_1_method_56_code
def yX0_keep : MethodName := ⟨RX0, "keep", "(I)I"⟩
def dkwX0_keep_2 : List UInt8 := [181, 0, 55, 28, 172]
abbrev dktX0_keep_2 : List UInt8 := dkwX0_keep_2 ++ []
def dkwX0_keep_1 : List UInt8 := [4, 167, 0, 4, 3, 61, 42, 180, 0, 51, 27, 50, 182, 0, 252, 42, 180, 0, 51, 27, 50, 4]
abbrev dktX0_keep_1 : List UInt8 := dkwX0_keep_1 ++ dktX0_keep_2
def dkwX0_keep_0 : List UInt8 := [27, 133, 9, 10, 184, 0, 5, 154, 0, 5, 2, 172, 42, 180, 0, 51, 27, 50, 180, 0, 55, 153, 0, 7]
abbrev dktX0_keep_0 : List UInt8 := dkwX0_keep_0 ++ dktX0_keep_1
theorem dksX0_keep_0 : cX0_keep.data.toList.drop 0 = dktX0_keep_0 := by decide +kernel
theorem dksX0_keep_1 : cX0_keep.data.toList.drop 24 = dktX0_keep_1 := dk_seg dksX0_keep_0 24 rfl rfl
theorem dksX0_keep_2 : cX0_keep.data.toList.drop 46 = dktX0_keep_2 := dk_seg dksX0_keep_1 22 rfl rfl
theorem dX0_keep_0 : decode cX0_keep 0 = .ok (.iload_n 1, 1) := dk_27 (dk_at dksX0_keep_0 0 rfl rfl)
theorem dX0_keep_1 : decode cX0_keep 1 = .ok (.i2l, 1) := dk_133 (dk_at dksX0_keep_0 1 rfl rfl)
theorem dX0_keep_2 : decode cX0_keep 2 = .ok (.lconst 0, 1) := dk_9 (dk_at dksX0_keep_0 2 rfl rfl)
theorem dX0_keep_3 : decode cX0_keep 3 = .ok (.lconst 1, 1) := dk_10 (dk_at dksX0_keep_0 3 rfl rfl)
theorem dX0_keep_4 : decode cX0_keep 4 = .ok (.invokestatic 5, 3) := dk_184 0 5 (dk_at dksX0_keep_0 4 rfl rfl)
theorem dX0_keep_7 : decode cX0_keep 7 = .ok (.ifCond .ne 5, 3) := dk_154 0 5 (dk_at dksX0_keep_0 7 rfl rfl)
theorem dX0_keep_10 : decode cX0_keep 10 = .ok (.iconst (-1), 1) := dk_2 (dk_at dksX0_keep_0 10 rfl rfl)
theorem dX0_keep_11 : decode cX0_keep 11 = .ok (.ireturn, 1) := dk_172 (dk_at dksX0_keep_0 11 rfl rfl)
theorem dX0_keep_12 : decode cX0_keep 12 = .ok (.aload_n 0, 1) := dk_42 (dk_at dksX0_keep_0 12 rfl rfl)
theorem dX0_keep_13 : decode cX0_keep 13 = .ok (.getfield 51, 3) := dk_180 0 51 (dk_at dksX0_keep_0 13 rfl rfl)
theorem dX0_keep_16 : decode cX0_keep 16 = .ok (.iload_n 1, 1) := dk_27 (dk_at dksX0_keep_0 16 rfl rfl)
theorem dX0_keep_17 : decode cX0_keep 17 = .ok (.aaload, 1) := dk_50 (dk_at dksX0_keep_0 17 rfl rfl)
theorem dX0_keep_18 : decode cX0_keep 18 = .ok (.getfield 55, 3) := dk_180 0 55 (dk_at dksX0_keep_0 18 rfl rfl)
theorem dX0_keep_21 : decode cX0_keep 21 = .ok (.ifCond .eq 7, 3) := dk_153 0 7 (dk_at dksX0_keep_0 21 rfl rfl)
theorem dX0_keep_24 : decode cX0_keep 24 = .ok (.iconst 1, 1) := dk_4 (dk_at dksX0_keep_1 0 rfl rfl)
theorem dX0_keep_25 : decode cX0_keep 25 = .ok (.goto 4, 3) := dk_167 0 4 (dk_at dksX0_keep_1 1 rfl rfl)
theorem dX0_keep_28 : decode cX0_keep 28 = .ok (.iconst 0, 1) := dk_3 (dk_at dksX0_keep_1 4 rfl rfl)
theorem dX0_keep_29 : decode cX0_keep 29 = .ok (.istore_n 2, 1) := dk_61 (dk_at dksX0_keep_1 5 rfl rfl)
theorem dX0_keep_30 : decode cX0_keep 30 = .ok (.aload_n 0, 1) := dk_42 (dk_at dksX0_keep_1 6 rfl rfl)
theorem dX0_keep_31 : decode cX0_keep 31 = .ok (.getfield 51, 3) := dk_180 0 51 (dk_at dksX0_keep_1 7 rfl rfl)
theorem dX0_keep_34 : decode cX0_keep 34 = .ok (.iload_n 1, 1) := dk_27 (dk_at dksX0_keep_1 10 rfl rfl)
theorem dX0_keep_35 : decode cX0_keep 35 = .ok (.aaload, 1) := dk_50 (dk_at dksX0_keep_1 11 rfl rfl)
theorem dX0_keep_36 : decode cX0_keep 36 = .ok (.invokevirtual 252, 3) := dk_182 0 252 (dk_at dksX0_keep_1 12 rfl rfl)
theorem dX0_keep_39 : decode cX0_keep 39 = .ok (.aload_n 0, 1) := dk_42 (dk_at dksX0_keep_1 15 rfl rfl)
theorem dX0_keep_40 : decode cX0_keep 40 = .ok (.getfield 51, 3) := dk_180 0 51 (dk_at dksX0_keep_1 16 rfl rfl)
theorem dX0_keep_43 : decode cX0_keep 43 = .ok (.iload_n 1, 1) := dk_27 (dk_at dksX0_keep_1 19 rfl rfl)
theorem dX0_keep_44 : decode cX0_keep 44 = .ok (.aaload, 1) := dk_50 (dk_at dksX0_keep_1 20 rfl rfl)
theorem dX0_keep_45 : decode cX0_keep 45 = .ok (.iconst 1, 1) := dk_4 (dk_at dksX0_keep_1 21 rfl rfl)
theorem dX0_keep_46 : decode cX0_keep 46 = .ok (.putfield 55, 3) := dk_181 0 55 (dk_at dksX0_keep_2 0 rfl rfl)
theorem dX0_keep_49 : decode cX0_keep 49 = .ok (.iload_n 2, 1) := dk_28 (dk_at dksX0_keep_2 3 rfl rfl)
theorem dX0_keep_50 : decode cX0_keep 50 = .ok (.ireturn, 1) := dk_172 (dk_at dksX0_keep_2 4 rfl rfl)
abbrev cX0_copies : ByteArray := prog_1_method_55_code
def yX0_copies : MethodName := ⟨RX0, "copies", "([[I[[I)V"⟩
def dkwX0_copies_1 : List UInt8 := [132, 2, 1, 167, 255, 232, 177]
abbrev dktX0_copies_1 : List UInt8 := dkwX0_copies_1 ++ []
def dkwX0_copies_0 : List UInt8 := [3, 61, 28, 42, 190, 162, 0, 24, 42, 28, 50, 3, 43, 28, 50, 3, 42, 28, 50, 190, 184, 0, 19]
abbrev dktX0_copies_0 : List UInt8 := dkwX0_copies_0 ++ dktX0_copies_1
theorem dksX0_copies_0 : cX0_copies.data.toList.drop 0 = dktX0_copies_0 := by decide +kernel
theorem dksX0_copies_1 : cX0_copies.data.toList.drop 23 = dktX0_copies_1 := dk_seg dksX0_copies_0 23 rfl rfl
theorem dX0_copies_0 : decode cX0_copies 0 = .ok (.iconst 0, 1) := dk_3 (dk_at dksX0_copies_0 0 rfl rfl)
theorem dX0_copies_1 : decode cX0_copies 1 = .ok (.istore_n 2, 1) := dk_61 (dk_at dksX0_copies_0 1 rfl rfl)
theorem dX0_copies_2 : decode cX0_copies 2 = .ok (.iload_n 2, 1) := dk_28 (dk_at dksX0_copies_0 2 rfl rfl)
theorem dX0_copies_3 : decode cX0_copies 3 = .ok (.aload_n 0, 1) := dk_42 (dk_at dksX0_copies_0 3 rfl rfl)
theorem dX0_copies_4 : decode cX0_copies 4 = .ok (.arraylength, 1) := dk_190 (dk_at dksX0_copies_0 4 rfl rfl)
theorem dX0_copies_5 : decode cX0_copies 5 = .ok (.if_icmp .ge 24, 3) := dk_162 0 24 (dk_at dksX0_copies_0 5 rfl rfl)
theorem dX0_copies_8 : decode cX0_copies 8 = .ok (.aload_n 0, 1) := dk_42 (dk_at dksX0_copies_0 8 rfl rfl)
theorem dX0_copies_9 : decode cX0_copies 9 = .ok (.iload_n 2, 1) := dk_28 (dk_at dksX0_copies_0 9 rfl rfl)
theorem dX0_copies_10 : decode cX0_copies 10 = .ok (.aaload, 1) := dk_50 (dk_at dksX0_copies_0 10 rfl rfl)
theorem dX0_copies_11 : decode cX0_copies 11 = .ok (.iconst 0, 1) := dk_3 (dk_at dksX0_copies_0 11 rfl rfl)
theorem dX0_copies_12 : decode cX0_copies 12 = .ok (.aload_n 1, 1) := dk_43 (dk_at dksX0_copies_0 12 rfl rfl)
theorem dX0_copies_13 : decode cX0_copies 13 = .ok (.iload_n 2, 1) := dk_28 (dk_at dksX0_copies_0 13 rfl rfl)
theorem dX0_copies_14 : decode cX0_copies 14 = .ok (.aaload, 1) := dk_50 (dk_at dksX0_copies_0 14 rfl rfl)
theorem dX0_copies_15 : decode cX0_copies 15 = .ok (.iconst 0, 1) := dk_3 (dk_at dksX0_copies_0 15 rfl rfl)
theorem dX0_copies_16 : decode cX0_copies 16 = .ok (.aload_n 0, 1) := dk_42 (dk_at dksX0_copies_0 16 rfl rfl)
theorem dX0_copies_17 : decode cX0_copies 17 = .ok (.iload_n 2, 1) := dk_28 (dk_at dksX0_copies_0 17 rfl rfl)
theorem dX0_copies_18 : decode cX0_copies 18 = .ok (.aaload, 1) := dk_50 (dk_at dksX0_copies_0 18 rfl rfl)
theorem dX0_copies_19 : decode cX0_copies 19 = .ok (.arraylength, 1) := dk_190 (dk_at dksX0_copies_0 19 rfl rfl)
theorem dX0_copies_20 : decode cX0_copies 20 = .ok (.invokestatic 19, 3) := dk_184 0 19 (dk_at dksX0_copies_0 20 rfl rfl)
theorem dX0_copies_23 : decode cX0_copies 23 = .ok (.iinc 2 1, 3) := dk_132 2 1 (dk_at dksX0_copies_1 0 rfl rfl)
theorem dX0_copies_26 : decode cX0_copies 26 = .ok (.goto (-24), 3) := dk_167 255 232 (dk_at dksX0_copies_1 3 rfl rfl)
theorem dX0_copies_29 : decode cX0_copies 29 = .ok (.return_, 1) := dk_177 (dk_at dksX0_copies_1 6 rfl rfl)
abbrev cX0_back : ByteArray := prog_1_method_57_code
def yX0_back : MethodName := ⟨RX0, "back", "(I)I"⟩
def dkwX0_back_1 : List UInt8 := [16, 254, 172, 42, 180, 0, 51, 27, 50, 182, 0, 254, 42, 180, 0, 35, 180, 0, 87, 172]
abbrev dktX0_back_1 : List UInt8 := dkwX0_back_1 ++ []
def dkwX0_back_0 : List UInt8 := [27, 133, 9, 10, 184, 0, 5, 154, 0, 5, 2, 172, 42, 180, 0, 51, 27, 50, 180, 0, 55, 154, 0, 6]
abbrev dktX0_back_0 : List UInt8 := dkwX0_back_0 ++ dktX0_back_1
theorem dksX0_back_0 : cX0_back.data.toList.drop 0 = dktX0_back_0 := by decide +kernel
theorem dksX0_back_1 : cX0_back.data.toList.drop 24 = dktX0_back_1 := dk_seg dksX0_back_0 24 rfl rfl
theorem dX0_back_0 : decode cX0_back 0 = .ok (.iload_n 1, 1) := dk_27 (dk_at dksX0_back_0 0 rfl rfl)
theorem dX0_back_1 : decode cX0_back 1 = .ok (.i2l, 1) := dk_133 (dk_at dksX0_back_0 1 rfl rfl)
theorem dX0_back_2 : decode cX0_back 2 = .ok (.lconst 0, 1) := dk_9 (dk_at dksX0_back_0 2 rfl rfl)
theorem dX0_back_3 : decode cX0_back 3 = .ok (.lconst 1, 1) := dk_10 (dk_at dksX0_back_0 3 rfl rfl)
theorem dX0_back_4 : decode cX0_back 4 = .ok (.invokestatic 5, 3) := dk_184 0 5 (dk_at dksX0_back_0 4 rfl rfl)
theorem dX0_back_7 : decode cX0_back 7 = .ok (.ifCond .ne 5, 3) := dk_154 0 5 (dk_at dksX0_back_0 7 rfl rfl)
theorem dX0_back_10 : decode cX0_back 10 = .ok (.iconst (-1), 1) := dk_2 (dk_at dksX0_back_0 10 rfl rfl)
theorem dX0_back_11 : decode cX0_back 11 = .ok (.ireturn, 1) := dk_172 (dk_at dksX0_back_0 11 rfl rfl)
theorem dX0_back_12 : decode cX0_back 12 = .ok (.aload_n 0, 1) := dk_42 (dk_at dksX0_back_0 12 rfl rfl)
theorem dX0_back_13 : decode cX0_back 13 = .ok (.getfield 51, 3) := dk_180 0 51 (dk_at dksX0_back_0 13 rfl rfl)
theorem dX0_back_16 : decode cX0_back 16 = .ok (.iload_n 1, 1) := dk_27 (dk_at dksX0_back_0 16 rfl rfl)
theorem dX0_back_17 : decode cX0_back 17 = .ok (.aaload, 1) := dk_50 (dk_at dksX0_back_0 17 rfl rfl)
theorem dX0_back_18 : decode cX0_back 18 = .ok (.getfield 55, 3) := dk_180 0 55 (dk_at dksX0_back_0 18 rfl rfl)
theorem dX0_back_21 : decode cX0_back 21 = .ok (.ifCond .ne 6, 3) := dk_154 0 6 (dk_at dksX0_back_0 21 rfl rfl)
theorem dX0_back_24 : decode cX0_back 24 = .ok (.bipush (-2), 2) := dk_16 254 (dk_at dksX0_back_1 0 rfl rfl)
theorem dX0_back_26 : decode cX0_back 26 = .ok (.ireturn, 1) := dk_172 (dk_at dksX0_back_1 2 rfl rfl)
theorem dX0_back_27 : decode cX0_back 27 = .ok (.aload_n 0, 1) := dk_42 (dk_at dksX0_back_1 3 rfl rfl)
theorem dX0_back_28 : decode cX0_back 28 = .ok (.getfield 51, 3) := dk_180 0 51 (dk_at dksX0_back_1 4 rfl rfl)
theorem dX0_back_31 : decode cX0_back 31 = .ok (.iload_n 1, 1) := dk_27 (dk_at dksX0_back_1 7 rfl rfl)
theorem dX0_back_32 : decode cX0_back 32 = .ok (.aaload, 1) := dk_50 (dk_at dksX0_back_1 8 rfl rfl)
theorem dX0_back_33 : decode cX0_back 33 = .ok (.invokevirtual 254, 3) := dk_182 0 254 (dk_at dksX0_back_1 9 rfl rfl)
theorem dX0_back_36 : decode cX0_back 36 = .ok (.aload_n 0, 1) := dk_42 (dk_at dksX0_back_1 12 rfl rfl)
theorem dX0_back_37 : decode cX0_back 37 = .ok (.getfield 35, 3) := dk_180 0 35 (dk_at dksX0_back_1 13 rfl rfl)
theorem dX0_back_40 : decode cX0_back 40 = .ok (.getfield 87, 3) := dk_180 0 87 (dk_at dksX0_back_1 16 rfl rfl)
theorem dX0_back_43 : decode cX0_back 43 = .ok (.ireturn, 1) := dk_172 (dk_at dksX0_back_1 19 rfl rfl)
abbrev cX0_init : ByteArray := prog_1_method_58_code
def yX0_init : MethodName := ⟨RX0, "<init>", "()V"⟩
def dkwX0_init_6 : List UInt8 := [183, 1, 15, 83, 89, 6, 187, 1, 13, 89, 183, 1, 15, 83, 181, 1, 16, 177]
abbrev dktX0_init_6 : List UInt8 := dkwX0_init_6 ++ []
def dkwX0_init_5 : List UInt8 := [187, 1, 13, 89, 183, 1, 15, 83, 89, 4, 187, 1, 13, 89, 183, 1, 15, 83, 89, 5, 187, 1, 13, 89]
abbrev dktX0_init_5 : List UInt8 := dkwX0_init_5 ++ dktX0_init_6
def dkwX0_init_4 : List UInt8 := [83, 181, 0, 51, 42, 187, 0, 43, 89, 183, 1, 5, 181, 1, 10, 42, 7, 189, 1, 13, 89, 3]
abbrev dktX0_init_4 : List UInt8 := dkwX0_init_4 ++ dktX0_init_5
def dkwX0_init_3 : List UInt8 := [189, 0, 56, 89, 3, 187, 0, 56, 89, 42, 183, 1, 7, 83, 89, 4, 187, 0, 56, 89, 42, 183, 1, 7]
abbrev dktX0_init_3 : List UInt8 := dkwX0_init_3 ++ dktX0_init_4
def dkwX0_init_2 : List UInt8 := [16, 6, 6, 197, 1, 6, 2, 181, 0, 228, 42, 7, 16, 105, 197, 1, 6, 2, 181, 0, 231, 42, 5]
abbrev dktX0_init_2 : List UInt8 := dkwX0_init_2 ++ dktX0_init_3
def dkwX0_init_1 : List UInt8 := [42, 187, 0, 43, 89, 183, 1, 5, 181, 0, 159, 42, 187, 0, 43, 89, 183, 1, 5, 181, 0, 190, 42]
abbrev dktX0_init_1 : List UInt8 := dkwX0_init_1 ++ dktX0_init_2
def dkwX0_init_0 : List UInt8 := [42, 183, 1, 1, 42, 17, 0, 160, 188, 8, 181, 0, 15, 42, 187, 0, 43, 89, 183, 1, 5, 181, 0, 35]
abbrev dktX0_init_0 : List UInt8 := dkwX0_init_0 ++ dktX0_init_1
theorem dksX0_init_0 : cX0_init.data.toList.drop 0 = dktX0_init_0 := by decide +kernel
theorem dksX0_init_1 : cX0_init.data.toList.drop 24 = dktX0_init_1 := dk_seg dksX0_init_0 24 rfl rfl
theorem dksX0_init_2 : cX0_init.data.toList.drop 47 = dktX0_init_2 := dk_seg dksX0_init_1 23 rfl rfl
theorem dksX0_init_3 : cX0_init.data.toList.drop 70 = dktX0_init_3 := dk_seg dksX0_init_2 23 rfl rfl
theorem dksX0_init_4 : cX0_init.data.toList.drop 94 = dktX0_init_4 := dk_seg dksX0_init_3 24 rfl rfl
theorem dksX0_init_5 : cX0_init.data.toList.drop 116 = dktX0_init_5 := dk_seg dksX0_init_4 22 rfl rfl
theorem dksX0_init_6 : cX0_init.data.toList.drop 140 = dktX0_init_6 := dk_seg dksX0_init_5 24 rfl rfl
theorem dX0_init_0 : decode cX0_init 0 = .ok (.aload_n 0, 1) := dk_42 (dk_at dksX0_init_0 0 rfl rfl)
theorem dX0_init_1 : decode cX0_init 1 = .ok (.invokespecial 257, 3) := dk_183 1 1 (dk_at dksX0_init_0 1 rfl rfl)
theorem dX0_init_4 : decode cX0_init 4 = .ok (.aload_n 0, 1) := dk_42 (dk_at dksX0_init_0 4 rfl rfl)
theorem dX0_init_5 : decode cX0_init 5 = .ok (.sipush 160, 3) := dk_17 0 160 (dk_at dksX0_init_0 5 rfl rfl)
theorem dX0_init_8 : decode cX0_init 8 = .ok (.newarray .byte, 2) := dk_188_8 (dk_at dksX0_init_0 8 rfl rfl)
theorem dX0_init_10 : decode cX0_init 10 = .ok (.putfield 15, 3) := dk_181 0 15 (dk_at dksX0_init_0 10 rfl rfl)
theorem dX0_init_13 : decode cX0_init 13 = .ok (.aload_n 0, 1) := dk_42 (dk_at dksX0_init_0 13 rfl rfl)
theorem dX0_init_14 : decode cX0_init 14 = .ok (.new 43, 3) := dk_187 0 43 (dk_at dksX0_init_0 14 rfl rfl)
theorem dX0_init_17 : decode cX0_init 17 = .ok (.dup, 1) := dk_89 (dk_at dksX0_init_0 17 rfl rfl)
theorem dX0_init_18 : decode cX0_init 18 = .ok (.invokespecial 261, 3) := dk_183 1 5 (dk_at dksX0_init_0 18 rfl rfl)
theorem dX0_init_21 : decode cX0_init 21 = .ok (.putfield 35, 3) := dk_181 0 35 (dk_at dksX0_init_0 21 rfl rfl)
theorem dX0_init_24 : decode cX0_init 24 = .ok (.aload_n 0, 1) := dk_42 (dk_at dksX0_init_1 0 rfl rfl)
theorem dX0_init_25 : decode cX0_init 25 = .ok (.new 43, 3) := dk_187 0 43 (dk_at dksX0_init_1 1 rfl rfl)
theorem dX0_init_28 : decode cX0_init 28 = .ok (.dup, 1) := dk_89 (dk_at dksX0_init_1 4 rfl rfl)
theorem dX0_init_29 : decode cX0_init 29 = .ok (.invokespecial 261, 3) := dk_183 1 5 (dk_at dksX0_init_1 5 rfl rfl)
theorem dX0_init_32 : decode cX0_init 32 = .ok (.putfield 159, 3) := dk_181 0 159 (dk_at dksX0_init_1 8 rfl rfl)
theorem dX0_init_35 : decode cX0_init 35 = .ok (.aload_n 0, 1) := dk_42 (dk_at dksX0_init_1 11 rfl rfl)
theorem dX0_init_36 : decode cX0_init 36 = .ok (.new 43, 3) := dk_187 0 43 (dk_at dksX0_init_1 12 rfl rfl)
theorem dX0_init_39 : decode cX0_init 39 = .ok (.dup, 1) := dk_89 (dk_at dksX0_init_1 15 rfl rfl)
theorem dX0_init_40 : decode cX0_init 40 = .ok (.invokespecial 261, 3) := dk_183 1 5 (dk_at dksX0_init_1 16 rfl rfl)
theorem dX0_init_43 : decode cX0_init 43 = .ok (.putfield 190, 3) := dk_181 0 190 (dk_at dksX0_init_1 19 rfl rfl)
theorem dX0_init_46 : decode cX0_init 46 = .ok (.aload_n 0, 1) := dk_42 (dk_at dksX0_init_1 22 rfl rfl)
theorem dX0_init_47 : decode cX0_init 47 = .ok (.bipush 6, 2) := dk_16 6 (dk_at dksX0_init_2 0 rfl rfl)
theorem dX0_init_49 : decode cX0_init 49 = .ok (.iconst 3, 1) := dk_6 (dk_at dksX0_init_2 2 rfl rfl)
theorem dX0_init_50 : decode cX0_init 50 = .ok (.multianewarray 262 2, 4) := by decide +kernel
theorem dX0_init_54 : decode cX0_init 54 = .ok (.putfield 228, 3) := dk_181 0 228 (dk_at dksX0_init_2 7 rfl rfl)
theorem dX0_init_57 : decode cX0_init 57 = .ok (.aload_n 0, 1) := dk_42 (dk_at dksX0_init_2 10 rfl rfl)
theorem dX0_init_58 : decode cX0_init 58 = .ok (.iconst 4, 1) := dk_7 (dk_at dksX0_init_2 11 rfl rfl)
theorem dX0_init_59 : decode cX0_init 59 = .ok (.bipush 105, 2) := dk_16 105 (dk_at dksX0_init_2 12 rfl rfl)
theorem dX0_init_61 : decode cX0_init 61 = .ok (.multianewarray 262 2, 4) := by decide +kernel
theorem dX0_init_65 : decode cX0_init 65 = .ok (.putfield 231, 3) := dk_181 0 231 (dk_at dksX0_init_2 18 rfl rfl)
theorem dX0_init_68 : decode cX0_init 68 = .ok (.aload_n 0, 1) := dk_42 (dk_at dksX0_init_2 21 rfl rfl)
theorem dX0_init_69 : decode cX0_init 69 = .ok (.iconst 2, 1) := dk_5 (dk_at dksX0_init_2 22 rfl rfl)
theorem dX0_init_70 : decode cX0_init 70 = .ok (.anewarray 56, 3) := dk_189 0 56 (dk_at dksX0_init_3 0 rfl rfl)
theorem dX0_init_73 : decode cX0_init 73 = .ok (.dup, 1) := dk_89 (dk_at dksX0_init_3 3 rfl rfl)
theorem dX0_init_74 : decode cX0_init 74 = .ok (.iconst 0, 1) := dk_3 (dk_at dksX0_init_3 4 rfl rfl)
theorem dX0_init_75 : decode cX0_init 75 = .ok (.new 56, 3) := dk_187 0 56 (dk_at dksX0_init_3 5 rfl rfl)
theorem dX0_init_78 : decode cX0_init 78 = .ok (.dup, 1) := dk_89 (dk_at dksX0_init_3 8 rfl rfl)
theorem dX0_init_79 : decode cX0_init 79 = .ok (.aload_n 0, 1) := dk_42 (dk_at dksX0_init_3 9 rfl rfl)
theorem dX0_init_80 : decode cX0_init 80 = .ok (.invokespecial 263, 3) := dk_183 1 7 (dk_at dksX0_init_3 10 rfl rfl)
theorem dX0_init_83 : decode cX0_init 83 = .ok (.aastore, 1) := dk_83 (dk_at dksX0_init_3 13 rfl rfl)
theorem dX0_init_84 : decode cX0_init 84 = .ok (.dup, 1) := dk_89 (dk_at dksX0_init_3 14 rfl rfl)
theorem dX0_init_85 : decode cX0_init 85 = .ok (.iconst 1, 1) := dk_4 (dk_at dksX0_init_3 15 rfl rfl)
theorem dX0_init_86 : decode cX0_init 86 = .ok (.new 56, 3) := dk_187 0 56 (dk_at dksX0_init_3 16 rfl rfl)
theorem dX0_init_89 : decode cX0_init 89 = .ok (.dup, 1) := dk_89 (dk_at dksX0_init_3 19 rfl rfl)
theorem dX0_init_90 : decode cX0_init 90 = .ok (.aload_n 0, 1) := dk_42 (dk_at dksX0_init_3 20 rfl rfl)
theorem dX0_init_91 : decode cX0_init 91 = .ok (.invokespecial 263, 3) := dk_183 1 7 (dk_at dksX0_init_3 21 rfl rfl)
theorem dX0_init_94 : decode cX0_init 94 = .ok (.aastore, 1) := dk_83 (dk_at dksX0_init_4 0 rfl rfl)
theorem dX0_init_95 : decode cX0_init 95 = .ok (.putfield 51, 3) := dk_181 0 51 (dk_at dksX0_init_4 1 rfl rfl)
theorem dX0_init_98 : decode cX0_init 98 = .ok (.aload_n 0, 1) := dk_42 (dk_at dksX0_init_4 4 rfl rfl)
theorem dX0_init_99 : decode cX0_init 99 = .ok (.new 43, 3) := dk_187 0 43 (dk_at dksX0_init_4 5 rfl rfl)
theorem dX0_init_102 : decode cX0_init 102 = .ok (.dup, 1) := dk_89 (dk_at dksX0_init_4 8 rfl rfl)
theorem dX0_init_103 : decode cX0_init 103 = .ok (.invokespecial 261, 3) := dk_183 1 5 (dk_at dksX0_init_4 9 rfl rfl)
theorem dX0_init_106 : decode cX0_init 106 = .ok (.putfield 266, 3) := dk_181 1 10 (dk_at dksX0_init_4 12 rfl rfl)
theorem dX0_init_109 : decode cX0_init 109 = .ok (.aload_n 0, 1) := dk_42 (dk_at dksX0_init_4 15 rfl rfl)
theorem dX0_init_110 : decode cX0_init 110 = .ok (.iconst 4, 1) := dk_7 (dk_at dksX0_init_4 16 rfl rfl)
theorem dX0_init_111 : decode cX0_init 111 = .ok (.anewarray 269, 3) := dk_189 1 13 (dk_at dksX0_init_4 17 rfl rfl)
theorem dX0_init_114 : decode cX0_init 114 = .ok (.dup, 1) := dk_89 (dk_at dksX0_init_4 20 rfl rfl)
theorem dX0_init_115 : decode cX0_init 115 = .ok (.iconst 0, 1) := dk_3 (dk_at dksX0_init_4 21 rfl rfl)
theorem dX0_init_116 : decode cX0_init 116 = .ok (.new 269, 3) := dk_187 1 13 (dk_at dksX0_init_5 0 rfl rfl)
theorem dX0_init_119 : decode cX0_init 119 = .ok (.dup, 1) := dk_89 (dk_at dksX0_init_5 3 rfl rfl)
theorem dX0_init_120 : decode cX0_init 120 = .ok (.invokespecial 271, 3) := dk_183 1 15 (dk_at dksX0_init_5 4 rfl rfl)
theorem dX0_init_123 : decode cX0_init 123 = .ok (.aastore, 1) := dk_83 (dk_at dksX0_init_5 7 rfl rfl)
theorem dX0_init_124 : decode cX0_init 124 = .ok (.dup, 1) := dk_89 (dk_at dksX0_init_5 8 rfl rfl)
theorem dX0_init_125 : decode cX0_init 125 = .ok (.iconst 1, 1) := dk_4 (dk_at dksX0_init_5 9 rfl rfl)
theorem dX0_init_126 : decode cX0_init 126 = .ok (.new 269, 3) := dk_187 1 13 (dk_at dksX0_init_5 10 rfl rfl)
theorem dX0_init_129 : decode cX0_init 129 = .ok (.dup, 1) := dk_89 (dk_at dksX0_init_5 13 rfl rfl)
theorem dX0_init_130 : decode cX0_init 130 = .ok (.invokespecial 271, 3) := dk_183 1 15 (dk_at dksX0_init_5 14 rfl rfl)
theorem dX0_init_133 : decode cX0_init 133 = .ok (.aastore, 1) := dk_83 (dk_at dksX0_init_5 17 rfl rfl)
theorem dX0_init_134 : decode cX0_init 134 = .ok (.dup, 1) := dk_89 (dk_at dksX0_init_5 18 rfl rfl)
theorem dX0_init_135 : decode cX0_init 135 = .ok (.iconst 2, 1) := dk_5 (dk_at dksX0_init_5 19 rfl rfl)
theorem dX0_init_136 : decode cX0_init 136 = .ok (.new 269, 3) := dk_187 1 13 (dk_at dksX0_init_5 20 rfl rfl)
theorem dX0_init_139 : decode cX0_init 139 = .ok (.dup, 1) := dk_89 (dk_at dksX0_init_5 23 rfl rfl)
theorem dX0_init_140 : decode cX0_init 140 = .ok (.invokespecial 271, 3) := dk_183 1 15 (dk_at dksX0_init_6 0 rfl rfl)
theorem dX0_init_143 : decode cX0_init 143 = .ok (.aastore, 1) := dk_83 (dk_at dksX0_init_6 3 rfl rfl)
theorem dX0_init_144 : decode cX0_init 144 = .ok (.dup, 1) := dk_89 (dk_at dksX0_init_6 4 rfl rfl)
theorem dX0_init_145 : decode cX0_init 145 = .ok (.iconst 3, 1) := dk_6 (dk_at dksX0_init_6 5 rfl rfl)
theorem dX0_init_146 : decode cX0_init 146 = .ok (.new 269, 3) := dk_187 1 13 (dk_at dksX0_init_6 6 rfl rfl)
theorem dX0_init_149 : decode cX0_init 149 = .ok (.dup, 1) := dk_89 (dk_at dksX0_init_6 9 rfl rfl)
theorem dX0_init_150 : decode cX0_init 150 = .ok (.invokespecial 271, 3) := dk_183 1 15 (dk_at dksX0_init_6 10 rfl rfl)
theorem dX0_init_153 : decode cX0_init 153 = .ok (.aastore, 1) := dk_83 (dk_at dksX0_init_6 13 rfl rfl)
theorem dX0_init_154 : decode cX0_init 154 = .ok (.putfield 272, 3) := dk_181 1 16 (dk_at dksX0_init_6 14 rfl rfl)
theorem dX0_init_157 : decode cX0_init 157 = .ok (.return_, 1) := dk_177 (dk_at dksX0_init_6 17 rfl rfl)
abbrev cX0_sheet : ByteArray := prog_1_method_60_code
def yX0_sheet : MethodName := ⟨RX0, "sheet", "(III)I"⟩
def dkwX0_sheet_2 : List UInt8 := [180, 1, 16, 27, 50, 29, 181, 1, 28, 4, 172, 58, 4, 16, 242, 172]
abbrev dktX0_sheet_2 : List UInt8 := dkwX0_sheet_2 ++ []
def dkwX0_sheet_1 : List UInt8 := [29, 16, 40, 164, 0, 5, 2, 172, 42, 180, 1, 16, 27, 50, 28, 29, 184, 1, 20, 181, 1, 24, 42]
abbrev dktX0_sheet_1 : List UInt8 := dkwX0_sheet_1 ++ dktX0_sheet_2
def dkwX0_sheet_0 : List UInt8 := [27, 133, 9, 20, 0, 139, 184, 0, 5, 153, 0, 21, 28, 133, 9, 20, 0, 127, 184, 0, 5, 153, 0, 9]
abbrev dktX0_sheet_0 : List UInt8 := dkwX0_sheet_0 ++ dktX0_sheet_1
theorem dksX0_sheet_0 : cX0_sheet.data.toList.drop 0 = dktX0_sheet_0 := by decide +kernel
theorem dksX0_sheet_1 : cX0_sheet.data.toList.drop 24 = dktX0_sheet_1 := dk_seg dksX0_sheet_0 24 rfl rfl
theorem dksX0_sheet_2 : cX0_sheet.data.toList.drop 47 = dktX0_sheet_2 := dk_seg dksX0_sheet_1 23 rfl rfl
theorem dX0_sheet_0 : decode cX0_sheet 0 = .ok (.iload_n 1, 1) := dk_27 (dk_at dksX0_sheet_0 0 rfl rfl)
theorem dX0_sheet_1 : decode cX0_sheet 1 = .ok (.i2l, 1) := dk_133 (dk_at dksX0_sheet_0 1 rfl rfl)
theorem dX0_sheet_2 : decode cX0_sheet 2 = .ok (.lconst 0, 1) := dk_9 (dk_at dksX0_sheet_0 2 rfl rfl)
theorem dX0_sheet_3 : decode cX0_sheet 3 = .ok (.ldc2_w 139, 3) := dk_20 0 139 (dk_at dksX0_sheet_0 3 rfl rfl)
theorem dX0_sheet_6 : decode cX0_sheet 6 = .ok (.invokestatic 5, 3) := dk_184 0 5 (dk_at dksX0_sheet_0 6 rfl rfl)
theorem dX0_sheet_9 : decode cX0_sheet 9 = .ok (.ifCond .eq 21, 3) := dk_153 0 21 (dk_at dksX0_sheet_0 9 rfl rfl)
theorem dX0_sheet_12 : decode cX0_sheet 12 = .ok (.iload_n 2, 1) := dk_28 (dk_at dksX0_sheet_0 12 rfl rfl)
theorem dX0_sheet_13 : decode cX0_sheet 13 = .ok (.i2l, 1) := dk_133 (dk_at dksX0_sheet_0 13 rfl rfl)
theorem dX0_sheet_14 : decode cX0_sheet 14 = .ok (.lconst 0, 1) := dk_9 (dk_at dksX0_sheet_0 14 rfl rfl)
theorem dX0_sheet_15 : decode cX0_sheet 15 = .ok (.ldc2_w 127, 3) := dk_20 0 127 (dk_at dksX0_sheet_0 15 rfl rfl)
theorem dX0_sheet_18 : decode cX0_sheet 18 = .ok (.invokestatic 5, 3) := dk_184 0 5 (dk_at dksX0_sheet_0 18 rfl rfl)
theorem dX0_sheet_21 : decode cX0_sheet 21 = .ok (.ifCond .eq 9, 3) := dk_153 0 9 (dk_at dksX0_sheet_0 21 rfl rfl)
theorem dX0_sheet_24 : decode cX0_sheet 24 = .ok (.iload_n 3, 1) := dk_29 (dk_at dksX0_sheet_1 0 rfl rfl)
theorem dX0_sheet_25 : decode cX0_sheet 25 = .ok (.bipush 40, 2) := dk_16 40 (dk_at dksX0_sheet_1 1 rfl rfl)
theorem dX0_sheet_27 : decode cX0_sheet 27 = .ok (.if_icmp .le 5, 3) := dk_164 0 5 (dk_at dksX0_sheet_1 3 rfl rfl)
theorem dX0_sheet_30 : decode cX0_sheet 30 = .ok (.iconst (-1), 1) := dk_2 (dk_at dksX0_sheet_1 6 rfl rfl)
theorem dX0_sheet_31 : decode cX0_sheet 31 = .ok (.ireturn, 1) := dk_172 (dk_at dksX0_sheet_1 7 rfl rfl)
theorem dX0_sheet_32 : decode cX0_sheet 32 = .ok (.aload_n 0, 1) := dk_42 (dk_at dksX0_sheet_1 8 rfl rfl)
theorem dX0_sheet_33 : decode cX0_sheet 33 = .ok (.getfield 272, 3) := dk_180 1 16 (dk_at dksX0_sheet_1 9 rfl rfl)
theorem dX0_sheet_36 : decode cX0_sheet 36 = .ok (.iload_n 1, 1) := dk_27 (dk_at dksX0_sheet_1 12 rfl rfl)
theorem dX0_sheet_37 : decode cX0_sheet 37 = .ok (.aaload, 1) := dk_50 (dk_at dksX0_sheet_1 13 rfl rfl)
theorem dX0_sheet_38 : decode cX0_sheet 38 = .ok (.iload_n 2, 1) := dk_28 (dk_at dksX0_sheet_1 14 rfl rfl)
theorem dX0_sheet_39 : decode cX0_sheet 39 = .ok (.iload_n 3, 1) := dk_29 (dk_at dksX0_sheet_1 15 rfl rfl)
theorem dX0_sheet_40 : decode cX0_sheet 40 = .ok (.invokestatic 276, 3) := dk_184 1 20 (dk_at dksX0_sheet_1 16 rfl rfl)
theorem dX0_sheet_43 : decode cX0_sheet 43 = .ok (.putfield 280, 3) := dk_181 1 24 (dk_at dksX0_sheet_1 19 rfl rfl)
theorem dX0_sheet_46 : decode cX0_sheet 46 = .ok (.aload_n 0, 1) := dk_42 (dk_at dksX0_sheet_1 22 rfl rfl)
theorem dX0_sheet_47 : decode cX0_sheet 47 = .ok (.getfield 272, 3) := dk_180 1 16 (dk_at dksX0_sheet_2 0 rfl rfl)
theorem dX0_sheet_50 : decode cX0_sheet 50 = .ok (.iload_n 1, 1) := dk_27 (dk_at dksX0_sheet_2 3 rfl rfl)
theorem dX0_sheet_51 : decode cX0_sheet 51 = .ok (.aaload, 1) := dk_50 (dk_at dksX0_sheet_2 4 rfl rfl)
theorem dX0_sheet_52 : decode cX0_sheet 52 = .ok (.iload_n 3, 1) := dk_29 (dk_at dksX0_sheet_2 5 rfl rfl)
theorem dX0_sheet_53 : decode cX0_sheet 53 = .ok (.putfield 284, 3) := dk_181 1 28 (dk_at dksX0_sheet_2 6 rfl rfl)
theorem dX0_sheet_56 : decode cX0_sheet 56 = .ok (.iconst 1, 1) := dk_4 (dk_at dksX0_sheet_2 9 rfl rfl)
theorem dX0_sheet_57 : decode cX0_sheet 57 = .ok (.ireturn, 1) := dk_172 (dk_at dksX0_sheet_2 10 rfl rfl)
theorem dX0_sheet_58 : decode cX0_sheet 58 = .ok (.astore 4, 2) := dk_58 4 (dk_at dksX0_sheet_2 11 rfl rfl)
theorem dX0_sheet_60 : decode cX0_sheet 60 = .ok (.bipush (-14), 2) := dk_16 242 (dk_at dksX0_sheet_2 13 rfl rfl)
theorem dX0_sheet_62 : decode cX0_sheet 62 = .ok (.ireturn, 1) := dk_172 (dk_at dksX0_sheet_2 15 rfl rfl)
abbrev cX0_newRow : ByteArray := prog_1_method_59_code
def yX0_newRow : MethodName := ⟨RX0, "newRow", "(II)Ljava/lang/Object;"⟩
def dkwX0_newRow_2 : List UInt8 := [27, 188, 8, 176, 27, 188, 9, 176, 27, 188, 10, 176]
abbrev dktX0_newRow_2 : List UInt8 := dkwX0_newRow_2 ++ []
def dkwX0_newRow_1 : List UInt8 := [171, 0, 0, 0, 0, 0, 35, 0, 0, 0, 2, 0, 0, 0, 0, 0, 0, 0, 27, 0, 0, 0, 1, 0, 0, 0, 31]
abbrev dktX0_newRow_1 : List UInt8 := dkwX0_newRow_1 ++ dktX0_newRow_2
def dkwX0_newRow_0 : List UInt8 := [26]
abbrev dktX0_newRow_0 : List UInt8 := dkwX0_newRow_0 ++ dktX0_newRow_1
theorem dksX0_newRow_0 : cX0_newRow.data.toList.drop 0 = dktX0_newRow_0 := by decide +kernel
theorem dksX0_newRow_1 : cX0_newRow.data.toList.drop 1 = dktX0_newRow_1 := dk_seg dksX0_newRow_0 1 rfl rfl
theorem dksX0_newRow_2 : cX0_newRow.data.toList.drop 28 = dktX0_newRow_2 := dk_seg dksX0_newRow_1 27 rfl rfl
theorem dX0_newRow_0 : decode cX0_newRow 0 = .ok (.iload_n 0, 1) := dk_26 (dk_at dksX0_newRow_0 0 rfl rfl)
theorem dX0_newRow_1 : decode cX0_newRow 1 = .ok (.lookupswitch 35 #[(0, 27), (1, 31)], 27) := by decide +kernel
theorem dX0_newRow_28 : decode cX0_newRow 28 = .ok (.iload_n 1, 1) := dk_27 (dk_at dksX0_newRow_2 0 rfl rfl)
theorem dX0_newRow_29 : decode cX0_newRow 29 = .ok (.newarray .byte, 2) := dk_188_8 (dk_at dksX0_newRow_2 1 rfl rfl)
theorem dX0_newRow_31 : decode cX0_newRow 31 = .ok (.areturn, 1) := dk_176 (dk_at dksX0_newRow_2 3 rfl rfl)
theorem dX0_newRow_32 : decode cX0_newRow 32 = .ok (.iload_n 1, 1) := dk_27 (dk_at dksX0_newRow_2 4 rfl rfl)
theorem dX0_newRow_33 : decode cX0_newRow 33 = .ok (.newarray .short, 2) := dk_188_9 (dk_at dksX0_newRow_2 5 rfl rfl)
theorem dX0_newRow_35 : decode cX0_newRow 35 = .ok (.areturn, 1) := dk_176 (dk_at dksX0_newRow_2 7 rfl rfl)
theorem dX0_newRow_36 : decode cX0_newRow 36 = .ok (.iload_n 1, 1) := dk_27 (dk_at dksX0_newRow_2 8 rfl rfl)
theorem dX0_newRow_37 : decode cX0_newRow 37 = .ok (.newarray .int, 2) := dk_188_10 (dk_at dksX0_newRow_2 9 rfl rfl)
theorem dX0_newRow_39 : decode cX0_newRow 39 = .ok (.areturn, 1) := dk_176 (dk_at dksX0_newRow_2 11 rfl rfl)
abbrev cX0_lay : ByteArray := prog_1_method_61_code
def yX0_lay : MethodName := ⟨RX0, "lay", "(III)I"⟩
def dkwX0_lay_3 : List UInt8 := [29, 79, 4, 172, 58, 5, 16, 245, 172, 58, 5, 16, 244, 172]
abbrev dktX0_lay_3 : List UInt8 := dkwX0_lay_3 ++ []
def dkwX0_lay_2 : List UInt8 := [193, 1, 34, 153, 0, 15, 25, 4, 192, 1, 34, 28, 29, 147, 86, 167, 0, 11, 25, 4, 192, 1, 36, 28]
abbrev dktX0_lay_2 : List UInt8 := dkwX0_lay_2 ++ dktX0_lay_3
def dkwX0_lay_1 : List UInt8 := [58, 4, 25, 4, 193, 1, 33, 153, 0, 15, 25, 4, 192, 1, 33, 28, 29, 145, 84, 167, 0, 31, 25, 4]
abbrev dktX0_lay_1 : List UInt8 := dkwX0_lay_1 ++ dktX0_lay_2
def dkwX0_lay_0 : List UInt8 := [27, 133, 9, 20, 0, 139, 184, 0, 5, 154, 0, 5, 2, 172, 42, 180, 1, 16, 27, 50, 180, 1, 24]
abbrev dktX0_lay_0 : List UInt8 := dkwX0_lay_0 ++ dktX0_lay_1
theorem dksX0_lay_0 : cX0_lay.data.toList.drop 0 = dktX0_lay_0 := by decide +kernel
theorem dksX0_lay_1 : cX0_lay.data.toList.drop 23 = dktX0_lay_1 := dk_seg dksX0_lay_0 23 rfl rfl
theorem dksX0_lay_2 : cX0_lay.data.toList.drop 47 = dktX0_lay_2 := dk_seg dksX0_lay_1 24 rfl rfl
theorem dksX0_lay_3 : cX0_lay.data.toList.drop 71 = dktX0_lay_3 := dk_seg dksX0_lay_2 24 rfl rfl
theorem dX0_lay_0 : decode cX0_lay 0 = .ok (.iload_n 1, 1) := dk_27 (dk_at dksX0_lay_0 0 rfl rfl)
theorem dX0_lay_1 : decode cX0_lay 1 = .ok (.i2l, 1) := dk_133 (dk_at dksX0_lay_0 1 rfl rfl)
theorem dX0_lay_2 : decode cX0_lay 2 = .ok (.lconst 0, 1) := dk_9 (dk_at dksX0_lay_0 2 rfl rfl)
theorem dX0_lay_3 : decode cX0_lay 3 = .ok (.ldc2_w 139, 3) := dk_20 0 139 (dk_at dksX0_lay_0 3 rfl rfl)
theorem dX0_lay_6 : decode cX0_lay 6 = .ok (.invokestatic 5, 3) := dk_184 0 5 (dk_at dksX0_lay_0 6 rfl rfl)
theorem dX0_lay_9 : decode cX0_lay 9 = .ok (.ifCond .ne 5, 3) := dk_154 0 5 (dk_at dksX0_lay_0 9 rfl rfl)
theorem dX0_lay_12 : decode cX0_lay 12 = .ok (.iconst (-1), 1) := dk_2 (dk_at dksX0_lay_0 12 rfl rfl)
theorem dX0_lay_13 : decode cX0_lay 13 = .ok (.ireturn, 1) := dk_172 (dk_at dksX0_lay_0 13 rfl rfl)
theorem dX0_lay_14 : decode cX0_lay 14 = .ok (.aload_n 0, 1) := dk_42 (dk_at dksX0_lay_0 14 rfl rfl)
theorem dX0_lay_15 : decode cX0_lay 15 = .ok (.getfield 272, 3) := dk_180 1 16 (dk_at dksX0_lay_0 15 rfl rfl)
theorem dX0_lay_18 : decode cX0_lay 18 = .ok (.iload_n 1, 1) := dk_27 (dk_at dksX0_lay_0 18 rfl rfl)
theorem dX0_lay_19 : decode cX0_lay 19 = .ok (.aaload, 1) := dk_50 (dk_at dksX0_lay_0 19 rfl rfl)
theorem dX0_lay_20 : decode cX0_lay 20 = .ok (.getfield 280, 3) := dk_180 1 24 (dk_at dksX0_lay_0 20 rfl rfl)
theorem dX0_lay_23 : decode cX0_lay 23 = .ok (.astore 4, 2) := dk_58 4 (dk_at dksX0_lay_1 0 rfl rfl)
theorem dX0_lay_25 : decode cX0_lay 25 = .ok (.aload 4, 2) := dk_25 4 (dk_at dksX0_lay_1 2 rfl rfl)
theorem dX0_lay_27 : decode cX0_lay 27 = .ok (.instanceof 289, 3) := dk_193 1 33 (dk_at dksX0_lay_1 4 rfl rfl)
theorem dX0_lay_30 : decode cX0_lay 30 = .ok (.ifCond .eq 15, 3) := dk_153 0 15 (dk_at dksX0_lay_1 7 rfl rfl)
theorem dX0_lay_33 : decode cX0_lay 33 = .ok (.aload 4, 2) := dk_25 4 (dk_at dksX0_lay_1 10 rfl rfl)
theorem dX0_lay_35 : decode cX0_lay 35 = .ok (.checkcast 289, 3) := dk_192 1 33 (dk_at dksX0_lay_1 12 rfl rfl)
theorem dX0_lay_38 : decode cX0_lay 38 = .ok (.iload_n 2, 1) := dk_28 (dk_at dksX0_lay_1 15 rfl rfl)
theorem dX0_lay_39 : decode cX0_lay 39 = .ok (.iload_n 3, 1) := dk_29 (dk_at dksX0_lay_1 16 rfl rfl)
theorem dX0_lay_40 : decode cX0_lay 40 = .ok (.i2b, 1) := dk_145 (dk_at dksX0_lay_1 17 rfl rfl)
theorem dX0_lay_41 : decode cX0_lay 41 = .ok (.bastore, 1) := dk_84 (dk_at dksX0_lay_1 18 rfl rfl)
theorem dX0_lay_42 : decode cX0_lay 42 = .ok (.goto 31, 3) := dk_167 0 31 (dk_at dksX0_lay_1 19 rfl rfl)
theorem dX0_lay_45 : decode cX0_lay 45 = .ok (.aload 4, 2) := dk_25 4 (dk_at dksX0_lay_1 22 rfl rfl)
theorem dX0_lay_47 : decode cX0_lay 47 = .ok (.instanceof 290, 3) := dk_193 1 34 (dk_at dksX0_lay_2 0 rfl rfl)
theorem dX0_lay_50 : decode cX0_lay 50 = .ok (.ifCond .eq 15, 3) := dk_153 0 15 (dk_at dksX0_lay_2 3 rfl rfl)
theorem dX0_lay_53 : decode cX0_lay 53 = .ok (.aload 4, 2) := dk_25 4 (dk_at dksX0_lay_2 6 rfl rfl)
theorem dX0_lay_55 : decode cX0_lay 55 = .ok (.checkcast 290, 3) := dk_192 1 34 (dk_at dksX0_lay_2 8 rfl rfl)
theorem dX0_lay_58 : decode cX0_lay 58 = .ok (.iload_n 2, 1) := dk_28 (dk_at dksX0_lay_2 11 rfl rfl)
theorem dX0_lay_59 : decode cX0_lay 59 = .ok (.iload_n 3, 1) := dk_29 (dk_at dksX0_lay_2 12 rfl rfl)
theorem dX0_lay_60 : decode cX0_lay 60 = .ok (.i2s, 1) := dk_147 (dk_at dksX0_lay_2 13 rfl rfl)
theorem dX0_lay_61 : decode cX0_lay 61 = .ok (.sastore, 1) := dk_86 (dk_at dksX0_lay_2 14 rfl rfl)
theorem dX0_lay_62 : decode cX0_lay 62 = .ok (.goto 11, 3) := dk_167 0 11 (dk_at dksX0_lay_2 15 rfl rfl)
theorem dX0_lay_65 : decode cX0_lay 65 = .ok (.aload 4, 2) := dk_25 4 (dk_at dksX0_lay_2 18 rfl rfl)
theorem dX0_lay_67 : decode cX0_lay 67 = .ok (.checkcast 292, 3) := dk_192 1 36 (dk_at dksX0_lay_2 20 rfl rfl)
theorem dX0_lay_70 : decode cX0_lay 70 = .ok (.iload_n 2, 1) := dk_28 (dk_at dksX0_lay_2 23 rfl rfl)
theorem dX0_lay_71 : decode cX0_lay 71 = .ok (.iload_n 3, 1) := dk_29 (dk_at dksX0_lay_3 0 rfl rfl)
theorem dX0_lay_72 : decode cX0_lay 72 = .ok (.iastore, 1) := dk_79 (dk_at dksX0_lay_3 1 rfl rfl)
theorem dX0_lay_73 : decode cX0_lay 73 = .ok (.iconst 1, 1) := dk_4 (dk_at dksX0_lay_3 2 rfl rfl)
theorem dX0_lay_74 : decode cX0_lay 74 = .ok (.ireturn, 1) := dk_172 (dk_at dksX0_lay_3 3 rfl rfl)
theorem dX0_lay_75 : decode cX0_lay 75 = .ok (.astore 5, 2) := dk_58 5 (dk_at dksX0_lay_3 4 rfl rfl)
theorem dX0_lay_77 : decode cX0_lay 77 = .ok (.bipush (-11), 2) := dk_16 245 (dk_at dksX0_lay_3 6 rfl rfl)
theorem dX0_lay_79 : decode cX0_lay 79 = .ok (.ireturn, 1) := dk_172 (dk_at dksX0_lay_3 8 rfl rfl)
theorem dX0_lay_80 : decode cX0_lay 80 = .ok (.astore 5, 2) := dk_58 5 (dk_at dksX0_lay_3 9 rfl rfl)
theorem dX0_lay_82 : decode cX0_lay 82 = .ok (.bipush (-12), 2) := dk_16 244 (dk_at dksX0_lay_3 11 rfl rfl)
theorem dX0_lay_84 : decode cX0_lay 84 = .ok (.ireturn, 1) := dk_172 (dk_at dksX0_lay_3 13 rfl rfl)
abbrev cX0_read : ByteArray := prog_1_method_64_code
def yX0_read : MethodName := ⟨RX0, "read", "(IIII)I"⟩
def dkwX0_read_4 : List UInt8 := [21, 5, 181, 1, 60, 42, 180, 1, 42, 172]
abbrev dktX0_read_4 : List UInt8 := dkwX0_read_4 ++ []
def dkwX0_read_3 : List UInt8 := [180, 1, 45, 153, 0, 19, 42, 180, 0, 35, 42, 180, 1, 10, 182, 0, 42, 42, 180, 1, 45, 172, 42]
abbrev dktX0_read_3 : List UInt8 := dkwX0_read_3 ++ dktX0_read_4
def dkwX0_read_2 : List UInt8 := [182, 0, 42, 42, 42, 180, 1, 16, 27, 50, 180, 1, 24, 28, 29, 21, 4, 182, 1, 56, 54, 5, 42]
abbrev dktX0_read_2 : List UInt8 := dkwX0_read_2 ++ dktX0_read_3
def dkwX0_read_1 : List UInt8 := [21, 4, 133, 9, 20, 1, 54, 184, 0, 5, 154, 0, 5, 2, 172, 42, 180, 1, 10, 42, 180, 0, 35]
abbrev dktX0_read_1 : List UInt8 := dkwX0_read_1 ++ dktX0_read_2
def dkwX0_read_0 : List UInt8 := [27, 133, 9, 20, 0, 139, 184, 0, 5, 153, 0, 28, 28, 133, 9, 20, 0, 127, 184, 0, 5, 153, 0, 16]
abbrev dktX0_read_0 : List UInt8 := dkwX0_read_0 ++ dktX0_read_1
theorem dksX0_read_0 : cX0_read.data.toList.drop 0 = dktX0_read_0 := by decide +kernel
theorem dksX0_read_1 : cX0_read.data.toList.drop 24 = dktX0_read_1 := dk_seg dksX0_read_0 24 rfl rfl
theorem dksX0_read_2 : cX0_read.data.toList.drop 47 = dktX0_read_2 := dk_seg dksX0_read_1 23 rfl rfl
theorem dksX0_read_3 : cX0_read.data.toList.drop 70 = dktX0_read_3 := dk_seg dksX0_read_2 23 rfl rfl
theorem dksX0_read_4 : cX0_read.data.toList.drop 93 = dktX0_read_4 := dk_seg dksX0_read_3 23 rfl rfl
theorem dX0_read_0 : decode cX0_read 0 = .ok (.iload_n 1, 1) := dk_27 (dk_at dksX0_read_0 0 rfl rfl)
theorem dX0_read_1 : decode cX0_read 1 = .ok (.i2l, 1) := dk_133 (dk_at dksX0_read_0 1 rfl rfl)
theorem dX0_read_2 : decode cX0_read 2 = .ok (.lconst 0, 1) := dk_9 (dk_at dksX0_read_0 2 rfl rfl)
theorem dX0_read_3 : decode cX0_read 3 = .ok (.ldc2_w 139, 3) := dk_20 0 139 (dk_at dksX0_read_0 3 rfl rfl)
theorem dX0_read_6 : decode cX0_read 6 = .ok (.invokestatic 5, 3) := dk_184 0 5 (dk_at dksX0_read_0 6 rfl rfl)
theorem dX0_read_9 : decode cX0_read 9 = .ok (.ifCond .eq 28, 3) := dk_153 0 28 (dk_at dksX0_read_0 9 rfl rfl)
theorem dX0_read_12 : decode cX0_read 12 = .ok (.iload_n 2, 1) := dk_28 (dk_at dksX0_read_0 12 rfl rfl)
theorem dX0_read_13 : decode cX0_read 13 = .ok (.i2l, 1) := dk_133 (dk_at dksX0_read_0 13 rfl rfl)
theorem dX0_read_14 : decode cX0_read 14 = .ok (.lconst 0, 1) := dk_9 (dk_at dksX0_read_0 14 rfl rfl)
theorem dX0_read_15 : decode cX0_read 15 = .ok (.ldc2_w 127, 3) := dk_20 0 127 (dk_at dksX0_read_0 15 rfl rfl)
theorem dX0_read_18 : decode cX0_read 18 = .ok (.invokestatic 5, 3) := dk_184 0 5 (dk_at dksX0_read_0 18 rfl rfl)
theorem dX0_read_21 : decode cX0_read 21 = .ok (.ifCond .eq 16, 3) := dk_153 0 16 (dk_at dksX0_read_0 21 rfl rfl)
theorem dX0_read_24 : decode cX0_read 24 = .ok (.iload 4, 2) := dk_21 4 (dk_at dksX0_read_1 0 rfl rfl)
theorem dX0_read_26 : decode cX0_read 26 = .ok (.i2l, 1) := dk_133 (dk_at dksX0_read_1 2 rfl rfl)
theorem dX0_read_27 : decode cX0_read 27 = .ok (.lconst 0, 1) := dk_9 (dk_at dksX0_read_1 3 rfl rfl)
theorem dX0_read_28 : decode cX0_read 28 = .ok (.ldc2_w 310, 3) := dk_20 1 54 (dk_at dksX0_read_1 4 rfl rfl)
theorem dX0_read_31 : decode cX0_read 31 = .ok (.invokestatic 5, 3) := dk_184 0 5 (dk_at dksX0_read_1 7 rfl rfl)
theorem dX0_read_34 : decode cX0_read 34 = .ok (.ifCond .ne 5, 3) := dk_154 0 5 (dk_at dksX0_read_1 10 rfl rfl)
theorem dX0_read_37 : decode cX0_read 37 = .ok (.iconst (-1), 1) := dk_2 (dk_at dksX0_read_1 13 rfl rfl)
theorem dX0_read_38 : decode cX0_read 38 = .ok (.ireturn, 1) := dk_172 (dk_at dksX0_read_1 14 rfl rfl)
theorem dX0_read_39 : decode cX0_read 39 = .ok (.aload_n 0, 1) := dk_42 (dk_at dksX0_read_1 15 rfl rfl)
theorem dX0_read_40 : decode cX0_read 40 = .ok (.getfield 266, 3) := dk_180 1 10 (dk_at dksX0_read_1 16 rfl rfl)
theorem dX0_read_43 : decode cX0_read 43 = .ok (.aload_n 0, 1) := dk_42 (dk_at dksX0_read_1 19 rfl rfl)
theorem dX0_read_44 : decode cX0_read 44 = .ok (.getfield 35, 3) := dk_180 0 35 (dk_at dksX0_read_1 20 rfl rfl)
theorem dX0_read_47 : decode cX0_read 47 = .ok (.invokevirtual 42, 3) := dk_182 0 42 (dk_at dksX0_read_2 0 rfl rfl)
theorem dX0_read_50 : decode cX0_read 50 = .ok (.aload_n 0, 1) := dk_42 (dk_at dksX0_read_2 3 rfl rfl)
theorem dX0_read_51 : decode cX0_read 51 = .ok (.aload_n 0, 1) := dk_42 (dk_at dksX0_read_2 4 rfl rfl)
theorem dX0_read_52 : decode cX0_read 52 = .ok (.getfield 272, 3) := dk_180 1 16 (dk_at dksX0_read_2 5 rfl rfl)
theorem dX0_read_55 : decode cX0_read 55 = .ok (.iload_n 1, 1) := dk_27 (dk_at dksX0_read_2 8 rfl rfl)
theorem dX0_read_56 : decode cX0_read 56 = .ok (.aaload, 1) := dk_50 (dk_at dksX0_read_2 9 rfl rfl)
theorem dX0_read_57 : decode cX0_read 57 = .ok (.getfield 280, 3) := dk_180 1 24 (dk_at dksX0_read_2 10 rfl rfl)
theorem dX0_read_60 : decode cX0_read 60 = .ok (.iload_n 2, 1) := dk_28 (dk_at dksX0_read_2 13 rfl rfl)
theorem dX0_read_61 : decode cX0_read 61 = .ok (.iload_n 3, 1) := dk_29 (dk_at dksX0_read_2 14 rfl rfl)
theorem dX0_read_62 : decode cX0_read 62 = .ok (.iload 4, 2) := dk_21 4 (dk_at dksX0_read_2 15 rfl rfl)
theorem dX0_read_64 : decode cX0_read 64 = .ok (.invokevirtual 312, 3) := dk_182 1 56 (dk_at dksX0_read_2 17 rfl rfl)
theorem dX0_read_67 : decode cX0_read 67 = .ok (.istore 5, 2) := dk_54 5 (dk_at dksX0_read_2 20 rfl rfl)
theorem dX0_read_69 : decode cX0_read 69 = .ok (.aload_n 0, 1) := dk_42 (dk_at dksX0_read_2 22 rfl rfl)
theorem dX0_read_70 : decode cX0_read 70 = .ok (.getfield 301, 3) := dk_180 1 45 (dk_at dksX0_read_3 0 rfl rfl)
theorem dX0_read_73 : decode cX0_read 73 = .ok (.ifCond .eq 19, 3) := dk_153 0 19 (dk_at dksX0_read_3 3 rfl rfl)
theorem dX0_read_76 : decode cX0_read 76 = .ok (.aload_n 0, 1) := dk_42 (dk_at dksX0_read_3 6 rfl rfl)
theorem dX0_read_77 : decode cX0_read 77 = .ok (.getfield 35, 3) := dk_180 0 35 (dk_at dksX0_read_3 7 rfl rfl)
theorem dX0_read_80 : decode cX0_read 80 = .ok (.aload_n 0, 1) := dk_42 (dk_at dksX0_read_3 10 rfl rfl)
theorem dX0_read_81 : decode cX0_read 81 = .ok (.getfield 266, 3) := dk_180 1 10 (dk_at dksX0_read_3 11 rfl rfl)
theorem dX0_read_84 : decode cX0_read 84 = .ok (.invokevirtual 42, 3) := dk_182 0 42 (dk_at dksX0_read_3 14 rfl rfl)
theorem dX0_read_87 : decode cX0_read 87 = .ok (.aload_n 0, 1) := dk_42 (dk_at dksX0_read_3 17 rfl rfl)
theorem dX0_read_88 : decode cX0_read 88 = .ok (.getfield 301, 3) := dk_180 1 45 (dk_at dksX0_read_3 18 rfl rfl)
theorem dX0_read_91 : decode cX0_read 91 = .ok (.ireturn, 1) := dk_172 (dk_at dksX0_read_3 21 rfl rfl)
theorem dX0_read_92 : decode cX0_read 92 = .ok (.aload_n 0, 1) := dk_42 (dk_at dksX0_read_3 22 rfl rfl)
theorem dX0_read_93 : decode cX0_read 93 = .ok (.iload 5, 2) := dk_21 5 (dk_at dksX0_read_4 0 rfl rfl)
theorem dX0_read_95 : decode cX0_read 95 = .ok (.putfield 316, 3) := dk_181 1 60 (dk_at dksX0_read_4 2 rfl rfl)
theorem dX0_read_98 : decode cX0_read 98 = .ok (.aload_n 0, 1) := dk_42 (dk_at dksX0_read_4 5 rfl rfl)
theorem dX0_read_99 : decode cX0_read 99 = .ok (.getfield 298, 3) := dk_180 1 42 (dk_at dksX0_read_4 6 rfl rfl)
theorem dX0_read_102 : decode cX0_read 102 = .ok (.ireturn, 1) := dk_172 (dk_at dksX0_read_4 9 rfl rfl)
abbrev cX0_takesIn : ByteArray := prog_1_method_63_code
def yX0_takesIn : MethodName := ⟨RX0, "takesIn", "(Ljava/lang/Object;III)I"⟩
def dkwX0_takesIn_5 : List UInt8 := [3, 172, 58, 5, 4, 172, 58, 5, 6, 172, 58, 5, 5, 172]
abbrev dktX0_takesIn_5 : List UInt8 := dkwX0_takesIn_5 ++ []
def dkwX0_takesIn_4 : List UInt8 := [42, 89, 180, 1, 42, 42, 180, 1, 45, 154, 0, 7, 4, 167, 0, 4, 3, 96, 181, 1, 42, 167, 255, 150]
abbrev dktX0_takesIn_4 : List UInt8 := dkwX0_takesIn_4 ++ dktX0_takesIn_5
def dkwX0_takesIn_3 : List UInt8 := [21, 7, 21, 8, 182, 0, 144, 156, 0, 13, 16, 236, 42, 180, 1, 42, 100, 167, 0, 4, 3, 181, 1, 45]
abbrev dktX0_takesIn_3 : List UInt8 := dkwX0_takesIn_3 ++ dktX0_takesIn_4
def dkwX0_takesIn_2 : List UInt8 := [21, 5, 4, 96, 184, 1, 48, 54, 7, 43, 28, 21, 5, 5, 96, 184, 1, 48, 54, 8, 42, 42, 21, 6]
abbrev dktX0_takesIn_2 : List UInt8 := dkwX0_takesIn_2 ++ dktX0_takesIn_3
def dkwX0_takesIn_1 : List UInt8 := [154, 0, 96, 29, 6, 42, 180, 1, 42, 104, 96, 54, 5, 43, 28, 21, 5, 184, 1, 48, 54, 6, 43, 28]
abbrev dktX0_takesIn_1 : List UInt8 := dkwX0_takesIn_1 ++ dktX0_takesIn_2
def dkwX0_takesIn_0 : List UInt8 := [42, 3, 181, 1, 42, 42, 3, 181, 1, 45, 42, 180, 1, 42, 21, 4, 162, 0, 103, 42, 180, 1, 45]
abbrev dktX0_takesIn_0 : List UInt8 := dkwX0_takesIn_0 ++ dktX0_takesIn_1
theorem dksX0_takesIn_0 : cX0_takesIn.data.toList.drop 0 = dktX0_takesIn_0 := by decide +kernel
theorem dksX0_takesIn_1 : cX0_takesIn.data.toList.drop 23 = dktX0_takesIn_1 := dk_seg dksX0_takesIn_0 23 rfl rfl
theorem dksX0_takesIn_2 : cX0_takesIn.data.toList.drop 47 = dktX0_takesIn_2 := dk_seg dksX0_takesIn_1 24 rfl rfl
theorem dksX0_takesIn_3 : cX0_takesIn.data.toList.drop 71 = dktX0_takesIn_3 := dk_seg dksX0_takesIn_2 24 rfl rfl
theorem dksX0_takesIn_4 : cX0_takesIn.data.toList.drop 95 = dktX0_takesIn_4 := dk_seg dksX0_takesIn_3 24 rfl rfl
theorem dksX0_takesIn_5 : cX0_takesIn.data.toList.drop 119 = dktX0_takesIn_5 := dk_seg dksX0_takesIn_4 24 rfl rfl
theorem dX0_takesIn_0 : decode cX0_takesIn 0 = .ok (.aload_n 0, 1) := dk_42 (dk_at dksX0_takesIn_0 0 rfl rfl)
theorem dX0_takesIn_1 : decode cX0_takesIn 1 = .ok (.iconst 0, 1) := dk_3 (dk_at dksX0_takesIn_0 1 rfl rfl)
theorem dX0_takesIn_2 : decode cX0_takesIn 2 = .ok (.putfield 298, 3) := dk_181 1 42 (dk_at dksX0_takesIn_0 2 rfl rfl)
theorem dX0_takesIn_5 : decode cX0_takesIn 5 = .ok (.aload_n 0, 1) := dk_42 (dk_at dksX0_takesIn_0 5 rfl rfl)
theorem dX0_takesIn_6 : decode cX0_takesIn 6 = .ok (.iconst 0, 1) := dk_3 (dk_at dksX0_takesIn_0 6 rfl rfl)
theorem dX0_takesIn_7 : decode cX0_takesIn 7 = .ok (.putfield 301, 3) := dk_181 1 45 (dk_at dksX0_takesIn_0 7 rfl rfl)
theorem dX0_takesIn_10 : decode cX0_takesIn 10 = .ok (.aload_n 0, 1) := dk_42 (dk_at dksX0_takesIn_0 10 rfl rfl)
theorem dX0_takesIn_11 : decode cX0_takesIn 11 = .ok (.getfield 298, 3) := dk_180 1 42 (dk_at dksX0_takesIn_0 11 rfl rfl)
theorem dX0_takesIn_14 : decode cX0_takesIn 14 = .ok (.iload 4, 2) := dk_21 4 (dk_at dksX0_takesIn_0 14 rfl rfl)
theorem dX0_takesIn_16 : decode cX0_takesIn 16 = .ok (.if_icmp .ge 103, 3) := dk_162 0 103 (dk_at dksX0_takesIn_0 16 rfl rfl)
theorem dX0_takesIn_19 : decode cX0_takesIn 19 = .ok (.aload_n 0, 1) := dk_42 (dk_at dksX0_takesIn_0 19 rfl rfl)
theorem dX0_takesIn_20 : decode cX0_takesIn 20 = .ok (.getfield 301, 3) := dk_180 1 45 (dk_at dksX0_takesIn_0 20 rfl rfl)
theorem dX0_takesIn_23 : decode cX0_takesIn 23 = .ok (.ifCond .ne 96, 3) := dk_154 0 96 (dk_at dksX0_takesIn_1 0 rfl rfl)
theorem dX0_takesIn_26 : decode cX0_takesIn 26 = .ok (.iload_n 3, 1) := dk_29 (dk_at dksX0_takesIn_1 3 rfl rfl)
theorem dX0_takesIn_27 : decode cX0_takesIn 27 = .ok (.iconst 3, 1) := dk_6 (dk_at dksX0_takesIn_1 4 rfl rfl)
theorem dX0_takesIn_28 : decode cX0_takesIn 28 = .ok (.aload_n 0, 1) := dk_42 (dk_at dksX0_takesIn_1 5 rfl rfl)
theorem dX0_takesIn_29 : decode cX0_takesIn 29 = .ok (.getfield 298, 3) := dk_180 1 42 (dk_at dksX0_takesIn_1 6 rfl rfl)
theorem dX0_takesIn_32 : decode cX0_takesIn 32 = .ok (.imul, 1) := dk_104 (dk_at dksX0_takesIn_1 9 rfl rfl)
theorem dX0_takesIn_33 : decode cX0_takesIn 33 = .ok (.iadd, 1) := dk_96 (dk_at dksX0_takesIn_1 10 rfl rfl)
theorem dX0_takesIn_34 : decode cX0_takesIn 34 = .ok (.istore 5, 2) := dk_54 5 (dk_at dksX0_takesIn_1 11 rfl rfl)
theorem dX0_takesIn_36 : decode cX0_takesIn 36 = .ok (.aload_n 1, 1) := dk_43 (dk_at dksX0_takesIn_1 13 rfl rfl)
theorem dX0_takesIn_37 : decode cX0_takesIn 37 = .ok (.iload_n 2, 1) := dk_28 (dk_at dksX0_takesIn_1 14 rfl rfl)
theorem dX0_takesIn_38 : decode cX0_takesIn 38 = .ok (.iload 5, 2) := dk_21 5 (dk_at dksX0_takesIn_1 15 rfl rfl)
theorem dX0_takesIn_40 : decode cX0_takesIn 40 = .ok (.invokestatic 304, 3) := dk_184 1 48 (dk_at dksX0_takesIn_1 17 rfl rfl)
theorem dX0_takesIn_43 : decode cX0_takesIn 43 = .ok (.istore 6, 2) := dk_54 6 (dk_at dksX0_takesIn_1 20 rfl rfl)
theorem dX0_takesIn_45 : decode cX0_takesIn 45 = .ok (.aload_n 1, 1) := dk_43 (dk_at dksX0_takesIn_1 22 rfl rfl)
theorem dX0_takesIn_46 : decode cX0_takesIn 46 = .ok (.iload_n 2, 1) := dk_28 (dk_at dksX0_takesIn_1 23 rfl rfl)
theorem dX0_takesIn_47 : decode cX0_takesIn 47 = .ok (.iload 5, 2) := dk_21 5 (dk_at dksX0_takesIn_2 0 rfl rfl)
theorem dX0_takesIn_49 : decode cX0_takesIn 49 = .ok (.iconst 1, 1) := dk_4 (dk_at dksX0_takesIn_2 2 rfl rfl)
theorem dX0_takesIn_50 : decode cX0_takesIn 50 = .ok (.iadd, 1) := dk_96 (dk_at dksX0_takesIn_2 3 rfl rfl)
theorem dX0_takesIn_51 : decode cX0_takesIn 51 = .ok (.invokestatic 304, 3) := dk_184 1 48 (dk_at dksX0_takesIn_2 4 rfl rfl)
theorem dX0_takesIn_54 : decode cX0_takesIn 54 = .ok (.istore 7, 2) := dk_54 7 (dk_at dksX0_takesIn_2 7 rfl rfl)
theorem dX0_takesIn_56 : decode cX0_takesIn 56 = .ok (.aload_n 1, 1) := dk_43 (dk_at dksX0_takesIn_2 9 rfl rfl)
theorem dX0_takesIn_57 : decode cX0_takesIn 57 = .ok (.iload_n 2, 1) := dk_28 (dk_at dksX0_takesIn_2 10 rfl rfl)
theorem dX0_takesIn_58 : decode cX0_takesIn 58 = .ok (.iload 5, 2) := dk_21 5 (dk_at dksX0_takesIn_2 11 rfl rfl)
theorem dX0_takesIn_60 : decode cX0_takesIn 60 = .ok (.iconst 2, 1) := dk_5 (dk_at dksX0_takesIn_2 13 rfl rfl)
theorem dX0_takesIn_61 : decode cX0_takesIn 61 = .ok (.iadd, 1) := dk_96 (dk_at dksX0_takesIn_2 14 rfl rfl)
theorem dX0_takesIn_62 : decode cX0_takesIn 62 = .ok (.invokestatic 304, 3) := dk_184 1 48 (dk_at dksX0_takesIn_2 15 rfl rfl)
theorem dX0_takesIn_65 : decode cX0_takesIn 65 = .ok (.istore 8, 2) := dk_54 8 (dk_at dksX0_takesIn_2 18 rfl rfl)
theorem dX0_takesIn_67 : decode cX0_takesIn 67 = .ok (.aload_n 0, 1) := dk_42 (dk_at dksX0_takesIn_2 20 rfl rfl)
theorem dX0_takesIn_68 : decode cX0_takesIn 68 = .ok (.aload_n 0, 1) := dk_42 (dk_at dksX0_takesIn_2 21 rfl rfl)
theorem dX0_takesIn_69 : decode cX0_takesIn 69 = .ok (.iload 6, 2) := dk_21 6 (dk_at dksX0_takesIn_2 22 rfl rfl)
theorem dX0_takesIn_71 : decode cX0_takesIn 71 = .ok (.iload 7, 2) := dk_21 7 (dk_at dksX0_takesIn_3 0 rfl rfl)
theorem dX0_takesIn_73 : decode cX0_takesIn 73 = .ok (.iload 8, 2) := dk_21 8 (dk_at dksX0_takesIn_3 2 rfl rfl)
theorem dX0_takesIn_75 : decode cX0_takesIn 75 = .ok (.invokevirtual 144, 3) := dk_182 0 144 (dk_at dksX0_takesIn_3 4 rfl rfl)
theorem dX0_takesIn_78 : decode cX0_takesIn 78 = .ok (.ifCond .ge 13, 3) := dk_156 0 13 (dk_at dksX0_takesIn_3 7 rfl rfl)
theorem dX0_takesIn_81 : decode cX0_takesIn 81 = .ok (.bipush (-20), 2) := dk_16 236 (dk_at dksX0_takesIn_3 10 rfl rfl)
theorem dX0_takesIn_83 : decode cX0_takesIn 83 = .ok (.aload_n 0, 1) := dk_42 (dk_at dksX0_takesIn_3 12 rfl rfl)
theorem dX0_takesIn_84 : decode cX0_takesIn 84 = .ok (.getfield 298, 3) := dk_180 1 42 (dk_at dksX0_takesIn_3 13 rfl rfl)
theorem dX0_takesIn_87 : decode cX0_takesIn 87 = .ok (.isub, 1) := dk_100 (dk_at dksX0_takesIn_3 16 rfl rfl)
theorem dX0_takesIn_88 : decode cX0_takesIn 88 = .ok (.goto 4, 3) := dk_167 0 4 (dk_at dksX0_takesIn_3 17 rfl rfl)
theorem dX0_takesIn_91 : decode cX0_takesIn 91 = .ok (.iconst 0, 1) := dk_3 (dk_at dksX0_takesIn_3 20 rfl rfl)
theorem dX0_takesIn_92 : decode cX0_takesIn 92 = .ok (.putfield 301, 3) := dk_181 1 45 (dk_at dksX0_takesIn_3 21 rfl rfl)
theorem dX0_takesIn_95 : decode cX0_takesIn 95 = .ok (.aload_n 0, 1) := dk_42 (dk_at dksX0_takesIn_4 0 rfl rfl)
theorem dX0_takesIn_96 : decode cX0_takesIn 96 = .ok (.dup, 1) := dk_89 (dk_at dksX0_takesIn_4 1 rfl rfl)
theorem dX0_takesIn_97 : decode cX0_takesIn 97 = .ok (.getfield 298, 3) := dk_180 1 42 (dk_at dksX0_takesIn_4 2 rfl rfl)
theorem dX0_takesIn_100 : decode cX0_takesIn 100 = .ok (.aload_n 0, 1) := dk_42 (dk_at dksX0_takesIn_4 5 rfl rfl)
theorem dX0_takesIn_101 : decode cX0_takesIn 101 = .ok (.getfield 301, 3) := dk_180 1 45 (dk_at dksX0_takesIn_4 6 rfl rfl)
theorem dX0_takesIn_104 : decode cX0_takesIn 104 = .ok (.ifCond .ne 7, 3) := dk_154 0 7 (dk_at dksX0_takesIn_4 9 rfl rfl)
theorem dX0_takesIn_107 : decode cX0_takesIn 107 = .ok (.iconst 1, 1) := dk_4 (dk_at dksX0_takesIn_4 12 rfl rfl)
theorem dX0_takesIn_108 : decode cX0_takesIn 108 = .ok (.goto 4, 3) := dk_167 0 4 (dk_at dksX0_takesIn_4 13 rfl rfl)
theorem dX0_takesIn_111 : decode cX0_takesIn 111 = .ok (.iconst 0, 1) := dk_3 (dk_at dksX0_takesIn_4 16 rfl rfl)
theorem dX0_takesIn_112 : decode cX0_takesIn 112 = .ok (.iadd, 1) := dk_96 (dk_at dksX0_takesIn_4 17 rfl rfl)
theorem dX0_takesIn_113 : decode cX0_takesIn 113 = .ok (.putfield 298, 3) := dk_181 1 42 (dk_at dksX0_takesIn_4 18 rfl rfl)
theorem dX0_takesIn_116 : decode cX0_takesIn 116 = .ok (.goto (-106), 3) := dk_167 255 150 (dk_at dksX0_takesIn_4 21 rfl rfl)
theorem dX0_takesIn_119 : decode cX0_takesIn 119 = .ok (.iconst 0, 1) := dk_3 (dk_at dksX0_takesIn_5 0 rfl rfl)
theorem dX0_takesIn_120 : decode cX0_takesIn 120 = .ok (.ireturn, 1) := dk_172 (dk_at dksX0_takesIn_5 1 rfl rfl)
theorem dX0_takesIn_121 : decode cX0_takesIn 121 = .ok (.astore 5, 2) := dk_58 5 (dk_at dksX0_takesIn_5 2 rfl rfl)
theorem dX0_takesIn_123 : decode cX0_takesIn 123 = .ok (.iconst 1, 1) := dk_4 (dk_at dksX0_takesIn_5 4 rfl rfl)
theorem dX0_takesIn_124 : decode cX0_takesIn 124 = .ok (.ireturn, 1) := dk_172 (dk_at dksX0_takesIn_5 5 rfl rfl)
theorem dX0_takesIn_125 : decode cX0_takesIn 125 = .ok (.astore 5, 2) := dk_58 5 (dk_at dksX0_takesIn_5 6 rfl rfl)
theorem dX0_takesIn_127 : decode cX0_takesIn 127 = .ok (.iconst 3, 1) := dk_6 (dk_at dksX0_takesIn_5 8 rfl rfl)
theorem dX0_takesIn_128 : decode cX0_takesIn 128 = .ok (.ireturn, 1) := dk_172 (dk_at dksX0_takesIn_5 9 rfl rfl)
theorem dX0_takesIn_129 : decode cX0_takesIn 129 = .ok (.astore 5, 2) := dk_58 5 (dk_at dksX0_takesIn_5 10 rfl rfl)
theorem dX0_takesIn_131 : decode cX0_takesIn 131 = .ok (.iconst 2, 1) := dk_5 (dk_at dksX0_takesIn_5 12 rfl rfl)
theorem dX0_takesIn_132 : decode cX0_takesIn 132 = .ok (.ireturn, 1) := dk_172 (dk_at dksX0_takesIn_5 13 rfl rfl)
abbrev cX0_cell : ByteArray := prog_1_method_62_code
def yX0_cell : MethodName := ⟨RX0, "cell", "(Ljava/lang/Object;II)I"⟩
def dkwX0_cell_1 : List UInt8 := [167, 0, 9, 42, 192, 1, 36, 28, 46, 172]
abbrev dktX0_cell_1 : List UInt8 := dkwX0_cell_1 ++ []
def dkwX0_cell_0 : List UInt8 := [27, 154, 0, 12, 42, 192, 1, 33, 28, 51, 167, 0, 23, 27, 4, 160, 0, 12, 42, 192, 1, 34, 28, 53]
abbrev dktX0_cell_0 : List UInt8 := dkwX0_cell_0 ++ dktX0_cell_1
theorem dksX0_cell_0 : cX0_cell.data.toList.drop 0 = dktX0_cell_0 := by decide +kernel
theorem dksX0_cell_1 : cX0_cell.data.toList.drop 24 = dktX0_cell_1 := dk_seg dksX0_cell_0 24 rfl rfl
theorem dX0_cell_0 : decode cX0_cell 0 = .ok (.iload_n 1, 1) := dk_27 (dk_at dksX0_cell_0 0 rfl rfl)
theorem dX0_cell_1 : decode cX0_cell 1 = .ok (.ifCond .ne 12, 3) := dk_154 0 12 (dk_at dksX0_cell_0 1 rfl rfl)
theorem dX0_cell_4 : decode cX0_cell 4 = .ok (.aload_n 0, 1) := dk_42 (dk_at dksX0_cell_0 4 rfl rfl)
theorem dX0_cell_5 : decode cX0_cell 5 = .ok (.checkcast 289, 3) := dk_192 1 33 (dk_at dksX0_cell_0 5 rfl rfl)
theorem dX0_cell_8 : decode cX0_cell 8 = .ok (.iload_n 2, 1) := dk_28 (dk_at dksX0_cell_0 8 rfl rfl)
theorem dX0_cell_9 : decode cX0_cell 9 = .ok (.baload, 1) := dk_51 (dk_at dksX0_cell_0 9 rfl rfl)
theorem dX0_cell_10 : decode cX0_cell 10 = .ok (.goto 23, 3) := dk_167 0 23 (dk_at dksX0_cell_0 10 rfl rfl)
theorem dX0_cell_13 : decode cX0_cell 13 = .ok (.iload_n 1, 1) := dk_27 (dk_at dksX0_cell_0 13 rfl rfl)
theorem dX0_cell_14 : decode cX0_cell 14 = .ok (.iconst 1, 1) := dk_4 (dk_at dksX0_cell_0 14 rfl rfl)
theorem dX0_cell_15 : decode cX0_cell 15 = .ok (.if_icmp .ne 12, 3) := dk_160 0 12 (dk_at dksX0_cell_0 15 rfl rfl)
theorem dX0_cell_18 : decode cX0_cell 18 = .ok (.aload_n 0, 1) := dk_42 (dk_at dksX0_cell_0 18 rfl rfl)
theorem dX0_cell_19 : decode cX0_cell 19 = .ok (.checkcast 290, 3) := dk_192 1 34 (dk_at dksX0_cell_0 19 rfl rfl)
theorem dX0_cell_22 : decode cX0_cell 22 = .ok (.iload_n 2, 1) := dk_28 (dk_at dksX0_cell_0 22 rfl rfl)
theorem dX0_cell_23 : decode cX0_cell 23 = .ok (.saload, 1) := dk_53 (dk_at dksX0_cell_0 23 rfl rfl)
theorem dX0_cell_24 : decode cX0_cell 24 = .ok (.goto 9, 3) := dk_167 0 9 (dk_at dksX0_cell_1 0 rfl rfl)
theorem dX0_cell_27 : decode cX0_cell 27 = .ok (.aload_n 0, 1) := dk_42 (dk_at dksX0_cell_1 3 rfl rfl)
theorem dX0_cell_28 : decode cX0_cell 28 = .ok (.checkcast 292, 3) := dk_192 1 36 (dk_at dksX0_cell_1 4 rfl rfl)
theorem dX0_cell_31 : decode cX0_cell 31 = .ok (.iload_n 2, 1) := dk_28 (dk_at dksX0_cell_1 7 rfl rfl)
theorem dX0_cell_32 : decode cX0_cell 32 = .ok (.iaload, 1) := dk_46 (dk_at dksX0_cell_1 8 rfl rfl)
theorem dX0_cell_33 : decode cX0_cell 33 = .ok (.ireturn, 1) := dk_172 (dk_at dksX0_cell_1 9 rfl rfl)
abbrev cX0_torn : ByteArray := prog_1_method_65_code
def yX0_torn : MethodName := ⟨RX0, "torn", "()I"⟩
theorem dX0_torn_0 : decode cX0_torn 0 = .ok (.aload_n 0, 1) := by decide +kernel
theorem dX0_torn_1 : decode cX0_torn 1 = .ok (.getfield 316, 3) := by decide +kernel
theorem dX0_torn_4 : decode cX0_torn 4 = .ok (.ireturn, 1) := by decide +kernel
abbrev cX0_count : ByteArray := prog_1_method_66_code
def yX0_count : MethodName := ⟨RX0, "count", "(I)I"⟩
def dkwX0_count_9 : List UInt8 := [180, 1, 28, 172, 28, 172, 29, 172, 2, 172]
abbrev dktX0_count_9 : List UInt8 := dkwX0_count_9 ++ []
def dkwX0_count_8 : List UInt8 := [180, 1, 16, 3, 50, 180, 1, 24, 199, 0, 8, 16, 252, 167, 0, 12, 42, 180, 1, 16, 3, 50]
abbrev dktX0_count_8 : List UInt8 := dkwX0_count_8 ++ dktX0_count_9
def dkwX0_count_7 : List UInt8 := [180, 0, 51, 4, 50, 180, 0, 55, 153, 0, 7, 4, 167, 0, 4, 3, 96, 172, 42, 180, 0, 11, 172, 42]
abbrev dktX0_count_7 : List UInt8 := dkwX0_count_7 ++ dktX0_count_8
def dkwX0_count_6 : List UInt8 := [42, 180, 0, 48, 172, 42, 180, 0, 51, 3, 50, 180, 0, 55, 153, 0, 7, 4, 167, 0, 4, 3, 42]
abbrev dktX0_count_6 : List UInt8 := dkwX0_count_6 ++ dktX0_count_7
def dkwX0_count_5 : List UInt8 := [170, 0, 0, 0, 114, 0, 0, 0, 0, 0, 0, 0, 5, 0, 0, 0, 37, 0, 0, 0, 42, 0, 0, 0, 78, 0, 0, 0, 83, 0, 0, 0, 110, 0, 0, 0, 112]
abbrev dktX0_count_5 : List UInt8 := dkwX0_count_5 ++ dktX0_count_6
def dkwX0_count_4 : List UInt8 := [132, 4, 1, 167, 255, 204, 27]
abbrev dktX0_count_4 : List UInt8 := dkwX0_count_4 ++ dktX0_count_5
def dkwX0_count_3 : List UInt8 := [29, 42, 180, 0, 35, 180, 0, 121, 21, 4, 50, 21, 5, 46, 96, 62, 132, 5, 1, 167, 255, 225]
abbrev dktX0_count_3 : List UInt8 := dkwX0_count_3 ++ dktX0_count_4
def dkwX0_count_2 : List UInt8 := [180, 0, 35, 180, 0, 75, 162, 0, 46, 3, 54, 5, 21, 5, 42, 180, 0, 35, 180, 0, 75, 162, 0, 25]
abbrev dktX0_count_2 : List UInt8 := dkwX0_count_2 ++ dktX0_count_3
def dkwX0_count_1 : List UInt8 := [180, 0, 129, 21, 4, 50, 5, 46, 96, 61, 132, 4, 1, 167, 255, 226, 3, 54, 4, 21, 4, 42]
abbrev dktX0_count_1 : List UInt8 := dkwX0_count_1 ++ dktX0_count_2
def dkwX0_count_0 : List UInt8 := [3, 61, 3, 62, 3, 54, 4, 21, 4, 42, 180, 0, 35, 180, 0, 82, 162, 0, 24, 28, 42, 180, 0, 35]
abbrev dktX0_count_0 : List UInt8 := dkwX0_count_0 ++ dktX0_count_1
theorem dksX0_count_0 : cX0_count.data.toList.drop 0 = dktX0_count_0 := by decide +kernel
theorem dksX0_count_1 : cX0_count.data.toList.drop 24 = dktX0_count_1 := dk_seg dksX0_count_0 24 rfl rfl
theorem dksX0_count_2 : cX0_count.data.toList.drop 46 = dktX0_count_2 := dk_seg dksX0_count_1 22 rfl rfl
theorem dksX0_count_3 : cX0_count.data.toList.drop 70 = dktX0_count_3 := dk_seg dksX0_count_2 24 rfl rfl
theorem dksX0_count_4 : cX0_count.data.toList.drop 92 = dktX0_count_4 := dk_seg dksX0_count_3 22 rfl rfl
theorem dksX0_count_5 : cX0_count.data.toList.drop 99 = dktX0_count_5 := dk_seg dksX0_count_4 7 rfl rfl
theorem dksX0_count_6 : cX0_count.data.toList.drop 136 = dktX0_count_6 := dk_seg dksX0_count_5 37 rfl rfl
theorem dksX0_count_7 : cX0_count.data.toList.drop 159 = dktX0_count_7 := dk_seg dksX0_count_6 23 rfl rfl
theorem dksX0_count_8 : cX0_count.data.toList.drop 183 = dktX0_count_8 := dk_seg dksX0_count_7 24 rfl rfl
theorem dksX0_count_9 : cX0_count.data.toList.drop 205 = dktX0_count_9 := dk_seg dksX0_count_8 22 rfl rfl
theorem dX0_count_0 : decode cX0_count 0 = .ok (.iconst 0, 1) := dk_3 (dk_at dksX0_count_0 0 rfl rfl)
theorem dX0_count_1 : decode cX0_count 1 = .ok (.istore_n 2, 1) := dk_61 (dk_at dksX0_count_0 1 rfl rfl)
theorem dX0_count_2 : decode cX0_count 2 = .ok (.iconst 0, 1) := dk_3 (dk_at dksX0_count_0 2 rfl rfl)
theorem dX0_count_3 : decode cX0_count 3 = .ok (.istore_n 3, 1) := dk_62 (dk_at dksX0_count_0 3 rfl rfl)
theorem dX0_count_4 : decode cX0_count 4 = .ok (.iconst 0, 1) := dk_3 (dk_at dksX0_count_0 4 rfl rfl)
theorem dX0_count_5 : decode cX0_count 5 = .ok (.istore 4, 2) := dk_54 4 (dk_at dksX0_count_0 5 rfl rfl)
theorem dX0_count_7 : decode cX0_count 7 = .ok (.iload 4, 2) := dk_21 4 (dk_at dksX0_count_0 7 rfl rfl)
theorem dX0_count_9 : decode cX0_count 9 = .ok (.aload_n 0, 1) := dk_42 (dk_at dksX0_count_0 9 rfl rfl)
theorem dX0_count_10 : decode cX0_count 10 = .ok (.getfield 35, 3) := dk_180 0 35 (dk_at dksX0_count_0 10 rfl rfl)
theorem dX0_count_13 : decode cX0_count 13 = .ok (.getfield 82, 3) := dk_180 0 82 (dk_at dksX0_count_0 13 rfl rfl)
theorem dX0_count_16 : decode cX0_count 16 = .ok (.if_icmp .ge 24, 3) := dk_162 0 24 (dk_at dksX0_count_0 16 rfl rfl)
theorem dX0_count_19 : decode cX0_count 19 = .ok (.iload_n 2, 1) := dk_28 (dk_at dksX0_count_0 19 rfl rfl)
theorem dX0_count_20 : decode cX0_count 20 = .ok (.aload_n 0, 1) := dk_42 (dk_at dksX0_count_0 20 rfl rfl)
theorem dX0_count_21 : decode cX0_count 21 = .ok (.getfield 35, 3) := dk_180 0 35 (dk_at dksX0_count_0 21 rfl rfl)
theorem dX0_count_24 : decode cX0_count 24 = .ok (.getfield 129, 3) := dk_180 0 129 (dk_at dksX0_count_1 0 rfl rfl)
theorem dX0_count_27 : decode cX0_count 27 = .ok (.iload 4, 2) := dk_21 4 (dk_at dksX0_count_1 3 rfl rfl)
theorem dX0_count_29 : decode cX0_count 29 = .ok (.aaload, 1) := dk_50 (dk_at dksX0_count_1 5 rfl rfl)
theorem dX0_count_30 : decode cX0_count 30 = .ok (.iconst 2, 1) := dk_5 (dk_at dksX0_count_1 6 rfl rfl)
theorem dX0_count_31 : decode cX0_count 31 = .ok (.iaload, 1) := dk_46 (dk_at dksX0_count_1 7 rfl rfl)
theorem dX0_count_32 : decode cX0_count 32 = .ok (.iadd, 1) := dk_96 (dk_at dksX0_count_1 8 rfl rfl)
theorem dX0_count_33 : decode cX0_count 33 = .ok (.istore_n 2, 1) := dk_61 (dk_at dksX0_count_1 9 rfl rfl)
theorem dX0_count_34 : decode cX0_count 34 = .ok (.iinc 4 1, 3) := dk_132 4 1 (dk_at dksX0_count_1 10 rfl rfl)
theorem dX0_count_37 : decode cX0_count 37 = .ok (.goto (-30), 3) := dk_167 255 226 (dk_at dksX0_count_1 13 rfl rfl)
theorem dX0_count_40 : decode cX0_count 40 = .ok (.iconst 0, 1) := dk_3 (dk_at dksX0_count_1 16 rfl rfl)
theorem dX0_count_41 : decode cX0_count 41 = .ok (.istore 4, 2) := dk_54 4 (dk_at dksX0_count_1 17 rfl rfl)
theorem dX0_count_43 : decode cX0_count 43 = .ok (.iload 4, 2) := dk_21 4 (dk_at dksX0_count_1 19 rfl rfl)
theorem dX0_count_45 : decode cX0_count 45 = .ok (.aload_n 0, 1) := dk_42 (dk_at dksX0_count_1 21 rfl rfl)
theorem dX0_count_46 : decode cX0_count 46 = .ok (.getfield 35, 3) := dk_180 0 35 (dk_at dksX0_count_2 0 rfl rfl)
theorem dX0_count_49 : decode cX0_count 49 = .ok (.getfield 75, 3) := dk_180 0 75 (dk_at dksX0_count_2 3 rfl rfl)
theorem dX0_count_52 : decode cX0_count 52 = .ok (.if_icmp .ge 46, 3) := dk_162 0 46 (dk_at dksX0_count_2 6 rfl rfl)
theorem dX0_count_55 : decode cX0_count 55 = .ok (.iconst 0, 1) := dk_3 (dk_at dksX0_count_2 9 rfl rfl)
theorem dX0_count_56 : decode cX0_count 56 = .ok (.istore 5, 2) := dk_54 5 (dk_at dksX0_count_2 10 rfl rfl)
theorem dX0_count_58 : decode cX0_count 58 = .ok (.iload 5, 2) := dk_21 5 (dk_at dksX0_count_2 12 rfl rfl)
theorem dX0_count_60 : decode cX0_count 60 = .ok (.aload_n 0, 1) := dk_42 (dk_at dksX0_count_2 14 rfl rfl)
theorem dX0_count_61 : decode cX0_count 61 = .ok (.getfield 35, 3) := dk_180 0 35 (dk_at dksX0_count_2 15 rfl rfl)
theorem dX0_count_64 : decode cX0_count 64 = .ok (.getfield 75, 3) := dk_180 0 75 (dk_at dksX0_count_2 18 rfl rfl)
theorem dX0_count_67 : decode cX0_count 67 = .ok (.if_icmp .ge 25, 3) := dk_162 0 25 (dk_at dksX0_count_2 21 rfl rfl)
theorem dX0_count_70 : decode cX0_count 70 = .ok (.iload_n 3, 1) := dk_29 (dk_at dksX0_count_3 0 rfl rfl)
theorem dX0_count_71 : decode cX0_count 71 = .ok (.aload_n 0, 1) := dk_42 (dk_at dksX0_count_3 1 rfl rfl)
theorem dX0_count_72 : decode cX0_count 72 = .ok (.getfield 35, 3) := dk_180 0 35 (dk_at dksX0_count_3 2 rfl rfl)
theorem dX0_count_75 : decode cX0_count 75 = .ok (.getfield 121, 3) := dk_180 0 121 (dk_at dksX0_count_3 5 rfl rfl)
theorem dX0_count_78 : decode cX0_count 78 = .ok (.iload 4, 2) := dk_21 4 (dk_at dksX0_count_3 8 rfl rfl)
theorem dX0_count_80 : decode cX0_count 80 = .ok (.aaload, 1) := dk_50 (dk_at dksX0_count_3 10 rfl rfl)
theorem dX0_count_81 : decode cX0_count 81 = .ok (.iload 5, 2) := dk_21 5 (dk_at dksX0_count_3 11 rfl rfl)
theorem dX0_count_83 : decode cX0_count 83 = .ok (.iaload, 1) := dk_46 (dk_at dksX0_count_3 13 rfl rfl)
theorem dX0_count_84 : decode cX0_count 84 = .ok (.iadd, 1) := dk_96 (dk_at dksX0_count_3 14 rfl rfl)
theorem dX0_count_85 : decode cX0_count 85 = .ok (.istore_n 3, 1) := dk_62 (dk_at dksX0_count_3 15 rfl rfl)
theorem dX0_count_86 : decode cX0_count 86 = .ok (.iinc 5 1, 3) := dk_132 5 1 (dk_at dksX0_count_3 16 rfl rfl)
theorem dX0_count_89 : decode cX0_count 89 = .ok (.goto (-31), 3) := dk_167 255 225 (dk_at dksX0_count_3 19 rfl rfl)
theorem dX0_count_92 : decode cX0_count 92 = .ok (.iinc 4 1, 3) := dk_132 4 1 (dk_at dksX0_count_4 0 rfl rfl)
theorem dX0_count_95 : decode cX0_count 95 = .ok (.goto (-52), 3) := dk_167 255 204 (dk_at dksX0_count_4 3 rfl rfl)
theorem dX0_count_98 : decode cX0_count 98 = .ok (.iload_n 1, 1) := dk_27 (dk_at dksX0_count_4 6 rfl rfl)
theorem dX0_count_99 : decode cX0_count 99 = .ok (.tableswitch 114 0 5 #[37, 42, 78, 83, 110, 112], 37) := by decide +kernel
theorem dX0_count_136 : decode cX0_count 136 = .ok (.aload_n 0, 1) := dk_42 (dk_at dksX0_count_6 0 rfl rfl)
theorem dX0_count_137 : decode cX0_count 137 = .ok (.getfield 48, 3) := dk_180 0 48 (dk_at dksX0_count_6 1 rfl rfl)
theorem dX0_count_140 : decode cX0_count 140 = .ok (.ireturn, 1) := dk_172 (dk_at dksX0_count_6 4 rfl rfl)
theorem dX0_count_141 : decode cX0_count 141 = .ok (.aload_n 0, 1) := dk_42 (dk_at dksX0_count_6 5 rfl rfl)
theorem dX0_count_142 : decode cX0_count 142 = .ok (.getfield 51, 3) := dk_180 0 51 (dk_at dksX0_count_6 6 rfl rfl)
theorem dX0_count_145 : decode cX0_count 145 = .ok (.iconst 0, 1) := dk_3 (dk_at dksX0_count_6 9 rfl rfl)
theorem dX0_count_146 : decode cX0_count 146 = .ok (.aaload, 1) := dk_50 (dk_at dksX0_count_6 10 rfl rfl)
theorem dX0_count_147 : decode cX0_count 147 = .ok (.getfield 55, 3) := dk_180 0 55 (dk_at dksX0_count_6 11 rfl rfl)
theorem dX0_count_150 : decode cX0_count 150 = .ok (.ifCond .eq 7, 3) := dk_153 0 7 (dk_at dksX0_count_6 14 rfl rfl)
theorem dX0_count_153 : decode cX0_count 153 = .ok (.iconst 1, 1) := dk_4 (dk_at dksX0_count_6 17 rfl rfl)
theorem dX0_count_154 : decode cX0_count 154 = .ok (.goto 4, 3) := dk_167 0 4 (dk_at dksX0_count_6 18 rfl rfl)
theorem dX0_count_157 : decode cX0_count 157 = .ok (.iconst 0, 1) := dk_3 (dk_at dksX0_count_6 21 rfl rfl)
theorem dX0_count_158 : decode cX0_count 158 = .ok (.aload_n 0, 1) := dk_42 (dk_at dksX0_count_6 22 rfl rfl)
theorem dX0_count_159 : decode cX0_count 159 = .ok (.getfield 51, 3) := dk_180 0 51 (dk_at dksX0_count_7 0 rfl rfl)
theorem dX0_count_162 : decode cX0_count 162 = .ok (.iconst 1, 1) := dk_4 (dk_at dksX0_count_7 3 rfl rfl)
theorem dX0_count_163 : decode cX0_count 163 = .ok (.aaload, 1) := dk_50 (dk_at dksX0_count_7 4 rfl rfl)
theorem dX0_count_164 : decode cX0_count 164 = .ok (.getfield 55, 3) := dk_180 0 55 (dk_at dksX0_count_7 5 rfl rfl)
theorem dX0_count_167 : decode cX0_count 167 = .ok (.ifCond .eq 7, 3) := dk_153 0 7 (dk_at dksX0_count_7 8 rfl rfl)
theorem dX0_count_170 : decode cX0_count 170 = .ok (.iconst 1, 1) := dk_4 (dk_at dksX0_count_7 11 rfl rfl)
theorem dX0_count_171 : decode cX0_count 171 = .ok (.goto 4, 3) := dk_167 0 4 (dk_at dksX0_count_7 12 rfl rfl)
theorem dX0_count_174 : decode cX0_count 174 = .ok (.iconst 0, 1) := dk_3 (dk_at dksX0_count_7 15 rfl rfl)
theorem dX0_count_175 : decode cX0_count 175 = .ok (.iadd, 1) := dk_96 (dk_at dksX0_count_7 16 rfl rfl)
theorem dX0_count_176 : decode cX0_count 176 = .ok (.ireturn, 1) := dk_172 (dk_at dksX0_count_7 17 rfl rfl)
theorem dX0_count_177 : decode cX0_count 177 = .ok (.aload_n 0, 1) := dk_42 (dk_at dksX0_count_7 18 rfl rfl)
theorem dX0_count_178 : decode cX0_count 178 = .ok (.getfield 11, 3) := dk_180 0 11 (dk_at dksX0_count_7 19 rfl rfl)
theorem dX0_count_181 : decode cX0_count 181 = .ok (.ireturn, 1) := dk_172 (dk_at dksX0_count_7 22 rfl rfl)
theorem dX0_count_182 : decode cX0_count 182 = .ok (.aload_n 0, 1) := dk_42 (dk_at dksX0_count_7 23 rfl rfl)
theorem dX0_count_183 : decode cX0_count 183 = .ok (.getfield 272, 3) := dk_180 1 16 (dk_at dksX0_count_8 0 rfl rfl)
theorem dX0_count_186 : decode cX0_count 186 = .ok (.iconst 0, 1) := dk_3 (dk_at dksX0_count_8 3 rfl rfl)
theorem dX0_count_187 : decode cX0_count 187 = .ok (.aaload, 1) := dk_50 (dk_at dksX0_count_8 4 rfl rfl)
theorem dX0_count_188 : decode cX0_count 188 = .ok (.getfield 280, 3) := dk_180 1 24 (dk_at dksX0_count_8 5 rfl rfl)
theorem dX0_count_191 : decode cX0_count 191 = .ok (.ifnonnull 8, 3) := dk_199 0 8 (dk_at dksX0_count_8 8 rfl rfl)
theorem dX0_count_194 : decode cX0_count 194 = .ok (.bipush (-4), 2) := dk_16 252 (dk_at dksX0_count_8 11 rfl rfl)
theorem dX0_count_196 : decode cX0_count 196 = .ok (.goto 12, 3) := dk_167 0 12 (dk_at dksX0_count_8 13 rfl rfl)
theorem dX0_count_199 : decode cX0_count 199 = .ok (.aload_n 0, 1) := dk_42 (dk_at dksX0_count_8 16 rfl rfl)
theorem dX0_count_200 : decode cX0_count 200 = .ok (.getfield 272, 3) := dk_180 1 16 (dk_at dksX0_count_8 17 rfl rfl)
theorem dX0_count_203 : decode cX0_count 203 = .ok (.iconst 0, 1) := dk_3 (dk_at dksX0_count_8 20 rfl rfl)
theorem dX0_count_204 : decode cX0_count 204 = .ok (.aaload, 1) := dk_50 (dk_at dksX0_count_8 21 rfl rfl)
theorem dX0_count_205 : decode cX0_count 205 = .ok (.getfield 284, 3) := dk_180 1 28 (dk_at dksX0_count_9 0 rfl rfl)
theorem dX0_count_208 : decode cX0_count 208 = .ok (.ireturn, 1) := dk_172 (dk_at dksX0_count_9 3 rfl rfl)
theorem dX0_count_209 : decode cX0_count 209 = .ok (.iload_n 2, 1) := dk_28 (dk_at dksX0_count_9 4 rfl rfl)
theorem dX0_count_210 : decode cX0_count 210 = .ok (.ireturn, 1) := dk_172 (dk_at dksX0_count_9 5 rfl rfl)
theorem dX0_count_211 : decode cX0_count 211 = .ok (.iload_n 3, 1) := dk_29 (dk_at dksX0_count_9 6 rfl rfl)
theorem dX0_count_212 : decode cX0_count 212 = .ok (.ireturn, 1) := dk_172 (dk_at dksX0_count_9 7 rfl rfl)
theorem dX0_count_213 : decode cX0_count 213 = .ok (.iconst (-1), 1) := dk_2 (dk_at dksX0_count_9 8 rfl rfl)
theorem dX0_count_214 : decode cX0_count 214 = .ok (.ireturn, 1) := dk_172 (dk_at dksX0_count_9 9 rfl rfl)
theorem q79 : (Jvm.Cond.initialized "TemperIsles") ∈ lw_all := lw_g (lw_at lw_m1 1 rfl) rfl
theorem q102 : (Jvm.Cond.instanceMethod ({ cls := "TemperIsles", name := "feed", desc := "(I)I" } : Jvm.MethodName)) ∈ lw_all := lw_g (lw_at lw_m1 24 rfl) rfl
theorem q103 : (Jvm.Cond.selects "TemperIsles" ({ cls := "TemperIsles", name := "feed", desc := "(I)I" } : Jvm.MethodName) ({ cls := "TemperIsles", name := "feed", desc := "(I)I" } : Jvm.MethodName)) ∈ lw_all := lw_g (lw_at lw_m1 25 rfl) rfl
theorem q104 : (Jvm.Cond.code ({ cls := "TemperIsles", name := "feed", desc := "(I)I" } : Jvm.MethodName) prog_1_method_4_code (2 : Nat) (Option.some Jvm.ClassFile.FieldType.int)) ∈ lw_all := lw_g (lw_at lw_m1 26 rfl) rfl
theorem q105 : (Jvm.Cond.constantLong "TemperIsles" (9 : Nat) (127 : Int64)) ∈ lw_all := lw_g (lw_at lw_m1 27 rfl) rfl
theorem q106 : (Jvm.Cond.methodLink "TemperIsles" (5 : Nat) ({ cls := "TemperIsles", name := "isIn", desc := "(JJJ)Z" } : Jvm.MethodName)) ∈ lw_all := lw_g (lw_at lw_m1 28 rfl) rfl
theorem q107 : (Jvm.Cond.static ({ cls := "TemperIsles", name := "isIn", desc := "(JJJ)Z" } : Jvm.MethodName)) ∈ lw_all := lw_g (lw_at lw_m1 29 rfl) rfl
theorem q108 : (Jvm.Cond.code ({ cls := "TemperIsles", name := "isIn", desc := "(JJJ)Z" } : Jvm.MethodName) prog_1_method_1_code (6 : Nat) (Option.some Jvm.ClassFile.FieldType.boolean)) ∈ lw_all := lw_g (lw_at lw_m1 30 rfl) rfl
theorem q110 : (Jvm.Cond.instanceMethod ({ cls := "TemperIsles", name := "end", desc := "(I)I" } : Jvm.MethodName)) ∈ lw_all := lw_g (lw_at lw_m1 32 rfl) rfl
theorem q111 : (Jvm.Cond.selects "TemperIsles" ({ cls := "TemperIsles", name := "end", desc := "(I)I" } : Jvm.MethodName) ({ cls := "TemperIsles", name := "end", desc := "(I)I" } : Jvm.MethodName)) ∈ lw_all := lw_g (lw_at lw_m1 33 rfl) rfl
theorem q112 : (Jvm.Cond.code ({ cls := "TemperIsles", name := "end", desc := "(I)I" } : Jvm.MethodName) prog_1_method_5_code (3 : Nat) (Option.some Jvm.ClassFile.FieldType.int)) ∈ lw_all := lw_g (lw_at lw_m1 34 rfl) rfl
theorem q114 : (Jvm.Cond.instanceMethod ({ cls := "TemperIsles", name := "text", desc := "()I" } : Jvm.MethodName)) ∈ lw_all := lw_g (lw_at lw_m1 36 rfl) rfl
theorem q115 : (Jvm.Cond.selects "TemperIsles" ({ cls := "TemperIsles", name := "text", desc := "()I" } : Jvm.MethodName) ({ cls := "TemperIsles", name := "text", desc := "()I" } : Jvm.MethodName)) ∈ lw_all := lw_g (lw_at lw_m1 37 rfl) rfl
theorem q116 : (Jvm.Cond.codeWith ({ cls := "TemperIsles", name := "text", desc := "()I" } : Jvm.MethodName) prog_1_method_6_code (3 : Nat) (Option.some Jvm.ClassFile.FieldType.int) [((26 : Nat), (84 : Nat), (85 : Nat), (67 : Nat))]) ∈ lw_all := lw_g (lw_at lw_m1 38 rfl) rfl
theorem q117 : (Jvm.Cond.classLink "TemperIsles" (67 : Nat) "TemperIsles$Fault") ∈ lw_all := lw_g (lw_at lw_m1 39 rfl) rfl
theorem q118 : (Jvm.Cond.methodLink "TemperIsles" (19 : Nat) ({ cls := "java/lang/System", name := "arraycopy", desc := "(Ljava/lang/Object;ILjava/lang/Object;II)V" } : Jvm.MethodName)) ∈ lw_all := lw_g (lw_at lw_m1 40 rfl) rfl
theorem q121 : (Jvm.Cond.classLink "TemperIsles" (25 : Nat) "TemperIsles$Reader") ∈ lw_all := lw_g (lw_at lw_m1 43 rfl) rfl
theorem q123 : (Jvm.Cond.methodLink "TemperIsles" (27 : Nat) ({ cls := "TemperIsles$Reader", name := "<init>", desc := "([B)V" } : Jvm.MethodName)) ∈ lw_all := lw_g (lw_at lw_m1 45 rfl) rfl
theorem q139 : (Jvm.Cond.fieldLinkNest "TemperIsles" (100 : Nat) "TemperIsles$Firth" "isles" "[[I" "TemperIsles") ∈ lw_tbl := lw_at lw_m1 61 rfl
theorem q142 : (Jvm.Cond.fieldLinkNest "TemperIsles" (121 : Nat) "TemperIsles$Firth" "crosses" "[[I" "TemperIsles") ∈ lw_tbl := lw_at lw_m1 64 rfl
theorem q144 : (Jvm.Cond.fieldLinkNest "TemperIsles" (129 : Nat) "TemperIsles$Firth" "ropes" "[[I" "TemperIsles") ∈ lw_tbl := lw_at lw_m1 66 rfl
theorem q147 : (Jvm.Cond.fieldLinkNest "TemperIsles" (75 : Nat) "TemperIsles$Firth" "isleMany" "I" "TemperIsles") ∈ lw_tbl := lw_at lw_m1 69 rfl
theorem q149 : (Jvm.Cond.fieldLinkNest "TemperIsles" (82 : Nat) "TemperIsles$Firth" "ropeMany" "I" "TemperIsles") ∈ lw_tbl := lw_at lw_m1 71 rfl
theorem q153 : (Jvm.Cond.fieldLinkNest "TemperIsles" (90 : Nat) "TemperIsles$Firth" "feast" "I" "TemperIsles") ∈ lw_tbl := lw_at lw_m1 75 rfl
theorem q155 : (Jvm.Cond.fieldLinkNest "TemperIsles" (87 : Nat) "TemperIsles$Firth" "day" "I" "TemperIsles") ∈ lw_tbl := lw_at lw_m1 77 rfl
theorem q157 : (Jvm.Cond.fieldLinkNest "TemperIsles" (93 : Nat) "TemperIsles$Firth" "bumps" "I" "TemperIsles") ∈ lw_tbl := lw_at lw_m1 79 rfl
theorem q263 : (Jvm.Cond.fieldLinkNest "TemperIsles" (69 : Nat) "TemperIsles$Fault" "code" "I" "TemperIsles") ∈ lw_tbl := lw_at lw_m1 185 rfl
theorem q265 : (Jvm.Cond.fieldLinkNest "TemperIsles" (72 : Nat) "TemperIsles$Fault" "place" "I" "TemperIsles") ∈ lw_tbl := lw_at lw_m1 187 rfl
theorem q285 : (Jvm.Cond.fieldLinkNest "TemperIsles" (39 : Nat) "TemperIsles$Reader" "firth" "LTemperIsles$Firth;" "TemperIsles") ∈ lw_tbl := lw_at lw_m1 207 rfl
theorem q289 : (Jvm.Cond.fieldLinkNest "TemperIsles" (64 : Nat) "TemperIsles$Reader" "lines" "I" "TemperIsles") ∈ lw_tbl := lw_at lw_m1 211 rfl
theorem q316 : (Jvm.Cond.methodLink "TemperIsles" (31 : Nat) ({ cls := "TemperIsles$Reader", name := "all", desc := "()V" } : Jvm.MethodName)) ∈ lw_all := lw_g (lw_at lw_m1 238 rfl) rfl
theorem q325 : (Jvm.Cond.laysStatic "TemperIsles" "NAMES" "[Ljava/lang/String;") ∈ lw_tbl := lw_at lw_m2 7 rfl
theorem q403 : (Jvm.Cond.static ({ cls := "TemperIsles", name := "has", desc := "(II)Z" } : Jvm.MethodName)) ∈ lw_all := lw_g (lw_at lw_m2 85 rfl) rfl
theorem q404 : (Jvm.Cond.code ({ cls := "TemperIsles", name := "has", desc := "(II)Z" } : Jvm.MethodName) prog_1_method_2_code (2 : Nat) (Option.some Jvm.ClassFile.FieldType.boolean)) ∈ lw_all := lw_g (lw_at lw_m2 86 rfl) rfl
theorem q424 : (Jvm.Cond.methodLink "TemperIsles" (42 : Nat) ({ cls := "TemperIsles$Firth", name := "takes", desc := "(LTemperIsles$Firth;)V" } : Jvm.MethodName)) ∈ lw_all := lw_g (lw_at lw_m2 106 rfl) rfl
theorem q430 : (Jvm.Cond.instanceMethod ({ cls := "TemperIsles", name := "fault", desc := "()I" } : Jvm.MethodName)) ∈ lw_all := lw_g (lw_at lw_m2 112 rfl) rfl
theorem q431 : (Jvm.Cond.selects "TemperIsles" ({ cls := "TemperIsles", name := "fault", desc := "()I" } : Jvm.MethodName) ({ cls := "TemperIsles", name := "fault", desc := "()I" } : Jvm.MethodName)) ∈ lw_all := lw_g (lw_at lw_m2 113 rfl) rfl
theorem q432 : (Jvm.Cond.code ({ cls := "TemperIsles", name := "fault", desc := "()I" } : Jvm.MethodName) prog_1_method_7_code (1 : Nat) (Option.some Jvm.ClassFile.FieldType.int)) ∈ lw_all := lw_g (lw_at lw_m2 114 rfl) rfl
theorem q434 : (Jvm.Cond.instanceMethod ({ cls := "TemperIsles", name := "rule", desc := "(I)I" } : Jvm.MethodName)) ∈ lw_all := lw_g (lw_at lw_m2 116 rfl) rfl
theorem q435 : (Jvm.Cond.selects "TemperIsles" ({ cls := "TemperIsles", name := "rule", desc := "(I)I" } : Jvm.MethodName) ({ cls := "TemperIsles", name := "rule", desc := "(I)I" } : Jvm.MethodName)) ∈ lw_all := lw_g (lw_at lw_m2 117 rfl) rfl
theorem q436 : (Jvm.Cond.code ({ cls := "TemperIsles", name := "rule", desc := "(I)I" } : Jvm.MethodName) prog_1_method_13_code (2 : Nat) (Option.some Jvm.ClassFile.FieldType.int)) ∈ lw_all := lw_g (lw_at lw_m2 118 rfl) rfl
theorem q437 : (Jvm.Cond.methodLink "TemperIsles" (96 : Nat) ({ cls := "TemperIsles$Firth", name := "spread", desc := "()I" } : Jvm.MethodName)) ∈ lw_all := lw_g (lw_at lw_m2 119 rfl) rfl
theorem q446 : (Jvm.Cond.instanceMethod ({ cls := "TemperIsles", name := "isle", desc := "(II)I" } : Jvm.MethodName)) ∈ lw_all := lw_g (lw_at lw_m2 128 rfl) rfl
theorem q447 : (Jvm.Cond.selects "TemperIsles" ({ cls := "TemperIsles", name := "isle", desc := "(II)I" } : Jvm.MethodName) ({ cls := "TemperIsles", name := "isle", desc := "(II)I" } : Jvm.MethodName)) ∈ lw_all := lw_g (lw_at lw_m2 129 rfl) rfl
theorem q448 : (Jvm.Cond.code ({ cls := "TemperIsles", name := "isle", desc := "(II)I" } : Jvm.MethodName) prog_1_method_14_code (3 : Nat) (Option.some Jvm.ClassFile.FieldType.int)) ∈ lw_all := lw_g (lw_at lw_m2 130 rfl) rfl
theorem q449 : (Jvm.Cond.methodLink "TemperIsles" (78 : Nat) ({ cls := "TemperIsles", name := "isIsle", desc := "(I)Z" } : Jvm.MethodName)) ∈ lw_all := lw_g (lw_at lw_m2 131 rfl) rfl
theorem q450 : (Jvm.Cond.privateMethod ({ cls := "TemperIsles", name := "isIsle", desc := "(I)Z" } : Jvm.MethodName)) ∈ lw_tbl := lw_at lw_m2 132 rfl
theorem q451 : (Jvm.Cond.instanceMethod ({ cls := "TemperIsles", name := "isIsle", desc := "(I)Z" } : Jvm.MethodName)) ∈ lw_all := lw_g (lw_at lw_m2 133 rfl) rfl
theorem q452 : (Jvm.Cond.instantiable "TemperIsles" (16 : Nat)) ∈ lw_all := lw_g (lw_at lw_m2 134 rfl) rfl
theorem q453 : (Jvm.Cond.code ({ cls := "TemperIsles", name := "isIsle", desc := "(I)Z" } : Jvm.MethodName) prog_1_method_8_code (2 : Nat) (Option.some Jvm.ClassFile.FieldType.boolean)) ∈ lw_all := lw_g (lw_at lw_m2 135 rfl) rfl
theorem q454 : (Jvm.Cond.methodLink "TemperIsles" (104 : Nat) ({ cls := "TemperIsles$Firth", name := "ropesOf", desc := "(I)I" } : Jvm.MethodName)) ∈ lw_all := lw_g (lw_at lw_m2 136 rfl) rfl
theorem q458 : (Jvm.Cond.methodLink "TemperIsles" (108 : Nat) ({ cls := "TemperIsles$Firth", name := "fathoms", desc := "(I)I" } : Jvm.MethodName)) ∈ lw_all := lw_g (lw_at lw_m2 140 rfl) rfl
theorem q463 : (Jvm.Cond.laysStatic "TemperIsles" "KINDS" "[LTemperIsles$Plain;") ∈ lw_tbl := lw_at lw_m2 145 rfl
theorem q492 : (Jvm.Cond.methodLink "TemperIsles" (111 : Nat) ({ cls := "TemperIsles$Firth", name := "sulk", desc := "(I)I" } : Jvm.MethodName)) ∈ lw_all := lw_g (lw_at lw_m2 174 rfl) rfl
theorem q493 : (Jvm.Cond.methodLink "TemperIsles" (114 : Nat) ({ cls := "TemperIsles$Firth", name := "nearest", desc := "(I)I" } : Jvm.MethodName)) ∈ lw_all := lw_g (lw_at lw_m2 175 rfl) rfl
theorem q502 : (Jvm.Cond.instanceMethod ({ cls := "TemperIsles", name := "cross", desc := "(II)I" } : Jvm.MethodName)) ∈ lw_all := lw_g (lw_at lw_m2 184 rfl) rfl
theorem q503 : (Jvm.Cond.selects "TemperIsles" ({ cls := "TemperIsles", name := "cross", desc := "(II)I" } : Jvm.MethodName) ({ cls := "TemperIsles", name := "cross", desc := "(II)I" } : Jvm.MethodName)) ∈ lw_all := lw_g (lw_at lw_m2 185 rfl) rfl
theorem q504 : (Jvm.Cond.code ({ cls := "TemperIsles", name := "cross", desc := "(II)I" } : Jvm.MethodName) prog_1_method_15_code (3 : Nat) (Option.some Jvm.ClassFile.FieldType.int)) ∈ lw_all := lw_g (lw_at lw_m2 186 rfl) rfl
theorem q505 : (Jvm.Cond.methodLink "TemperIsles" (117 : Nat) ({ cls := "TemperIsles", name := "areTwo", desc := "(II)Z" } : Jvm.MethodName)) ∈ lw_all := lw_g (lw_at lw_m2 187 rfl) rfl
theorem q506 : (Jvm.Cond.privateMethod ({ cls := "TemperIsles", name := "areTwo", desc := "(II)Z" } : Jvm.MethodName)) ∈ lw_tbl := lw_at lw_m2 188 rfl
theorem q507 : (Jvm.Cond.instanceMethod ({ cls := "TemperIsles", name := "areTwo", desc := "(II)Z" } : Jvm.MethodName)) ∈ lw_all := lw_g (lw_at lw_m2 189 rfl) rfl
theorem q508 : (Jvm.Cond.code ({ cls := "TemperIsles", name := "areTwo", desc := "(II)Z" } : Jvm.MethodName) prog_1_method_9_code (3 : Nat) (Option.some Jvm.ClassFile.FieldType.boolean)) ∈ lw_all := lw_g (lw_at lw_m2 190 rfl) rfl
theorem q510 : (Jvm.Cond.instanceMethod ({ cls := "TemperIsles", name := "rope", desc := "(II)I" } : Jvm.MethodName)) ∈ lw_all := lw_g (lw_at lw_m2 192 rfl) rfl
theorem q511 : (Jvm.Cond.selects "TemperIsles" ({ cls := "TemperIsles", name := "rope", desc := "(II)I" } : Jvm.MethodName) ({ cls := "TemperIsles", name := "rope", desc := "(II)I" } : Jvm.MethodName)) ∈ lw_all := lw_g (lw_at lw_m2 193 rfl) rfl
theorem q512 : (Jvm.Cond.code ({ cls := "TemperIsles", name := "rope", desc := "(II)I" } : Jvm.MethodName) prog_1_method_16_code (3 : Nat) (Option.some Jvm.ClassFile.FieldType.int)) ∈ lw_all := lw_g (lw_at lw_m2 194 rfl) rfl
theorem q513 : (Jvm.Cond.methodLink "TemperIsles" (124 : Nat) ({ cls := "TemperIsles", name := "isRope", desc := "(I)Z" } : Jvm.MethodName)) ∈ lw_all := lw_g (lw_at lw_m2 195 rfl) rfl
theorem q514 : (Jvm.Cond.privateMethod ({ cls := "TemperIsles", name := "isRope", desc := "(I)Z" } : Jvm.MethodName)) ∈ lw_tbl := lw_at lw_m2 196 rfl
theorem q515 : (Jvm.Cond.instanceMethod ({ cls := "TemperIsles", name := "isRope", desc := "(I)Z" } : Jvm.MethodName)) ∈ lw_all := lw_g (lw_at lw_m2 197 rfl) rfl
theorem q516 : (Jvm.Cond.code ({ cls := "TemperIsles", name := "isRope", desc := "(I)Z" } : Jvm.MethodName) prog_1_method_10_code (2 : Nat) (Option.some Jvm.ClassFile.FieldType.boolean)) ∈ lw_all := lw_g (lw_at lw_m2 198 rfl) rfl
theorem q517 : (Jvm.Cond.constantLong "TemperIsles" (127 : Nat) (2 : Int64)) ∈ lw_all := lw_g (lw_at lw_m2 199 rfl) rfl
theorem q519 : (Jvm.Cond.instanceMethod ({ cls := "TemperIsles", name := "far", desc := "(II)I" } : Jvm.MethodName)) ∈ lw_all := lw_g (lw_at lw_m2 201 rfl) rfl
theorem q520 : (Jvm.Cond.selects "TemperIsles" ({ cls := "TemperIsles", name := "far", desc := "(II)I" } : Jvm.MethodName) ({ cls := "TemperIsles", name := "far", desc := "(II)I" } : Jvm.MethodName)) ∈ lw_all := lw_g (lw_at lw_m2 202 rfl) rfl
theorem q521 : (Jvm.Cond.code ({ cls := "TemperIsles", name := "far", desc := "(II)I" } : Jvm.MethodName) prog_1_method_17_code (3 : Nat) (Option.some Jvm.ClassFile.FieldType.int)) ∈ lw_all := lw_g (lw_at lw_m2 203 rfl) rfl
theorem q522 : (Jvm.Cond.methodLink "TemperIsles" (132 : Nat) ({ cls := "TemperIsles$Firth", name := "apart", desc := "(II)I" } : Jvm.MethodName)) ∈ lw_all := lw_g (lw_at lw_m2 204 rfl) rfl
theorem q524 : (Jvm.Cond.instanceMethod ({ cls := "TemperIsles", name := "alter", desc := "(III)I" } : Jvm.MethodName)) ∈ lw_all := lw_g (lw_at lw_m2 206 rfl) rfl
theorem q525 : (Jvm.Cond.selects "TemperIsles" ({ cls := "TemperIsles", name := "alter", desc := "(III)I" } : Jvm.MethodName) ({ cls := "TemperIsles", name := "alter", desc := "(III)I" } : Jvm.MethodName)) ∈ lw_all := lw_g (lw_at lw_m2 207 rfl) rfl
theorem q526 : (Jvm.Cond.code ({ cls := "TemperIsles", name := "alter", desc := "(III)I" } : Jvm.MethodName) prog_1_method_18_code (7 : Nat) (Option.some Jvm.ClassFile.FieldType.int)) ∈ lw_all := lw_g (lw_at lw_m2 208 rfl) rfl
theorem q527 : (Jvm.Cond.methodLink "TemperIsles" (136 : Nat) ({ cls := "TemperIsles$Firth", name := "whoIsAt", desc := "(I)I" } : Jvm.MethodName)) ∈ lw_all := lw_g (lw_at lw_m2 209 rfl) rfl
theorem q528 : (Jvm.Cond.constantLong "TemperIsles" (139 : Nat) (3 : Int64)) ∈ lw_all := lw_g (lw_at lw_m2 210 rfl) rfl
theorem q529 : (Jvm.Cond.methodLink "TemperIsles" (141 : Nat) ({ cls := "TemperIsles", name := "isFathom", desc := "(I)Z" } : Jvm.MethodName)) ∈ lw_all := lw_g (lw_at lw_m2 211 rfl) rfl
theorem q530 : (Jvm.Cond.static ({ cls := "TemperIsles", name := "isFathom", desc := "(I)Z" } : Jvm.MethodName)) ∈ lw_all := lw_g (lw_at lw_m2 212 rfl) rfl
theorem q531 : (Jvm.Cond.code ({ cls := "TemperIsles", name := "isFathom", desc := "(I)Z" } : Jvm.MethodName) prog_1_method_3_code (1 : Nat) (Option.some Jvm.ClassFile.FieldType.boolean)) ∈ lw_all := lw_g (lw_at lw_m2 213 rfl) rfl
theorem q532 : (Jvm.Cond.constantLong "TemperIsles" (3 : Nat) (99 : Int64)) ∈ lw_all := lw_g (lw_at lw_m2 214 rfl) rfl
theorem q534 : (Jvm.Cond.instanceMethod ({ cls := "TemperIsles", name := "sulk", desc := "(III)I" } : Jvm.MethodName)) ∈ lw_all := lw_g (lw_at lw_m2 216 rfl) rfl
theorem q535 : (Jvm.Cond.selects "TemperIsles" ({ cls := "TemperIsles", name := "sulk", desc := "(III)I" } : Jvm.MethodName) ({ cls := "TemperIsles", name := "sulk", desc := "(III)I" } : Jvm.MethodName)) ∈ lw_all := lw_g (lw_at lw_m2 217 rfl) rfl
theorem q536 : (Jvm.Cond.code ({ cls := "TemperIsles", name := "sulk", desc := "(III)I" } : Jvm.MethodName) prog_1_method_20_code (4 : Nat) (Option.some Jvm.ClassFile.FieldType.int)) ∈ lw_all := lw_g (lw_at lw_m2 218 rfl) rfl
theorem q537 : (Jvm.Cond.methodLink "TemperIsles" (144 : Nat) ({ cls := "TemperIsles", name := "sulked", desc := "(III)I" } : Jvm.MethodName)) ∈ lw_all := lw_g (lw_at lw_m2 219 rfl) rfl
theorem q538 : (Jvm.Cond.privateMethod ({ cls := "TemperIsles", name := "sulked", desc := "(III)I" } : Jvm.MethodName)) ∈ lw_tbl := lw_at lw_m2 220 rfl
theorem q539 : (Jvm.Cond.instanceMethod ({ cls := "TemperIsles", name := "sulked", desc := "(III)I" } : Jvm.MethodName)) ∈ lw_all := lw_g (lw_at lw_m2 221 rfl) rfl
theorem q540 : (Jvm.Cond.code ({ cls := "TemperIsles", name := "sulked", desc := "(III)I" } : Jvm.MethodName) prog_1_method_19_code (5 : Nat) (Option.some Jvm.ClassFile.FieldType.int)) ∈ lw_all := lw_g (lw_at lw_m2 222 rfl) rfl
theorem q542 : (Jvm.Cond.instanceMethod ({ cls := "TemperIsles", name := "haul", desc := "(II)I" } : Jvm.MethodName)) ∈ lw_all := lw_g (lw_at lw_m2 224 rfl) rfl
theorem q543 : (Jvm.Cond.selects "TemperIsles" ({ cls := "TemperIsles", name := "haul", desc := "(II)I" } : Jvm.MethodName) ({ cls := "TemperIsles", name := "haul", desc := "(II)I" } : Jvm.MethodName)) ∈ lw_all := lw_g (lw_at lw_m2 225 rfl) rfl
theorem q544 : (Jvm.Cond.code ({ cls := "TemperIsles", name := "haul", desc := "(II)I" } : Jvm.MethodName) prog_1_method_21_code (4 : Nat) (Option.some Jvm.ClassFile.FieldType.int)) ∈ lw_all := lw_g (lw_at lw_m2 226 rfl) rfl
theorem q545 : (Jvm.Cond.constantLong "TemperIsles" (148 : Nat) (30 : Int64)) ∈ lw_all := lw_g (lw_at lw_m2 227 rfl) rfl
theorem q547 : (Jvm.Cond.instanceMethod ({ cls := "TemperIsles", name := "wed", desc := "(III)I" } : Jvm.MethodName)) ∈ lw_all := lw_g (lw_at lw_m2 229 rfl) rfl
theorem q548 : (Jvm.Cond.selects "TemperIsles" ({ cls := "TemperIsles", name := "wed", desc := "(III)I" } : Jvm.MethodName) ({ cls := "TemperIsles", name := "wed", desc := "(III)I" } : Jvm.MethodName)) ∈ lw_all := lw_g (lw_at lw_m2 230 rfl) rfl
theorem q549 : (Jvm.Cond.code ({ cls := "TemperIsles", name := "wed", desc := "(III)I" } : Jvm.MethodName) prog_1_method_22_code (4 : Nat) (Option.some Jvm.ClassFile.FieldType.int)) ∈ lw_all := lw_g (lw_at lw_m2 231 rfl) rfl
theorem q550 : (Jvm.Cond.methodLink "TemperIsles" (150 : Nat) ({ cls := "TemperIsles$Firth", name := "weds", desc := "(III)V" } : Jvm.MethodName)) ∈ lw_all := lw_g (lw_at lw_m2 232 rfl) rfl
theorem q552 : (Jvm.Cond.instanceMethod ({ cls := "TemperIsles", name := "loose", desc := "(I)I" } : Jvm.MethodName)) ∈ lw_all := lw_g (lw_at lw_m2 234 rfl) rfl
theorem q553 : (Jvm.Cond.selects "TemperIsles" ({ cls := "TemperIsles", name := "loose", desc := "(I)I" } : Jvm.MethodName) ({ cls := "TemperIsles", name := "loose", desc := "(I)I" } : Jvm.MethodName)) ∈ lw_all := lw_g (lw_at lw_m2 235 rfl) rfl
theorem q554 : (Jvm.Cond.code ({ cls := "TemperIsles", name := "loose", desc := "(I)I" } : Jvm.MethodName) prog_1_method_23_code (3 : Nat) (Option.some Jvm.ClassFile.FieldType.int)) ∈ lw_all := lw_g (lw_at lw_m2 236 rfl) rfl
theorem q556 : (Jvm.Cond.instanceMethod ({ cls := "TemperIsles", name := "feast", desc := "(I)I" } : Jvm.MethodName)) ∈ lw_all := lw_g (lw_at lw_m2 238 rfl) rfl
theorem q557 : (Jvm.Cond.selects "TemperIsles" ({ cls := "TemperIsles", name := "feast", desc := "(I)I" } : Jvm.MethodName) ({ cls := "TemperIsles", name := "feast", desc := "(I)I" } : Jvm.MethodName)) ∈ lw_all := lw_g (lw_at lw_m2 239 rfl) rfl
theorem q558 : (Jvm.Cond.code ({ cls := "TemperIsles", name := "feast", desc := "(I)I" } : Jvm.MethodName) prog_1_method_24_code (3 : Nat) (Option.some Jvm.ClassFile.FieldType.int)) ∈ lw_all := lw_g (lw_at lw_m3 0 rfl) rfl
theorem q559 : (Jvm.Cond.constantLong "TemperIsles" (154 : Nat) (6 : Int64)) ∈ lw_all := lw_g (lw_at lw_m3 1 rfl) rfl
theorem q561 : (Jvm.Cond.instanceMethod ({ cls := "TemperIsles", name := "days", desc := "(I)I" } : Jvm.MethodName)) ∈ lw_all := lw_g (lw_at lw_m3 3 rfl) rfl
theorem q562 : (Jvm.Cond.selects "TemperIsles" ({ cls := "TemperIsles", name := "days", desc := "(I)I" } : Jvm.MethodName) ({ cls := "TemperIsles", name := "days", desc := "(I)I" } : Jvm.MethodName)) ∈ lw_all := lw_g (lw_at lw_m3 4 rfl) rfl
theorem q563 : (Jvm.Cond.code ({ cls := "TemperIsles", name := "days", desc := "(I)I" } : Jvm.MethodName) prog_1_method_25_code (4 : Nat) (Option.some Jvm.ClassFile.FieldType.int)) ∈ lw_all := lw_g (lw_at lw_m3 5 rfl) rfl
theorem q564 : (Jvm.Cond.methodLink "TemperIsles" (156 : Nat) ({ cls := "TemperIsles$Firth", name := "dayGoes", desc := "()V" } : Jvm.MethodName)) ∈ lw_all := lw_g (lw_at lw_m3 6 rfl) rfl
theorem q588 : (Jvm.Cond.instanceMethod ({ cls := "TemperIsles", name := "runs", desc := "(II)I" } : Jvm.MethodName)) ∈ lw_all := lw_g (lw_at lw_m3 30 rfl) rfl
theorem q589 : (Jvm.Cond.selects "TemperIsles" ({ cls := "TemperIsles", name := "runs", desc := "(II)I" } : Jvm.MethodName) ({ cls := "TemperIsles", name := "runs", desc := "(II)I" } : Jvm.MethodName)) ∈ lw_all := lw_g (lw_at lw_m3 31 rfl) rfl
theorem q590 : (Jvm.Cond.code ({ cls := "TemperIsles", name := "runs", desc := "(II)I" } : Jvm.MethodName) prog_1_method_29_code (5 : Nat) (Option.some Jvm.ClassFile.FieldType.int)) ∈ lw_all := lw_g (lw_at lw_m3 32 rfl) rfl
theorem q591 : (Jvm.Cond.methodLink "TemperIsles" (169 : Nat) ({ cls := "TemperIsles", name := "isLong", desc := "(I)Z" } : Jvm.MethodName)) ∈ lw_all := lw_g (lw_at lw_m3 33 rfl) rfl
theorem q592 : (Jvm.Cond.static ({ cls := "TemperIsles", name := "isLong", desc := "(I)Z" } : Jvm.MethodName)) ∈ lw_all := lw_g (lw_at lw_m3 34 rfl) rfl
theorem q593 : (Jvm.Cond.code ({ cls := "TemperIsles", name := "isLong", desc := "(I)Z" } : Jvm.MethodName) prog_1_method_11_code (1 : Nat) (Option.some Jvm.ClassFile.FieldType.boolean)) ∈ lw_all := lw_g (lw_at lw_m3 35 rfl) rfl
theorem q594 : (Jvm.Cond.constantLong "TemperIsles" (85 : Nat) (60 : Int64)) ∈ lw_all := lw_g (lw_at lw_m3 36 rfl) rfl
theorem q595 : (Jvm.Cond.methodLink "TemperIsles" (172 : Nat) ({ cls := "java/lang/Math", name := "min", desc := "(II)I" } : Jvm.MethodName)) ∈ lw_all := lw_g (lw_at lw_m3 37 rfl) rfl
theorem q596 : (Jvm.Cond.methodLink "TemperIsles" (177 : Nat) ({ cls := "TemperIsles", name := "movedMany", desc := "()I" } : Jvm.MethodName)) ∈ lw_all := lw_g (lw_at lw_m3 38 rfl) rfl
theorem q597 : (Jvm.Cond.privateMethod ({ cls := "TemperIsles", name := "movedMany", desc := "()I" } : Jvm.MethodName)) ∈ lw_tbl := lw_at lw_m3 39 rfl
theorem q598 : (Jvm.Cond.instanceMethod ({ cls := "TemperIsles", name := "movedMany", desc := "()I" } : Jvm.MethodName)) ∈ lw_all := lw_g (lw_at lw_m3 40 rfl) rfl
theorem q599 : (Jvm.Cond.code ({ cls := "TemperIsles", name := "movedMany", desc := "()I" } : Jvm.MethodName) prog_1_method_28_code (3 : Nat) (Option.some Jvm.ClassFile.FieldType.int)) ∈ lw_all := lw_g (lw_at lw_m3 41 rfl) rfl
theorem q600 : (Jvm.Cond.methodLink "TemperIsles" (166 : Nat) ({ cls := "TemperIsles$Firth", name := "at", desc := "(I)I" } : Jvm.MethodName)) ∈ lw_all := lw_g (lw_at lw_m3 42 rfl) rfl
theorem q602 : (Jvm.Cond.instanceMethod ({ cls := "TemperIsles", name := "ahead", desc := "(II)I" } : Jvm.MethodName)) ∈ lw_all := lw_g (lw_at lw_m3 44 rfl) rfl
theorem q603 : (Jvm.Cond.selects "TemperIsles" ({ cls := "TemperIsles", name := "ahead", desc := "(II)I" } : Jvm.MethodName) ({ cls := "TemperIsles", name := "ahead", desc := "(II)I" } : Jvm.MethodName)) ∈ lw_all := lw_g (lw_at lw_m3 45 rfl) rfl
theorem q604 : (Jvm.Cond.code ({ cls := "TemperIsles", name := "ahead", desc := "(II)I" } : Jvm.MethodName) prog_1_method_30_code (3 : Nat) (Option.some Jvm.ClassFile.FieldType.int)) ∈ lw_all := lw_g (lw_at lw_m3 46 rfl) rfl
theorem q605 : (Jvm.Cond.methodLink "TemperIsles" (162 : Nat) ({ cls := "TemperIsles", name := "daysOf", desc := "(LTemperIsles$Firth;I)V" } : Jvm.MethodName)) ∈ lw_all := lw_g (lw_at lw_m3 47 rfl) rfl
theorem q606 : (Jvm.Cond.privateMethod ({ cls := "TemperIsles", name := "daysOf", desc := "(LTemperIsles$Firth;I)V" } : Jvm.MethodName)) ∈ lw_tbl := lw_at lw_m3 48 rfl
theorem q607 : (Jvm.Cond.instanceMethod ({ cls := "TemperIsles", name := "daysOf", desc := "(LTemperIsles$Firth;I)V" } : Jvm.MethodName)) ∈ lw_all := lw_g (lw_at lw_m3 49 rfl) rfl
theorem q608 : (Jvm.Cond.code ({ cls := "TemperIsles", name := "daysOf", desc := "(LTemperIsles$Firth;I)V" } : Jvm.MethodName) prog_1_method_26_code (4 : Nat) (Option.none : Option Jvm.ClassFile.FieldType)) ∈ lw_all := lw_g (lw_at lw_m3 50 rfl) rfl
theorem q610 : (Jvm.Cond.instanceMethod ({ cls := "TemperIsles", name := "within", desc := "(I)I" } : Jvm.MethodName)) ∈ lw_all := lw_g (lw_at lw_m3 52 rfl) rfl
theorem q611 : (Jvm.Cond.selects "TemperIsles" ({ cls := "TemperIsles", name := "within", desc := "(I)I" } : Jvm.MethodName) ({ cls := "TemperIsles", name := "within", desc := "(I)I" } : Jvm.MethodName)) ∈ lw_all := lw_g (lw_at lw_m3 53 rfl) rfl
theorem q612 : (Jvm.Cond.code ({ cls := "TemperIsles", name := "within", desc := "(I)I" } : Jvm.MethodName) prog_1_method_31_code (3 : Nat) (Option.some Jvm.ClassFile.FieldType.int)) ∈ lw_all := lw_g (lw_at lw_m3 54 rfl) rfl
theorem q614 : (Jvm.Cond.instanceMethod ({ cls := "TemperIsles", name := "match", desc := "(II)I" } : Jvm.MethodName)) ∈ lw_all := lw_g (lw_at lw_m3 56 rfl) rfl
theorem q615 : (Jvm.Cond.selects "TemperIsles" ({ cls := "TemperIsles", name := "match", desc := "(II)I" } : Jvm.MethodName) ({ cls := "TemperIsles", name := "match", desc := "(II)I" } : Jvm.MethodName)) ∈ lw_all := lw_g (lw_at lw_m3 57 rfl) rfl
theorem q616 : (Jvm.Cond.code ({ cls := "TemperIsles", name := "match", desc := "(II)I" } : Jvm.MethodName) prog_1_method_33_code (6 : Nat) (Option.some Jvm.ClassFile.FieldType.int)) ∈ lw_all := lw_g (lw_at lw_m3 58 rfl) rfl
theorem q617 : (Jvm.Cond.methodLink "TemperIsles" (183 : Nat) ({ cls := "TemperIsles", name := "isPart", desc := "(I)Z" } : Jvm.MethodName)) ∈ lw_all := lw_g (lw_at lw_m3 59 rfl) rfl
theorem q618 : (Jvm.Cond.static ({ cls := "TemperIsles", name := "isPart", desc := "(I)Z" } : Jvm.MethodName)) ∈ lw_all := lw_g (lw_at lw_m3 60 rfl) rfl
theorem q619 : (Jvm.Cond.code ({ cls := "TemperIsles", name := "isPart", desc := "(I)Z" } : Jvm.MethodName) prog_1_method_12_code (1 : Nat) (Option.some Jvm.ClassFile.FieldType.boolean)) ∈ lw_all := lw_g (lw_at lw_m3 61 rfl) rfl
theorem q620 : (Jvm.Cond.methodLink "TemperIsles" (186 : Nat) ({ cls := "TemperIsles", name := "spreadBehind", desc := "(LTemperIsles$Firth;I)I" } : Jvm.MethodName)) ∈ lw_all := lw_g (lw_at lw_m3 62 rfl) rfl
theorem q621 : (Jvm.Cond.privateMethod ({ cls := "TemperIsles", name := "spreadBehind", desc := "(LTemperIsles$Firth;I)I" } : Jvm.MethodName)) ∈ lw_tbl := lw_at lw_m3 63 rfl
theorem q622 : (Jvm.Cond.instanceMethod ({ cls := "TemperIsles", name := "spreadBehind", desc := "(LTemperIsles$Firth;I)I" } : Jvm.MethodName)) ∈ lw_all := lw_g (lw_at lw_m3 64 rfl) rfl
theorem q623 : (Jvm.Cond.code ({ cls := "TemperIsles", name := "spreadBehind", desc := "(LTemperIsles$Firth;I)I" } : Jvm.MethodName) prog_1_method_27_code (3 : Nat) (Option.some Jvm.ClassFile.FieldType.int)) ∈ lw_all := lw_g (lw_at lw_m3 65 rfl) rfl
theorem q624 : (Jvm.Cond.methodLink "TemperIsles" (193 : Nat) ({ cls := "TemperIsles", name := "isLess", desc := "(I)Z" } : Jvm.MethodName)) ∈ lw_all := lw_g (lw_at lw_m3 66 rfl) rfl
theorem q625 : (Jvm.Cond.privateMethod ({ cls := "TemperIsles", name := "isLess", desc := "(I)Z" } : Jvm.MethodName)) ∈ lw_tbl := lw_at lw_m3 67 rfl
theorem q626 : (Jvm.Cond.instanceMethod ({ cls := "TemperIsles", name := "isLess", desc := "(I)Z" } : Jvm.MethodName)) ∈ lw_all := lw_g (lw_at lw_m3 68 rfl) rfl
theorem q627 : (Jvm.Cond.code ({ cls := "TemperIsles", name := "isLess", desc := "(I)Z" } : Jvm.MethodName) prog_1_method_32_code (3 : Nat) (Option.some Jvm.ClassFile.FieldType.boolean)) ∈ lw_all := lw_g (lw_at lw_m3 69 rfl) rfl
theorem q629 : (Jvm.Cond.instanceMethod ({ cls := "TemperIsles", name := "fray", desc := "(I)I" } : Jvm.MethodName)) ∈ lw_all := lw_g (lw_at lw_m3 71 rfl) rfl
theorem q630 : (Jvm.Cond.selects "TemperIsles" ({ cls := "TemperIsles", name := "fray", desc := "(I)I" } : Jvm.MethodName) ({ cls := "TemperIsles", name := "fray", desc := "(I)I" } : Jvm.MethodName)) ∈ lw_all := lw_g (lw_at lw_m3 72 rfl) rfl
theorem q631 : (Jvm.Cond.code ({ cls := "TemperIsles", name := "fray", desc := "(I)I" } : Jvm.MethodName) prog_1_method_36_code (4 : Nat) (Option.some Jvm.ClassFile.FieldType.int)) ∈ lw_all := lw_g (lw_at lw_m3 73 rfl) rfl
theorem q632 : (Jvm.Cond.methodLink "TemperIsles" (196 : Nat) ({ cls := "TemperIsles", name := "bumpsOf", desc := "(LTemperIsles$Firth;)I" } : Jvm.MethodName)) ∈ lw_all := lw_g (lw_at lw_m3 74 rfl) rfl
theorem q633 : (Jvm.Cond.privateMethod ({ cls := "TemperIsles", name := "bumpsOf", desc := "(LTemperIsles$Firth;)I" } : Jvm.MethodName)) ∈ lw_tbl := lw_at lw_m3 75 rfl
theorem q634 : (Jvm.Cond.instanceMethod ({ cls := "TemperIsles", name := "bumpsOf", desc := "(LTemperIsles$Firth;)I" } : Jvm.MethodName)) ∈ lw_all := lw_g (lw_at lw_m3 76 rfl) rfl
theorem q635 : (Jvm.Cond.code ({ cls := "TemperIsles", name := "bumpsOf", desc := "(LTemperIsles$Firth;)I" } : Jvm.MethodName) prog_1_method_34_code (2 : Nat) (Option.some Jvm.ClassFile.FieldType.int)) ∈ lw_all := lw_g (lw_at lw_m3 77 rfl) rfl
theorem q636 : (Jvm.Cond.methodLink "TemperIsles" (200 : Nat) ({ cls := "TemperIsles", name := "looses", desc := "(I)V" } : Jvm.MethodName)) ∈ lw_all := lw_g (lw_at lw_m3 78 rfl) rfl
theorem q637 : (Jvm.Cond.privateMethod ({ cls := "TemperIsles", name := "looses", desc := "(I)V" } : Jvm.MethodName)) ∈ lw_tbl := lw_at lw_m3 79 rfl
theorem q638 : (Jvm.Cond.instanceMethod ({ cls := "TemperIsles", name := "looses", desc := "(I)V" } : Jvm.MethodName)) ∈ lw_all := lw_g (lw_at lw_m3 80 rfl) rfl
theorem q639 : (Jvm.Cond.code ({ cls := "TemperIsles", name := "looses", desc := "(I)V" } : Jvm.MethodName) prog_1_method_35_code (3 : Nat) (Option.none : Option Jvm.ClassFile.FieldType)) ∈ lw_all := lw_g (lw_at lw_m3 81 rfl) rfl
theorem q641 : (Jvm.Cond.instanceMethod ({ cls := "TemperIsles", name := "soothe", desc := "(I)I" } : Jvm.MethodName)) ∈ lw_all := lw_g (lw_at lw_m3 83 rfl) rfl
theorem q642 : (Jvm.Cond.selects "TemperIsles" ({ cls := "TemperIsles", name := "soothe", desc := "(I)I" } : Jvm.MethodName) ({ cls := "TemperIsles", name := "soothe", desc := "(I)I" } : Jvm.MethodName)) ∈ lw_all := lw_g (lw_at lw_m3 84 rfl) rfl
theorem q643 : (Jvm.Cond.code ({ cls := "TemperIsles", name := "soothe", desc := "(I)I" } : Jvm.MethodName) prog_1_method_37_code (5 : Nat) (Option.some Jvm.ClassFile.FieldType.int)) ∈ lw_all := lw_g (lw_at lw_m3 85 rfl) rfl
theorem q645 : (Jvm.Cond.instanceMethod ({ cls := "TemperIsles", name := "holy", desc := "(II)I" } : Jvm.MethodName)) ∈ lw_all := lw_g (lw_at lw_m3 87 rfl) rfl
theorem q646 : (Jvm.Cond.selects "TemperIsles" ({ cls := "TemperIsles", name := "holy", desc := "(II)I" } : Jvm.MethodName) ({ cls := "TemperIsles", name := "holy", desc := "(II)I" } : Jvm.MethodName)) ∈ lw_all := lw_g (lw_at lw_m3 88 rfl) rfl
theorem q647 : (Jvm.Cond.code ({ cls := "TemperIsles", name := "holy", desc := "(II)I" } : Jvm.MethodName) prog_1_method_38_code (5 : Nat) (Option.some Jvm.ClassFile.FieldType.int)) ∈ lw_all := lw_g (lw_at lw_m3 89 rfl) rfl
theorem q648 : (Jvm.Cond.constant "TemperIsles" (204 : Nat) (1000000 : Int32)) ∈ lw_all := lw_g (lw_at lw_m3 90 rfl) rfl
theorem q650 : (Jvm.Cond.instanceMethod ({ cls := "TemperIsles", name := "kind", desc := "(III)I" } : Jvm.MethodName)) ∈ lw_all := lw_g (lw_at lw_m3 92 rfl) rfl
theorem q651 : (Jvm.Cond.selects "TemperIsles" ({ cls := "TemperIsles", name := "kind", desc := "(III)I" } : Jvm.MethodName) ({ cls := "TemperIsles", name := "kind", desc := "(III)I" } : Jvm.MethodName)) ∈ lw_all := lw_g (lw_at lw_m3 93 rfl) rfl
theorem q652 : (Jvm.Cond.code ({ cls := "TemperIsles", name := "kind", desc := "(III)I" } : Jvm.MethodName) prog_1_method_39_code (6 : Nat) (Option.some Jvm.ClassFile.FieldType.int)) ∈ lw_all := lw_g (lw_at lw_m3 94 rfl) rfl
theorem q654 : (Jvm.Cond.instanceMethod ({ cls := "TemperIsles", name := "slack", desc := "(III)I" } : Jvm.MethodName)) ∈ lw_all := lw_g (lw_at lw_m3 96 rfl) rfl
theorem q655 : (Jvm.Cond.selects "TemperIsles" ({ cls := "TemperIsles", name := "slack", desc := "(III)I" } : Jvm.MethodName) ({ cls := "TemperIsles", name := "slack", desc := "(III)I" } : Jvm.MethodName)) ∈ lw_all := lw_g (lw_at lw_m3 97 rfl) rfl
theorem q656 : (Jvm.Cond.code ({ cls := "TemperIsles", name := "slack", desc := "(III)I" } : Jvm.MethodName) prog_1_method_40_code (5 : Nat) (Option.some Jvm.ClassFile.FieldType.int)) ∈ lw_all := lw_g (lw_at lw_m3 98 rfl) rfl
theorem q658 : (Jvm.Cond.instanceMethod ({ cls := "TemperIsles", name := "luck", desc := "(IIII)J" } : Jvm.MethodName)) ∈ lw_all := lw_g (lw_at lw_m3 100 rfl) rfl
theorem q659 : (Jvm.Cond.selects "TemperIsles" ({ cls := "TemperIsles", name := "luck", desc := "(IIII)J" } : Jvm.MethodName) ({ cls := "TemperIsles", name := "luck", desc := "(IIII)J" } : Jvm.MethodName)) ∈ lw_all := lw_g (lw_at lw_m3 101 rfl) rfl
theorem q660 : (Jvm.Cond.code ({ cls := "TemperIsles", name := "luck", desc := "(IIII)J" } : Jvm.MethodName) prog_1_method_44_code (5 : Nat) (Option.some Jvm.ClassFile.FieldType.long)) ∈ lw_all := lw_g (lw_at lw_m3 102 rfl) rfl
theorem q661 : (Jvm.Cond.constantLong "TemperIsles" (209 : Nat) (10 : Int64)) ∈ lw_all := lw_g (lw_at lw_m3 103 rfl) rfl
theorem q662 : (Jvm.Cond.constantLong "TemperIsles" (218 : Nat) (8 : Int64)) ∈ lw_all := lw_g (lw_at lw_m3 104 rfl) rfl
theorem q663 : (Jvm.Cond.methodLink "TemperIsles" (220 : Nat) ({ cls := "TemperIsles", name := "byStorms", desc := "(IIII)J" } : Jvm.MethodName)) ∈ lw_all := lw_g (lw_at lw_m3 105 rfl) rfl
theorem q664 : (Jvm.Cond.privateMethod ({ cls := "TemperIsles", name := "byStorms", desc := "(IIII)J" } : Jvm.MethodName)) ∈ lw_tbl := lw_at lw_m3 106 rfl
theorem q665 : (Jvm.Cond.instanceMethod ({ cls := "TemperIsles", name := "byStorms", desc := "(IIII)J" } : Jvm.MethodName)) ∈ lw_all := lw_g (lw_at lw_m3 107 rfl) rfl
theorem q666 : (Jvm.Cond.code ({ cls := "TemperIsles", name := "byStorms", desc := "(IIII)J" } : Jvm.MethodName) prog_1_method_43_code (13 : Nat) (Option.some Jvm.ClassFile.FieldType.long)) ∈ lw_all := lw_g (lw_at lw_m3 108 rfl) rfl
theorem q667 : (Jvm.Cond.methodLink "TemperIsles" (211 : Nat) ({ cls := "TemperIsles", name := "has", desc := "(II)Z" } : Jvm.MethodName)) ∈ lw_all := lw_g (lw_at lw_m3 109 rfl) rfl
theorem q668 : (Jvm.Cond.methodLink "TemperIsles" (214 : Nat) ({ cls := "TemperIsles", name := "lowest", desc := "(JJI)J" } : Jvm.MethodName)) ∈ lw_all := lw_g (lw_at lw_m3 110 rfl) rfl
theorem q669 : (Jvm.Cond.static ({ cls := "TemperIsles", name := "lowest", desc := "(JJI)J" } : Jvm.MethodName)) ∈ lw_all := lw_g (lw_at lw_m3 111 rfl) rfl
theorem q670 : (Jvm.Cond.code ({ cls := "TemperIsles", name := "lowest", desc := "(JJI)J" } : Jvm.MethodName) prog_1_method_42_code (5 : Nat) (Option.some Jvm.ClassFile.FieldType.long)) ∈ lw_all := lw_g (lw_at lw_m3 112 rfl) rfl
theorem q671 : (Jvm.Cond.methodLink "TemperIsles" (205 : Nat) ({ cls := "TemperIsles", name := "divisor", desc := "(JJ)J" } : Jvm.MethodName)) ∈ lw_all := lw_g (lw_at lw_m3 113 rfl) rfl
theorem q672 : (Jvm.Cond.static ({ cls := "TemperIsles", name := "divisor", desc := "(JJ)J" } : Jvm.MethodName)) ∈ lw_all := lw_g (lw_at lw_m3 114 rfl) rfl
theorem q673 : (Jvm.Cond.code ({ cls := "TemperIsles", name := "divisor", desc := "(JJ)J" } : Jvm.MethodName) prog_1_method_41_code (4 : Nat) (Option.some Jvm.ClassFile.FieldType.long)) ∈ lw_all := lw_g (lw_at lw_m3 115 rfl) rfl
theorem q674 : (Jvm.Cond.constantLong "TemperIsles" (224 : Nat) (-1 : Int64)) ∈ lw_all := lw_g (lw_at lw_m3 116 rfl) rfl
theorem q676 : (Jvm.Cond.instanceMethod ({ cls := "TemperIsles", name := "mean", desc := "(III)J" } : Jvm.MethodName)) ∈ lw_all := lw_g (lw_at lw_m3 118 rfl) rfl
theorem q677 : (Jvm.Cond.selects "TemperIsles" ({ cls := "TemperIsles", name := "mean", desc := "(III)J" } : Jvm.MethodName) ({ cls := "TemperIsles", name := "mean", desc := "(III)J" } : Jvm.MethodName)) ∈ lw_all := lw_g (lw_at lw_m3 119 rfl) rfl
theorem q678 : (Jvm.Cond.code ({ cls := "TemperIsles", name := "mean", desc := "(III)J" } : Jvm.MethodName) prog_1_method_45_code (4 : Nat) (Option.some Jvm.ClassFile.FieldType.long)) ∈ lw_all := lw_g (lw_at lw_m3 120 rfl) rfl
theorem q680 : (Jvm.Cond.instanceMethod ({ cls := "TemperIsles", name := "see", desc := "(III)I" } : Jvm.MethodName)) ∈ lw_all := lw_g (lw_at lw_m3 122 rfl) rfl
theorem q681 : (Jvm.Cond.selects "TemperIsles" ({ cls := "TemperIsles", name := "see", desc := "(III)I" } : Jvm.MethodName) ({ cls := "TemperIsles", name := "see", desc := "(III)I" } : Jvm.MethodName)) ∈ lw_all := lw_g (lw_at lw_m3 123 rfl) rfl
theorem q682 : (Jvm.Cond.code ({ cls := "TemperIsles", name := "see", desc := "(III)I" } : Jvm.MethodName) prog_1_method_46_code (4 : Nat) (Option.some Jvm.ClassFile.FieldType.int)) ∈ lw_all := lw_g (lw_at lw_m3 124 rfl) rfl
theorem q683 : (Jvm.Cond.constantLong "TemperIsles" (226 : Nat) (20 : Int64)) ∈ lw_all := lw_g (lw_at lw_m3 125 rfl) rfl
theorem q685 : (Jvm.Cond.instanceMethod ({ cls := "TemperIsles", name := "forget", desc := "(I)I" } : Jvm.MethodName)) ∈ lw_all := lw_g (lw_at lw_m3 127 rfl) rfl
theorem q686 : (Jvm.Cond.selects "TemperIsles" ({ cls := "TemperIsles", name := "forget", desc := "(I)I" } : Jvm.MethodName) ({ cls := "TemperIsles", name := "forget", desc := "(I)I" } : Jvm.MethodName)) ∈ lw_all := lw_g (lw_at lw_m3 128 rfl) rfl
theorem q687 : (Jvm.Cond.code ({ cls := "TemperIsles", name := "forget", desc := "(I)I" } : Jvm.MethodName) prog_1_method_47_code (3 : Nat) (Option.some Jvm.ClassFile.FieldType.int)) ∈ lw_all := lw_g (lw_at lw_m3 129 rfl) rfl
theorem q689 : (Jvm.Cond.instanceMethod ({ cls := "TemperIsles", name := "kinds", desc := "(I)I" } : Jvm.MethodName)) ∈ lw_all := lw_g (lw_at lw_m3 131 rfl) rfl
theorem q690 : (Jvm.Cond.selects "TemperIsles" ({ cls := "TemperIsles", name := "kinds", desc := "(I)I" } : Jvm.MethodName) ({ cls := "TemperIsles", name := "kinds", desc := "(I)I" } : Jvm.MethodName)) ∈ lw_all := lw_g (lw_at lw_m3 132 rfl) rfl
theorem q691 : (Jvm.Cond.code ({ cls := "TemperIsles", name := "kinds", desc := "(I)I" } : Jvm.MethodName) prog_1_method_50_code (2 : Nat) (Option.some Jvm.ClassFile.FieldType.int)) ∈ lw_all := lw_g (lw_at lw_m3 133 rfl) rfl
theorem q692 : (Jvm.Cond.methodLink "TemperIsles" (237 : Nat) ({ cls := "TemperIsles", name := "kindsOf", desc := "(I)I" } : Jvm.MethodName)) ∈ lw_all := lw_g (lw_at lw_m3 134 rfl) rfl
theorem q693 : (Jvm.Cond.privateMethod ({ cls := "TemperIsles", name := "kindsOf", desc := "(I)I" } : Jvm.MethodName)) ∈ lw_tbl := lw_at lw_m3 135 rfl
theorem q694 : (Jvm.Cond.instanceMethod ({ cls := "TemperIsles", name := "kindsOf", desc := "(I)I" } : Jvm.MethodName)) ∈ lw_all := lw_g (lw_at lw_m3 136 rfl) rfl
theorem q695 : (Jvm.Cond.code ({ cls := "TemperIsles", name := "kindsOf", desc := "(I)I" } : Jvm.MethodName) prog_1_method_49_code (4 : Nat) (Option.some Jvm.ClassFile.FieldType.int)) ∈ lw_all := lw_g (lw_at lw_m3 137 rfl) rfl
theorem q696 : (Jvm.Cond.methodLink "TemperIsles" (234 : Nat) ({ cls := "TemperIsles", name := "isAsSeen", desc := "(I)Z" } : Jvm.MethodName)) ∈ lw_all := lw_g (lw_at lw_m3 138 rfl) rfl
theorem q697 : (Jvm.Cond.privateMethod ({ cls := "TemperIsles", name := "isAsSeen", desc := "(I)Z" } : Jvm.MethodName)) ∈ lw_tbl := lw_at lw_m3 139 rfl
theorem q698 : (Jvm.Cond.instanceMethod ({ cls := "TemperIsles", name := "isAsSeen", desc := "(I)Z" } : Jvm.MethodName)) ∈ lw_all := lw_g (lw_at lw_m3 140 rfl) rfl
theorem q699 : (Jvm.Cond.code ({ cls := "TemperIsles", name := "isAsSeen", desc := "(I)Z" } : Jvm.MethodName) prog_1_method_48_code (5 : Nat) (Option.some Jvm.ClassFile.FieldType.boolean)) ∈ lw_all := lw_g (lw_at lw_m3 141 rfl) rfl
theorem q701 : (Jvm.Cond.instanceMethod ({ cls := "TemperIsles", name := "sulks", desc := "(II)I" } : Jvm.MethodName)) ∈ lw_all := lw_g (lw_at lw_m3 143 rfl) rfl
theorem q702 : (Jvm.Cond.selects "TemperIsles" ({ cls := "TemperIsles", name := "sulks", desc := "(II)I" } : Jvm.MethodName) ({ cls := "TemperIsles", name := "sulks", desc := "(II)I" } : Jvm.MethodName)) ∈ lw_all := lw_g (lw_at lw_m3 144 rfl) rfl
theorem q703 : (Jvm.Cond.code ({ cls := "TemperIsles", name := "sulks", desc := "(II)I" } : Jvm.MethodName) prog_1_method_51_code (5 : Nat) (Option.some Jvm.ClassFile.FieldType.int)) ∈ lw_all := lw_g (lw_at lw_m3 145 rfl) rfl
theorem q705 : (Jvm.Cond.instanceMethod ({ cls := "TemperIsles", name := "ask", desc := "(II)I" } : Jvm.MethodName)) ∈ lw_all := lw_g (lw_at lw_m3 147 rfl) rfl
theorem q706 : (Jvm.Cond.selects "TemperIsles" ({ cls := "TemperIsles", name := "ask", desc := "(II)I" } : Jvm.MethodName) ({ cls := "TemperIsles", name := "ask", desc := "(II)I" } : Jvm.MethodName)) ∈ lw_all := lw_g (lw_at lw_m3 148 rfl) rfl
theorem q707 : (Jvm.Cond.code ({ cls := "TemperIsles", name := "ask", desc := "(II)I" } : Jvm.MethodName) prog_1_method_53_code (7 : Nat) (Option.some Jvm.ClassFile.FieldType.int)) ∈ lw_all := lw_g (lw_at lw_m3 149 rfl) rfl
theorem q708 : (Jvm.Cond.methodLink "TemperIsles" (243 : Nat) ({ cls := "java/lang/Integer", name := "bitCount", desc := "(I)I" } : Jvm.MethodName)) ∈ lw_all := lw_g (lw_at lw_m3 150 rfl) rfl
theorem q714 : (Jvm.Cond.methodLink "TemperIsles" (248 : Nat) ({ cls := "TemperIsles", name := "worstAt", desc := "(II)I" } : Jvm.MethodName)) ∈ lw_all := lw_g (lw_at lw_m3 156 rfl) rfl
theorem q715 : (Jvm.Cond.privateMethod ({ cls := "TemperIsles", name := "worstAt", desc := "(II)I" } : Jvm.MethodName)) ∈ lw_tbl := lw_at lw_m3 157 rfl
theorem q716 : (Jvm.Cond.instanceMethod ({ cls := "TemperIsles", name := "worstAt", desc := "(II)I" } : Jvm.MethodName)) ∈ lw_all := lw_g (lw_at lw_m3 158 rfl) rfl
theorem q717 : (Jvm.Cond.code ({ cls := "TemperIsles", name := "worstAt", desc := "(II)I" } : Jvm.MethodName) prog_1_method_52_code (7 : Nat) (Option.some Jvm.ClassFile.FieldType.int)) ∈ lw_all := lw_g (lw_at lw_m3 159 rfl) rfl
theorem q718 : (Jvm.Cond.methodLink "TemperIsles" (240 : Nat) ({ cls := "java/lang/Math", name := "max", desc := "(II)I" } : Jvm.MethodName)) ∈ lw_all := lw_g (lw_at lw_m3 160 rfl) rfl
theorem q720 : (Jvm.Cond.instanceMethod ({ cls := "TemperIsles", name := "drift", desc := "(III)I" } : Jvm.MethodName)) ∈ lw_all := lw_g (lw_at lw_m3 162 rfl) rfl
theorem q721 : (Jvm.Cond.selects "TemperIsles" ({ cls := "TemperIsles", name := "drift", desc := "(III)I" } : Jvm.MethodName) ({ cls := "TemperIsles", name := "drift", desc := "(III)I" } : Jvm.MethodName)) ∈ lw_all := lw_g (lw_at lw_m3 163 rfl) rfl
theorem q722 : (Jvm.Cond.code ({ cls := "TemperIsles", name := "drift", desc := "(III)I" } : Jvm.MethodName) prog_1_method_54_code (9 : Nat) (Option.some Jvm.ClassFile.FieldType.int)) ∈ lw_all := lw_g (lw_at lw_m3 164 rfl) rfl
theorem q723 : (Jvm.Cond.constant "TemperIsles" (251 : Nat) (1103515245 : Int32)) ∈ lw_all := lw_g (lw_at lw_m3 165 rfl) rfl
theorem q725 : (Jvm.Cond.instanceMethod ({ cls := "TemperIsles", name := "keep", desc := "(I)I" } : Jvm.MethodName)) ∈ lw_all := lw_g (lw_at lw_m3 167 rfl) rfl
theorem q726 : (Jvm.Cond.selects "TemperIsles" ({ cls := "TemperIsles", name := "keep", desc := "(I)I" } : Jvm.MethodName) ({ cls := "TemperIsles", name := "keep", desc := "(I)I" } : Jvm.MethodName)) ∈ lw_all := lw_g (lw_at lw_m3 168 rfl) rfl
theorem q727 : (Jvm.Cond.code ({ cls := "TemperIsles", name := "keep", desc := "(I)I" } : Jvm.MethodName) prog_1_method_56_code (3 : Nat) (Option.some Jvm.ClassFile.FieldType.int)) ∈ lw_all := lw_g (lw_at lw_m3 169 rfl) rfl
theorem q728 : (Jvm.Cond.methodLink "TemperIsles" (252 : Nat) ({ cls := "TemperIsles$Image", name := "takes", desc := "()V" } : Jvm.MethodName)) ∈ lw_all := lw_g (lw_at lw_m3 170 rfl) rfl
theorem q734 : (Jvm.Cond.static ({ cls := "TemperIsles", name := "copies", desc := "([[I[[I)V" } : Jvm.MethodName)) ∈ lw_all := lw_g (lw_at lw_m3 176 rfl) rfl
theorem q735 : (Jvm.Cond.code ({ cls := "TemperIsles", name := "copies", desc := "([[I[[I)V" } : Jvm.MethodName) prog_1_method_55_code (3 : Nat) (Option.none : Option Jvm.ClassFile.FieldType)) ∈ lw_all := lw_g (lw_at lw_m3 177 rfl) rfl
theorem q737 : (Jvm.Cond.instanceMethod ({ cls := "TemperIsles", name := "back", desc := "(I)I" } : Jvm.MethodName)) ∈ lw_all := lw_g (lw_at lw_m3 179 rfl) rfl
theorem q738 : (Jvm.Cond.selects "TemperIsles" ({ cls := "TemperIsles", name := "back", desc := "(I)I" } : Jvm.MethodName) ({ cls := "TemperIsles", name := "back", desc := "(I)I" } : Jvm.MethodName)) ∈ lw_all := lw_g (lw_at lw_m3 180 rfl) rfl
theorem q739 : (Jvm.Cond.code ({ cls := "TemperIsles", name := "back", desc := "(I)I" } : Jvm.MethodName) prog_1_method_57_code (2 : Nat) (Option.some Jvm.ClassFile.FieldType.int)) ∈ lw_all := lw_g (lw_at lw_m3 181 rfl) rfl
theorem q740 : (Jvm.Cond.methodLink "TemperIsles" (254 : Nat) ({ cls := "TemperIsles$Image", name := "gives", desc := "()V" } : Jvm.MethodName)) ∈ lw_all := lw_g (lw_at lw_m3 182 rfl) rfl
theorem q746 : (Jvm.Cond.instanceMethod ({ cls := "TemperIsles", name := "<init>", desc := "()V" } : Jvm.MethodName)) ∈ lw_all := lw_g (lw_at lw_m3 188 rfl) rfl
theorem q747 : (Jvm.Cond.code ({ cls := "TemperIsles", name := "<init>", desc := "()V" } : Jvm.MethodName) prog_1_method_58_code (1 : Nat) (Option.none : Option Jvm.ClassFile.FieldType)) ∈ lw_all := lw_g (lw_at lw_m3 189 rfl) rfl
theorem q748 : (Jvm.Cond.methodLink "TemperIsles" (257 : Nat) ({ cls := "java/lang/Object", name := "<init>", desc := "()V" } : Jvm.MethodName)) ∈ lw_all := lw_g (lw_at lw_m3 190 rfl) rfl
theorem q749 : (Jvm.Cond.classLink "TemperIsles" (43 : Nat) "TemperIsles$Firth") ∈ lw_all := lw_g (lw_at lw_m3 191 rfl) rfl
theorem q750 : (Jvm.Cond.methodLinkNest "TemperIsles" (261 : Nat) ({ cls := "TemperIsles$Firth", name := "<init>", desc := "()V" } : Jvm.MethodName) "TemperIsles") ∈ lw_tbl := lw_at lw_m3 192 rfl
theorem q751 : (Jvm.Cond.classLink "TemperIsles" (262 : Nat) "[[I") ∈ lw_all := lw_g (lw_at lw_m3 193 rfl) rfl
theorem q752 : (Jvm.Cond.classLink "TemperIsles" (56 : Nat) "TemperIsles$Image") ∈ lw_all := lw_g (lw_at lw_m3 194 rfl) rfl
theorem q755 : (Jvm.Cond.methodLinkNest "TemperIsles" (263 : Nat) ({ cls := "TemperIsles$Image", name := "<init>", desc := "(LTemperIsles;)V" } : Jvm.MethodName) "TemperIsles") ∈ lw_tbl := lw_at lw_m3 197 rfl
theorem q765 : (Jvm.Cond.fieldLinkNest "TemperIsles" (55 : Nat) "TemperIsles$Image" "isKept" "Z" "TemperIsles") ∈ lw_tbl := lw_at lw_m3 207 rfl
theorem q778 : (Jvm.Cond.classLink "TemperIsles" (269 : Nat) "TemperIsles$Sheet") ∈ lw_all := lw_g (lw_at lw_m3 220 rfl) rfl
theorem q781 : (Jvm.Cond.methodLinkNest "TemperIsles" (271 : Nat) ({ cls := "TemperIsles$Sheet", name := "<init>", desc := "()V" } : Jvm.MethodName) "TemperIsles") ∈ lw_tbl := lw_at lw_m3 223 rfl
theorem q785 : (Jvm.Cond.fieldLinkNest "TemperIsles" (280 : Nat) "TemperIsles$Sheet" "row" "Ljava/lang/Object;" "TemperIsles") ∈ lw_tbl := lw_at lw_m3 227 rfl
theorem q786 : (Jvm.Cond.fieldLinkNest "TemperIsles" (284 : Nat) "TemperIsles$Sheet" "size" "I" "TemperIsles") ∈ lw_tbl := lw_at lw_m3 228 rfl
theorem q792 : (Jvm.Cond.fieldLink "TemperIsles" (15 : Nat) "TemperIsles" "tape" "[B") ∈ lw_all := lw_g (lw_at lw_m3 234 rfl) rfl
theorem q793 : (Jvm.Cond.fieldLink "TemperIsles" (11 : Nat) "TemperIsles" "taped" "I") ∈ lw_all := lw_g (lw_at lw_m3 235 rfl) rfl
theorem q794 : (Jvm.Cond.fieldLink "TemperIsles" (61 : Nat) "TemperIsles" "fault" "I") ∈ lw_all := lw_g (lw_at lw_m3 236 rfl) rfl
theorem q796 : (Jvm.Cond.fieldLink "TemperIsles" (35 : Nat) "TemperIsles" "now" "LTemperIsles$Firth;") ∈ lw_all := lw_g (lw_at lw_m3 238 rfl) rfl
theorem q797 : (Jvm.Cond.fieldLink "TemperIsles" (159 : Nat) "TemperIsles" "work" "LTemperIsles$Firth;") ∈ lw_all := lw_g (lw_at lw_m3 239 rfl) rfl
theorem q798 : (Jvm.Cond.fieldLink "TemperIsles" (190 : Nat) "TemperIsles" "home" "LTemperIsles$Firth;") ∈ lw_all := lw_g (lw_at lw_m4 0 rfl) rfl
theorem q799 : (Jvm.Cond.fieldLink "TemperIsles" (180 : Nat) "TemperIsles" "least" "I") ∈ lw_all := lw_g (lw_at lw_m4 1 rfl) rfl
theorem q801 : (Jvm.Cond.fieldLink "TemperIsles" (228 : Nat) "TemperIsles" "seen" "[[I") ∈ lw_all := lw_g (lw_at lw_m4 3 rfl) rfl
theorem q803 : (Jvm.Cond.fieldLink "TemperIsles" (48 : Nat) "TemperIsles" "seenMany" "I") ∈ lw_all := lw_g (lw_at lw_m4 5 rfl) rfl
theorem q804 : (Jvm.Cond.fieldLink "TemperIsles" (231 : Nat) "TemperIsles" "byKind" "[[I") ∈ lw_all := lw_g (lw_at lw_m4 6 rfl) rfl
theorem q805 : (Jvm.Cond.fieldLink "TemperIsles" (51 : Nat) "TemperIsles" "images" "[LTemperIsles$Image;") ∈ lw_all := lw_g (lw_at lw_m4 7 rfl) rfl
theorem q806 : (Jvm.Cond.fieldLink "TemperIsles" (266 : Nat) "TemperIsles" "aside" "LTemperIsles$Firth;") ∈ lw_all := lw_g (lw_at lw_m4 8 rfl) rfl
theorem q807 : (Jvm.Cond.fieldLink "TemperIsles" (272 : Nat) "TemperIsles" "sheets" "[LTemperIsles$Sheet;") ∈ lw_all := lw_g (lw_at lw_m4 9 rfl) rfl
theorem q808 : (Jvm.Cond.fieldLink "TemperIsles" (316 : Nat) "TemperIsles" "torn" "I") ∈ lw_all := lw_g (lw_at lw_m4 10 rfl) rfl
theorem q809 : (Jvm.Cond.fieldLink "TemperIsles" (298 : Nat) "TemperIsles" "cameMany" "I") ∈ lw_all := lw_g (lw_at lw_m4 11 rfl) rfl
theorem q810 : (Jvm.Cond.fieldLink "TemperIsles" (301 : Nat) "TemperIsles" "refused" "I") ∈ lw_all := lw_g (lw_at lw_m4 12 rfl) rfl
theorem q811 : (Jvm.Cond.laysFinal "TemperIsles" "TemperIsles" "tape" "[B") ∈ lw_all := lw_g (lw_at lw_m4 13 rfl) rfl
theorem q812 : (Jvm.Cond.soleField "TemperIsles" "tape") ∈ lw_all := lw_g (lw_at lw_m4 14 rfl) rfl
theorem q813 : (Jvm.Cond.lays "TemperIsles" "TemperIsles" "taped" "I") ∈ lw_all := lw_g (lw_at lw_m4 15 rfl) rfl
theorem q814 : (Jvm.Cond.soleField "TemperIsles" "taped") ∈ lw_all := lw_g (lw_at lw_m4 16 rfl) rfl
theorem q815 : (Jvm.Cond.lays "TemperIsles" "TemperIsles" "fault" "I") ∈ lw_all := lw_g (lw_at lw_m4 17 rfl) rfl
theorem q816 : (Jvm.Cond.soleField "TemperIsles" "fault") ∈ lw_all := lw_g (lw_at lw_m4 18 rfl) rfl
theorem q817 : (Jvm.Cond.laysFinal "TemperIsles" "TemperIsles" "now" "LTemperIsles$Firth;") ∈ lw_all := lw_g (lw_at lw_m4 19 rfl) rfl
theorem q818 : (Jvm.Cond.soleField "TemperIsles" "now") ∈ lw_all := lw_g (lw_at lw_m4 20 rfl) rfl
theorem q819 : (Jvm.Cond.laysFinal "TemperIsles" "TemperIsles" "work" "LTemperIsles$Firth;") ∈ lw_all := lw_g (lw_at lw_m4 21 rfl) rfl
theorem q820 : (Jvm.Cond.soleField "TemperIsles" "work") ∈ lw_all := lw_g (lw_at lw_m4 22 rfl) rfl
theorem q821 : (Jvm.Cond.laysFinal "TemperIsles" "TemperIsles" "home" "LTemperIsles$Firth;") ∈ lw_all := lw_g (lw_at lw_m4 23 rfl) rfl
theorem q822 : (Jvm.Cond.soleField "TemperIsles" "home") ∈ lw_all := lw_g (lw_at lw_m4 24 rfl) rfl
theorem q823 : (Jvm.Cond.lays "TemperIsles" "TemperIsles" "least" "I") ∈ lw_all := lw_g (lw_at lw_m4 25 rfl) rfl
theorem q824 : (Jvm.Cond.soleField "TemperIsles" "least") ∈ lw_all := lw_g (lw_at lw_m4 26 rfl) rfl
theorem q825 : (Jvm.Cond.laysFinal "TemperIsles" "TemperIsles" "seen" "[[I") ∈ lw_all := lw_g (lw_at lw_m4 27 rfl) rfl
theorem q826 : (Jvm.Cond.soleField "TemperIsles" "seen") ∈ lw_all := lw_g (lw_at lw_m4 28 rfl) rfl
theorem q827 : (Jvm.Cond.lays "TemperIsles" "TemperIsles" "seenMany" "I") ∈ lw_all := lw_g (lw_at lw_m4 29 rfl) rfl
theorem q828 : (Jvm.Cond.soleField "TemperIsles" "seenMany") ∈ lw_all := lw_g (lw_at lw_m4 30 rfl) rfl
theorem q829 : (Jvm.Cond.laysFinal "TemperIsles" "TemperIsles" "byKind" "[[I") ∈ lw_all := lw_g (lw_at lw_m4 31 rfl) rfl
theorem q830 : (Jvm.Cond.soleField "TemperIsles" "byKind") ∈ lw_all := lw_g (lw_at lw_m4 32 rfl) rfl
theorem q831 : (Jvm.Cond.laysFinal "TemperIsles" "TemperIsles" "images" "[LTemperIsles$Image;") ∈ lw_all := lw_g (lw_at lw_m4 33 rfl) rfl
theorem q832 : (Jvm.Cond.soleField "TemperIsles" "images") ∈ lw_all := lw_g (lw_at lw_m4 34 rfl) rfl
theorem q833 : (Jvm.Cond.laysFinal "TemperIsles" "TemperIsles" "aside" "LTemperIsles$Firth;") ∈ lw_all := lw_g (lw_at lw_m4 35 rfl) rfl
theorem q834 : (Jvm.Cond.soleField "TemperIsles" "aside") ∈ lw_all := lw_g (lw_at lw_m4 36 rfl) rfl
theorem q835 : (Jvm.Cond.laysFinal "TemperIsles" "TemperIsles" "sheets" "[LTemperIsles$Sheet;") ∈ lw_all := lw_g (lw_at lw_m4 37 rfl) rfl
theorem q836 : (Jvm.Cond.soleField "TemperIsles" "sheets") ∈ lw_all := lw_g (lw_at lw_m4 38 rfl) rfl
theorem q837 : (Jvm.Cond.lays "TemperIsles" "TemperIsles" "torn" "I") ∈ lw_all := lw_g (lw_at lw_m4 39 rfl) rfl
theorem q838 : (Jvm.Cond.soleField "TemperIsles" "torn") ∈ lw_all := lw_g (lw_at lw_m4 40 rfl) rfl
theorem q839 : (Jvm.Cond.lays "TemperIsles" "TemperIsles" "cameMany" "I") ∈ lw_all := lw_g (lw_at lw_m4 41 rfl) rfl
theorem q840 : (Jvm.Cond.soleField "TemperIsles" "cameMany") ∈ lw_all := lw_g (lw_at lw_m4 42 rfl) rfl
theorem q841 : (Jvm.Cond.lays "TemperIsles" "TemperIsles" "refused" "I") ∈ lw_all := lw_g (lw_at lw_m4 43 rfl) rfl
theorem q842 : (Jvm.Cond.soleField "TemperIsles" "refused") ∈ lw_all := lw_g (lw_at lw_m4 44 rfl) rfl
theorem q843 : (Jvm.Cond.superclass "TemperIsles" "java/lang/Object") ∈ lw_all := lw_g (lw_at lw_m4 45 rfl) rfl
theorem q845 : (Jvm.Cond.instanceMethod ({ cls := "TemperIsles", name := "sheet", desc := "(III)I" } : Jvm.MethodName)) ∈ lw_all := lw_g (lw_at lw_m4 47 rfl) rfl
theorem q846 : (Jvm.Cond.selects "TemperIsles" ({ cls := "TemperIsles", name := "sheet", desc := "(III)I" } : Jvm.MethodName) ({ cls := "TemperIsles", name := "sheet", desc := "(III)I" } : Jvm.MethodName)) ∈ lw_all := lw_g (lw_at lw_m4 48 rfl) rfl
theorem q847 : (Jvm.Cond.codeWith ({ cls := "TemperIsles", name := "sheet", desc := "(III)I" } : Jvm.MethodName) prog_1_method_60_code (5 : Nat) (Option.some Jvm.ClassFile.FieldType.int) [((32 : Nat), (57 : Nat), (58 : Nat), (287 : Nat))]) ∈ lw_all := lw_g (lw_at lw_m4 49 rfl) rfl
theorem q848 : (Jvm.Cond.classLink "TemperIsles" (287 : Nat) "java/lang/NegativeArraySizeException") ∈ lw_all := lw_g (lw_at lw_m4 50 rfl) rfl
theorem q875 : (Jvm.Cond.methodLink "TemperIsles" (276 : Nat) ({ cls := "TemperIsles", name := "newRow", desc := "(II)Ljava/lang/Object;" } : Jvm.MethodName)) ∈ lw_all := lw_g (lw_at lw_m4 77 rfl) rfl
theorem q876 : (Jvm.Cond.static ({ cls := "TemperIsles", name := "newRow", desc := "(II)Ljava/lang/Object;" } : Jvm.MethodName)) ∈ lw_all := lw_g (lw_at lw_m4 78 rfl) rfl
theorem q877 : (Jvm.Cond.code ({ cls := "TemperIsles", name := "newRow", desc := "(II)Ljava/lang/Object;" } : Jvm.MethodName) prog_1_method_59_code (2 : Nat) (Option.some (Jvm.ClassFile.FieldType.object "java/lang/Object"))) ∈ lw_all := lw_g (lw_at lw_m4 79 rfl) rfl
theorem q880 : (Jvm.Cond.instanceMethod ({ cls := "TemperIsles", name := "lay", desc := "(III)I" } : Jvm.MethodName)) ∈ lw_all := lw_g (lw_at lw_m4 82 rfl) rfl
theorem q881 : (Jvm.Cond.selects "TemperIsles" ({ cls := "TemperIsles", name := "lay", desc := "(III)I" } : Jvm.MethodName) ({ cls := "TemperIsles", name := "lay", desc := "(III)I" } : Jvm.MethodName)) ∈ lw_all := lw_g (lw_at lw_m4 83 rfl) rfl
theorem q882 : (Jvm.Cond.codeWith ({ cls := "TemperIsles", name := "lay", desc := "(III)I" } : Jvm.MethodName) prog_1_method_61_code (6 : Nat) (Option.some Jvm.ClassFile.FieldType.int) [((25 : Nat), (74 : Nat), (75 : Nat), (294 : Nat)), ((25 : Nat), (74 : Nat), (80 : Nat), (296 : Nat))]) ∈ lw_all := lw_g (lw_at lw_m4 84 rfl) rfl
theorem q883 : (Jvm.Cond.classLink "TemperIsles" (294 : Nat) "java/lang/NullPointerException") ∈ lw_all := lw_g (lw_at lw_m4 85 rfl) rfl
theorem q908 : (Jvm.Cond.classLink "TemperIsles" (296 : Nat) "java/lang/ArrayIndexOutOfBoundsException") ∈ lw_all := lw_g (lw_at lw_m4 110 rfl) rfl
theorem q927 : (Jvm.Cond.classLink "TemperIsles" (289 : Nat) "[B") ∈ lw_all := lw_g (lw_at lw_m4 129 rfl) rfl
theorem q928 : (Jvm.Cond.classLink "TemperIsles" (290 : Nat) "[S") ∈ lw_all := lw_g (lw_at lw_m4 130 rfl) rfl
theorem q929 : (Jvm.Cond.classLink "TemperIsles" (292 : Nat) "[I") ∈ lw_all := lw_g (lw_at lw_m4 131 rfl) rfl
theorem q931 : (Jvm.Cond.instanceMethod ({ cls := "TemperIsles", name := "read", desc := "(IIII)I" } : Jvm.MethodName)) ∈ lw_all := lw_g (lw_at lw_m4 133 rfl) rfl
theorem q932 : (Jvm.Cond.selects "TemperIsles" ({ cls := "TemperIsles", name := "read", desc := "(IIII)I" } : Jvm.MethodName) ({ cls := "TemperIsles", name := "read", desc := "(IIII)I" } : Jvm.MethodName)) ∈ lw_all := lw_g (lw_at lw_m4 134 rfl) rfl
theorem q933 : (Jvm.Cond.code ({ cls := "TemperIsles", name := "read", desc := "(IIII)I" } : Jvm.MethodName) prog_1_method_64_code (6 : Nat) (Option.some Jvm.ClassFile.FieldType.int)) ∈ lw_all := lw_g (lw_at lw_m4 135 rfl) rfl
theorem q934 : (Jvm.Cond.constantLong "TemperIsles" (310 : Nat) (13 : Int64)) ∈ lw_all := lw_g (lw_at lw_m4 136 rfl) rfl
theorem q935 : (Jvm.Cond.methodLink "TemperIsles" (312 : Nat) ({ cls := "TemperIsles", name := "takesIn", desc := "(Ljava/lang/Object;III)I" } : Jvm.MethodName)) ∈ lw_all := lw_g (lw_at lw_m4 137 rfl) rfl
theorem q936 : (Jvm.Cond.privateMethod ({ cls := "TemperIsles", name := "takesIn", desc := "(Ljava/lang/Object;III)I" } : Jvm.MethodName)) ∈ lw_tbl := lw_at lw_m4 138 rfl
theorem q937 : (Jvm.Cond.instanceMethod ({ cls := "TemperIsles", name := "takesIn", desc := "(Ljava/lang/Object;III)I" } : Jvm.MethodName)) ∈ lw_all := lw_g (lw_at lw_m4 139 rfl) rfl
theorem q938 : (Jvm.Cond.codeWith ({ cls := "TemperIsles", name := "takesIn", desc := "(Ljava/lang/Object;III)I" } : Jvm.MethodName) prog_1_method_63_code (9 : Nat) (Option.some Jvm.ClassFile.FieldType.int) [((10 : Nat), (120 : Nat), (121 : Nat), (294 : Nat)), ((10 : Nat), (120 : Nat), (125 : Nat), (308 : Nat)), ((10 : Nat), (120 : Nat), (129 : Nat), (296 : Nat))]) ∈ lw_all := lw_g (lw_at lw_m4 140 rfl) rfl
theorem q939 : (Jvm.Cond.classLink "TemperIsles" (308 : Nat) "java/lang/ClassCastException") ∈ lw_all := lw_g (lw_at lw_m4 141 rfl) rfl
theorem q953 : (Jvm.Cond.methodLink "TemperIsles" (304 : Nat) ({ cls := "TemperIsles", name := "cell", desc := "(Ljava/lang/Object;II)I" } : Jvm.MethodName)) ∈ lw_all := lw_g (lw_at lw_m4 155 rfl) rfl
theorem q954 : (Jvm.Cond.static ({ cls := "TemperIsles", name := "cell", desc := "(Ljava/lang/Object;II)I" } : Jvm.MethodName)) ∈ lw_all := lw_g (lw_at lw_m4 156 rfl) rfl
theorem q955 : (Jvm.Cond.code ({ cls := "TemperIsles", name := "cell", desc := "(Ljava/lang/Object;II)I" } : Jvm.MethodName) prog_1_method_62_code (3 : Nat) (Option.some Jvm.ClassFile.FieldType.int)) ∈ lw_all := lw_g (lw_at lw_m4 157 rfl) rfl
theorem q957 : (Jvm.Cond.instanceMethod ({ cls := "TemperIsles", name := "torn", desc := "()I" } : Jvm.MethodName)) ∈ lw_all := lw_g (lw_at lw_m4 159 rfl) rfl
theorem q958 : (Jvm.Cond.selects "TemperIsles" ({ cls := "TemperIsles", name := "torn", desc := "()I" } : Jvm.MethodName) ({ cls := "TemperIsles", name := "torn", desc := "()I" } : Jvm.MethodName)) ∈ lw_all := lw_g (lw_at lw_m4 160 rfl) rfl
theorem q959 : (Jvm.Cond.code ({ cls := "TemperIsles", name := "torn", desc := "()I" } : Jvm.MethodName) prog_1_method_65_code (1 : Nat) (Option.some Jvm.ClassFile.FieldType.int)) ∈ lw_all := lw_g (lw_at lw_m4 161 rfl) rfl
theorem q961 : (Jvm.Cond.instanceMethod ({ cls := "TemperIsles", name := "count", desc := "(I)I" } : Jvm.MethodName)) ∈ lw_all := lw_g (lw_at lw_m4 163 rfl) rfl
theorem q962 : (Jvm.Cond.selects "TemperIsles" ({ cls := "TemperIsles", name := "count", desc := "(I)I" } : Jvm.MethodName) ({ cls := "TemperIsles", name := "count", desc := "(I)I" } : Jvm.MethodName)) ∈ lw_all := lw_g (lw_at lw_m4 164 rfl) rfl
theorem q963 : (Jvm.Cond.code ({ cls := "TemperIsles", name := "count", desc := "(I)I" } : Jvm.MethodName) prog_1_method_66_code (6 : Nat) (Option.some Jvm.ClassFile.FieldType.int)) ∈ lw_all := lw_g (lw_at lw_m4 165 rfl) rfl
theorem q1460 : (Jvm.Cond.stringRef "TemperIsles" (337 : Nat) "plain") ∈ lw_tbl := lw_at lw_m6 182 rfl
theorem q1461 : (Jvm.Cond.stringRef "TemperIsles" (339 : Nat) "proud") ∈ lw_tbl := lw_at lw_m6 183 rfl
theorem q1462 : (Jvm.Cond.stringRef "TemperIsles" (341 : Nat) "fond") ∈ lw_tbl := lw_at lw_m6 184 rfl
theorem q1463 : (Jvm.Cond.stringRef "TemperIsles" (343 : Nat) "widow") ∈ lw_tbl := lw_at lw_m6 185 rfl
theorem q1464 : (Jvm.Cond.stringRef "TemperIsles" (345 : Nat) "cross") ∈ lw_tbl := lw_at lw_m6 186 rfl
theorem q1465 : (Jvm.Cond.stringRef "TemperIsles" (347 : Nat) "rope") ∈ lw_tbl := lw_at lw_m6 187 rfl
theorem q1466 : (Jvm.Cond.stringRef "TemperIsles" (349 : Nat) "feast") ∈ lw_tbl := lw_at lw_m6 188 rfl
theorem in_X0 : ∀ w ∈ wsX00, w ∈ lw_all := lw_in wsX00 [811, 813, 815, 817, 819, 821, 823, 825, 827, 829, 831, 833, 835, 837, 839, 841] (by decide +kernel) (by decide +kernel)
