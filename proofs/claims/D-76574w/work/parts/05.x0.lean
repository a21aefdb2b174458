/-! NobodyCanLiftIt -/
set_option maxRecDepth 100000
def RX0 : String := "NobodyCanLiftIt"
def TX0 : u_T := fun k => match k with
  | 0 => ("NobodyCanLiftIt", "folk", "[LNobodyCanLiftIt$Man;", true)
  | 1 => ("NobodyCanLiftIt", "many", "I", false)
  | 2 => ("NobodyCanLiftIt", "year", "I", false)
  | 3 => ("NobodyCanLiftIt", "on", "I", false)
  | 4 => ("NobodyCanLiftIt", "loads", "[I", true)
  | 5 => ("NobodyCanLiftIt", "faulty", "LNobodyCanLiftIt$Faulty;", true)
  | 6 => ("NobodyCanLiftIt", "forOne", "I", false)
  | 7 => ("NobodyCanLiftIt", "texts", "[[LNobodyCanLiftIt$Node;", true)
  | 8 => ("NobodyCanLiftIt", "textMany", "I", false)
  | 9 => ("NobodyCanLiftIt", "keys", "[Ljava/lang/String;", true)
  | 10 => ("NobodyCanLiftIt", "names", "[Ljava/lang/String;", true)
  | 11 => ("NobodyCanLiftIt", "tape", "[B", true)
  | 12 => ("NobodyCanLiftIt", "taped", "I", false)
  | 13 => ("NobodyCanLiftIt", "length", "I", false)
  | 14 => ("NobodyCanLiftIt", "at", "I", false)
  | 15 => ("NobodyCanLiftIt", "begin", "I", false)
  | 16 => ("NobodyCanLiftIt", "token", "I", false)
  | 17 => ("NobodyCanLiftIt", "value", "I", false)
  | 18 => ("NobodyCanLiftIt", "opens", "I", false)
  | 19 => ("NobodyCanLiftIt", "rule", "I", false)
  | 20 => ("NobodyCanLiftIt", "felt", "LNobodyCanLiftIt$Part;", true)
  | 21 => ("NobodyCanLiftIt", "whole", "LNobodyCanLiftIt$Part;", true)
  | 22 => ("NobodyCanLiftIt", "lightest", "LNobodyCanLiftIt$Part;", true)
  | 23 => ("NobodyCanLiftIt", "calm", "[I", true)
  | 24 => ("NobodyCanLiftIt", "kept", "[[I", true)
  | 25 => ("NobodyCanLiftIt", "keptOn", "I", false)
  | 26 => ("NobodyCanLiftIt", "keptYear", "I", false)
  | 27 => ("NobodyCanLiftIt", "hasImage", "Z", false)
  | 28 => ("NobodyCanLiftIt", "imageLoads", "[I", true)
  | 29 => ("NobodyCanLiftIt", "imageFolk", "[[I", true)
  | 30 => ("NobodyCanLiftIt", "imageNumbers", "[I", true)
  | _ => ("NobodyCanLiftIt", "sheets", "[LNobodyCanLiftIt$Sheet;", true)
def tyX0 : Nat → FieldType := fun k => match k with
  | 0 => .array (.object "NobodyCanLiftIt$Man")
  | 1 => .int
  | 2 => .int
  | 3 => .int
  | 4 => .array .int
  | 5 => .object "NobodyCanLiftIt$Faulty"
  | 6 => .int
  | 7 => .array (.array (.object "NobodyCanLiftIt$Node"))
  | 8 => .int
  | 9 => .array (.object "java/lang/String")
  | 10 => .array (.object "java/lang/String")
  | 11 => .array .byte
  | 12 => .int
  | 13 => .int
  | 14 => .int
  | 15 => .int
  | 16 => .int
  | 17 => .int
  | 18 => .int
  | 19 => .int
  | 20 => .object "NobodyCanLiftIt$Part"
  | 21 => .object "NobodyCanLiftIt$Part"
  | 22 => .object "NobodyCanLiftIt$Part"
  | 23 => .array .int
  | 24 => .array (.array .int)
  | 25 => .int
  | 26 => .int
  | 27 => .boolean
  | 28 => .array .int
  | 29 => .array (.array .int)
  | 30 => .array .int
  | _ => .array (.object "NobodyCanLiftIt$Sheet")
abbrev wsX00 : List Cond := u_ws RX0 TX0 32
set_option maxRecDepth 100000 in
theorem nmX0 : ∀ a, a < 32 → ∀ b, b < 32 → a ≠ b → (TX0 a).2.1 ≠ (TX0 b).2.1 := by decide +kernel
set_option maxRecDepth 100000 in
theorem tyX0_ok : ∀ k, k < 32 → parseFieldDescriptor (TX0 k).2.2.1 = some (tyX0 k) := by decide +kernel
abbrev cX0_person : ByteArray := prog_1_method_7_code
def yX0_person : MethodName := ⟨RX0, "person", "(III)I"⟩
def dkwX0_person_3 : List UInt8 := [96, 181, 0, 10, 42, 180, 0, 10, 4, 100, 172]
abbrev dktX0_person_3 : List UInt8 := dkwX0_person_3 ++ []
def dkwX0_person_2 : List UInt8 := [16, 252, 172, 42, 180, 0, 47, 42, 180, 0, 10, 27, 28, 29, 184, 0, 51, 83, 42, 89, 180, 0, 10, 4]
abbrev dktX0_person_2 : List UInt8 := dkwX0_person_2 ++ dktX0_person_3
def dkwX0_person_1 : List UInt8 := [29, 133, 9, 20, 0, 45, 184, 0, 16, 154, 0, 6, 16, 254, 172, 42, 180, 0, 10, 8, 160, 0, 6]
abbrev dktX0_person_1 : List UInt8 := dkwX0_person_1 ++ dktX0_person_2
def dkwX0_person_0 : List UInt8 := [27, 133, 9, 20, 0, 43, 184, 0, 16, 153, 0, 27, 28, 133, 9, 20, 0, 20, 184, 0, 16, 153, 0, 15]
abbrev dktX0_person_0 : List UInt8 := dkwX0_person_0 ++ dktX0_person_1
theorem dksX0_person_0 : cX0_person.data.toList.drop 0 = dktX0_person_0 := by decide +kernel
theorem dksX0_person_1 : cX0_person.data.toList.drop 24 = dktX0_person_1 := dk_seg dksX0_person_0 24 rfl rfl
theorem dksX0_person_2 : cX0_person.data.toList.drop 47 = dktX0_person_2 := dk_seg dksX0_person_1 23 rfl rfl
theorem dksX0_person_3 : cX0_person.data.toList.drop 71 = dktX0_person_3 := dk_seg dksX0_person_2 24 rfl rfl
theorem dX0_person_0 : decode cX0_person 0 = .ok (.iload_n 1, 1) := dk_27 (dk_at dksX0_person_0 0 rfl rfl)
theorem dX0_person_1 : decode cX0_person 1 = .ok (.i2l, 1) := dk_133 (dk_at dksX0_person_0 1 rfl rfl)
theorem dX0_person_2 : decode cX0_person 2 = .ok (.lconst 0, 1) := dk_9 (dk_at dksX0_person_0 2 rfl rfl)
theorem dX0_person_3 : decode cX0_person 3 = .ok (.ldc2_w 43, 3) := dk_20 0 43 (dk_at dksX0_person_0 3 rfl rfl)
theorem dX0_person_6 : decode cX0_person 6 = .ok (.invokestatic 16, 3) := dk_184 0 16 (dk_at dksX0_person_0 6 rfl rfl)
theorem dX0_person_9 : decode cX0_person 9 = .ok (.ifCond .eq 27, 3) := dk_153 0 27 (dk_at dksX0_person_0 9 rfl rfl)
theorem dX0_person_12 : decode cX0_person 12 = .ok (.iload_n 2, 1) := dk_28 (dk_at dksX0_person_0 12 rfl rfl)
theorem dX0_person_13 : decode cX0_person 13 = .ok (.i2l, 1) := dk_133 (dk_at dksX0_person_0 13 rfl rfl)
theorem dX0_person_14 : decode cX0_person 14 = .ok (.lconst 0, 1) := dk_9 (dk_at dksX0_person_0 14 rfl rfl)
theorem dX0_person_15 : decode cX0_person 15 = .ok (.ldc2_w 20, 3) := dk_20 0 20 (dk_at dksX0_person_0 15 rfl rfl)
theorem dX0_person_18 : decode cX0_person 18 = .ok (.invokestatic 16, 3) := dk_184 0 16 (dk_at dksX0_person_0 18 rfl rfl)
theorem dX0_person_21 : decode cX0_person 21 = .ok (.ifCond .eq 15, 3) := dk_153 0 15 (dk_at dksX0_person_0 21 rfl rfl)
theorem dX0_person_24 : decode cX0_person 24 = .ok (.iload_n 3, 1) := dk_29 (dk_at dksX0_person_1 0 rfl rfl)
theorem dX0_person_25 : decode cX0_person 25 = .ok (.i2l, 1) := dk_133 (dk_at dksX0_person_1 1 rfl rfl)
theorem dX0_person_26 : decode cX0_person 26 = .ok (.lconst 0, 1) := dk_9 (dk_at dksX0_person_1 2 rfl rfl)
theorem dX0_person_27 : decode cX0_person 27 = .ok (.ldc2_w 45, 3) := dk_20 0 45 (dk_at dksX0_person_1 3 rfl rfl)
theorem dX0_person_30 : decode cX0_person 30 = .ok (.invokestatic 16, 3) := dk_184 0 16 (dk_at dksX0_person_1 6 rfl rfl)
theorem dX0_person_33 : decode cX0_person 33 = .ok (.ifCond .ne 6, 3) := dk_154 0 6 (dk_at dksX0_person_1 9 rfl rfl)
theorem dX0_person_36 : decode cX0_person 36 = .ok (.bipush (-2), 2) := dk_16 254 (dk_at dksX0_person_1 12 rfl rfl)
theorem dX0_person_38 : decode cX0_person 38 = .ok (.ireturn, 1) := dk_172 (dk_at dksX0_person_1 14 rfl rfl)
theorem dX0_person_39 : decode cX0_person 39 = .ok (.aload_n 0, 1) := dk_42 (dk_at dksX0_person_1 15 rfl rfl)
theorem dX0_person_40 : decode cX0_person 40 = .ok (.getfield 10, 3) := dk_180 0 10 (dk_at dksX0_person_1 16 rfl rfl)
theorem dX0_person_43 : decode cX0_person 43 = .ok (.iconst 5, 1) := dk_8 (dk_at dksX0_person_1 19 rfl rfl)
theorem dX0_person_44 : decode cX0_person 44 = .ok (.if_icmp .ne 6, 3) := dk_160 0 6 (dk_at dksX0_person_1 20 rfl rfl)
theorem dX0_person_47 : decode cX0_person 47 = .ok (.bipush (-4), 2) := dk_16 252 (dk_at dksX0_person_2 0 rfl rfl)
theorem dX0_person_49 : decode cX0_person 49 = .ok (.ireturn, 1) := dk_172 (dk_at dksX0_person_2 2 rfl rfl)
theorem dX0_person_50 : decode cX0_person 50 = .ok (.aload_n 0, 1) := dk_42 (dk_at dksX0_person_2 3 rfl rfl)
theorem dX0_person_51 : decode cX0_person 51 = .ok (.getfield 47, 3) := dk_180 0 47 (dk_at dksX0_person_2 4 rfl rfl)
theorem dX0_person_54 : decode cX0_person 54 = .ok (.aload_n 0, 1) := dk_42 (dk_at dksX0_person_2 7 rfl rfl)
theorem dX0_person_55 : decode cX0_person 55 = .ok (.getfield 10, 3) := dk_180 0 10 (dk_at dksX0_person_2 8 rfl rfl)
theorem dX0_person_58 : decode cX0_person 58 = .ok (.iload_n 1, 1) := dk_27 (dk_at dksX0_person_2 11 rfl rfl)
theorem dX0_person_59 : decode cX0_person 59 = .ok (.iload_n 2, 1) := dk_28 (dk_at dksX0_person_2 12 rfl rfl)
theorem dX0_person_60 : decode cX0_person 60 = .ok (.iload_n 3, 1) := dk_29 (dk_at dksX0_person_2 13 rfl rfl)
theorem dX0_person_61 : decode cX0_person 61 = .ok (.invokestatic 51, 3) := dk_184 0 51 (dk_at dksX0_person_2 14 rfl rfl)
theorem dX0_person_64 : decode cX0_person 64 = .ok (.aastore, 1) := dk_83 (dk_at dksX0_person_2 17 rfl rfl)
theorem dX0_person_65 : decode cX0_person 65 = .ok (.aload_n 0, 1) := dk_42 (dk_at dksX0_person_2 18 rfl rfl)
theorem dX0_person_66 : decode cX0_person 66 = .ok (.dup, 1) := dk_89 (dk_at dksX0_person_2 19 rfl rfl)
theorem dX0_person_67 : decode cX0_person 67 = .ok (.getfield 10, 3) := dk_180 0 10 (dk_at dksX0_person_2 20 rfl rfl)
theorem dX0_person_70 : decode cX0_person 70 = .ok (.iconst 1, 1) := dk_4 (dk_at dksX0_person_2 23 rfl rfl)
theorem dX0_person_71 : decode cX0_person 71 = .ok (.iadd, 1) := dk_96 (dk_at dksX0_person_3 0 rfl rfl)
theorem dX0_person_72 : decode cX0_person 72 = .ok (.putfield 10, 3) := dk_181 0 10 (dk_at dksX0_person_3 1 rfl rfl)
theorem dX0_person_75 : decode cX0_person 75 = .ok (.aload_n 0, 1) := dk_42 (dk_at dksX0_person_3 4 rfl rfl)
theorem dX0_person_76 : decode cX0_person 76 = .ok (.getfield 10, 3) := dk_180 0 10 (dk_at dksX0_person_3 5 rfl rfl)
theorem dX0_person_79 : decode cX0_person 79 = .ok (.iconst 1, 1) := dk_4 (dk_at dksX0_person_3 8 rfl rfl)
theorem dX0_person_80 : decode cX0_person 80 = .ok (.isub, 1) := dk_100 (dk_at dksX0_person_3 9 rfl rfl)
theorem dX0_person_81 : decode cX0_person 81 = .ok (.ireturn, 1) := dk_172 (dk_at dksX0_person_3 10 rfl rfl)
abbrev cX0_in : ByteArray := prog_1_method_1_code
def yX0_in : MethodName := ⟨RX0, "in", "(JJJ)Z"⟩
def dkwX0_in_0 : List UInt8 := [30, 32, 148, 155, 0, 14, 30, 22, 4, 148, 157, 0, 7, 4, 167, 0, 4, 3, 172]
abbrev dktX0_in_0 : List UInt8 := dkwX0_in_0 ++ []
theorem dksX0_in_0 : cX0_in.data.toList.drop 0 = dktX0_in_0 := by decide +kernel
theorem dX0_in_0 : decode cX0_in 0 = .ok (.lload_n 0, 1) := dk_30 (dk_at dksX0_in_0 0 rfl rfl)
theorem dX0_in_1 : decode cX0_in 1 = .ok (.lload_n 2, 1) := dk_32 (dk_at dksX0_in_0 1 rfl rfl)
theorem dX0_in_2 : decode cX0_in 2 = .ok (.lcmp, 1) := dk_148 (dk_at dksX0_in_0 2 rfl rfl)
theorem dX0_in_3 : decode cX0_in 3 = .ok (.ifCond .lt 14, 3) := dk_155 0 14 (dk_at dksX0_in_0 3 rfl rfl)
theorem dX0_in_6 : decode cX0_in 6 = .ok (.lload_n 0, 1) := dk_30 (dk_at dksX0_in_0 6 rfl rfl)
theorem dX0_in_7 : decode cX0_in 7 = .ok (.lload 4, 2) := dk_22 4 (dk_at dksX0_in_0 7 rfl rfl)
theorem dX0_in_9 : decode cX0_in 9 = .ok (.lcmp, 1) := dk_148 (dk_at dksX0_in_0 9 rfl rfl)
theorem dX0_in_10 : decode cX0_in 10 = .ok (.ifCond .gt 7, 3) := dk_157 0 7 (dk_at dksX0_in_0 10 rfl rfl)
theorem dX0_in_13 : decode cX0_in 13 = .ok (.iconst 1, 1) := dk_4 (dk_at dksX0_in_0 13 rfl rfl)
theorem dX0_in_14 : decode cX0_in 14 = .ok (.goto 4, 3) := dk_167 0 4 (dk_at dksX0_in_0 14 rfl rfl)
theorem dX0_in_17 : decode cX0_in 17 = .ok (.iconst 0, 1) := dk_3 (dk_at dksX0_in_0 17 rfl rfl)
theorem dX0_in_18 : decode cX0_in 18 = .ok (.ireturn, 1) := dk_172 (dk_at dksX0_in_0 18 rfl rfl)
abbrev cX0_made : ByteArray := prog_1_method_6_code
def yX0_made : MethodName := ⟨RX0, "made", "(III)LNobodyCanLiftIt$Man;"⟩
def dkwX0_made_4 : List UInt8 := [183, 0, 39, 176, 187, 0, 40, 89, 27, 28, 183, 0, 42, 176]
abbrev dktX0_made_4 : List UInt8 := dkwX0_made_4 ++ []
def dkwX0_made_3 : List UInt8 := [27, 28, 183, 0, 33, 176, 187, 0, 34, 89, 27, 28, 183, 0, 36, 176, 187, 0, 37, 89, 27, 28]
abbrev dktX0_made_3 : List UInt8 := dkwX0_made_3 ++ dktX0_made_4
def dkwX0_made_2 : List UInt8 := [187, 0, 22, 89, 27, 28, 183, 0, 24, 176, 187, 0, 28, 89, 27, 28, 183, 0, 30, 176, 187, 0, 31, 89]
abbrev dktX0_made_2 : List UInt8 := dkwX0_made_2 ++ dktX0_made_3
def dkwX0_made_1 : List UInt8 := [170, 0, 0, 0, 0, 0, 85, 0, 0, 0, 1, 0, 0, 0, 5, 0, 0, 0, 35, 0, 0, 0, 45, 0, 0, 0, 55, 0, 0, 0, 65, 0, 0, 0, 75]
abbrev dktX0_made_1 : List UInt8 := dkwX0_made_1 ++ dktX0_made_2
def dkwX0_made_0 : List UInt8 := [26]
abbrev dktX0_made_0 : List UInt8 := dkwX0_made_0 ++ dktX0_made_1
theorem dksX0_made_0 : cX0_made.data.toList.drop 0 = dktX0_made_0 := by decide +kernel
theorem dksX0_made_1 : cX0_made.data.toList.drop 1 = dktX0_made_1 := dk_seg dksX0_made_0 1 rfl rfl
theorem dksX0_made_2 : cX0_made.data.toList.drop 36 = dktX0_made_2 := dk_seg dksX0_made_1 35 rfl rfl
theorem dksX0_made_3 : cX0_made.data.toList.drop 60 = dktX0_made_3 := dk_seg dksX0_made_2 24 rfl rfl
theorem dksX0_made_4 : cX0_made.data.toList.drop 82 = dktX0_made_4 := dk_seg dksX0_made_3 22 rfl rfl
theorem dX0_made_0 : decode cX0_made 0 = .ok (.iload_n 0, 1) := dk_26 (dk_at dksX0_made_0 0 rfl rfl)
theorem dX0_made_1 : decode cX0_made 1 = .ok (.tableswitch 85 1 5 #[35, 45, 55, 65, 75], 35) := by decide +kernel
theorem dX0_made_36 : decode cX0_made 36 = .ok (.new 22, 3) := dk_187 0 22 (dk_at dksX0_made_2 0 rfl rfl)
theorem dX0_made_39 : decode cX0_made 39 = .ok (.dup, 1) := dk_89 (dk_at dksX0_made_2 3 rfl rfl)
theorem dX0_made_40 : decode cX0_made 40 = .ok (.iload_n 1, 1) := dk_27 (dk_at dksX0_made_2 4 rfl rfl)
theorem dX0_made_41 : decode cX0_made 41 = .ok (.iload_n 2, 1) := dk_28 (dk_at dksX0_made_2 5 rfl rfl)
theorem dX0_made_42 : decode cX0_made 42 = .ok (.invokespecial 24, 3) := dk_183 0 24 (dk_at dksX0_made_2 6 rfl rfl)
theorem dX0_made_45 : decode cX0_made 45 = .ok (.areturn, 1) := dk_176 (dk_at dksX0_made_2 9 rfl rfl)
theorem dX0_made_46 : decode cX0_made 46 = .ok (.new 28, 3) := dk_187 0 28 (dk_at dksX0_made_2 10 rfl rfl)
theorem dX0_made_49 : decode cX0_made 49 = .ok (.dup, 1) := dk_89 (dk_at dksX0_made_2 13 rfl rfl)
theorem dX0_made_50 : decode cX0_made 50 = .ok (.iload_n 1, 1) := dk_27 (dk_at dksX0_made_2 14 rfl rfl)
theorem dX0_made_51 : decode cX0_made 51 = .ok (.iload_n 2, 1) := dk_28 (dk_at dksX0_made_2 15 rfl rfl)
theorem dX0_made_52 : decode cX0_made 52 = .ok (.invokespecial 30, 3) := dk_183 0 30 (dk_at dksX0_made_2 16 rfl rfl)
theorem dX0_made_55 : decode cX0_made 55 = .ok (.areturn, 1) := dk_176 (dk_at dksX0_made_2 19 rfl rfl)
theorem dX0_made_56 : decode cX0_made 56 = .ok (.new 31, 3) := dk_187 0 31 (dk_at dksX0_made_2 20 rfl rfl)
theorem dX0_made_59 : decode cX0_made 59 = .ok (.dup, 1) := dk_89 (dk_at dksX0_made_2 23 rfl rfl)
theorem dX0_made_60 : decode cX0_made 60 = .ok (.iload_n 1, 1) := dk_27 (dk_at dksX0_made_3 0 rfl rfl)
theorem dX0_made_61 : decode cX0_made 61 = .ok (.iload_n 2, 1) := dk_28 (dk_at dksX0_made_3 1 rfl rfl)
theorem dX0_made_62 : decode cX0_made 62 = .ok (.invokespecial 33, 3) := dk_183 0 33 (dk_at dksX0_made_3 2 rfl rfl)
theorem dX0_made_65 : decode cX0_made 65 = .ok (.areturn, 1) := dk_176 (dk_at dksX0_made_3 5 rfl rfl)
theorem dX0_made_66 : decode cX0_made 66 = .ok (.new 34, 3) := dk_187 0 34 (dk_at dksX0_made_3 6 rfl rfl)
theorem dX0_made_69 : decode cX0_made 69 = .ok (.dup, 1) := dk_89 (dk_at dksX0_made_3 9 rfl rfl)
theorem dX0_made_70 : decode cX0_made 70 = .ok (.iload_n 1, 1) := dk_27 (dk_at dksX0_made_3 10 rfl rfl)
theorem dX0_made_71 : decode cX0_made 71 = .ok (.iload_n 2, 1) := dk_28 (dk_at dksX0_made_3 11 rfl rfl)
theorem dX0_made_72 : decode cX0_made 72 = .ok (.invokespecial 36, 3) := dk_183 0 36 (dk_at dksX0_made_3 12 rfl rfl)
theorem dX0_made_75 : decode cX0_made 75 = .ok (.areturn, 1) := dk_176 (dk_at dksX0_made_3 15 rfl rfl)
theorem dX0_made_76 : decode cX0_made 76 = .ok (.new 37, 3) := dk_187 0 37 (dk_at dksX0_made_3 16 rfl rfl)
theorem dX0_made_79 : decode cX0_made 79 = .ok (.dup, 1) := dk_89 (dk_at dksX0_made_3 19 rfl rfl)
theorem dX0_made_80 : decode cX0_made 80 = .ok (.iload_n 1, 1) := dk_27 (dk_at dksX0_made_3 20 rfl rfl)
theorem dX0_made_81 : decode cX0_made 81 = .ok (.iload_n 2, 1) := dk_28 (dk_at dksX0_made_3 21 rfl rfl)
theorem dX0_made_82 : decode cX0_made 82 = .ok (.invokespecial 39, 3) := dk_183 0 39 (dk_at dksX0_made_4 0 rfl rfl)
theorem dX0_made_85 : decode cX0_made 85 = .ok (.areturn, 1) := dk_176 (dk_at dksX0_made_4 3 rfl rfl)
theorem dX0_made_86 : decode cX0_made 86 = .ok (.new 40, 3) := dk_187 0 40 (dk_at dksX0_made_4 4 rfl rfl)
theorem dX0_made_89 : decode cX0_made 89 = .ok (.dup, 1) := dk_89 (dk_at dksX0_made_4 7 rfl rfl)
theorem dX0_made_90 : decode cX0_made 90 = .ok (.iload_n 1, 1) := dk_27 (dk_at dksX0_made_4 8 rfl rfl)
theorem dX0_made_91 : decode cX0_made 91 = .ok (.iload_n 2, 1) := dk_28 (dk_at dksX0_made_4 9 rfl rfl)
theorem dX0_made_92 : decode cX0_made 92 = .ok (.invokespecial 42, 3) := dk_183 0 42 (dk_at dksX0_made_4 10 rfl rfl)
theorem dX0_made_95 : decode cX0_made 95 = .ok (.areturn, 1) := dk_176 (dk_at dksX0_made_4 13 rfl rfl)
abbrev cX0_set : ByteArray := prog_1_method_12_code
def yX0_set : MethodName := ⟨RX0, "set", "(III)I"⟩
def dkwX0_set_2 : List UInt8 := [28, 29, 182, 0, 98, 21, 4, 172]
abbrev dktX0_set_2 : List UInt8 := dkwX0_set_2 ++ []
def dkwX0_set_1 : List UInt8 := [27, 184, 0, 91, 133, 184, 0, 16, 154, 0, 6, 16, 254, 172, 42, 27, 28, 182, 0, 95, 54, 4, 42, 27]
abbrev dktX0_set_1 : List UInt8 := dkwX0_set_1 ++ dktX0_set_2
def dkwX0_set_0 : List UInt8 := [27, 133, 9, 20, 0, 85, 184, 0, 16, 153, 0, 26, 42, 27, 28, 182, 0, 87, 153, 0, 17, 29, 133, 9]
abbrev dktX0_set_0 : List UInt8 := dkwX0_set_0 ++ dktX0_set_1
theorem dksX0_set_0 : cX0_set.data.toList.drop 0 = dktX0_set_0 := by decide +kernel
theorem dksX0_set_1 : cX0_set.data.toList.drop 24 = dktX0_set_1 := dk_seg dksX0_set_0 24 rfl rfl
theorem dksX0_set_2 : cX0_set.data.toList.drop 48 = dktX0_set_2 := dk_seg dksX0_set_1 24 rfl rfl
theorem dX0_set_0 : decode cX0_set 0 = .ok (.iload_n 1, 1) := dk_27 (dk_at dksX0_set_0 0 rfl rfl)
theorem dX0_set_1 : decode cX0_set 1 = .ok (.i2l, 1) := dk_133 (dk_at dksX0_set_0 1 rfl rfl)
theorem dX0_set_2 : decode cX0_set 2 = .ok (.lconst 0, 1) := dk_9 (dk_at dksX0_set_0 2 rfl rfl)
theorem dX0_set_3 : decode cX0_set 3 = .ok (.ldc2_w 85, 3) := dk_20 0 85 (dk_at dksX0_set_0 3 rfl rfl)
theorem dX0_set_6 : decode cX0_set 6 = .ok (.invokestatic 16, 3) := dk_184 0 16 (dk_at dksX0_set_0 6 rfl rfl)
theorem dX0_set_9 : decode cX0_set 9 = .ok (.ifCond .eq 26, 3) := dk_153 0 26 (dk_at dksX0_set_0 9 rfl rfl)
theorem dX0_set_12 : decode cX0_set 12 = .ok (.aload_n 0, 1) := dk_42 (dk_at dksX0_set_0 12 rfl rfl)
theorem dX0_set_13 : decode cX0_set 13 = .ok (.iload_n 1, 1) := dk_27 (dk_at dksX0_set_0 13 rfl rfl)
theorem dX0_set_14 : decode cX0_set 14 = .ok (.iload_n 2, 1) := dk_28 (dk_at dksX0_set_0 14 rfl rfl)
theorem dX0_set_15 : decode cX0_set 15 = .ok (.invokevirtual 87, 3) := dk_182 0 87 (dk_at dksX0_set_0 15 rfl rfl)
theorem dX0_set_18 : decode cX0_set 18 = .ok (.ifCond .eq 17, 3) := dk_153 0 17 (dk_at dksX0_set_0 18 rfl rfl)
theorem dX0_set_21 : decode cX0_set 21 = .ok (.iload_n 3, 1) := dk_29 (dk_at dksX0_set_0 21 rfl rfl)
theorem dX0_set_22 : decode cX0_set 22 = .ok (.i2l, 1) := dk_133 (dk_at dksX0_set_0 22 rfl rfl)
theorem dX0_set_23 : decode cX0_set 23 = .ok (.lconst 0, 1) := dk_9 (dk_at dksX0_set_0 23 rfl rfl)
theorem dX0_set_24 : decode cX0_set 24 = .ok (.iload_n 1, 1) := dk_27 (dk_at dksX0_set_1 0 rfl rfl)
theorem dX0_set_25 : decode cX0_set 25 = .ok (.invokestatic 91, 3) := dk_184 0 91 (dk_at dksX0_set_1 1 rfl rfl)
theorem dX0_set_28 : decode cX0_set 28 = .ok (.i2l, 1) := dk_133 (dk_at dksX0_set_1 4 rfl rfl)
theorem dX0_set_29 : decode cX0_set 29 = .ok (.invokestatic 16, 3) := dk_184 0 16 (dk_at dksX0_set_1 5 rfl rfl)
theorem dX0_set_32 : decode cX0_set 32 = .ok (.ifCond .ne 6, 3) := dk_154 0 6 (dk_at dksX0_set_1 8 rfl rfl)
theorem dX0_set_35 : decode cX0_set 35 = .ok (.bipush (-2), 2) := dk_16 254 (dk_at dksX0_set_1 11 rfl rfl)
theorem dX0_set_37 : decode cX0_set 37 = .ok (.ireturn, 1) := dk_172 (dk_at dksX0_set_1 13 rfl rfl)
theorem dX0_set_38 : decode cX0_set 38 = .ok (.aload_n 0, 1) := dk_42 (dk_at dksX0_set_1 14 rfl rfl)
theorem dX0_set_39 : decode cX0_set 39 = .ok (.iload_n 1, 1) := dk_27 (dk_at dksX0_set_1 15 rfl rfl)
theorem dX0_set_40 : decode cX0_set 40 = .ok (.iload_n 2, 1) := dk_28 (dk_at dksX0_set_1 16 rfl rfl)
theorem dX0_set_41 : decode cX0_set 41 = .ok (.invokevirtual 95, 3) := dk_182 0 95 (dk_at dksX0_set_1 17 rfl rfl)
theorem dX0_set_44 : decode cX0_set 44 = .ok (.istore 4, 2) := dk_54 4 (dk_at dksX0_set_1 20 rfl rfl)
theorem dX0_set_46 : decode cX0_set 46 = .ok (.aload_n 0, 1) := dk_42 (dk_at dksX0_set_1 22 rfl rfl)
theorem dX0_set_47 : decode cX0_set 47 = .ok (.iload_n 1, 1) := dk_27 (dk_at dksX0_set_1 23 rfl rfl)
theorem dX0_set_48 : decode cX0_set 48 = .ok (.iload_n 2, 1) := dk_28 (dk_at dksX0_set_2 0 rfl rfl)
theorem dX0_set_49 : decode cX0_set 49 = .ok (.iload_n 3, 1) := dk_29 (dk_at dksX0_set_2 1 rfl rfl)
theorem dX0_set_50 : decode cX0_set 50 = .ok (.invokevirtual 98, 3) := dk_182 0 98 (dk_at dksX0_set_2 2 rfl rfl)
theorem dX0_set_53 : decode cX0_set 53 = .ok (.iload 4, 2) := dk_21 4 (dk_at dksX0_set_2 5 rfl rfl)
theorem dX0_set_55 : decode cX0_set 55 = .ok (.ireturn, 1) := dk_172 (dk_at dksX0_set_2 7 rfl rfl)
abbrev cX0_isThere : ByteArray := prog_1_method_8_code
def yX0_isThere : MethodName := ⟨RX0, "isThere", "(II)Z"⟩
def dkwX0_isThere_1 : List UInt8 := [42, 28, 182, 0, 59, 153, 0, 7, 4, 167, 0, 4, 3, 172]
abbrev dktX0_isThere_1 : List UInt8 := dkwX0_isThere_1 ++ []
def dkwX0_isThere_0 : List UInt8 := [27, 4, 159, 0, 30, 27, 5, 159, 0, 25, 27, 154, 0, 13, 28, 184, 0, 55, 153, 0, 18, 167, 0, 11]
abbrev dktX0_isThere_0 : List UInt8 := dkwX0_isThere_0 ++ dktX0_isThere_1
theorem dksX0_isThere_0 : cX0_isThere.data.toList.drop 0 = dktX0_isThere_0 := by decide +kernel
theorem dksX0_isThere_1 : cX0_isThere.data.toList.drop 24 = dktX0_isThere_1 := dk_seg dksX0_isThere_0 24 rfl rfl
theorem dX0_isThere_0 : decode cX0_isThere 0 = .ok (.iload_n 1, 1) := dk_27 (dk_at dksX0_isThere_0 0 rfl rfl)
theorem dX0_isThere_1 : decode cX0_isThere 1 = .ok (.iconst 1, 1) := dk_4 (dk_at dksX0_isThere_0 1 rfl rfl)
theorem dX0_isThere_2 : decode cX0_isThere 2 = .ok (.if_icmp .eq 30, 3) := dk_159 0 30 (dk_at dksX0_isThere_0 2 rfl rfl)
theorem dX0_isThere_5 : decode cX0_isThere 5 = .ok (.iload_n 1, 1) := dk_27 (dk_at dksX0_isThere_0 5 rfl rfl)
theorem dX0_isThere_6 : decode cX0_isThere 6 = .ok (.iconst 2, 1) := dk_5 (dk_at dksX0_isThere_0 6 rfl rfl)
theorem dX0_isThere_7 : decode cX0_isThere 7 = .ok (.if_icmp .eq 25, 3) := dk_159 0 25 (dk_at dksX0_isThere_0 7 rfl rfl)
theorem dX0_isThere_10 : decode cX0_isThere 10 = .ok (.iload_n 1, 1) := dk_27 (dk_at dksX0_isThere_0 10 rfl rfl)
theorem dX0_isThere_11 : decode cX0_isThere 11 = .ok (.ifCond .ne 13, 3) := dk_154 0 13 (dk_at dksX0_isThere_0 11 rfl rfl)
theorem dX0_isThere_14 : decode cX0_isThere 14 = .ok (.iload_n 2, 1) := dk_28 (dk_at dksX0_isThere_0 14 rfl rfl)
theorem dX0_isThere_15 : decode cX0_isThere 15 = .ok (.invokestatic 55, 3) := dk_184 0 55 (dk_at dksX0_isThere_0 15 rfl rfl)
theorem dX0_isThere_18 : decode cX0_isThere 18 = .ok (.ifCond .eq 18, 3) := dk_153 0 18 (dk_at dksX0_isThere_0 18 rfl rfl)
theorem dX0_isThere_21 : decode cX0_isThere 21 = .ok (.goto 11, 3) := dk_167 0 11 (dk_at dksX0_isThere_0 21 rfl rfl)
theorem dX0_isThere_24 : decode cX0_isThere 24 = .ok (.aload_n 0, 1) := dk_42 (dk_at dksX0_isThere_1 0 rfl rfl)
theorem dX0_isThere_25 : decode cX0_isThere 25 = .ok (.iload_n 2, 1) := dk_28 (dk_at dksX0_isThere_1 1 rfl rfl)
theorem dX0_isThere_26 : decode cX0_isThere 26 = .ok (.invokevirtual 59, 3) := dk_182 0 59 (dk_at dksX0_isThere_1 2 rfl rfl)
theorem dX0_isThere_29 : decode cX0_isThere 29 = .ok (.ifCond .eq 7, 3) := dk_153 0 7 (dk_at dksX0_isThere_1 5 rfl rfl)
theorem dX0_isThere_32 : decode cX0_isThere 32 = .ok (.iconst 1, 1) := dk_4 (dk_at dksX0_isThere_1 8 rfl rfl)
theorem dX0_isThere_33 : decode cX0_isThere 33 = .ok (.goto 4, 3) := dk_167 0 4 (dk_at dksX0_isThere_1 9 rfl rfl)
theorem dX0_isThere_36 : decode cX0_isThere 36 = .ok (.iconst 0, 1) := dk_3 (dk_at dksX0_isThere_1 12 rfl rfl)
theorem dX0_isThere_37 : decode cX0_isThere 37 = .ok (.ireturn, 1) := dk_172 (dk_at dksX0_isThere_1 13 rfl rfl)
abbrev cX0_isFloor : ByteArray := prog_1_method_5_code
def yX0_isFloor : MethodName := ⟨RX0, "isFloor", "(I)Z"⟩
def dkwX0_isFloor_0 : List UInt8 := [26, 133, 9, 20, 0, 20, 184, 0, 16, 172]
abbrev dktX0_isFloor_0 : List UInt8 := dkwX0_isFloor_0 ++ []
theorem dksX0_isFloor_0 : cX0_isFloor.data.toList.drop 0 = dktX0_isFloor_0 := by decide +kernel
theorem dX0_isFloor_0 : decode cX0_isFloor 0 = .ok (.iload_n 0, 1) := dk_26 (dk_at dksX0_isFloor_0 0 rfl rfl)
theorem dX0_isFloor_1 : decode cX0_isFloor 1 = .ok (.i2l, 1) := dk_133 (dk_at dksX0_isFloor_0 1 rfl rfl)
theorem dX0_isFloor_2 : decode cX0_isFloor 2 = .ok (.lconst 0, 1) := dk_9 (dk_at dksX0_isFloor_0 2 rfl rfl)
theorem dX0_isFloor_3 : decode cX0_isFloor 3 = .ok (.ldc2_w 20, 3) := dk_20 0 20 (dk_at dksX0_isFloor_0 3 rfl rfl)
theorem dX0_isFloor_6 : decode cX0_isFloor 6 = .ok (.invokestatic 16, 3) := dk_184 0 16 (dk_at dksX0_isFloor_0 6 rfl rfl)
theorem dX0_isFloor_9 : decode cX0_isFloor 9 = .ok (.ireturn, 1) := dk_172 (dk_at dksX0_isFloor_0 9 rfl rfl)
abbrev cX0_isOne : ByteArray := prog_1_method_4_code
def yX0_isOne : MethodName := ⟨RX0, "isOne", "(I)Z"⟩
def dkwX0_isOne_0 : List UInt8 := [27, 133, 9, 42, 180, 0, 10, 4, 100, 133, 184, 0, 16, 172]
abbrev dktX0_isOne_0 : List UInt8 := dkwX0_isOne_0 ++ []
theorem dksX0_isOne_0 : cX0_isOne.data.toList.drop 0 = dktX0_isOne_0 := by decide +kernel
theorem dX0_isOne_0 : decode cX0_isOne 0 = .ok (.iload_n 1, 1) := dk_27 (dk_at dksX0_isOne_0 0 rfl rfl)
theorem dX0_isOne_1 : decode cX0_isOne 1 = .ok (.i2l, 1) := dk_133 (dk_at dksX0_isOne_0 1 rfl rfl)
theorem dX0_isOne_2 : decode cX0_isOne 2 = .ok (.lconst 0, 1) := dk_9 (dk_at dksX0_isOne_0 2 rfl rfl)
theorem dX0_isOne_3 : decode cX0_isOne 3 = .ok (.aload_n 0, 1) := dk_42 (dk_at dksX0_isOne_0 3 rfl rfl)
theorem dX0_isOne_4 : decode cX0_isOne 4 = .ok (.getfield 10, 3) := dk_180 0 10 (dk_at dksX0_isOne_0 4 rfl rfl)
theorem dX0_isOne_7 : decode cX0_isOne 7 = .ok (.iconst 1, 1) := dk_4 (dk_at dksX0_isOne_0 7 rfl rfl)
theorem dX0_isOne_8 : decode cX0_isOne 8 = .ok (.isub, 1) := dk_100 (dk_at dksX0_isOne_0 8 rfl rfl)
theorem dX0_isOne_9 : decode cX0_isOne 9 = .ok (.i2l, 1) := dk_133 (dk_at dksX0_isOne_0 9 rfl rfl)
theorem dX0_isOne_10 : decode cX0_isOne 10 = .ok (.invokestatic 16, 3) := dk_184 0 16 (dk_at dksX0_isOne_0 10 rfl rfl)
theorem dX0_isOne_13 : decode cX0_isOne 13 = .ok (.ireturn, 1) := dk_172 (dk_at dksX0_isOne_0 13 rfl rfl)
abbrev cX0_mostOf : ByteArray := prog_1_method_9_code
def yX0_mostOf : MethodName := ⟨RX0, "mostOf", "(I)I"⟩
def dkwX0_mostOf_2 : List UInt8 := [16, 10, 172, 16, 9, 172, 16, 99, 172, 4, 172, 17, 3, 231, 172]
abbrev dktX0_mostOf_2 : List UInt8 := dkwX0_mostOf_2 ++ []
def dkwX0_mostOf_1 : List UInt8 := [170, 0, 0, 0, 0, 0, 50, 0, 0, 0, 1, 0, 0, 0, 6, 0, 0, 0, 39, 0, 0, 0, 50, 0, 0, 0, 42, 0, 0, 0, 50, 0, 0, 0, 45, 0, 0, 0, 48]
abbrev dktX0_mostOf_1 : List UInt8 := dkwX0_mostOf_1 ++ dktX0_mostOf_2
def dkwX0_mostOf_0 : List UInt8 := [26]
abbrev dktX0_mostOf_0 : List UInt8 := dkwX0_mostOf_0 ++ dktX0_mostOf_1
theorem dksX0_mostOf_0 : cX0_mostOf.data.toList.drop 0 = dktX0_mostOf_0 := by decide +kernel
theorem dksX0_mostOf_1 : cX0_mostOf.data.toList.drop 1 = dktX0_mostOf_1 := dk_seg dksX0_mostOf_0 1 rfl rfl
theorem dksX0_mostOf_2 : cX0_mostOf.data.toList.drop 40 = dktX0_mostOf_2 := dk_seg dksX0_mostOf_1 39 rfl rfl
theorem dX0_mostOf_0 : decode cX0_mostOf 0 = .ok (.iload_n 0, 1) := dk_26 (dk_at dksX0_mostOf_0 0 rfl rfl)
theorem dX0_mostOf_1 : decode cX0_mostOf 1 = .ok (.tableswitch 50 1 6 #[39, 50, 42, 50, 45, 48], 39) := by decide +kernel
theorem dX0_mostOf_40 : decode cX0_mostOf 40 = .ok (.bipush 10, 2) := dk_16 10 (dk_at dksX0_mostOf_2 0 rfl rfl)
theorem dX0_mostOf_42 : decode cX0_mostOf 42 = .ok (.ireturn, 1) := dk_172 (dk_at dksX0_mostOf_2 2 rfl rfl)
theorem dX0_mostOf_43 : decode cX0_mostOf 43 = .ok (.bipush 9, 2) := dk_16 9 (dk_at dksX0_mostOf_2 3 rfl rfl)
theorem dX0_mostOf_45 : decode cX0_mostOf 45 = .ok (.ireturn, 1) := dk_172 (dk_at dksX0_mostOf_2 5 rfl rfl)
theorem dX0_mostOf_46 : decode cX0_mostOf 46 = .ok (.bipush 99, 2) := dk_16 99 (dk_at dksX0_mostOf_2 6 rfl rfl)
theorem dX0_mostOf_48 : decode cX0_mostOf 48 = .ok (.ireturn, 1) := dk_172 (dk_at dksX0_mostOf_2 8 rfl rfl)
theorem dX0_mostOf_49 : decode cX0_mostOf 49 = .ok (.iconst 1, 1) := dk_4 (dk_at dksX0_mostOf_2 9 rfl rfl)
theorem dX0_mostOf_50 : decode cX0_mostOf 50 = .ok (.ireturn, 1) := dk_172 (dk_at dksX0_mostOf_2 10 rfl rfl)
theorem dX0_mostOf_51 : decode cX0_mostOf 51 = .ok (.sipush 999, 3) := dk_17 3 231 (dk_at dksX0_mostOf_2 11 rfl rfl)
theorem dX0_mostOf_54 : decode cX0_mostOf 54 = .ok (.ireturn, 1) := dk_172 (dk_at dksX0_mostOf_2 14 rfl rfl)
abbrev cX0_heldBy : ByteArray := prog_1_method_10_code
def yX0_heldBy : MethodName := ⟨RX0, "heldBy", "(II)I"⟩
def dkwX0_heldBy_4 : List UInt8 := [42, 180, 0, 47, 28, 50, 180, 0, 81, 153, 0, 7, 4, 167, 0, 4, 3, 172]
abbrev dktX0_heldBy_4 : List UInt8 := dkwX0_heldBy_4 ++ []
def dkwX0_heldBy_3 : List UInt8 := [180, 0, 72, 172, 42, 180, 0, 47, 28, 50, 180, 0, 75, 172, 42, 180, 0, 47, 28, 50, 180, 0, 78, 172]
abbrev dktX0_heldBy_3 : List UInt8 := dkwX0_heldBy_3 ++ dktX0_heldBy_4
def dkwX0_heldBy_2 : List UInt8 := [42, 180, 0, 62, 28, 46, 172, 42, 180, 0, 66, 172, 42, 180, 0, 69, 172, 42, 180, 0, 47, 28, 50]
abbrev dktX0_heldBy_2 : List UInt8 := dkwX0_heldBy_2 ++ dktX0_heldBy_3
def dkwX0_heldBy_1 : List UInt8 := [170, 0, 0, 0, 0, 0, 86, 0, 0, 0, 0, 0, 0, 0, 5, 0, 0, 0, 39, 0, 0, 0, 46, 0, 0, 0, 51, 0, 0, 0, 56, 0, 0, 0, 66, 0, 0, 0, 76]
abbrev dktX0_heldBy_1 : List UInt8 := dkwX0_heldBy_1 ++ dktX0_heldBy_2
def dkwX0_heldBy_0 : List UInt8 := [27]
abbrev dktX0_heldBy_0 : List UInt8 := dkwX0_heldBy_0 ++ dktX0_heldBy_1
theorem dksX0_heldBy_0 : cX0_heldBy.data.toList.drop 0 = dktX0_heldBy_0 := by decide +kernel
theorem dksX0_heldBy_1 : cX0_heldBy.data.toList.drop 1 = dktX0_heldBy_1 := dk_seg dksX0_heldBy_0 1 rfl rfl
theorem dksX0_heldBy_2 : cX0_heldBy.data.toList.drop 40 = dktX0_heldBy_2 := dk_seg dksX0_heldBy_1 39 rfl rfl
theorem dksX0_heldBy_3 : cX0_heldBy.data.toList.drop 63 = dktX0_heldBy_3 := dk_seg dksX0_heldBy_2 23 rfl rfl
theorem dksX0_heldBy_4 : cX0_heldBy.data.toList.drop 87 = dktX0_heldBy_4 := dk_seg dksX0_heldBy_3 24 rfl rfl
theorem dX0_heldBy_0 : decode cX0_heldBy 0 = .ok (.iload_n 1, 1) := dk_27 (dk_at dksX0_heldBy_0 0 rfl rfl)
theorem dX0_heldBy_1 : decode cX0_heldBy 1 = .ok (.tableswitch 86 0 5 #[39, 46, 51, 56, 66, 76], 39) := by decide +kernel
theorem dX0_heldBy_40 : decode cX0_heldBy 40 = .ok (.aload_n 0, 1) := dk_42 (dk_at dksX0_heldBy_2 0 rfl rfl)
theorem dX0_heldBy_41 : decode cX0_heldBy 41 = .ok (.getfield 62, 3) := dk_180 0 62 (dk_at dksX0_heldBy_2 1 rfl rfl)
theorem dX0_heldBy_44 : decode cX0_heldBy 44 = .ok (.iload_n 2, 1) := dk_28 (dk_at dksX0_heldBy_2 4 rfl rfl)
theorem dX0_heldBy_45 : decode cX0_heldBy 45 = .ok (.iaload, 1) := dk_46 (dk_at dksX0_heldBy_2 5 rfl rfl)
theorem dX0_heldBy_46 : decode cX0_heldBy 46 = .ok (.ireturn, 1) := dk_172 (dk_at dksX0_heldBy_2 6 rfl rfl)
theorem dX0_heldBy_47 : decode cX0_heldBy 47 = .ok (.aload_n 0, 1) := dk_42 (dk_at dksX0_heldBy_2 7 rfl rfl)
theorem dX0_heldBy_48 : decode cX0_heldBy 48 = .ok (.getfield 66, 3) := dk_180 0 66 (dk_at dksX0_heldBy_2 8 rfl rfl)
theorem dX0_heldBy_51 : decode cX0_heldBy 51 = .ok (.ireturn, 1) := dk_172 (dk_at dksX0_heldBy_2 11 rfl rfl)
theorem dX0_heldBy_52 : decode cX0_heldBy 52 = .ok (.aload_n 0, 1) := dk_42 (dk_at dksX0_heldBy_2 12 rfl rfl)
theorem dX0_heldBy_53 : decode cX0_heldBy 53 = .ok (.getfield 69, 3) := dk_180 0 69 (dk_at dksX0_heldBy_2 13 rfl rfl)
theorem dX0_heldBy_56 : decode cX0_heldBy 56 = .ok (.ireturn, 1) := dk_172 (dk_at dksX0_heldBy_2 16 rfl rfl)
theorem dX0_heldBy_57 : decode cX0_heldBy 57 = .ok (.aload_n 0, 1) := dk_42 (dk_at dksX0_heldBy_2 17 rfl rfl)
theorem dX0_heldBy_58 : decode cX0_heldBy 58 = .ok (.getfield 47, 3) := dk_180 0 47 (dk_at dksX0_heldBy_2 18 rfl rfl)
theorem dX0_heldBy_61 : decode cX0_heldBy 61 = .ok (.iload_n 2, 1) := dk_28 (dk_at dksX0_heldBy_2 21 rfl rfl)
theorem dX0_heldBy_62 : decode cX0_heldBy 62 = .ok (.aaload, 1) := dk_50 (dk_at dksX0_heldBy_2 22 rfl rfl)
theorem dX0_heldBy_63 : decode cX0_heldBy 63 = .ok (.getfield 72, 3) := dk_180 0 72 (dk_at dksX0_heldBy_3 0 rfl rfl)
theorem dX0_heldBy_66 : decode cX0_heldBy 66 = .ok (.ireturn, 1) := dk_172 (dk_at dksX0_heldBy_3 3 rfl rfl)
theorem dX0_heldBy_67 : decode cX0_heldBy 67 = .ok (.aload_n 0, 1) := dk_42 (dk_at dksX0_heldBy_3 4 rfl rfl)
theorem dX0_heldBy_68 : decode cX0_heldBy 68 = .ok (.getfield 47, 3) := dk_180 0 47 (dk_at dksX0_heldBy_3 5 rfl rfl)
theorem dX0_heldBy_71 : decode cX0_heldBy 71 = .ok (.iload_n 2, 1) := dk_28 (dk_at dksX0_heldBy_3 8 rfl rfl)
theorem dX0_heldBy_72 : decode cX0_heldBy 72 = .ok (.aaload, 1) := dk_50 (dk_at dksX0_heldBy_3 9 rfl rfl)
theorem dX0_heldBy_73 : decode cX0_heldBy 73 = .ok (.getfield 75, 3) := dk_180 0 75 (dk_at dksX0_heldBy_3 10 rfl rfl)
theorem dX0_heldBy_76 : decode cX0_heldBy 76 = .ok (.ireturn, 1) := dk_172 (dk_at dksX0_heldBy_3 13 rfl rfl)
theorem dX0_heldBy_77 : decode cX0_heldBy 77 = .ok (.aload_n 0, 1) := dk_42 (dk_at dksX0_heldBy_3 14 rfl rfl)
theorem dX0_heldBy_78 : decode cX0_heldBy 78 = .ok (.getfield 47, 3) := dk_180 0 47 (dk_at dksX0_heldBy_3 15 rfl rfl)
theorem dX0_heldBy_81 : decode cX0_heldBy 81 = .ok (.iload_n 2, 1) := dk_28 (dk_at dksX0_heldBy_3 18 rfl rfl)
theorem dX0_heldBy_82 : decode cX0_heldBy 82 = .ok (.aaload, 1) := dk_50 (dk_at dksX0_heldBy_3 19 rfl rfl)
theorem dX0_heldBy_83 : decode cX0_heldBy 83 = .ok (.getfield 78, 3) := dk_180 0 78 (dk_at dksX0_heldBy_3 20 rfl rfl)
theorem dX0_heldBy_86 : decode cX0_heldBy 86 = .ok (.ireturn, 1) := dk_172 (dk_at dksX0_heldBy_3 23 rfl rfl)
theorem dX0_heldBy_87 : decode cX0_heldBy 87 = .ok (.aload_n 0, 1) := dk_42 (dk_at dksX0_heldBy_4 0 rfl rfl)
theorem dX0_heldBy_88 : decode cX0_heldBy 88 = .ok (.getfield 47, 3) := dk_180 0 47 (dk_at dksX0_heldBy_4 1 rfl rfl)
theorem dX0_heldBy_91 : decode cX0_heldBy 91 = .ok (.iload_n 2, 1) := dk_28 (dk_at dksX0_heldBy_4 4 rfl rfl)
theorem dX0_heldBy_92 : decode cX0_heldBy 92 = .ok (.aaload, 1) := dk_50 (dk_at dksX0_heldBy_4 5 rfl rfl)
theorem dX0_heldBy_93 : decode cX0_heldBy 93 = .ok (.getfield 81, 3) := dk_180 0 81 (dk_at dksX0_heldBy_4 6 rfl rfl)
theorem dX0_heldBy_96 : decode cX0_heldBy 96 = .ok (.ifCond .eq 7, 3) := dk_153 0 7 (dk_at dksX0_heldBy_4 9 rfl rfl)
theorem dX0_heldBy_99 : decode cX0_heldBy 99 = .ok (.iconst 1, 1) := dk_4 (dk_at dksX0_heldBy_4 12 rfl rfl)
theorem dX0_heldBy_100 : decode cX0_heldBy 100 = .ok (.goto 4, 3) := dk_167 0 4 (dk_at dksX0_heldBy_4 13 rfl rfl)
theorem dX0_heldBy_103 : decode cX0_heldBy 103 = .ok (.iconst 0, 1) := dk_3 (dk_at dksX0_heldBy_4 16 rfl rfl)
theorem dX0_heldBy_104 : decode cX0_heldBy 104 = .ok (.ireturn, 1) := dk_172 (dk_at dksX0_heldBy_4 17 rfl rfl)
abbrev cX0_becomes : ByteArray := prog_1_method_11_code
def yX0_becomes : MethodName := ⟨RX0, "becomes", "(III)V"⟩
def dkwX0_becomes_5 : List UInt8 := [50, 29, 4, 160, 0, 7, 4, 167, 0, 4, 3, 181, 0, 81, 177]
abbrev dktX0_becomes_5 : List UInt8 := dkwX0_becomes_5 ++ []
def dkwX0_becomes_4 : List UInt8 := [181, 0, 75, 167, 0, 35, 42, 180, 0, 47, 28, 50, 29, 181, 0, 78, 167, 0, 22, 42, 180, 0, 47, 28]
abbrev dktX0_becomes_4 : List UInt8 := dkwX0_becomes_4 ++ dktX0_becomes_5
def dkwX0_becomes_3 : List UInt8 := [167, 0, 61, 42, 180, 0, 47, 28, 50, 29, 181, 0, 72, 167, 0, 48, 42, 180, 0, 47, 28, 50, 29]
abbrev dktX0_becomes_3 : List UInt8 := dkwX0_becomes_3 ++ dktX0_becomes_4
def dkwX0_becomes_2 : List UInt8 := [42, 180, 0, 62, 28, 29, 79, 167, 0, 77, 42, 29, 181, 0, 66, 167, 0, 69, 42, 29, 181, 0, 69]
abbrev dktX0_becomes_2 : List UInt8 := dkwX0_becomes_2 ++ dktX0_becomes_3
def dkwX0_becomes_1 : List UInt8 := [170, 0, 0, 0, 0, 0, 104, 0, 0, 0, 0, 0, 0, 0, 5, 0, 0, 0, 39, 0, 0, 0, 49, 0, 0, 0, 57, 0, 0, 0, 65, 0, 0, 0, 78, 0, 0, 0, 91]
abbrev dktX0_becomes_1 : List UInt8 := dkwX0_becomes_1 ++ dktX0_becomes_2
def dkwX0_becomes_0 : List UInt8 := [27]
abbrev dktX0_becomes_0 : List UInt8 := dkwX0_becomes_0 ++ dktX0_becomes_1
theorem dksX0_becomes_0 : cX0_becomes.data.toList.drop 0 = dktX0_becomes_0 := by decide +kernel
theorem dksX0_becomes_1 : cX0_becomes.data.toList.drop 1 = dktX0_becomes_1 := dk_seg dksX0_becomes_0 1 rfl rfl
theorem dksX0_becomes_2 : cX0_becomes.data.toList.drop 40 = dktX0_becomes_2 := dk_seg dksX0_becomes_1 39 rfl rfl
theorem dksX0_becomes_3 : cX0_becomes.data.toList.drop 63 = dktX0_becomes_3 := dk_seg dksX0_becomes_2 23 rfl rfl
theorem dksX0_becomes_4 : cX0_becomes.data.toList.drop 86 = dktX0_becomes_4 := dk_seg dksX0_becomes_3 23 rfl rfl
theorem dksX0_becomes_5 : cX0_becomes.data.toList.drop 110 = dktX0_becomes_5 := dk_seg dksX0_becomes_4 24 rfl rfl
theorem dX0_becomes_0 : decode cX0_becomes 0 = .ok (.iload_n 1, 1) := dk_27 (dk_at dksX0_becomes_0 0 rfl rfl)
theorem dX0_becomes_1 : decode cX0_becomes 1 = .ok (.tableswitch 104 0 5 #[39, 49, 57, 65, 78, 91], 39) := by decide +kernel
theorem dX0_becomes_40 : decode cX0_becomes 40 = .ok (.aload_n 0, 1) := dk_42 (dk_at dksX0_becomes_2 0 rfl rfl)
theorem dX0_becomes_41 : decode cX0_becomes 41 = .ok (.getfield 62, 3) := dk_180 0 62 (dk_at dksX0_becomes_2 1 rfl rfl)
theorem dX0_becomes_44 : decode cX0_becomes 44 = .ok (.iload_n 2, 1) := dk_28 (dk_at dksX0_becomes_2 4 rfl rfl)
theorem dX0_becomes_45 : decode cX0_becomes 45 = .ok (.iload_n 3, 1) := dk_29 (dk_at dksX0_becomes_2 5 rfl rfl)
theorem dX0_becomes_46 : decode cX0_becomes 46 = .ok (.iastore, 1) := dk_79 (dk_at dksX0_becomes_2 6 rfl rfl)
theorem dX0_becomes_47 : decode cX0_becomes 47 = .ok (.goto 77, 3) := dk_167 0 77 (dk_at dksX0_becomes_2 7 rfl rfl)
theorem dX0_becomes_50 : decode cX0_becomes 50 = .ok (.aload_n 0, 1) := dk_42 (dk_at dksX0_becomes_2 10 rfl rfl)
theorem dX0_becomes_51 : decode cX0_becomes 51 = .ok (.iload_n 3, 1) := dk_29 (dk_at dksX0_becomes_2 11 rfl rfl)
theorem dX0_becomes_52 : decode cX0_becomes 52 = .ok (.putfield 66, 3) := dk_181 0 66 (dk_at dksX0_becomes_2 12 rfl rfl)
theorem dX0_becomes_55 : decode cX0_becomes 55 = .ok (.goto 69, 3) := dk_167 0 69 (dk_at dksX0_becomes_2 15 rfl rfl)
theorem dX0_becomes_58 : decode cX0_becomes 58 = .ok (.aload_n 0, 1) := dk_42 (dk_at dksX0_becomes_2 18 rfl rfl)
theorem dX0_becomes_59 : decode cX0_becomes 59 = .ok (.iload_n 3, 1) := dk_29 (dk_at dksX0_becomes_2 19 rfl rfl)
theorem dX0_becomes_60 : decode cX0_becomes 60 = .ok (.putfield 69, 3) := dk_181 0 69 (dk_at dksX0_becomes_2 20 rfl rfl)
theorem dX0_becomes_63 : decode cX0_becomes 63 = .ok (.goto 61, 3) := dk_167 0 61 (dk_at dksX0_becomes_3 0 rfl rfl)
theorem dX0_becomes_66 : decode cX0_becomes 66 = .ok (.aload_n 0, 1) := dk_42 (dk_at dksX0_becomes_3 3 rfl rfl)
theorem dX0_becomes_67 : decode cX0_becomes 67 = .ok (.getfield 47, 3) := dk_180 0 47 (dk_at dksX0_becomes_3 4 rfl rfl)
theorem dX0_becomes_70 : decode cX0_becomes 70 = .ok (.iload_n 2, 1) := dk_28 (dk_at dksX0_becomes_3 7 rfl rfl)
theorem dX0_becomes_71 : decode cX0_becomes 71 = .ok (.aaload, 1) := dk_50 (dk_at dksX0_becomes_3 8 rfl rfl)
theorem dX0_becomes_72 : decode cX0_becomes 72 = .ok (.iload_n 3, 1) := dk_29 (dk_at dksX0_becomes_3 9 rfl rfl)
theorem dX0_becomes_73 : decode cX0_becomes 73 = .ok (.putfield 72, 3) := dk_181 0 72 (dk_at dksX0_becomes_3 10 rfl rfl)
theorem dX0_becomes_76 : decode cX0_becomes 76 = .ok (.goto 48, 3) := dk_167 0 48 (dk_at dksX0_becomes_3 13 rfl rfl)
theorem dX0_becomes_79 : decode cX0_becomes 79 = .ok (.aload_n 0, 1) := dk_42 (dk_at dksX0_becomes_3 16 rfl rfl)
theorem dX0_becomes_80 : decode cX0_becomes 80 = .ok (.getfield 47, 3) := dk_180 0 47 (dk_at dksX0_becomes_3 17 rfl rfl)
theorem dX0_becomes_83 : decode cX0_becomes 83 = .ok (.iload_n 2, 1) := dk_28 (dk_at dksX0_becomes_3 20 rfl rfl)
theorem dX0_becomes_84 : decode cX0_becomes 84 = .ok (.aaload, 1) := dk_50 (dk_at dksX0_becomes_3 21 rfl rfl)
theorem dX0_becomes_85 : decode cX0_becomes 85 = .ok (.iload_n 3, 1) := dk_29 (dk_at dksX0_becomes_3 22 rfl rfl)
theorem dX0_becomes_86 : decode cX0_becomes 86 = .ok (.putfield 75, 3) := dk_181 0 75 (dk_at dksX0_becomes_4 0 rfl rfl)
theorem dX0_becomes_89 : decode cX0_becomes 89 = .ok (.goto 35, 3) := dk_167 0 35 (dk_at dksX0_becomes_4 3 rfl rfl)
theorem dX0_becomes_92 : decode cX0_becomes 92 = .ok (.aload_n 0, 1) := dk_42 (dk_at dksX0_becomes_4 6 rfl rfl)
theorem dX0_becomes_93 : decode cX0_becomes 93 = .ok (.getfield 47, 3) := dk_180 0 47 (dk_at dksX0_becomes_4 7 rfl rfl)
theorem dX0_becomes_96 : decode cX0_becomes 96 = .ok (.iload_n 2, 1) := dk_28 (dk_at dksX0_becomes_4 10 rfl rfl)
theorem dX0_becomes_97 : decode cX0_becomes 97 = .ok (.aaload, 1) := dk_50 (dk_at dksX0_becomes_4 11 rfl rfl)
theorem dX0_becomes_98 : decode cX0_becomes 98 = .ok (.iload_n 3, 1) := dk_29 (dk_at dksX0_becomes_4 12 rfl rfl)
theorem dX0_becomes_99 : decode cX0_becomes 99 = .ok (.putfield 78, 3) := dk_181 0 78 (dk_at dksX0_becomes_4 13 rfl rfl)
theorem dX0_becomes_102 : decode cX0_becomes 102 = .ok (.goto 22, 3) := dk_167 0 22 (dk_at dksX0_becomes_4 16 rfl rfl)
theorem dX0_becomes_105 : decode cX0_becomes 105 = .ok (.aload_n 0, 1) := dk_42 (dk_at dksX0_becomes_4 19 rfl rfl)
theorem dX0_becomes_106 : decode cX0_becomes 106 = .ok (.getfield 47, 3) := dk_180 0 47 (dk_at dksX0_becomes_4 20 rfl rfl)
theorem dX0_becomes_109 : decode cX0_becomes 109 = .ok (.iload_n 2, 1) := dk_28 (dk_at dksX0_becomes_4 23 rfl rfl)
theorem dX0_becomes_110 : decode cX0_becomes 110 = .ok (.aaload, 1) := dk_50 (dk_at dksX0_becomes_5 0 rfl rfl)
theorem dX0_becomes_111 : decode cX0_becomes 111 = .ok (.iload_n 3, 1) := dk_29 (dk_at dksX0_becomes_5 1 rfl rfl)
theorem dX0_becomes_112 : decode cX0_becomes 112 = .ok (.iconst 1, 1) := dk_4 (dk_at dksX0_becomes_5 2 rfl rfl)
theorem dX0_becomes_113 : decode cX0_becomes 113 = .ok (.if_icmp .ne 7, 3) := dk_160 0 7 (dk_at dksX0_becomes_5 3 rfl rfl)
theorem dX0_becomes_116 : decode cX0_becomes 116 = .ok (.iconst 1, 1) := dk_4 (dk_at dksX0_becomes_5 6 rfl rfl)
theorem dX0_becomes_117 : decode cX0_becomes 117 = .ok (.goto 4, 3) := dk_167 0 4 (dk_at dksX0_becomes_5 7 rfl rfl)
theorem dX0_becomes_120 : decode cX0_becomes 120 = .ok (.iconst 0, 1) := dk_3 (dk_at dksX0_becomes_5 10 rfl rfl)
theorem dX0_becomes_121 : decode cX0_becomes 121 = .ok (.putfield 81, 3) := dk_181 0 81 (dk_at dksX0_becomes_5 11 rfl rfl)
theorem dX0_becomes_124 : decode cX0_becomes 124 = .ok (.return_, 1) := dk_177 (dk_at dksX0_becomes_5 14 rfl rfl)
abbrev cX0_told : ByteArray := prog_1_method_13_code
def yX0_told : MethodName := ⟨RX0, "told", "(II)I"⟩
def dkwX0_told_5 : List UInt8 := [182, 0, 116, 153, 0, 7, 4, 167, 0, 4, 3, 172]
abbrev dktX0_told_5 : List UInt8 := dkwX0_told_5 ++ []
def dkwX0_told_4 : List UInt8 := [42, 180, 0, 47, 27, 50, 182, 0, 106, 172, 42, 27, 182, 0, 110, 172, 42, 27, 182, 0, 113, 172, 42, 27]
abbrev dktX0_told_4 : List UInt8 := dkwX0_told_4 ++ dktX0_told_5
def dkwX0_told_3 : List UInt8 := [170, 0, 0, 0, 47, 0, 0, 0, 7, 0, 0, 0, 9, 0, 0, 0, 25, 0, 0, 0, 35, 0, 0, 0, 41]
abbrev dktX0_told_3 : List UInt8 := dkwX0_told_3 ++ dktX0_told_4
def dkwX0_told_2 : List UInt8 := [27, 182, 0, 59, 154, 0, 6, 16, 254, 172, 28]
abbrev dktX0_told_2 : List UInt8 := dkwX0_told_2 ++ dktX0_told_3
def dkwX0_told_1 : List UInt8 := [182, 0, 95, 167, 0, 5, 16, 254, 172, 28, 133, 20, 0, 102, 20, 0, 104, 184, 0, 16, 153, 0, 11, 42]
abbrev dktX0_told_1 : List UInt8 := dkwX0_told_1 ++ dktX0_told_2
def dkwX0_told_0 : List UInt8 := [28, 133, 9, 20, 0, 85, 184, 0, 16, 153, 0, 24, 42, 28, 27, 182, 0, 87, 153, 0, 12, 42, 28, 27]
abbrev dktX0_told_0 : List UInt8 := dkwX0_told_0 ++ dktX0_told_1
theorem dksX0_told_0 : cX0_told.data.toList.drop 0 = dktX0_told_0 := by decide +kernel
theorem dksX0_told_1 : cX0_told.data.toList.drop 24 = dktX0_told_1 := dk_seg dksX0_told_0 24 rfl rfl
theorem dksX0_told_2 : cX0_told.data.toList.drop 48 = dktX0_told_2 := dk_seg dksX0_told_1 24 rfl rfl
theorem dksX0_told_3 : cX0_told.data.toList.drop 59 = dktX0_told_3 := dk_seg dksX0_told_2 11 rfl rfl
theorem dksX0_told_4 : cX0_told.data.toList.drop 84 = dktX0_told_4 := dk_seg dksX0_told_3 25 rfl rfl
theorem dksX0_told_5 : cX0_told.data.toList.drop 108 = dktX0_told_5 := dk_seg dksX0_told_4 24 rfl rfl
theorem dX0_told_0 : decode cX0_told 0 = .ok (.iload_n 2, 1) := dk_28 (dk_at dksX0_told_0 0 rfl rfl)
theorem dX0_told_1 : decode cX0_told 1 = .ok (.i2l, 1) := dk_133 (dk_at dksX0_told_0 1 rfl rfl)
theorem dX0_told_2 : decode cX0_told 2 = .ok (.lconst 0, 1) := dk_9 (dk_at dksX0_told_0 2 rfl rfl)
theorem dX0_told_3 : decode cX0_told 3 = .ok (.ldc2_w 85, 3) := dk_20 0 85 (dk_at dksX0_told_0 3 rfl rfl)
theorem dX0_told_6 : decode cX0_told 6 = .ok (.invokestatic 16, 3) := dk_184 0 16 (dk_at dksX0_told_0 6 rfl rfl)
theorem dX0_told_9 : decode cX0_told 9 = .ok (.ifCond .eq 24, 3) := dk_153 0 24 (dk_at dksX0_told_0 9 rfl rfl)
theorem dX0_told_12 : decode cX0_told 12 = .ok (.aload_n 0, 1) := dk_42 (dk_at dksX0_told_0 12 rfl rfl)
theorem dX0_told_13 : decode cX0_told 13 = .ok (.iload_n 2, 1) := dk_28 (dk_at dksX0_told_0 13 rfl rfl)
theorem dX0_told_14 : decode cX0_told 14 = .ok (.iload_n 1, 1) := dk_27 (dk_at dksX0_told_0 14 rfl rfl)
theorem dX0_told_15 : decode cX0_told 15 = .ok (.invokevirtual 87, 3) := dk_182 0 87 (dk_at dksX0_told_0 15 rfl rfl)
theorem dX0_told_18 : decode cX0_told 18 = .ok (.ifCond .eq 12, 3) := dk_153 0 12 (dk_at dksX0_told_0 18 rfl rfl)
theorem dX0_told_21 : decode cX0_told 21 = .ok (.aload_n 0, 1) := dk_42 (dk_at dksX0_told_0 21 rfl rfl)
theorem dX0_told_22 : decode cX0_told 22 = .ok (.iload_n 2, 1) := dk_28 (dk_at dksX0_told_0 22 rfl rfl)
theorem dX0_told_23 : decode cX0_told 23 = .ok (.iload_n 1, 1) := dk_27 (dk_at dksX0_told_0 23 rfl rfl)
theorem dX0_told_24 : decode cX0_told 24 = .ok (.invokevirtual 95, 3) := dk_182 0 95 (dk_at dksX0_told_1 0 rfl rfl)
theorem dX0_told_27 : decode cX0_told 27 = .ok (.goto 5, 3) := dk_167 0 5 (dk_at dksX0_told_1 3 rfl rfl)
theorem dX0_told_30 : decode cX0_told 30 = .ok (.bipush (-2), 2) := dk_16 254 (dk_at dksX0_told_1 6 rfl rfl)
theorem dX0_told_32 : decode cX0_told 32 = .ok (.ireturn, 1) := dk_172 (dk_at dksX0_told_1 8 rfl rfl)
theorem dX0_told_33 : decode cX0_told 33 = .ok (.iload_n 2, 1) := dk_28 (dk_at dksX0_told_1 9 rfl rfl)
theorem dX0_told_34 : decode cX0_told 34 = .ok (.i2l, 1) := dk_133 (dk_at dksX0_told_1 10 rfl rfl)
theorem dX0_told_35 : decode cX0_told 35 = .ok (.ldc2_w 102, 3) := dk_20 0 102 (dk_at dksX0_told_1 11 rfl rfl)
theorem dX0_told_38 : decode cX0_told 38 = .ok (.ldc2_w 104, 3) := dk_20 0 104 (dk_at dksX0_told_1 14 rfl rfl)
theorem dX0_told_41 : decode cX0_told 41 = .ok (.invokestatic 16, 3) := dk_184 0 16 (dk_at dksX0_told_1 17 rfl rfl)
theorem dX0_told_44 : decode cX0_told 44 = .ok (.ifCond .eq 11, 3) := dk_153 0 11 (dk_at dksX0_told_1 20 rfl rfl)
theorem dX0_told_47 : decode cX0_told 47 = .ok (.aload_n 0, 1) := dk_42 (dk_at dksX0_told_1 23 rfl rfl)
theorem dX0_told_48 : decode cX0_told 48 = .ok (.iload_n 1, 1) := dk_27 (dk_at dksX0_told_2 0 rfl rfl)
theorem dX0_told_49 : decode cX0_told 49 = .ok (.invokevirtual 59, 3) := dk_182 0 59 (dk_at dksX0_told_2 1 rfl rfl)
theorem dX0_told_52 : decode cX0_told 52 = .ok (.ifCond .ne 6, 3) := dk_154 0 6 (dk_at dksX0_told_2 4 rfl rfl)
theorem dX0_told_55 : decode cX0_told 55 = .ok (.bipush (-2), 2) := dk_16 254 (dk_at dksX0_told_2 7 rfl rfl)
theorem dX0_told_57 : decode cX0_told 57 = .ok (.ireturn, 1) := dk_172 (dk_at dksX0_told_2 9 rfl rfl)
theorem dX0_told_58 : decode cX0_told 58 = .ok (.iload_n 2, 1) := dk_28 (dk_at dksX0_told_2 10 rfl rfl)
theorem dX0_told_59 : decode cX0_told 59 = .ok (.tableswitch 47 7 9 #[25, 35, 41], 25) := by decide +kernel
theorem dX0_told_84 : decode cX0_told 84 = .ok (.aload_n 0, 1) := dk_42 (dk_at dksX0_told_4 0 rfl rfl)
theorem dX0_told_85 : decode cX0_told 85 = .ok (.getfield 47, 3) := dk_180 0 47 (dk_at dksX0_told_4 1 rfl rfl)
theorem dX0_told_88 : decode cX0_told 88 = .ok (.iload_n 1, 1) := dk_27 (dk_at dksX0_told_4 4 rfl rfl)
theorem dX0_told_89 : decode cX0_told 89 = .ok (.aaload, 1) := dk_50 (dk_at dksX0_told_4 5 rfl rfl)
theorem dX0_told_90 : decode cX0_told 90 = .ok (.invokevirtual 106, 3) := dk_182 0 106 (dk_at dksX0_told_4 6 rfl rfl)
theorem dX0_told_93 : decode cX0_told 93 = .ok (.ireturn, 1) := dk_172 (dk_at dksX0_told_4 9 rfl rfl)
theorem dX0_told_94 : decode cX0_told 94 = .ok (.aload_n 0, 1) := dk_42 (dk_at dksX0_told_4 10 rfl rfl)
theorem dX0_told_95 : decode cX0_told 95 = .ok (.iload_n 1, 1) := dk_27 (dk_at dksX0_told_4 11 rfl rfl)
theorem dX0_told_96 : decode cX0_told 96 = .ok (.invokevirtual 110, 3) := dk_182 0 110 (dk_at dksX0_told_4 12 rfl rfl)
theorem dX0_told_99 : decode cX0_told 99 = .ok (.ireturn, 1) := dk_172 (dk_at dksX0_told_4 15 rfl rfl)
theorem dX0_told_100 : decode cX0_told 100 = .ok (.aload_n 0, 1) := dk_42 (dk_at dksX0_told_4 16 rfl rfl)
theorem dX0_told_101 : decode cX0_told 101 = .ok (.iload_n 1, 1) := dk_27 (dk_at dksX0_told_4 17 rfl rfl)
theorem dX0_told_102 : decode cX0_told 102 = .ok (.invokevirtual 113, 3) := dk_182 0 113 (dk_at dksX0_told_4 18 rfl rfl)
theorem dX0_told_105 : decode cX0_told 105 = .ok (.ireturn, 1) := dk_172 (dk_at dksX0_told_4 21 rfl rfl)
theorem dX0_told_106 : decode cX0_told 106 = .ok (.aload_n 0, 1) := dk_42 (dk_at dksX0_told_4 22 rfl rfl)
theorem dX0_told_107 : decode cX0_told 107 = .ok (.iload_n 1, 1) := dk_27 (dk_at dksX0_told_4 23 rfl rfl)
theorem dX0_told_108 : decode cX0_told 108 = .ok (.invokevirtual 116, 3) := dk_182 0 116 (dk_at dksX0_told_5 0 rfl rfl)
theorem dX0_told_111 : decode cX0_told 111 = .ok (.ifCond .eq 7, 3) := dk_153 0 7 (dk_at dksX0_told_5 3 rfl rfl)
theorem dX0_told_114 : decode cX0_told 114 = .ok (.iconst 1, 1) := dk_4 (dk_at dksX0_told_5 6 rfl rfl)
theorem dX0_told_115 : decode cX0_told 115 = .ok (.goto 4, 3) := dk_167 0 4 (dk_at dksX0_told_5 7 rfl rfl)
theorem dX0_told_118 : decode cX0_told 118 = .ok (.iconst 0, 1) := dk_3 (dk_at dksX0_told_5 10 rfl rfl)
theorem dX0_told_119 : decode cX0_told 119 = .ok (.ireturn, 1) := dk_172 (dk_at dksX0_told_5 11 rfl rfl)
abbrev cX0_strongOf : ByteArray := prog_1_method_43_code
def yX0_strongOf : MethodName := ⟨RX0, "strongOf", "(I)I"⟩
def dkwX0_strongOf_0 : List UInt8 := [42, 180, 0, 47, 27, 50, 42, 4, 27, 182, 1, 96, 42, 182, 1, 113, 182, 1, 116, 172]
abbrev dktX0_strongOf_0 : List UInt8 := dkwX0_strongOf_0 ++ []
theorem dksX0_strongOf_0 : cX0_strongOf.data.toList.drop 0 = dktX0_strongOf_0 := by decide +kernel
theorem dX0_strongOf_0 : decode cX0_strongOf 0 = .ok (.aload_n 0, 1) := dk_42 (dk_at dksX0_strongOf_0 0 rfl rfl)
theorem dX0_strongOf_1 : decode cX0_strongOf 1 = .ok (.getfield 47, 3) := dk_180 0 47 (dk_at dksX0_strongOf_0 1 rfl rfl)
theorem dX0_strongOf_4 : decode cX0_strongOf 4 = .ok (.iload_n 1, 1) := dk_27 (dk_at dksX0_strongOf_0 4 rfl rfl)
theorem dX0_strongOf_5 : decode cX0_strongOf 5 = .ok (.aaload, 1) := dk_50 (dk_at dksX0_strongOf_0 5 rfl rfl)
theorem dX0_strongOf_6 : decode cX0_strongOf 6 = .ok (.aload_n 0, 1) := dk_42 (dk_at dksX0_strongOf_0 6 rfl rfl)
theorem dX0_strongOf_7 : decode cX0_strongOf 7 = .ok (.iconst 1, 1) := dk_4 (dk_at dksX0_strongOf_0 7 rfl rfl)
theorem dX0_strongOf_8 : decode cX0_strongOf 8 = .ok (.iload_n 1, 1) := dk_27 (dk_at dksX0_strongOf_0 8 rfl rfl)
theorem dX0_strongOf_9 : decode cX0_strongOf 9 = .ok (.invokevirtual 352, 3) := dk_182 1 96 (dk_at dksX0_strongOf_0 9 rfl rfl)
theorem dX0_strongOf_12 : decode cX0_strongOf 12 = .ok (.aload_n 0, 1) := dk_42 (dk_at dksX0_strongOf_0 12 rfl rfl)
theorem dX0_strongOf_13 : decode cX0_strongOf 13 = .ok (.invokevirtual 369, 3) := dk_182 1 113 (dk_at dksX0_strongOf_0 13 rfl rfl)
theorem dX0_strongOf_16 : decode cX0_strongOf 16 = .ok (.invokevirtual 372, 3) := dk_182 1 116 (dk_at dksX0_strongOf_0 16 rfl rfl)
theorem dX0_strongOf_19 : decode cX0_strongOf 19 = .ok (.ireturn, 1) := dk_172 (dk_at dksX0_strongOf_0 19 rfl rfl)
abbrev cX0_says : ByteArray := prog_1_method_39_code
def yX0_says : MethodName := ⟨RX0, "says", "(II)I"⟩
def dkwX0_says_1 : List UInt8 := [184, 1, 92, 172]
abbrev dktX0_says_1 : List UInt8 := dkwX0_says_1 ++ []
def dkwX0_says_0 : List UInt8 := [42, 28, 181, 1, 86, 42, 180, 0, 255, 42, 180, 1, 83, 50, 27, 50, 182, 1, 89, 3, 16, 99]
abbrev dktX0_says_0 : List UInt8 := dkwX0_says_0 ++ dktX0_says_1
theorem dksX0_says_0 : cX0_says.data.toList.drop 0 = dktX0_says_0 := by decide +kernel
theorem dksX0_says_1 : cX0_says.data.toList.drop 22 = dktX0_says_1 := dk_seg dksX0_says_0 22 rfl rfl
theorem dX0_says_0 : decode cX0_says 0 = .ok (.aload_n 0, 1) := dk_42 (dk_at dksX0_says_0 0 rfl rfl)
theorem dX0_says_1 : decode cX0_says 1 = .ok (.iload_n 2, 1) := dk_28 (dk_at dksX0_says_0 1 rfl rfl)
theorem dX0_says_2 : decode cX0_says 2 = .ok (.putfield 342, 3) := dk_181 1 86 (dk_at dksX0_says_0 2 rfl rfl)
theorem dX0_says_5 : decode cX0_says 5 = .ok (.aload_n 0, 1) := dk_42 (dk_at dksX0_says_0 5 rfl rfl)
theorem dX0_says_6 : decode cX0_says 6 = .ok (.getfield 255, 3) := dk_180 0 255 (dk_at dksX0_says_0 6 rfl rfl)
theorem dX0_says_9 : decode cX0_says 9 = .ok (.aload_n 0, 1) := dk_42 (dk_at dksX0_says_0 9 rfl rfl)
theorem dX0_says_10 : decode cX0_says 10 = .ok (.getfield 339, 3) := dk_180 1 83 (dk_at dksX0_says_0 10 rfl rfl)
theorem dX0_says_13 : decode cX0_says 13 = .ok (.aaload, 1) := dk_50 (dk_at dksX0_says_0 13 rfl rfl)
theorem dX0_says_14 : decode cX0_says 14 = .ok (.iload_n 1, 1) := dk_27 (dk_at dksX0_says_0 14 rfl rfl)
theorem dX0_says_15 : decode cX0_says 15 = .ok (.aaload, 1) := dk_50 (dk_at dksX0_says_0 15 rfl rfl)
theorem dX0_says_16 : decode cX0_says 16 = .ok (.invokevirtual 345, 3) := dk_182 1 89 (dk_at dksX0_says_0 16 rfl rfl)
theorem dX0_says_19 : decode cX0_says 19 = .ok (.iconst 0, 1) := dk_3 (dk_at dksX0_says_0 19 rfl rfl)
theorem dX0_says_20 : decode cX0_says 20 = .ok (.bipush 99, 2) := dk_16 99 (dk_at dksX0_says_0 20 rfl rfl)
theorem dX0_says_22 : decode cX0_says 22 = .ok (.invokestatic 348, 3) := dk_184 1 92 (dk_at dksX0_says_1 0 rfl rfl)
theorem dX0_says_25 : decode cX0_says 25 = .ok (.ireturn, 1) := dk_172 (dk_at dksX0_says_1 3 rfl rfl)
abbrev cX0_others : ByteArray := prog_1_method_38_code
def yX0_others : MethodName := ⟨RX0, "others", "(I)I"⟩
def dkwX0_others_1 : List UInt8 := [180, 0, 81, 153, 0, 7, 4, 167, 0, 4, 3, 96, 61, 132, 3, 1, 167, 255, 220, 28, 172]
abbrev dktX0_others_1 : List UInt8 := dkwX0_others_1 ++ []
def dkwX0_others_0 : List UInt8 := [3, 61, 3, 62, 29, 42, 180, 0, 10, 162, 0, 34, 28, 29, 27, 159, 0, 19, 42, 180, 0, 47, 29, 50]
abbrev dktX0_others_0 : List UInt8 := dkwX0_others_0 ++ dktX0_others_1
theorem dksX0_others_0 : cX0_others.data.toList.drop 0 = dktX0_others_0 := by decide +kernel
theorem dksX0_others_1 : cX0_others.data.toList.drop 24 = dktX0_others_1 := dk_seg dksX0_others_0 24 rfl rfl
theorem dX0_others_0 : decode cX0_others 0 = .ok (.iconst 0, 1) := dk_3 (dk_at dksX0_others_0 0 rfl rfl)
theorem dX0_others_1 : decode cX0_others 1 = .ok (.istore_n 2, 1) := dk_61 (dk_at dksX0_others_0 1 rfl rfl)
theorem dX0_others_2 : decode cX0_others 2 = .ok (.iconst 0, 1) := dk_3 (dk_at dksX0_others_0 2 rfl rfl)
theorem dX0_others_3 : decode cX0_others 3 = .ok (.istore_n 3, 1) := dk_62 (dk_at dksX0_others_0 3 rfl rfl)
theorem dX0_others_4 : decode cX0_others 4 = .ok (.iload_n 3, 1) := dk_29 (dk_at dksX0_others_0 4 rfl rfl)
theorem dX0_others_5 : decode cX0_others 5 = .ok (.aload_n 0, 1) := dk_42 (dk_at dksX0_others_0 5 rfl rfl)
theorem dX0_others_6 : decode cX0_others 6 = .ok (.getfield 10, 3) := dk_180 0 10 (dk_at dksX0_others_0 6 rfl rfl)
theorem dX0_others_9 : decode cX0_others 9 = .ok (.if_icmp .ge 34, 3) := dk_162 0 34 (dk_at dksX0_others_0 9 rfl rfl)
theorem dX0_others_12 : decode cX0_others 12 = .ok (.iload_n 2, 1) := dk_28 (dk_at dksX0_others_0 12 rfl rfl)
theorem dX0_others_13 : decode cX0_others 13 = .ok (.iload_n 3, 1) := dk_29 (dk_at dksX0_others_0 13 rfl rfl)
theorem dX0_others_14 : decode cX0_others 14 = .ok (.iload_n 1, 1) := dk_27 (dk_at dksX0_others_0 14 rfl rfl)
theorem dX0_others_15 : decode cX0_others 15 = .ok (.if_icmp .eq 19, 3) := dk_159 0 19 (dk_at dksX0_others_0 15 rfl rfl)
theorem dX0_others_18 : decode cX0_others 18 = .ok (.aload_n 0, 1) := dk_42 (dk_at dksX0_others_0 18 rfl rfl)
theorem dX0_others_19 : decode cX0_others 19 = .ok (.getfield 47, 3) := dk_180 0 47 (dk_at dksX0_others_0 19 rfl rfl)
theorem dX0_others_22 : decode cX0_others 22 = .ok (.iload_n 3, 1) := dk_29 (dk_at dksX0_others_0 22 rfl rfl)
theorem dX0_others_23 : decode cX0_others 23 = .ok (.aaload, 1) := dk_50 (dk_at dksX0_others_0 23 rfl rfl)
theorem dX0_others_24 : decode cX0_others 24 = .ok (.getfield 81, 3) := dk_180 0 81 (dk_at dksX0_others_1 0 rfl rfl)
theorem dX0_others_27 : decode cX0_others 27 = .ok (.ifCond .eq 7, 3) := dk_153 0 7 (dk_at dksX0_others_1 3 rfl rfl)
theorem dX0_others_30 : decode cX0_others 30 = .ok (.iconst 1, 1) := dk_4 (dk_at dksX0_others_1 6 rfl rfl)
theorem dX0_others_31 : decode cX0_others 31 = .ok (.goto 4, 3) := dk_167 0 4 (dk_at dksX0_others_1 7 rfl rfl)
theorem dX0_others_34 : decode cX0_others 34 = .ok (.iconst 0, 1) := dk_3 (dk_at dksX0_others_1 10 rfl rfl)
theorem dX0_others_35 : decode cX0_others 35 = .ok (.iadd, 1) := dk_96 (dk_at dksX0_others_1 11 rfl rfl)
theorem dX0_others_36 : decode cX0_others 36 = .ok (.istore_n 2, 1) := dk_61 (dk_at dksX0_others_1 12 rfl rfl)
theorem dX0_others_37 : decode cX0_others 37 = .ok (.iinc 3 1, 3) := dk_132 3 1 (dk_at dksX0_others_1 13 rfl rfl)
theorem dX0_others_40 : decode cX0_others 40 = .ok (.goto (-36), 3) := dk_167 255 220 (dk_at dksX0_others_1 16 rfl rfl)
theorem dX0_others_43 : decode cX0_others 43 = .ok (.iload_n 2, 1) := dk_28 (dk_at dksX0_others_1 19 rfl rfl)
theorem dX0_others_44 : decode cX0_others 44 = .ok (.ireturn, 1) := dk_172 (dk_at dksX0_others_1 20 rfl rfl)
abbrev cX0_held : ByteArray := prog_1_method_2_code
def yX0_held : MethodName := ⟨RX0, "held", "(III)I"⟩
def dkwX0_held_0 : List UInt8 := [27, 28, 26, 184, 0, 1, 184, 0, 7, 172]
abbrev dktX0_held_0 : List UInt8 := dkwX0_held_0 ++ []
theorem dksX0_held_0 : cX0_held.data.toList.drop 0 = dktX0_held_0 := by decide +kernel
theorem dX0_held_0 : decode cX0_held 0 = .ok (.iload_n 1, 1) := dk_27 (dk_at dksX0_held_0 0 rfl rfl)
theorem dX0_held_1 : decode cX0_held 1 = .ok (.iload_n 2, 1) := dk_28 (dk_at dksX0_held_0 1 rfl rfl)
theorem dX0_held_2 : decode cX0_held 2 = .ok (.iload_n 0, 1) := dk_26 (dk_at dksX0_held_0 2 rfl rfl)
theorem dX0_held_3 : decode cX0_held 3 = .ok (.invokestatic 1, 3) := dk_184 0 1 (dk_at dksX0_held_0 3 rfl rfl)
theorem dX0_held_6 : decode cX0_held 6 = .ok (.invokestatic 7, 3) := dk_184 0 7 (dk_at dksX0_held_0 6 rfl rfl)
theorem dX0_held_9 : decode cX0_held 9 = .ok (.ireturn, 1) := dk_172 (dk_at dksX0_held_0 9 rfl rfl)
abbrev cX0_loadNow : ByteArray := prog_1_method_42_code
def yX0_loadNow : MethodName := ⟨RX0, "loadNow", "()I"⟩
def dkwX0_loadNow_0 : List UInt8 := [42, 180, 0, 66, 16, 10, 160, 0, 7, 3, 167, 0, 12, 42, 180, 0, 62, 42, 180, 0, 66, 46, 172]
abbrev dktX0_loadNow_0 : List UInt8 := dkwX0_loadNow_0 ++ []
theorem dksX0_loadNow_0 : cX0_loadNow.data.toList.drop 0 = dktX0_loadNow_0 := by decide +kernel
theorem dX0_loadNow_0 : decode cX0_loadNow 0 = .ok (.aload_n 0, 1) := dk_42 (dk_at dksX0_loadNow_0 0 rfl rfl)
theorem dX0_loadNow_1 : decode cX0_loadNow 1 = .ok (.getfield 66, 3) := dk_180 0 66 (dk_at dksX0_loadNow_0 1 rfl rfl)
theorem dX0_loadNow_4 : decode cX0_loadNow 4 = .ok (.bipush 10, 2) := dk_16 10 (dk_at dksX0_loadNow_0 4 rfl rfl)
theorem dX0_loadNow_6 : decode cX0_loadNow 6 = .ok (.if_icmp .ne 7, 3) := dk_160 0 7 (dk_at dksX0_loadNow_0 6 rfl rfl)
theorem dX0_loadNow_9 : decode cX0_loadNow 9 = .ok (.iconst 0, 1) := dk_3 (dk_at dksX0_loadNow_0 9 rfl rfl)
theorem dX0_loadNow_10 : decode cX0_loadNow 10 = .ok (.goto 12, 3) := dk_167 0 12 (dk_at dksX0_loadNow_0 10 rfl rfl)
theorem dX0_loadNow_13 : decode cX0_loadNow 13 = .ok (.aload_n 0, 1) := dk_42 (dk_at dksX0_loadNow_0 13 rfl rfl)
theorem dX0_loadNow_14 : decode cX0_loadNow 14 = .ok (.getfield 62, 3) := dk_180 0 62 (dk_at dksX0_loadNow_0 14 rfl rfl)
theorem dX0_loadNow_17 : decode cX0_loadNow 17 = .ok (.aload_n 0, 1) := dk_42 (dk_at dksX0_loadNow_0 17 rfl rfl)
theorem dX0_loadNow_18 : decode cX0_loadNow 18 = .ok (.getfield 66, 3) := dk_180 0 66 (dk_at dksX0_loadNow_0 18 rfl rfl)
theorem dX0_loadNow_21 : decode cX0_loadNow 21 = .ok (.iaload, 1) := dk_46 (dk_at dksX0_loadNow_0 21 rfl rfl)
theorem dX0_loadNow_22 : decode cX0_loadNow 22 = .ok (.ireturn, 1) := dk_172 (dk_at dksX0_loadNow_0 22 rfl rfl)
abbrev cX0_easedOf : ByteArray := prog_1_method_44_code
def yX0_easedOf : MethodName := ⟨RX0, "easedOf", "(I)I"⟩
def dkwX0_easedOf_0 : List UInt8 := [42, 180, 0, 47, 27, 50, 42, 5, 27, 182, 1, 96, 42, 180, 0, 69, 182, 1, 118, 172]
abbrev dktX0_easedOf_0 : List UInt8 := dkwX0_easedOf_0 ++ []
theorem dksX0_easedOf_0 : cX0_easedOf.data.toList.drop 0 = dktX0_easedOf_0 := by decide +kernel
theorem dX0_easedOf_0 : decode cX0_easedOf 0 = .ok (.aload_n 0, 1) := dk_42 (dk_at dksX0_easedOf_0 0 rfl rfl)
theorem dX0_easedOf_1 : decode cX0_easedOf 1 = .ok (.getfield 47, 3) := dk_180 0 47 (dk_at dksX0_easedOf_0 1 rfl rfl)
theorem dX0_easedOf_4 : decode cX0_easedOf 4 = .ok (.iload_n 1, 1) := dk_27 (dk_at dksX0_easedOf_0 4 rfl rfl)
theorem dX0_easedOf_5 : decode cX0_easedOf 5 = .ok (.aaload, 1) := dk_50 (dk_at dksX0_easedOf_0 5 rfl rfl)
theorem dX0_easedOf_6 : decode cX0_easedOf 6 = .ok (.aload_n 0, 1) := dk_42 (dk_at dksX0_easedOf_0 6 rfl rfl)
theorem dX0_easedOf_7 : decode cX0_easedOf 7 = .ok (.iconst 2, 1) := dk_5 (dk_at dksX0_easedOf_0 7 rfl rfl)
theorem dX0_easedOf_8 : decode cX0_easedOf 8 = .ok (.iload_n 1, 1) := dk_27 (dk_at dksX0_easedOf_0 8 rfl rfl)
theorem dX0_easedOf_9 : decode cX0_easedOf 9 = .ok (.invokevirtual 352, 3) := dk_182 1 96 (dk_at dksX0_easedOf_0 9 rfl rfl)
theorem dX0_easedOf_12 : decode cX0_easedOf 12 = .ok (.aload_n 0, 1) := dk_42 (dk_at dksX0_easedOf_0 12 rfl rfl)
theorem dX0_easedOf_13 : decode cX0_easedOf 13 = .ok (.getfield 69, 3) := dk_180 0 69 (dk_at dksX0_easedOf_0 13 rfl rfl)
theorem dX0_easedOf_16 : decode cX0_easedOf 16 = .ok (.invokevirtual 374, 3) := dk_182 1 118 (dk_at dksX0_easedOf_0 16 rfl rfl)
theorem dX0_easedOf_19 : decode cX0_easedOf 19 = .ok (.ireturn, 1) := dk_172 (dk_at dksX0_easedOf_0 19 rfl rfl)
abbrev cX0_canLift : ByteArray := prog_1_method_45_code
def yX0_canLift : MethodName := ⟨RX0, "canLift", "(I)Z"⟩
def dkwX0_canLift_1 : List UInt8 := [182, 0, 110, 133, 182, 1, 124, 157, 0, 7, 4, 167, 0, 4, 3, 172]
abbrev dktX0_canLift_1 : List UInt8 := dkwX0_canLift_1 ++ []
def dkwX0_canLift_0 : List UInt8 := [42, 180, 0, 47, 27, 50, 180, 0, 81, 154, 0, 5, 3, 172, 42, 182, 1, 121, 42, 180, 1, 44, 42, 27]
abbrev dktX0_canLift_0 : List UInt8 := dkwX0_canLift_0 ++ dktX0_canLift_1
theorem dksX0_canLift_0 : cX0_canLift.data.toList.drop 0 = dktX0_canLift_0 := by decide +kernel
theorem dksX0_canLift_1 : cX0_canLift.data.toList.drop 24 = dktX0_canLift_1 := dk_seg dksX0_canLift_0 24 rfl rfl
theorem dX0_canLift_0 : decode cX0_canLift 0 = .ok (.aload_n 0, 1) := dk_42 (dk_at dksX0_canLift_0 0 rfl rfl)
theorem dX0_canLift_1 : decode cX0_canLift 1 = .ok (.getfield 47, 3) := dk_180 0 47 (dk_at dksX0_canLift_0 1 rfl rfl)
theorem dX0_canLift_4 : decode cX0_canLift 4 = .ok (.iload_n 1, 1) := dk_27 (dk_at dksX0_canLift_0 4 rfl rfl)
theorem dX0_canLift_5 : decode cX0_canLift 5 = .ok (.aaload, 1) := dk_50 (dk_at dksX0_canLift_0 5 rfl rfl)
theorem dX0_canLift_6 : decode cX0_canLift 6 = .ok (.getfield 81, 3) := dk_180 0 81 (dk_at dksX0_canLift_0 6 rfl rfl)
theorem dX0_canLift_9 : decode cX0_canLift 9 = .ok (.ifCond .ne 5, 3) := dk_154 0 5 (dk_at dksX0_canLift_0 9 rfl rfl)
theorem dX0_canLift_12 : decode cX0_canLift 12 = .ok (.iconst 0, 1) := dk_3 (dk_at dksX0_canLift_0 12 rfl rfl)
theorem dX0_canLift_13 : decode cX0_canLift 13 = .ok (.ireturn, 1) := dk_172 (dk_at dksX0_canLift_0 13 rfl rfl)
theorem dX0_canLift_14 : decode cX0_canLift 14 = .ok (.aload_n 0, 1) := dk_42 (dk_at dksX0_canLift_0 14 rfl rfl)
theorem dX0_canLift_15 : decode cX0_canLift 15 = .ok (.invokevirtual 377, 3) := dk_182 1 121 (dk_at dksX0_canLift_0 15 rfl rfl)
theorem dX0_canLift_18 : decode cX0_canLift 18 = .ok (.aload_n 0, 1) := dk_42 (dk_at dksX0_canLift_0 18 rfl rfl)
theorem dX0_canLift_19 : decode cX0_canLift 19 = .ok (.getfield 300, 3) := dk_180 1 44 (dk_at dksX0_canLift_0 19 rfl rfl)
theorem dX0_canLift_22 : decode cX0_canLift 22 = .ok (.aload_n 0, 1) := dk_42 (dk_at dksX0_canLift_0 22 rfl rfl)
theorem dX0_canLift_23 : decode cX0_canLift 23 = .ok (.iload_n 1, 1) := dk_27 (dk_at dksX0_canLift_0 23 rfl rfl)
theorem dX0_canLift_24 : decode cX0_canLift 24 = .ok (.invokevirtual 110, 3) := dk_182 0 110 (dk_at dksX0_canLift_1 0 rfl rfl)
theorem dX0_canLift_27 : decode cX0_canLift 27 = .ok (.i2l, 1) := dk_133 (dk_at dksX0_canLift_1 3 rfl rfl)
theorem dX0_canLift_28 : decode cX0_canLift 28 = .ok (.invokevirtual 380, 3) := dk_182 1 124 (dk_at dksX0_canLift_1 4 rfl rfl)
theorem dX0_canLift_31 : decode cX0_canLift 31 = .ok (.ifCond .gt 7, 3) := dk_157 0 7 (dk_at dksX0_canLift_1 7 rfl rfl)
theorem dX0_canLift_34 : decode cX0_canLift 34 = .ok (.iconst 1, 1) := dk_4 (dk_at dksX0_canLift_1 10 rfl rfl)
theorem dX0_canLift_35 : decode cX0_canLift 35 = .ok (.goto 4, 3) := dk_167 0 4 (dk_at dksX0_canLift_1 11 rfl rfl)
theorem dX0_canLift_38 : decode cX0_canLift 38 = .ok (.iconst 0, 1) := dk_3 (dk_at dksX0_canLift_1 14 rfl rfl)
theorem dX0_canLift_39 : decode cX0_canLift 39 = .ok (.ireturn, 1) := dk_172 (dk_at dksX0_canLift_1 15 rfl rfl)
abbrev cX0_tellsWeight : ByteArray := prog_1_method_41_code
def yX0_tellsWeight : MethodName := ⟨RX0, "tellsWeight", "()V"⟩
def dkwX0_tellsWeight_2 : List UInt8 := [132, 1, 1, 167, 255, 217, 177]
abbrev dktX0_tellsWeight_2 : List UInt8 := dkwX0_tellsWeight_2 ++ []
def dkwX0_tellsWeight_1 : List UInt8 := [50, 180, 0, 81, 153, 0, 19, 42, 27, 182, 1, 106, 42, 180, 1, 44, 42, 180, 1, 40, 182, 1, 109]
abbrev dktX0_tellsWeight_1 : List UInt8 := dkwX0_tellsWeight_1 ++ dktX0_tellsWeight_2
def dkwX0_tellsWeight_0 : List UInt8 := [42, 180, 1, 44, 9, 10, 182, 1, 102, 3, 60, 27, 42, 180, 0, 10, 162, 0, 37, 42, 180, 0, 47, 27]
abbrev dktX0_tellsWeight_0 : List UInt8 := dkwX0_tellsWeight_0 ++ dktX0_tellsWeight_1
theorem dksX0_tellsWeight_0 : cX0_tellsWeight.data.toList.drop 0 = dktX0_tellsWeight_0 := by decide +kernel
theorem dksX0_tellsWeight_1 : cX0_tellsWeight.data.toList.drop 24 = dktX0_tellsWeight_1 := dk_seg dksX0_tellsWeight_0 24 rfl rfl
theorem dksX0_tellsWeight_2 : cX0_tellsWeight.data.toList.drop 47 = dktX0_tellsWeight_2 := dk_seg dksX0_tellsWeight_1 23 rfl rfl
theorem dX0_tellsWeight_0 : decode cX0_tellsWeight 0 = .ok (.aload_n 0, 1) := dk_42 (dk_at dksX0_tellsWeight_0 0 rfl rfl)
theorem dX0_tellsWeight_1 : decode cX0_tellsWeight 1 = .ok (.getfield 300, 3) := dk_180 1 44 (dk_at dksX0_tellsWeight_0 1 rfl rfl)
theorem dX0_tellsWeight_4 : decode cX0_tellsWeight 4 = .ok (.lconst 0, 1) := dk_9 (dk_at dksX0_tellsWeight_0 4 rfl rfl)
theorem dX0_tellsWeight_5 : decode cX0_tellsWeight 5 = .ok (.lconst 1, 1) := dk_10 (dk_at dksX0_tellsWeight_0 5 rfl rfl)
theorem dX0_tellsWeight_6 : decode cX0_tellsWeight 6 = .ok (.invokevirtual 358, 3) := dk_182 1 102 (dk_at dksX0_tellsWeight_0 6 rfl rfl)
theorem dX0_tellsWeight_9 : decode cX0_tellsWeight 9 = .ok (.iconst 0, 1) := dk_3 (dk_at dksX0_tellsWeight_0 9 rfl rfl)
theorem dX0_tellsWeight_10 : decode cX0_tellsWeight 10 = .ok (.istore_n 1, 1) := dk_60 (dk_at dksX0_tellsWeight_0 10 rfl rfl)
theorem dX0_tellsWeight_11 : decode cX0_tellsWeight 11 = .ok (.iload_n 1, 1) := dk_27 (dk_at dksX0_tellsWeight_0 11 rfl rfl)
theorem dX0_tellsWeight_12 : decode cX0_tellsWeight 12 = .ok (.aload_n 0, 1) := dk_42 (dk_at dksX0_tellsWeight_0 12 rfl rfl)
theorem dX0_tellsWeight_13 : decode cX0_tellsWeight 13 = .ok (.getfield 10, 3) := dk_180 0 10 (dk_at dksX0_tellsWeight_0 13 rfl rfl)
theorem dX0_tellsWeight_16 : decode cX0_tellsWeight 16 = .ok (.if_icmp .ge 37, 3) := dk_162 0 37 (dk_at dksX0_tellsWeight_0 16 rfl rfl)
theorem dX0_tellsWeight_19 : decode cX0_tellsWeight 19 = .ok (.aload_n 0, 1) := dk_42 (dk_at dksX0_tellsWeight_0 19 rfl rfl)
theorem dX0_tellsWeight_20 : decode cX0_tellsWeight 20 = .ok (.getfield 47, 3) := dk_180 0 47 (dk_at dksX0_tellsWeight_0 20 rfl rfl)
theorem dX0_tellsWeight_23 : decode cX0_tellsWeight 23 = .ok (.iload_n 1, 1) := dk_27 (dk_at dksX0_tellsWeight_0 23 rfl rfl)
theorem dX0_tellsWeight_24 : decode cX0_tellsWeight 24 = .ok (.aaload, 1) := dk_50 (dk_at dksX0_tellsWeight_1 0 rfl rfl)
theorem dX0_tellsWeight_25 : decode cX0_tellsWeight 25 = .ok (.getfield 81, 3) := dk_180 0 81 (dk_at dksX0_tellsWeight_1 1 rfl rfl)
theorem dX0_tellsWeight_28 : decode cX0_tellsWeight 28 = .ok (.ifCond .eq 19, 3) := dk_153 0 19 (dk_at dksX0_tellsWeight_1 4 rfl rfl)
theorem dX0_tellsWeight_31 : decode cX0_tellsWeight 31 = .ok (.aload_n 0, 1) := dk_42 (dk_at dksX0_tellsWeight_1 7 rfl rfl)
theorem dX0_tellsWeight_32 : decode cX0_tellsWeight 32 = .ok (.iload_n 1, 1) := dk_27 (dk_at dksX0_tellsWeight_1 8 rfl rfl)
theorem dX0_tellsWeight_33 : decode cX0_tellsWeight 33 = .ok (.invokevirtual 362, 3) := dk_182 1 106 (dk_at dksX0_tellsWeight_1 9 rfl rfl)
theorem dX0_tellsWeight_36 : decode cX0_tellsWeight 36 = .ok (.aload_n 0, 1) := dk_42 (dk_at dksX0_tellsWeight_1 12 rfl rfl)
theorem dX0_tellsWeight_37 : decode cX0_tellsWeight 37 = .ok (.getfield 300, 3) := dk_180 1 44 (dk_at dksX0_tellsWeight_1 13 rfl rfl)
theorem dX0_tellsWeight_40 : decode cX0_tellsWeight 40 = .ok (.aload_n 0, 1) := dk_42 (dk_at dksX0_tellsWeight_1 16 rfl rfl)
theorem dX0_tellsWeight_41 : decode cX0_tellsWeight 41 = .ok (.getfield 296, 3) := dk_180 1 40 (dk_at dksX0_tellsWeight_1 17 rfl rfl)
theorem dX0_tellsWeight_44 : decode cX0_tellsWeight 44 = .ok (.invokevirtual 365, 3) := dk_182 1 109 (dk_at dksX0_tellsWeight_1 20 rfl rfl)
theorem dX0_tellsWeight_47 : decode cX0_tellsWeight 47 = .ok (.iinc 1 1, 3) := dk_132 1 1 (dk_at dksX0_tellsWeight_2 0 rfl rfl)
theorem dX0_tellsWeight_50 : decode cX0_tellsWeight 50 = .ok (.goto (-39), 3) := dk_167 255 217 (dk_at dksX0_tellsWeight_2 3 rfl rfl)
theorem dX0_tellsWeight_53 : decode cX0_tellsWeight 53 = .ok (.return_, 1) := dk_177 (dk_at dksX0_tellsWeight_2 6 rfl rfl)
abbrev cX0_tellsFelt : ByteArray := prog_1_method_40_code
def yX0_tellsFelt : MethodName := ⟨RX0, "tellsFelt", "(I)V"⟩
def dkwX0_tellsFelt_0 : List UInt8 := [42, 180, 0, 47, 27, 50, 42, 180, 1, 40, 42, 3, 27, 182, 1, 96, 182, 1, 99, 177]
abbrev dktX0_tellsFelt_0 : List UInt8 := dkwX0_tellsFelt_0 ++ []
theorem dksX0_tellsFelt_0 : cX0_tellsFelt.data.toList.drop 0 = dktX0_tellsFelt_0 := by decide +kernel
theorem dX0_tellsFelt_0 : decode cX0_tellsFelt 0 = .ok (.aload_n 0, 1) := dk_42 (dk_at dksX0_tellsFelt_0 0 rfl rfl)
theorem dX0_tellsFelt_1 : decode cX0_tellsFelt 1 = .ok (.getfield 47, 3) := dk_180 0 47 (dk_at dksX0_tellsFelt_0 1 rfl rfl)
theorem dX0_tellsFelt_4 : decode cX0_tellsFelt 4 = .ok (.iload_n 1, 1) := dk_27 (dk_at dksX0_tellsFelt_0 4 rfl rfl)
theorem dX0_tellsFelt_5 : decode cX0_tellsFelt 5 = .ok (.aaload, 1) := dk_50 (dk_at dksX0_tellsFelt_0 5 rfl rfl)
theorem dX0_tellsFelt_6 : decode cX0_tellsFelt 6 = .ok (.aload_n 0, 1) := dk_42 (dk_at dksX0_tellsFelt_0 6 rfl rfl)
theorem dX0_tellsFelt_7 : decode cX0_tellsFelt 7 = .ok (.getfield 296, 3) := dk_180 1 40 (dk_at dksX0_tellsFelt_0 7 rfl rfl)
theorem dX0_tellsFelt_10 : decode cX0_tellsFelt 10 = .ok (.aload_n 0, 1) := dk_42 (dk_at dksX0_tellsFelt_0 10 rfl rfl)
theorem dX0_tellsFelt_11 : decode cX0_tellsFelt 11 = .ok (.iconst 0, 1) := dk_3 (dk_at dksX0_tellsFelt_0 11 rfl rfl)
theorem dX0_tellsFelt_12 : decode cX0_tellsFelt 12 = .ok (.iload_n 1, 1) := dk_27 (dk_at dksX0_tellsFelt_0 12 rfl rfl)
theorem dX0_tellsFelt_13 : decode cX0_tellsFelt 13 = .ok (.invokevirtual 352, 3) := dk_182 1 96 (dk_at dksX0_tellsFelt_0 13 rfl rfl)
theorem dX0_tellsFelt_16 : decode cX0_tellsFelt 16 = .ok (.invokevirtual 355, 3) := dk_182 1 99 (dk_at dksX0_tellsFelt_0 16 rfl rfl)
theorem dX0_tellsFelt_19 : decode cX0_tellsFelt 19 = .ok (.return_, 1) := dk_177 (dk_at dksX0_tellsFelt_0 19 rfl rfl)
abbrev cX0_feed : ByteArray := prog_1_method_33_code
def yX0_feed : MethodName := ⟨RX0, "feed", "(I)I"⟩
def dkwX0_feed_2 : List UInt8 := [181, 0, 248, 42, 180, 0, 248, 172]
abbrev dktX0_feed_2 : List UInt8 := dkwX0_feed_2 ++ []
def dkwX0_feed_1 : List UInt8 := [160, 0, 6, 16, 252, 172, 42, 180, 0, 122, 42, 180, 0, 248, 27, 145, 84, 42, 89, 180, 0, 248, 4, 96]
abbrev dktX0_feed_1 : List UInt8 := dkwX0_feed_1 ++ dktX0_feed_2
def dkwX0_feed_0 : List UInt8 := [27, 133, 9, 20, 1, 9, 184, 0, 16, 154, 0, 6, 16, 254, 172, 42, 180, 0, 248, 17, 0, 160]
abbrev dktX0_feed_0 : List UInt8 := dkwX0_feed_0 ++ dktX0_feed_1
theorem dksX0_feed_0 : cX0_feed.data.toList.drop 0 = dktX0_feed_0 := by decide +kernel
theorem dksX0_feed_1 : cX0_feed.data.toList.drop 22 = dktX0_feed_1 := dk_seg dksX0_feed_0 22 rfl rfl
theorem dksX0_feed_2 : cX0_feed.data.toList.drop 46 = dktX0_feed_2 := dk_seg dksX0_feed_1 24 rfl rfl
theorem dX0_feed_0 : decode cX0_feed 0 = .ok (.iload_n 1, 1) := dk_27 (dk_at dksX0_feed_0 0 rfl rfl)
theorem dX0_feed_1 : decode cX0_feed 1 = .ok (.i2l, 1) := dk_133 (dk_at dksX0_feed_0 1 rfl rfl)
theorem dX0_feed_2 : decode cX0_feed 2 = .ok (.lconst 0, 1) := dk_9 (dk_at dksX0_feed_0 2 rfl rfl)
theorem dX0_feed_3 : decode cX0_feed 3 = .ok (.ldc2_w 265, 3) := dk_20 1 9 (dk_at dksX0_feed_0 3 rfl rfl)
theorem dX0_feed_6 : decode cX0_feed 6 = .ok (.invokestatic 16, 3) := dk_184 0 16 (dk_at dksX0_feed_0 6 rfl rfl)
theorem dX0_feed_9 : decode cX0_feed 9 = .ok (.ifCond .ne 6, 3) := dk_154 0 6 (dk_at dksX0_feed_0 9 rfl rfl)
theorem dX0_feed_12 : decode cX0_feed 12 = .ok (.bipush (-2), 2) := dk_16 254 (dk_at dksX0_feed_0 12 rfl rfl)
theorem dX0_feed_14 : decode cX0_feed 14 = .ok (.ireturn, 1) := dk_172 (dk_at dksX0_feed_0 14 rfl rfl)
theorem dX0_feed_15 : decode cX0_feed 15 = .ok (.aload_n 0, 1) := dk_42 (dk_at dksX0_feed_0 15 rfl rfl)
theorem dX0_feed_16 : decode cX0_feed 16 = .ok (.getfield 248, 3) := dk_180 0 248 (dk_at dksX0_feed_0 16 rfl rfl)
theorem dX0_feed_19 : decode cX0_feed 19 = .ok (.sipush 160, 3) := dk_17 0 160 (dk_at dksX0_feed_0 19 rfl rfl)
theorem dX0_feed_22 : decode cX0_feed 22 = .ok (.if_icmp .ne 6, 3) := dk_160 0 6 (dk_at dksX0_feed_1 0 rfl rfl)
theorem dX0_feed_25 : decode cX0_feed 25 = .ok (.bipush (-4), 2) := dk_16 252 (dk_at dksX0_feed_1 3 rfl rfl)
theorem dX0_feed_27 : decode cX0_feed 27 = .ok (.ireturn, 1) := dk_172 (dk_at dksX0_feed_1 5 rfl rfl)
theorem dX0_feed_28 : decode cX0_feed 28 = .ok (.aload_n 0, 1) := dk_42 (dk_at dksX0_feed_1 6 rfl rfl)
theorem dX0_feed_29 : decode cX0_feed 29 = .ok (.getfield 122, 3) := dk_180 0 122 (dk_at dksX0_feed_1 7 rfl rfl)
theorem dX0_feed_32 : decode cX0_feed 32 = .ok (.aload_n 0, 1) := dk_42 (dk_at dksX0_feed_1 10 rfl rfl)
theorem dX0_feed_33 : decode cX0_feed 33 = .ok (.getfield 248, 3) := dk_180 0 248 (dk_at dksX0_feed_1 11 rfl rfl)
theorem dX0_feed_36 : decode cX0_feed 36 = .ok (.iload_n 1, 1) := dk_27 (dk_at dksX0_feed_1 14 rfl rfl)
theorem dX0_feed_37 : decode cX0_feed 37 = .ok (.i2b, 1) := dk_145 (dk_at dksX0_feed_1 15 rfl rfl)
theorem dX0_feed_38 : decode cX0_feed 38 = .ok (.bastore, 1) := dk_84 (dk_at dksX0_feed_1 16 rfl rfl)
theorem dX0_feed_39 : decode cX0_feed 39 = .ok (.aload_n 0, 1) := dk_42 (dk_at dksX0_feed_1 17 rfl rfl)
theorem dX0_feed_40 : decode cX0_feed 40 = .ok (.dup, 1) := dk_89 (dk_at dksX0_feed_1 18 rfl rfl)
theorem dX0_feed_41 : decode cX0_feed 41 = .ok (.getfield 248, 3) := dk_180 0 248 (dk_at dksX0_feed_1 19 rfl rfl)
theorem dX0_feed_44 : decode cX0_feed 44 = .ok (.iconst 1, 1) := dk_4 (dk_at dksX0_feed_1 22 rfl rfl)
theorem dX0_feed_45 : decode cX0_feed 45 = .ok (.iadd, 1) := dk_96 (dk_at dksX0_feed_1 23 rfl rfl)
theorem dX0_feed_46 : decode cX0_feed 46 = .ok (.putfield 248, 3) := dk_181 0 248 (dk_at dksX0_feed_2 0 rfl rfl)
theorem dX0_feed_49 : decode cX0_feed 49 = .ok (.aload_n 0, 1) := dk_42 (dk_at dksX0_feed_2 3 rfl rfl)
theorem dX0_feed_50 : decode cX0_feed 50 = .ok (.getfield 248, 3) := dk_180 0 248 (dk_at dksX0_feed_2 4 rfl rfl)
theorem dX0_feed_53 : decode cX0_feed 53 = .ok (.ireturn, 1) := dk_172 (dk_at dksX0_feed_2 7 rfl rfl)
abbrev cX0_text : ByteArray := prog_1_method_34_code
def yX0_text : MethodName := ⟨RX0, "text", "()I"⟩
def dkwX0_text_0 : List UInt8 := [42, 180, 1, 3, 16, 6, 160, 0, 8, 16, 252, 167, 0, 7, 42, 182, 1, 6, 172]
abbrev dktX0_text_0 : List UInt8 := dkwX0_text_0 ++ []
theorem dksX0_text_0 : cX0_text.data.toList.drop 0 = dktX0_text_0 := by decide +kernel
theorem dX0_text_0 : decode cX0_text 0 = .ok (.aload_n 0, 1) := dk_42 (dk_at dksX0_text_0 0 rfl rfl)
theorem dX0_text_1 : decode cX0_text 1 = .ok (.getfield 259, 3) := dk_180 1 3 (dk_at dksX0_text_0 1 rfl rfl)
theorem dX0_text_4 : decode cX0_text 4 = .ok (.bipush 6, 2) := dk_16 6 (dk_at dksX0_text_0 4 rfl rfl)
theorem dX0_text_6 : decode cX0_text 6 = .ok (.if_icmp .ne 8, 3) := dk_160 0 8 (dk_at dksX0_text_0 6 rfl rfl)
theorem dX0_text_9 : decode cX0_text 9 = .ok (.bipush (-4), 2) := dk_16 252 (dk_at dksX0_text_0 9 rfl rfl)
theorem dX0_text_11 : decode cX0_text 11 = .ok (.goto 7, 3) := dk_167 0 7 (dk_at dksX0_text_0 11 rfl rfl)
theorem dX0_text_14 : decode cX0_text 14 = .ok (.aload_n 0, 1) := dk_42 (dk_at dksX0_text_0 14 rfl rfl)
theorem dX0_text_15 : decode cX0_text 15 = .ok (.invokevirtual 262, 3) := dk_182 1 6 (dk_at dksX0_text_0 15 rfl rfl)
theorem dX0_text_18 : decode cX0_text 18 = .ok (.ireturn, 1) := dk_172 (dk_at dksX0_text_0 18 rfl rfl)
abbrev cX0_newText : ByteArray := prog_1_method_31_code
def yX0_newText : MethodName := ⟨RX0, "newText", "()I"⟩
def dkwX0_newText_5 : List UInt8 := [100, 172]
abbrev dktX0_newText_5 : List UInt8 := dkwX0_newText_5 ++ []
def dkwX0_newText_4 : List UInt8 := [180, 0, 255, 42, 180, 1, 3, 43, 83, 42, 89, 180, 1, 3, 4, 96, 181, 1, 3, 42, 180, 1, 3, 4]
abbrev dktX0_newText_4 : List UInt8 := dkwX0_newText_4 ++ dktX0_newText_5
def dkwX0_newText_3 : List UInt8 := [180, 0, 143, 153, 0, 8, 42, 180, 0, 169, 191, 167, 0, 12, 77, 16, 156, 42, 180, 0, 140, 100, 172, 42]
abbrev dktX0_newText_3 : List UInt8 := dkwX0_newText_3 ++ dktX0_newText_4
def dkwX0_newText_2 : List UInt8 := [43, 28, 42, 182, 0, 245, 83, 42, 42, 16, 59, 182, 0, 226, 182, 0, 196, 132, 2, 1, 167, 255, 222, 42]
abbrev dktX0_newText_2 : List UInt8 := dkwX0_newText_2 ++ dktX0_newText_3
def dkwX0_newText_1 : List UInt8 := [189, 0, 251, 76, 42, 182, 0, 190, 3, 61, 28, 6, 162, 0, 35, 42, 42, 28, 182, 0, 204, 182, 0, 196]
abbrev dktX0_newText_1 : List UInt8 := dkwX0_newText_1 ++ dktX0_newText_2
def dkwX0_newText_0 : List UInt8 := [42, 42, 180, 0, 248, 181, 0, 119, 42, 3, 181, 0, 248, 42, 3, 181, 0, 134, 42, 3, 181, 0, 193, 6]
abbrev dktX0_newText_0 : List UInt8 := dkwX0_newText_0 ++ dktX0_newText_1
theorem dksX0_newText_0 : cX0_newText.data.toList.drop 0 = dktX0_newText_0 := by decide +kernel
theorem dksX0_newText_1 : cX0_newText.data.toList.drop 24 = dktX0_newText_1 := dk_seg dksX0_newText_0 24 rfl rfl
theorem dksX0_newText_2 : cX0_newText.data.toList.drop 48 = dktX0_newText_2 := dk_seg dksX0_newText_1 24 rfl rfl
theorem dksX0_newText_3 : cX0_newText.data.toList.drop 72 = dktX0_newText_3 := dk_seg dksX0_newText_2 24 rfl rfl
theorem dksX0_newText_4 : cX0_newText.data.toList.drop 96 = dktX0_newText_4 := dk_seg dksX0_newText_3 24 rfl rfl
theorem dksX0_newText_5 : cX0_newText.data.toList.drop 120 = dktX0_newText_5 := dk_seg dksX0_newText_4 24 rfl rfl
theorem dX0_newText_0 : decode cX0_newText 0 = .ok (.aload_n 0, 1) := dk_42 (dk_at dksX0_newText_0 0 rfl rfl)
theorem dX0_newText_1 : decode cX0_newText 1 = .ok (.aload_n 0, 1) := dk_42 (dk_at dksX0_newText_0 1 rfl rfl)
theorem dX0_newText_2 : decode cX0_newText 2 = .ok (.getfield 248, 3) := dk_180 0 248 (dk_at dksX0_newText_0 2 rfl rfl)
theorem dX0_newText_5 : decode cX0_newText 5 = .ok (.putfield 119, 3) := dk_181 0 119 (dk_at dksX0_newText_0 5 rfl rfl)
theorem dX0_newText_8 : decode cX0_newText 8 = .ok (.aload_n 0, 1) := dk_42 (dk_at dksX0_newText_0 8 rfl rfl)
theorem dX0_newText_9 : decode cX0_newText 9 = .ok (.iconst 0, 1) := dk_3 (dk_at dksX0_newText_0 9 rfl rfl)
theorem dX0_newText_10 : decode cX0_newText 10 = .ok (.putfield 248, 3) := dk_181 0 248 (dk_at dksX0_newText_0 10 rfl rfl)
theorem dX0_newText_13 : decode cX0_newText 13 = .ok (.aload_n 0, 1) := dk_42 (dk_at dksX0_newText_0 13 rfl rfl)
theorem dX0_newText_14 : decode cX0_newText 14 = .ok (.iconst 0, 1) := dk_3 (dk_at dksX0_newText_0 14 rfl rfl)
theorem dX0_newText_15 : decode cX0_newText 15 = .ok (.putfield 134, 3) := dk_181 0 134 (dk_at dksX0_newText_0 15 rfl rfl)
theorem dX0_newText_18 : decode cX0_newText 18 = .ok (.aload_n 0, 1) := dk_42 (dk_at dksX0_newText_0 18 rfl rfl)
theorem dX0_newText_19 : decode cX0_newText 19 = .ok (.iconst 0, 1) := dk_3 (dk_at dksX0_newText_0 19 rfl rfl)
theorem dX0_newText_20 : decode cX0_newText 20 = .ok (.putfield 193, 3) := dk_181 0 193 (dk_at dksX0_newText_0 20 rfl rfl)
theorem dX0_newText_23 : decode cX0_newText 23 = .ok (.iconst 3, 1) := dk_6 (dk_at dksX0_newText_0 23 rfl rfl)
theorem dX0_newText_24 : decode cX0_newText 24 = .ok (.anewarray 251, 3) := dk_189 0 251 (dk_at dksX0_newText_1 0 rfl rfl)
theorem dX0_newText_27 : decode cX0_newText 27 = .ok (.astore_n 1, 1) := dk_76 (dk_at dksX0_newText_1 3 rfl rfl)
theorem dX0_newText_28 : decode cX0_newText 28 = .ok (.aload_n 0, 1) := dk_42 (dk_at dksX0_newText_1 4 rfl rfl)
theorem dX0_newText_29 : decode cX0_newText 29 = .ok (.invokevirtual 190, 3) := dk_182 0 190 (dk_at dksX0_newText_1 5 rfl rfl)
theorem dX0_newText_32 : decode cX0_newText 32 = .ok (.iconst 0, 1) := dk_3 (dk_at dksX0_newText_1 8 rfl rfl)
theorem dX0_newText_33 : decode cX0_newText 33 = .ok (.istore_n 2, 1) := dk_61 (dk_at dksX0_newText_1 9 rfl rfl)
theorem dX0_newText_34 : decode cX0_newText 34 = .ok (.iload_n 2, 1) := dk_28 (dk_at dksX0_newText_1 10 rfl rfl)
theorem dX0_newText_35 : decode cX0_newText 35 = .ok (.iconst 3, 1) := dk_6 (dk_at dksX0_newText_1 11 rfl rfl)
theorem dX0_newText_36 : decode cX0_newText 36 = .ok (.if_icmp .ge 35, 3) := dk_162 0 35 (dk_at dksX0_newText_1 12 rfl rfl)
theorem dX0_newText_39 : decode cX0_newText 39 = .ok (.aload_n 0, 1) := dk_42 (dk_at dksX0_newText_1 15 rfl rfl)
theorem dX0_newText_40 : decode cX0_newText 40 = .ok (.aload_n 0, 1) := dk_42 (dk_at dksX0_newText_1 16 rfl rfl)
theorem dX0_newText_41 : decode cX0_newText 41 = .ok (.iload_n 2, 1) := dk_28 (dk_at dksX0_newText_1 17 rfl rfl)
theorem dX0_newText_42 : decode cX0_newText 42 = .ok (.invokevirtual 204, 3) := dk_182 0 204 (dk_at dksX0_newText_1 18 rfl rfl)
theorem dX0_newText_45 : decode cX0_newText 45 = .ok (.invokevirtual 196, 3) := dk_182 0 196 (dk_at dksX0_newText_1 21 rfl rfl)
theorem dX0_newText_48 : decode cX0_newText 48 = .ok (.aload_n 1, 1) := dk_43 (dk_at dksX0_newText_2 0 rfl rfl)
theorem dX0_newText_49 : decode cX0_newText 49 = .ok (.iload_n 2, 1) := dk_28 (dk_at dksX0_newText_2 1 rfl rfl)
theorem dX0_newText_50 : decode cX0_newText 50 = .ok (.aload_n 0, 1) := dk_42 (dk_at dksX0_newText_2 2 rfl rfl)
theorem dX0_newText_51 : decode cX0_newText 51 = .ok (.invokevirtual 245, 3) := dk_182 0 245 (dk_at dksX0_newText_2 3 rfl rfl)
theorem dX0_newText_54 : decode cX0_newText 54 = .ok (.aastore, 1) := dk_83 (dk_at dksX0_newText_2 6 rfl rfl)
theorem dX0_newText_55 : decode cX0_newText 55 = .ok (.aload_n 0, 1) := dk_42 (dk_at dksX0_newText_2 7 rfl rfl)
theorem dX0_newText_56 : decode cX0_newText 56 = .ok (.aload_n 0, 1) := dk_42 (dk_at dksX0_newText_2 8 rfl rfl)
theorem dX0_newText_57 : decode cX0_newText 57 = .ok (.bipush 59, 2) := dk_16 59 (dk_at dksX0_newText_2 9 rfl rfl)
theorem dX0_newText_59 : decode cX0_newText 59 = .ok (.invokevirtual 226, 3) := dk_182 0 226 (dk_at dksX0_newText_2 11 rfl rfl)
theorem dX0_newText_62 : decode cX0_newText 62 = .ok (.invokevirtual 196, 3) := dk_182 0 196 (dk_at dksX0_newText_2 14 rfl rfl)
theorem dX0_newText_65 : decode cX0_newText 65 = .ok (.iinc 2 1, 3) := dk_132 2 1 (dk_at dksX0_newText_2 17 rfl rfl)
theorem dX0_newText_68 : decode cX0_newText 68 = .ok (.goto (-34), 3) := dk_167 255 222 (dk_at dksX0_newText_2 20 rfl rfl)
theorem dX0_newText_71 : decode cX0_newText 71 = .ok (.aload_n 0, 1) := dk_42 (dk_at dksX0_newText_2 23 rfl rfl)
theorem dX0_newText_72 : decode cX0_newText 72 = .ok (.getfield 143, 3) := dk_180 0 143 (dk_at dksX0_newText_3 0 rfl rfl)
theorem dX0_newText_75 : decode cX0_newText 75 = .ok (.ifCond .eq 8, 3) := dk_153 0 8 (dk_at dksX0_newText_3 3 rfl rfl)
theorem dX0_newText_78 : decode cX0_newText 78 = .ok (.aload_n 0, 1) := dk_42 (dk_at dksX0_newText_3 6 rfl rfl)
theorem dX0_newText_79 : decode cX0_newText 79 = .ok (.getfield 169, 3) := dk_180 0 169 (dk_at dksX0_newText_3 7 rfl rfl)
theorem dX0_newText_82 : decode cX0_newText 82 = .ok (.athrow, 1) := dk_191 (dk_at dksX0_newText_3 10 rfl rfl)
theorem dX0_newText_83 : decode cX0_newText 83 = .ok (.goto 12, 3) := dk_167 0 12 (dk_at dksX0_newText_3 11 rfl rfl)
theorem dX0_newText_86 : decode cX0_newText 86 = .ok (.astore_n 2, 1) := dk_77 (dk_at dksX0_newText_3 14 rfl rfl)
theorem dX0_newText_87 : decode cX0_newText 87 = .ok (.bipush (-100), 2) := dk_16 156 (dk_at dksX0_newText_3 15 rfl rfl)
theorem dX0_newText_89 : decode cX0_newText 89 = .ok (.aload_n 0, 1) := dk_42 (dk_at dksX0_newText_3 17 rfl rfl)
theorem dX0_newText_90 : decode cX0_newText 90 = .ok (.getfield 140, 3) := dk_180 0 140 (dk_at dksX0_newText_3 18 rfl rfl)
theorem dX0_newText_93 : decode cX0_newText 93 = .ok (.isub, 1) := dk_100 (dk_at dksX0_newText_3 21 rfl rfl)
theorem dX0_newText_94 : decode cX0_newText 94 = .ok (.ireturn, 1) := dk_172 (dk_at dksX0_newText_3 22 rfl rfl)
theorem dX0_newText_95 : decode cX0_newText 95 = .ok (.aload_n 0, 1) := dk_42 (dk_at dksX0_newText_3 23 rfl rfl)
theorem dX0_newText_96 : decode cX0_newText 96 = .ok (.getfield 255, 3) := dk_180 0 255 (dk_at dksX0_newText_4 0 rfl rfl)
theorem dX0_newText_99 : decode cX0_newText 99 = .ok (.aload_n 0, 1) := dk_42 (dk_at dksX0_newText_4 3 rfl rfl)
theorem dX0_newText_100 : decode cX0_newText 100 = .ok (.getfield 259, 3) := dk_180 1 3 (dk_at dksX0_newText_4 4 rfl rfl)
theorem dX0_newText_103 : decode cX0_newText 103 = .ok (.aload_n 1, 1) := dk_43 (dk_at dksX0_newText_4 7 rfl rfl)
theorem dX0_newText_104 : decode cX0_newText 104 = .ok (.aastore, 1) := dk_83 (dk_at dksX0_newText_4 8 rfl rfl)
theorem dX0_newText_105 : decode cX0_newText 105 = .ok (.aload_n 0, 1) := dk_42 (dk_at dksX0_newText_4 9 rfl rfl)
theorem dX0_newText_106 : decode cX0_newText 106 = .ok (.dup, 1) := dk_89 (dk_at dksX0_newText_4 10 rfl rfl)
theorem dX0_newText_107 : decode cX0_newText 107 = .ok (.getfield 259, 3) := dk_180 1 3 (dk_at dksX0_newText_4 11 rfl rfl)
theorem dX0_newText_110 : decode cX0_newText 110 = .ok (.iconst 1, 1) := dk_4 (dk_at dksX0_newText_4 14 rfl rfl)
theorem dX0_newText_111 : decode cX0_newText 111 = .ok (.iadd, 1) := dk_96 (dk_at dksX0_newText_4 15 rfl rfl)
theorem dX0_newText_112 : decode cX0_newText 112 = .ok (.putfield 259, 3) := dk_181 1 3 (dk_at dksX0_newText_4 16 rfl rfl)
theorem dX0_newText_115 : decode cX0_newText 115 = .ok (.aload_n 0, 1) := dk_42 (dk_at dksX0_newText_4 19 rfl rfl)
theorem dX0_newText_116 : decode cX0_newText 116 = .ok (.getfield 259, 3) := dk_180 1 3 (dk_at dksX0_newText_4 20 rfl rfl)
theorem dX0_newText_119 : decode cX0_newText 119 = .ok (.iconst 1, 1) := dk_4 (dk_at dksX0_newText_4 23 rfl rfl)
theorem dX0_newText_120 : decode cX0_newText 120 = .ok (.isub, 1) := dk_100 (dk_at dksX0_newText_5 0 rfl rfl)
theorem dX0_newText_121 : decode cX0_newText 121 = .ok (.ireturn, 1) := dk_172 (dk_at dksX0_newText_5 1 rfl rfl)
abbrev cX0_next : ByteArray := prog_1_method_17_code
def yX0_next : MethodName := ⟨RX0, "next", "()V"⟩
def dkwX0_next_5 : List UInt8 := [18, 162, 27, 182, 0, 164, 156, 0, 8, 42, 180, 0, 169, 191, 177]
abbrev dktX0_next_5 : List UInt8 := dkwX0_next_5 ++ []
def dkwX0_next_4 : List UInt8 := [167, 0, 37, 42, 7, 181, 0, 143, 42, 27, 181, 0, 159, 42, 89, 180, 0, 134, 4, 96, 181, 0, 134]
abbrev dktX0_next_4 : List UInt8 := dkwX0_next_4 ++ dktX0_next_5
def dkwX0_next_3 : List UInt8 := [184, 0, 146, 153, 0, 10, 42, 182, 0, 149, 167, 0, 51, 27, 184, 0, 153, 153, 0, 10, 42, 182, 0, 156]
abbrev dktX0_next_3 : List UInt8 := dkwX0_next_3 ++ dktX0_next_4
def dkwX0_next_2 : List UInt8 := [42, 42, 180, 0, 134, 182, 0, 137, 60, 27, 2, 160, 0, 11, 42, 3, 181, 0, 143, 167, 0, 65, 27]
abbrev dktX0_next_2 : List UInt8 := dkwX0_next_2 ++ dktX0_next_3
def dkwX0_next_1 : List UInt8 := [160, 0, 16, 42, 89, 180, 0, 134, 4, 96, 181, 0, 134, 167, 255, 220, 42, 42, 180, 0, 134, 181, 0, 140]
abbrev dktX0_next_1 : List UInt8 := dkwX0_next_1 ++ dktX0_next_2
def dkwX0_next_0 : List UInt8 := [42, 42, 180, 0, 134, 182, 0, 137, 16, 32, 159, 0, 16, 42, 42, 180, 0, 134, 182, 0, 137, 16, 10]
abbrev dktX0_next_0 : List UInt8 := dkwX0_next_0 ++ dktX0_next_1
theorem dksX0_next_0 : cX0_next.data.toList.drop 0 = dktX0_next_0 := by decide +kernel
theorem dksX0_next_1 : cX0_next.data.toList.drop 23 = dktX0_next_1 := dk_seg dksX0_next_0 23 rfl rfl
theorem dksX0_next_2 : cX0_next.data.toList.drop 47 = dktX0_next_2 := dk_seg dksX0_next_1 24 rfl rfl
theorem dksX0_next_3 : cX0_next.data.toList.drop 70 = dktX0_next_3 := dk_seg dksX0_next_2 23 rfl rfl
theorem dksX0_next_4 : cX0_next.data.toList.drop 94 = dktX0_next_4 := dk_seg dksX0_next_3 24 rfl rfl
theorem dksX0_next_5 : cX0_next.data.toList.drop 117 = dktX0_next_5 := dk_seg dksX0_next_4 23 rfl rfl
theorem dX0_next_0 : decode cX0_next 0 = .ok (.aload_n 0, 1) := dk_42 (dk_at dksX0_next_0 0 rfl rfl)
theorem dX0_next_1 : decode cX0_next 1 = .ok (.aload_n 0, 1) := dk_42 (dk_at dksX0_next_0 1 rfl rfl)
theorem dX0_next_2 : decode cX0_next 2 = .ok (.getfield 134, 3) := dk_180 0 134 (dk_at dksX0_next_0 2 rfl rfl)
theorem dX0_next_5 : decode cX0_next 5 = .ok (.invokevirtual 137, 3) := dk_182 0 137 (dk_at dksX0_next_0 5 rfl rfl)
theorem dX0_next_8 : decode cX0_next 8 = .ok (.bipush 32, 2) := dk_16 32 (dk_at dksX0_next_0 8 rfl rfl)
theorem dX0_next_10 : decode cX0_next 10 = .ok (.if_icmp .eq 16, 3) := dk_159 0 16 (dk_at dksX0_next_0 10 rfl rfl)
theorem dX0_next_13 : decode cX0_next 13 = .ok (.aload_n 0, 1) := dk_42 (dk_at dksX0_next_0 13 rfl rfl)
theorem dX0_next_14 : decode cX0_next 14 = .ok (.aload_n 0, 1) := dk_42 (dk_at dksX0_next_0 14 rfl rfl)
theorem dX0_next_15 : decode cX0_next 15 = .ok (.getfield 134, 3) := dk_180 0 134 (dk_at dksX0_next_0 15 rfl rfl)
theorem dX0_next_18 : decode cX0_next 18 = .ok (.invokevirtual 137, 3) := dk_182 0 137 (dk_at dksX0_next_0 18 rfl rfl)
theorem dX0_next_21 : decode cX0_next 21 = .ok (.bipush 10, 2) := dk_16 10 (dk_at dksX0_next_0 21 rfl rfl)
theorem dX0_next_23 : decode cX0_next 23 = .ok (.if_icmp .ne 16, 3) := dk_160 0 16 (dk_at dksX0_next_1 0 rfl rfl)
theorem dX0_next_26 : decode cX0_next 26 = .ok (.aload_n 0, 1) := dk_42 (dk_at dksX0_next_1 3 rfl rfl)
theorem dX0_next_27 : decode cX0_next 27 = .ok (.dup, 1) := dk_89 (dk_at dksX0_next_1 4 rfl rfl)
theorem dX0_next_28 : decode cX0_next 28 = .ok (.getfield 134, 3) := dk_180 0 134 (dk_at dksX0_next_1 5 rfl rfl)
theorem dX0_next_31 : decode cX0_next 31 = .ok (.iconst 1, 1) := dk_4 (dk_at dksX0_next_1 8 rfl rfl)
theorem dX0_next_32 : decode cX0_next 32 = .ok (.iadd, 1) := dk_96 (dk_at dksX0_next_1 9 rfl rfl)
theorem dX0_next_33 : decode cX0_next 33 = .ok (.putfield 134, 3) := dk_181 0 134 (dk_at dksX0_next_1 10 rfl rfl)
theorem dX0_next_36 : decode cX0_next 36 = .ok (.goto (-36), 3) := dk_167 255 220 (dk_at dksX0_next_1 13 rfl rfl)
theorem dX0_next_39 : decode cX0_next 39 = .ok (.aload_n 0, 1) := dk_42 (dk_at dksX0_next_1 16 rfl rfl)
theorem dX0_next_40 : decode cX0_next 40 = .ok (.aload_n 0, 1) := dk_42 (dk_at dksX0_next_1 17 rfl rfl)
theorem dX0_next_41 : decode cX0_next 41 = .ok (.getfield 134, 3) := dk_180 0 134 (dk_at dksX0_next_1 18 rfl rfl)
theorem dX0_next_44 : decode cX0_next 44 = .ok (.putfield 140, 3) := dk_181 0 140 (dk_at dksX0_next_1 21 rfl rfl)
theorem dX0_next_47 : decode cX0_next 47 = .ok (.aload_n 0, 1) := dk_42 (dk_at dksX0_next_2 0 rfl rfl)
theorem dX0_next_48 : decode cX0_next 48 = .ok (.aload_n 0, 1) := dk_42 (dk_at dksX0_next_2 1 rfl rfl)
theorem dX0_next_49 : decode cX0_next 49 = .ok (.getfield 134, 3) := dk_180 0 134 (dk_at dksX0_next_2 2 rfl rfl)
theorem dX0_next_52 : decode cX0_next 52 = .ok (.invokevirtual 137, 3) := dk_182 0 137 (dk_at dksX0_next_2 5 rfl rfl)
theorem dX0_next_55 : decode cX0_next 55 = .ok (.istore_n 1, 1) := dk_60 (dk_at dksX0_next_2 8 rfl rfl)
theorem dX0_next_56 : decode cX0_next 56 = .ok (.iload_n 1, 1) := dk_27 (dk_at dksX0_next_2 9 rfl rfl)
theorem dX0_next_57 : decode cX0_next 57 = .ok (.iconst (-1), 1) := dk_2 (dk_at dksX0_next_2 10 rfl rfl)
theorem dX0_next_58 : decode cX0_next 58 = .ok (.if_icmp .ne 11, 3) := dk_160 0 11 (dk_at dksX0_next_2 11 rfl rfl)
theorem dX0_next_61 : decode cX0_next 61 = .ok (.aload_n 0, 1) := dk_42 (dk_at dksX0_next_2 14 rfl rfl)
theorem dX0_next_62 : decode cX0_next 62 = .ok (.iconst 0, 1) := dk_3 (dk_at dksX0_next_2 15 rfl rfl)
theorem dX0_next_63 : decode cX0_next 63 = .ok (.putfield 143, 3) := dk_181 0 143 (dk_at dksX0_next_2 16 rfl rfl)
theorem dX0_next_66 : decode cX0_next 66 = .ok (.goto 65, 3) := dk_167 0 65 (dk_at dksX0_next_2 19 rfl rfl)
theorem dX0_next_69 : decode cX0_next 69 = .ok (.iload_n 1, 1) := dk_27 (dk_at dksX0_next_2 22 rfl rfl)
theorem dX0_next_70 : decode cX0_next 70 = .ok (.invokestatic 146, 3) := dk_184 0 146 (dk_at dksX0_next_3 0 rfl rfl)
theorem dX0_next_73 : decode cX0_next 73 = .ok (.ifCond .eq 10, 3) := dk_153 0 10 (dk_at dksX0_next_3 3 rfl rfl)
theorem dX0_next_76 : decode cX0_next 76 = .ok (.aload_n 0, 1) := dk_42 (dk_at dksX0_next_3 6 rfl rfl)
theorem dX0_next_77 : decode cX0_next 77 = .ok (.invokevirtual 149, 3) := dk_182 0 149 (dk_at dksX0_next_3 7 rfl rfl)
theorem dX0_next_80 : decode cX0_next 80 = .ok (.goto 51, 3) := dk_167 0 51 (dk_at dksX0_next_3 10 rfl rfl)
theorem dX0_next_83 : decode cX0_next 83 = .ok (.iload_n 1, 1) := dk_27 (dk_at dksX0_next_3 13 rfl rfl)
theorem dX0_next_84 : decode cX0_next 84 = .ok (.invokestatic 153, 3) := dk_184 0 153 (dk_at dksX0_next_3 14 rfl rfl)
theorem dX0_next_87 : decode cX0_next 87 = .ok (.ifCond .eq 10, 3) := dk_153 0 10 (dk_at dksX0_next_3 17 rfl rfl)
theorem dX0_next_90 : decode cX0_next 90 = .ok (.aload_n 0, 1) := dk_42 (dk_at dksX0_next_3 20 rfl rfl)
theorem dX0_next_91 : decode cX0_next 91 = .ok (.invokevirtual 156, 3) := dk_182 0 156 (dk_at dksX0_next_3 21 rfl rfl)
theorem dX0_next_94 : decode cX0_next 94 = .ok (.goto 37, 3) := dk_167 0 37 (dk_at dksX0_next_4 0 rfl rfl)
theorem dX0_next_97 : decode cX0_next 97 = .ok (.aload_n 0, 1) := dk_42 (dk_at dksX0_next_4 3 rfl rfl)
theorem dX0_next_98 : decode cX0_next 98 = .ok (.iconst 4, 1) := dk_7 (dk_at dksX0_next_4 4 rfl rfl)
theorem dX0_next_99 : decode cX0_next 99 = .ok (.putfield 143, 3) := dk_181 0 143 (dk_at dksX0_next_4 5 rfl rfl)
theorem dX0_next_102 : decode cX0_next 102 = .ok (.aload_n 0, 1) := dk_42 (dk_at dksX0_next_4 8 rfl rfl)
theorem dX0_next_103 : decode cX0_next 103 = .ok (.iload_n 1, 1) := dk_27 (dk_at dksX0_next_4 9 rfl rfl)
theorem dX0_next_104 : decode cX0_next 104 = .ok (.putfield 159, 3) := dk_181 0 159 (dk_at dksX0_next_4 10 rfl rfl)
theorem dX0_next_107 : decode cX0_next 107 = .ok (.aload_n 0, 1) := dk_42 (dk_at dksX0_next_4 13 rfl rfl)
theorem dX0_next_108 : decode cX0_next 108 = .ok (.dup, 1) := dk_89 (dk_at dksX0_next_4 14 rfl rfl)
theorem dX0_next_109 : decode cX0_next 109 = .ok (.getfield 134, 3) := dk_180 0 134 (dk_at dksX0_next_4 15 rfl rfl)
theorem dX0_next_112 : decode cX0_next 112 = .ok (.iconst 1, 1) := dk_4 (dk_at dksX0_next_4 18 rfl rfl)
theorem dX0_next_113 : decode cX0_next 113 = .ok (.iadd, 1) := dk_96 (dk_at dksX0_next_4 19 rfl rfl)
theorem dX0_next_114 : decode cX0_next 114 = .ok (.putfield 134, 3) := dk_181 0 134 (dk_at dksX0_next_4 20 rfl rfl)
theorem dX0_next_117 : decode cX0_next 117 = .ok (.ldc 162, 2) := dk_18 162 (dk_at dksX0_next_5 0 rfl rfl)
theorem dX0_next_119 : decode cX0_next 119 = .ok (.iload_n 1, 1) := dk_27 (dk_at dksX0_next_5 2 rfl rfl)
theorem dX0_next_120 : decode cX0_next 120 = .ok (.invokevirtual 164, 3) := dk_182 0 164 (dk_at dksX0_next_5 3 rfl rfl)
theorem dX0_next_123 : decode cX0_next 123 = .ok (.ifCond .ge 8, 3) := dk_156 0 8 (dk_at dksX0_next_5 6 rfl rfl)
theorem dX0_next_126 : decode cX0_next 126 = .ok (.aload_n 0, 1) := dk_42 (dk_at dksX0_next_5 9 rfl rfl)
theorem dX0_next_127 : decode cX0_next 127 = .ok (.getfield 169, 3) := dk_180 0 169 (dk_at dksX0_next_5 10 rfl rfl)
theorem dX0_next_130 : decode cX0_next 130 = .ok (.athrow, 1) := dk_191 (dk_at dksX0_next_5 13 rfl rfl)
theorem dX0_next_131 : decode cX0_next 131 = .ok (.return_, 1) := dk_177 (dk_at dksX0_next_5 14 rfl rfl)
abbrev cX0_byteAt : ByteArray := prog_1_method_14_code
def yX0_byteAt : MethodName := ⟨RX0, "byteAt", "(I)I"⟩
def dkwX0_byteAt_0 : List UInt8 := [27, 42, 180, 0, 119, 162, 0, 16, 42, 180, 0, 122, 27, 51, 17, 0, 255, 126, 167, 0, 4, 2, 172]
abbrev dktX0_byteAt_0 : List UInt8 := dkwX0_byteAt_0 ++ []
theorem dksX0_byteAt_0 : cX0_byteAt.data.toList.drop 0 = dktX0_byteAt_0 := by decide +kernel
theorem dX0_byteAt_0 : decode cX0_byteAt 0 = .ok (.iload_n 1, 1) := dk_27 (dk_at dksX0_byteAt_0 0 rfl rfl)
theorem dX0_byteAt_1 : decode cX0_byteAt 1 = .ok (.aload_n 0, 1) := dk_42 (dk_at dksX0_byteAt_0 1 rfl rfl)
theorem dX0_byteAt_2 : decode cX0_byteAt 2 = .ok (.getfield 119, 3) := dk_180 0 119 (dk_at dksX0_byteAt_0 2 rfl rfl)
theorem dX0_byteAt_5 : decode cX0_byteAt 5 = .ok (.if_icmp .ge 16, 3) := dk_162 0 16 (dk_at dksX0_byteAt_0 5 rfl rfl)
theorem dX0_byteAt_8 : decode cX0_byteAt 8 = .ok (.aload_n 0, 1) := dk_42 (dk_at dksX0_byteAt_0 8 rfl rfl)
theorem dX0_byteAt_9 : decode cX0_byteAt 9 = .ok (.getfield 122, 3) := dk_180 0 122 (dk_at dksX0_byteAt_0 9 rfl rfl)
theorem dX0_byteAt_12 : decode cX0_byteAt 12 = .ok (.iload_n 1, 1) := dk_27 (dk_at dksX0_byteAt_0 12 rfl rfl)
theorem dX0_byteAt_13 : decode cX0_byteAt 13 = .ok (.baload, 1) := dk_51 (dk_at dksX0_byteAt_0 13 rfl rfl)
theorem dX0_byteAt_14 : decode cX0_byteAt 14 = .ok (.sipush 255, 3) := dk_17 0 255 (dk_at dksX0_byteAt_0 14 rfl rfl)
theorem dX0_byteAt_17 : decode cX0_byteAt 17 = .ok (.iand, 1) := dk_126 (dk_at dksX0_byteAt_0 17 rfl rfl)
theorem dX0_byteAt_18 : decode cX0_byteAt 18 = .ok (.goto 4, 3) := dk_167 0 4 (dk_at dksX0_byteAt_0 18 rfl rfl)
theorem dX0_byteAt_21 : decode cX0_byteAt 21 = .ok (.iconst (-1), 1) := dk_2 (dk_at dksX0_byteAt_0 21 rfl rfl)
theorem dX0_byteAt_22 : decode cX0_byteAt 22 = .ok (.ireturn, 1) := dk_172 (dk_at dksX0_byteAt_0 22 rfl rfl)
abbrev cX0_isLetter : ByteArray := prog_1_method_15_code
def yX0_isLetter : MethodName := ⟨RX0, "isLetter", "(I)Z"⟩
def dkwX0_isLetter_0 : List UInt8 := [26, 133, 20, 0, 126, 20, 0, 128, 184, 0, 16, 172]
abbrev dktX0_isLetter_0 : List UInt8 := dkwX0_isLetter_0 ++ []
theorem dksX0_isLetter_0 : cX0_isLetter.data.toList.drop 0 = dktX0_isLetter_0 := by decide +kernel
theorem dX0_isLetter_0 : decode cX0_isLetter 0 = .ok (.iload_n 0, 1) := dk_26 (dk_at dksX0_isLetter_0 0 rfl rfl)
theorem dX0_isLetter_1 : decode cX0_isLetter 1 = .ok (.i2l, 1) := dk_133 (dk_at dksX0_isLetter_0 1 rfl rfl)
theorem dX0_isLetter_2 : decode cX0_isLetter 2 = .ok (.ldc2_w 126, 3) := dk_20 0 126 (dk_at dksX0_isLetter_0 2 rfl rfl)
theorem dX0_isLetter_5 : decode cX0_isLetter 5 = .ok (.ldc2_w 128, 3) := dk_20 0 128 (dk_at dksX0_isLetter_0 5 rfl rfl)
theorem dX0_isLetter_8 : decode cX0_isLetter 8 = .ok (.invokestatic 16, 3) := dk_184 0 16 (dk_at dksX0_isLetter_0 8 rfl rfl)
theorem dX0_isLetter_11 : decode cX0_isLetter 11 = .ok (.ireturn, 1) := dk_172 (dk_at dksX0_isLetter_0 11 rfl rfl)
abbrev cX0_word : ByteArray := prog_1_method_19_code
def yX0_word : MethodName := ⟨RX0, "word", "()V"⟩
def dkwX0_word_3 : List UInt8 := [42, 180, 0, 159, 2, 160, 0, 8, 42, 180, 0, 169, 191, 177]
abbrev dktX0_word_3 : List UInt8 := dkwX0_word_3 ++ []
def dkwX0_word_2 : List UInt8 := [181, 0, 143, 42, 27, 2, 160, 0, 14, 42, 42, 180, 0, 187, 182, 0, 183, 167, 0, 4, 27, 181, 0, 159]
abbrev dktX0_word_2 : List UInt8 := dkwX0_word_2 ++ dktX0_word_3
def dkwX0_word_1 : List UInt8 := [167, 255, 232, 42, 42, 180, 0, 179, 182, 0, 183, 60, 42, 27, 2, 160, 0, 7, 5, 167, 0, 4, 4]
abbrev dktX0_word_1 : List UInt8 := dkwX0_word_1 ++ dktX0_word_2
def dkwX0_word_0 : List UInt8 := [42, 42, 180, 0, 134, 182, 0, 137, 184, 0, 146, 153, 0, 16, 42, 89, 180, 0, 134, 4, 96, 181, 0, 134]
abbrev dktX0_word_0 : List UInt8 := dkwX0_word_0 ++ dktX0_word_1
theorem dksX0_word_0 : cX0_word.data.toList.drop 0 = dktX0_word_0 := by decide +kernel
theorem dksX0_word_1 : cX0_word.data.toList.drop 24 = dktX0_word_1 := dk_seg dksX0_word_0 24 rfl rfl
theorem dksX0_word_2 : cX0_word.data.toList.drop 47 = dktX0_word_2 := dk_seg dksX0_word_1 23 rfl rfl
theorem dksX0_word_3 : cX0_word.data.toList.drop 71 = dktX0_word_3 := dk_seg dksX0_word_2 24 rfl rfl
theorem dX0_word_0 : decode cX0_word 0 = .ok (.aload_n 0, 1) := dk_42 (dk_at dksX0_word_0 0 rfl rfl)
theorem dX0_word_1 : decode cX0_word 1 = .ok (.aload_n 0, 1) := dk_42 (dk_at dksX0_word_0 1 rfl rfl)
theorem dX0_word_2 : decode cX0_word 2 = .ok (.getfield 134, 3) := dk_180 0 134 (dk_at dksX0_word_0 2 rfl rfl)
theorem dX0_word_5 : decode cX0_word 5 = .ok (.invokevirtual 137, 3) := dk_182 0 137 (dk_at dksX0_word_0 5 rfl rfl)
theorem dX0_word_8 : decode cX0_word 8 = .ok (.invokestatic 146, 3) := dk_184 0 146 (dk_at dksX0_word_0 8 rfl rfl)
theorem dX0_word_11 : decode cX0_word 11 = .ok (.ifCond .eq 16, 3) := dk_153 0 16 (dk_at dksX0_word_0 11 rfl rfl)
theorem dX0_word_14 : decode cX0_word 14 = .ok (.aload_n 0, 1) := dk_42 (dk_at dksX0_word_0 14 rfl rfl)
theorem dX0_word_15 : decode cX0_word 15 = .ok (.dup, 1) := dk_89 (dk_at dksX0_word_0 15 rfl rfl)
theorem dX0_word_16 : decode cX0_word 16 = .ok (.getfield 134, 3) := dk_180 0 134 (dk_at dksX0_word_0 16 rfl rfl)
theorem dX0_word_19 : decode cX0_word 19 = .ok (.iconst 1, 1) := dk_4 (dk_at dksX0_word_0 19 rfl rfl)
theorem dX0_word_20 : decode cX0_word 20 = .ok (.iadd, 1) := dk_96 (dk_at dksX0_word_0 20 rfl rfl)
theorem dX0_word_21 : decode cX0_word 21 = .ok (.putfield 134, 3) := dk_181 0 134 (dk_at dksX0_word_0 21 rfl rfl)
theorem dX0_word_24 : decode cX0_word 24 = .ok (.goto (-24), 3) := dk_167 255 232 (dk_at dksX0_word_1 0 rfl rfl)
theorem dX0_word_27 : decode cX0_word 27 = .ok (.aload_n 0, 1) := dk_42 (dk_at dksX0_word_1 3 rfl rfl)
theorem dX0_word_28 : decode cX0_word 28 = .ok (.aload_n 0, 1) := dk_42 (dk_at dksX0_word_1 4 rfl rfl)
theorem dX0_word_29 : decode cX0_word 29 = .ok (.getfield 179, 3) := dk_180 0 179 (dk_at dksX0_word_1 5 rfl rfl)
theorem dX0_word_32 : decode cX0_word 32 = .ok (.invokevirtual 183, 3) := dk_182 0 183 (dk_at dksX0_word_1 8 rfl rfl)
theorem dX0_word_35 : decode cX0_word 35 = .ok (.istore_n 1, 1) := dk_60 (dk_at dksX0_word_1 11 rfl rfl)
theorem dX0_word_36 : decode cX0_word 36 = .ok (.aload_n 0, 1) := dk_42 (dk_at dksX0_word_1 12 rfl rfl)
theorem dX0_word_37 : decode cX0_word 37 = .ok (.iload_n 1, 1) := dk_27 (dk_at dksX0_word_1 13 rfl rfl)
theorem dX0_word_38 : decode cX0_word 38 = .ok (.iconst (-1), 1) := dk_2 (dk_at dksX0_word_1 14 rfl rfl)
theorem dX0_word_39 : decode cX0_word 39 = .ok (.if_icmp .ne 7, 3) := dk_160 0 7 (dk_at dksX0_word_1 15 rfl rfl)
theorem dX0_word_42 : decode cX0_word 42 = .ok (.iconst 2, 1) := dk_5 (dk_at dksX0_word_1 18 rfl rfl)
theorem dX0_word_43 : decode cX0_word 43 = .ok (.goto 4, 3) := dk_167 0 4 (dk_at dksX0_word_1 19 rfl rfl)
theorem dX0_word_46 : decode cX0_word 46 = .ok (.iconst 1, 1) := dk_4 (dk_at dksX0_word_1 22 rfl rfl)
theorem dX0_word_47 : decode cX0_word 47 = .ok (.putfield 143, 3) := dk_181 0 143 (dk_at dksX0_word_2 0 rfl rfl)
theorem dX0_word_50 : decode cX0_word 50 = .ok (.aload_n 0, 1) := dk_42 (dk_at dksX0_word_2 3 rfl rfl)
theorem dX0_word_51 : decode cX0_word 51 = .ok (.iload_n 1, 1) := dk_27 (dk_at dksX0_word_2 4 rfl rfl)
theorem dX0_word_52 : decode cX0_word 52 = .ok (.iconst (-1), 1) := dk_2 (dk_at dksX0_word_2 5 rfl rfl)
theorem dX0_word_53 : decode cX0_word 53 = .ok (.if_icmp .ne 14, 3) := dk_160 0 14 (dk_at dksX0_word_2 6 rfl rfl)
theorem dX0_word_56 : decode cX0_word 56 = .ok (.aload_n 0, 1) := dk_42 (dk_at dksX0_word_2 9 rfl rfl)
theorem dX0_word_57 : decode cX0_word 57 = .ok (.aload_n 0, 1) := dk_42 (dk_at dksX0_word_2 10 rfl rfl)
theorem dX0_word_58 : decode cX0_word 58 = .ok (.getfield 187, 3) := dk_180 0 187 (dk_at dksX0_word_2 11 rfl rfl)
theorem dX0_word_61 : decode cX0_word 61 = .ok (.invokevirtual 183, 3) := dk_182 0 183 (dk_at dksX0_word_2 14 rfl rfl)
theorem dX0_word_64 : decode cX0_word 64 = .ok (.goto 4, 3) := dk_167 0 4 (dk_at dksX0_word_2 17 rfl rfl)
theorem dX0_word_67 : decode cX0_word 67 = .ok (.iload_n 1, 1) := dk_27 (dk_at dksX0_word_2 20 rfl rfl)
theorem dX0_word_68 : decode cX0_word 68 = .ok (.putfield 159, 3) := dk_181 0 159 (dk_at dksX0_word_2 21 rfl rfl)
theorem dX0_word_71 : decode cX0_word 71 = .ok (.aload_n 0, 1) := dk_42 (dk_at dksX0_word_3 0 rfl rfl)
theorem dX0_word_72 : decode cX0_word 72 = .ok (.getfield 159, 3) := dk_180 0 159 (dk_at dksX0_word_3 1 rfl rfl)
theorem dX0_word_75 : decode cX0_word 75 = .ok (.iconst (-1), 1) := dk_2 (dk_at dksX0_word_3 4 rfl rfl)
theorem dX0_word_76 : decode cX0_word 76 = .ok (.if_icmp .ne 8, 3) := dk_160 0 8 (dk_at dksX0_word_3 5 rfl rfl)
theorem dX0_word_79 : decode cX0_word 79 = .ok (.aload_n 0, 1) := dk_42 (dk_at dksX0_word_3 8 rfl rfl)
theorem dX0_word_80 : decode cX0_word 80 = .ok (.getfield 169, 3) := dk_180 0 169 (dk_at dksX0_word_3 9 rfl rfl)
theorem dX0_word_83 : decode cX0_word 83 = .ok (.athrow, 1) := dk_191 (dk_at dksX0_word_3 12 rfl rfl)
theorem dX0_word_84 : decode cX0_word 84 = .ok (.return_, 1) := dk_177 (dk_at dksX0_word_3 13 rfl rfl)
abbrev cX0_placeIn : ByteArray := prog_1_method_18_code
def yX0_placeIn : MethodName := ⟨RX0, "placeIn", "([Ljava/lang/String;)I"⟩
def dkwX0_placeIn_4 : List UInt8 := [132, 2, 1, 167, 255, 162, 2, 172]
abbrev dktX0_placeIn_4 : List UInt8 := dkwX0_placeIn_4 ++ []
def dkwX0_placeIn_3 : List UInt8 := [182, 0, 137, 160, 0, 7, 4, 167, 0, 4, 3, 62, 132, 4, 1, 167, 255, 207, 29, 153, 0, 5, 28, 172]
abbrev dktX0_placeIn_3 : List UInt8 := dkwX0_placeIn_3 ++ dktX0_placeIn_4
def dkwX0_placeIn_2 : List UInt8 := [180, 0, 140, 100, 162, 0, 37, 43, 28, 50, 21, 4, 182, 0, 175, 42, 42, 180, 0, 140, 21, 4, 96]
abbrev dktX0_placeIn_2 : List UInt8 := dkwX0_placeIn_2 ++ dktX0_placeIn_3
def dkwX0_placeIn_1 : List UInt8 := [160, 0, 7, 4, 167, 0, 4, 3, 62, 3, 54, 4, 29, 153, 0, 51, 21, 4, 42, 180, 0, 134, 42]
abbrev dktX0_placeIn_1 : List UInt8 := dkwX0_placeIn_1 ++ dktX0_placeIn_2
def dkwX0_placeIn_0 : List UInt8 := [3, 61, 28, 43, 190, 162, 0, 94, 43, 28, 50, 182, 0, 173, 42, 180, 0, 134, 42, 180, 0, 140, 100]
abbrev dktX0_placeIn_0 : List UInt8 := dkwX0_placeIn_0 ++ dktX0_placeIn_1
theorem dksX0_placeIn_0 : cX0_placeIn.data.toList.drop 0 = dktX0_placeIn_0 := by decide +kernel
theorem dksX0_placeIn_1 : cX0_placeIn.data.toList.drop 23 = dktX0_placeIn_1 := dk_seg dksX0_placeIn_0 23 rfl rfl
theorem dksX0_placeIn_2 : cX0_placeIn.data.toList.drop 46 = dktX0_placeIn_2 := dk_seg dksX0_placeIn_1 23 rfl rfl
theorem dksX0_placeIn_3 : cX0_placeIn.data.toList.drop 69 = dktX0_placeIn_3 := dk_seg dksX0_placeIn_2 23 rfl rfl
theorem dksX0_placeIn_4 : cX0_placeIn.data.toList.drop 93 = dktX0_placeIn_4 := dk_seg dksX0_placeIn_3 24 rfl rfl
theorem dX0_placeIn_0 : decode cX0_placeIn 0 = .ok (.iconst 0, 1) := dk_3 (dk_at dksX0_placeIn_0 0 rfl rfl)
theorem dX0_placeIn_1 : decode cX0_placeIn 1 = .ok (.istore_n 2, 1) := dk_61 (dk_at dksX0_placeIn_0 1 rfl rfl)
theorem dX0_placeIn_2 : decode cX0_placeIn 2 = .ok (.iload_n 2, 1) := dk_28 (dk_at dksX0_placeIn_0 2 rfl rfl)
theorem dX0_placeIn_3 : decode cX0_placeIn 3 = .ok (.aload_n 1, 1) := dk_43 (dk_at dksX0_placeIn_0 3 rfl rfl)
theorem dX0_placeIn_4 : decode cX0_placeIn 4 = .ok (.arraylength, 1) := dk_190 (dk_at dksX0_placeIn_0 4 rfl rfl)
theorem dX0_placeIn_5 : decode cX0_placeIn 5 = .ok (.if_icmp .ge 94, 3) := dk_162 0 94 (dk_at dksX0_placeIn_0 5 rfl rfl)
theorem dX0_placeIn_8 : decode cX0_placeIn 8 = .ok (.aload_n 1, 1) := dk_43 (dk_at dksX0_placeIn_0 8 rfl rfl)
theorem dX0_placeIn_9 : decode cX0_placeIn 9 = .ok (.iload_n 2, 1) := dk_28 (dk_at dksX0_placeIn_0 9 rfl rfl)
theorem dX0_placeIn_10 : decode cX0_placeIn 10 = .ok (.aaload, 1) := dk_50 (dk_at dksX0_placeIn_0 10 rfl rfl)
theorem dX0_placeIn_11 : decode cX0_placeIn 11 = .ok (.invokevirtual 173, 3) := dk_182 0 173 (dk_at dksX0_placeIn_0 11 rfl rfl)
theorem dX0_placeIn_14 : decode cX0_placeIn 14 = .ok (.aload_n 0, 1) := dk_42 (dk_at dksX0_placeIn_0 14 rfl rfl)
theorem dX0_placeIn_15 : decode cX0_placeIn 15 = .ok (.getfield 134, 3) := dk_180 0 134 (dk_at dksX0_placeIn_0 15 rfl rfl)
theorem dX0_placeIn_18 : decode cX0_placeIn 18 = .ok (.aload_n 0, 1) := dk_42 (dk_at dksX0_placeIn_0 18 rfl rfl)
theorem dX0_placeIn_19 : decode cX0_placeIn 19 = .ok (.getfield 140, 3) := dk_180 0 140 (dk_at dksX0_placeIn_0 19 rfl rfl)
theorem dX0_placeIn_22 : decode cX0_placeIn 22 = .ok (.isub, 1) := dk_100 (dk_at dksX0_placeIn_0 22 rfl rfl)
theorem dX0_placeIn_23 : decode cX0_placeIn 23 = .ok (.if_icmp .ne 7, 3) := dk_160 0 7 (dk_at dksX0_placeIn_1 0 rfl rfl)
theorem dX0_placeIn_26 : decode cX0_placeIn 26 = .ok (.iconst 1, 1) := dk_4 (dk_at dksX0_placeIn_1 3 rfl rfl)
theorem dX0_placeIn_27 : decode cX0_placeIn 27 = .ok (.goto 4, 3) := dk_167 0 4 (dk_at dksX0_placeIn_1 4 rfl rfl)
theorem dX0_placeIn_30 : decode cX0_placeIn 30 = .ok (.iconst 0, 1) := dk_3 (dk_at dksX0_placeIn_1 7 rfl rfl)
theorem dX0_placeIn_31 : decode cX0_placeIn 31 = .ok (.istore_n 3, 1) := dk_62 (dk_at dksX0_placeIn_1 8 rfl rfl)
theorem dX0_placeIn_32 : decode cX0_placeIn 32 = .ok (.iconst 0, 1) := dk_3 (dk_at dksX0_placeIn_1 9 rfl rfl)
theorem dX0_placeIn_33 : decode cX0_placeIn 33 = .ok (.istore 4, 2) := dk_54 4 (dk_at dksX0_placeIn_1 10 rfl rfl)
theorem dX0_placeIn_35 : decode cX0_placeIn 35 = .ok (.iload_n 3, 1) := dk_29 (dk_at dksX0_placeIn_1 12 rfl rfl)
theorem dX0_placeIn_36 : decode cX0_placeIn 36 = .ok (.ifCond .eq 51, 3) := dk_153 0 51 (dk_at dksX0_placeIn_1 13 rfl rfl)
theorem dX0_placeIn_39 : decode cX0_placeIn 39 = .ok (.iload 4, 2) := dk_21 4 (dk_at dksX0_placeIn_1 16 rfl rfl)
theorem dX0_placeIn_41 : decode cX0_placeIn 41 = .ok (.aload_n 0, 1) := dk_42 (dk_at dksX0_placeIn_1 18 rfl rfl)
theorem dX0_placeIn_42 : decode cX0_placeIn 42 = .ok (.getfield 134, 3) := dk_180 0 134 (dk_at dksX0_placeIn_1 19 rfl rfl)
theorem dX0_placeIn_45 : decode cX0_placeIn 45 = .ok (.aload_n 0, 1) := dk_42 (dk_at dksX0_placeIn_1 22 rfl rfl)
theorem dX0_placeIn_46 : decode cX0_placeIn 46 = .ok (.getfield 140, 3) := dk_180 0 140 (dk_at dksX0_placeIn_2 0 rfl rfl)
theorem dX0_placeIn_49 : decode cX0_placeIn 49 = .ok (.isub, 1) := dk_100 (dk_at dksX0_placeIn_2 3 rfl rfl)
theorem dX0_placeIn_50 : decode cX0_placeIn 50 = .ok (.if_icmp .ge 37, 3) := dk_162 0 37 (dk_at dksX0_placeIn_2 4 rfl rfl)
theorem dX0_placeIn_53 : decode cX0_placeIn 53 = .ok (.aload_n 1, 1) := dk_43 (dk_at dksX0_placeIn_2 7 rfl rfl)
theorem dX0_placeIn_54 : decode cX0_placeIn 54 = .ok (.iload_n 2, 1) := dk_28 (dk_at dksX0_placeIn_2 8 rfl rfl)
theorem dX0_placeIn_55 : decode cX0_placeIn 55 = .ok (.aaload, 1) := dk_50 (dk_at dksX0_placeIn_2 9 rfl rfl)
theorem dX0_placeIn_56 : decode cX0_placeIn 56 = .ok (.iload 4, 2) := dk_21 4 (dk_at dksX0_placeIn_2 10 rfl rfl)
theorem dX0_placeIn_58 : decode cX0_placeIn 58 = .ok (.invokevirtual 175, 3) := dk_182 0 175 (dk_at dksX0_placeIn_2 12 rfl rfl)
theorem dX0_placeIn_61 : decode cX0_placeIn 61 = .ok (.aload_n 0, 1) := dk_42 (dk_at dksX0_placeIn_2 15 rfl rfl)
theorem dX0_placeIn_62 : decode cX0_placeIn 62 = .ok (.aload_n 0, 1) := dk_42 (dk_at dksX0_placeIn_2 16 rfl rfl)
theorem dX0_placeIn_63 : decode cX0_placeIn 63 = .ok (.getfield 140, 3) := dk_180 0 140 (dk_at dksX0_placeIn_2 17 rfl rfl)
theorem dX0_placeIn_66 : decode cX0_placeIn 66 = .ok (.iload 4, 2) := dk_21 4 (dk_at dksX0_placeIn_2 20 rfl rfl)
theorem dX0_placeIn_68 : decode cX0_placeIn 68 = .ok (.iadd, 1) := dk_96 (dk_at dksX0_placeIn_2 22 rfl rfl)
theorem dX0_placeIn_69 : decode cX0_placeIn 69 = .ok (.invokevirtual 137, 3) := dk_182 0 137 (dk_at dksX0_placeIn_3 0 rfl rfl)
theorem dX0_placeIn_72 : decode cX0_placeIn 72 = .ok (.if_icmp .ne 7, 3) := dk_160 0 7 (dk_at dksX0_placeIn_3 3 rfl rfl)
theorem dX0_placeIn_75 : decode cX0_placeIn 75 = .ok (.iconst 1, 1) := dk_4 (dk_at dksX0_placeIn_3 6 rfl rfl)
theorem dX0_placeIn_76 : decode cX0_placeIn 76 = .ok (.goto 4, 3) := dk_167 0 4 (dk_at dksX0_placeIn_3 7 rfl rfl)
theorem dX0_placeIn_79 : decode cX0_placeIn 79 = .ok (.iconst 0, 1) := dk_3 (dk_at dksX0_placeIn_3 10 rfl rfl)
theorem dX0_placeIn_80 : decode cX0_placeIn 80 = .ok (.istore_n 3, 1) := dk_62 (dk_at dksX0_placeIn_3 11 rfl rfl)
theorem dX0_placeIn_81 : decode cX0_placeIn 81 = .ok (.iinc 4 1, 3) := dk_132 4 1 (dk_at dksX0_placeIn_3 12 rfl rfl)
theorem dX0_placeIn_84 : decode cX0_placeIn 84 = .ok (.goto (-49), 3) := dk_167 255 207 (dk_at dksX0_placeIn_3 15 rfl rfl)
theorem dX0_placeIn_87 : decode cX0_placeIn 87 = .ok (.iload_n 3, 1) := dk_29 (dk_at dksX0_placeIn_3 18 rfl rfl)
theorem dX0_placeIn_88 : decode cX0_placeIn 88 = .ok (.ifCond .eq 5, 3) := dk_153 0 5 (dk_at dksX0_placeIn_3 19 rfl rfl)
theorem dX0_placeIn_91 : decode cX0_placeIn 91 = .ok (.iload_n 2, 1) := dk_28 (dk_at dksX0_placeIn_3 22 rfl rfl)
theorem dX0_placeIn_92 : decode cX0_placeIn 92 = .ok (.ireturn, 1) := dk_172 (dk_at dksX0_placeIn_3 23 rfl rfl)
theorem dX0_placeIn_93 : decode cX0_placeIn 93 = .ok (.iinc 2 1, 3) := dk_132 2 1 (dk_at dksX0_placeIn_4 0 rfl rfl)
theorem dX0_placeIn_96 : decode cX0_placeIn 96 = .ok (.goto (-94), 3) := dk_167 255 162 (dk_at dksX0_placeIn_4 3 rfl rfl)
theorem dX0_placeIn_99 : decode cX0_placeIn 99 = .ok (.iconst (-1), 1) := dk_2 (dk_at dksX0_placeIn_4 6 rfl rfl)
theorem dX0_placeIn_100 : decode cX0_placeIn 100 = .ok (.ireturn, 1) := dk_172 (dk_at dksX0_placeIn_4 7 rfl rfl)
abbrev cX0_isDigit : ByteArray := prog_1_method_16_code
def yX0_isDigit : MethodName := ⟨RX0, "isDigit", "(I)Z"⟩
def dkwX0_isDigit_0 : List UInt8 := [26, 133, 20, 0, 130, 20, 0, 132, 184, 0, 16, 172]
abbrev dktX0_isDigit_0 : List UInt8 := dkwX0_isDigit_0 ++ []
theorem dksX0_isDigit_0 : cX0_isDigit.data.toList.drop 0 = dktX0_isDigit_0 := by decide +kernel
theorem dX0_isDigit_0 : decode cX0_isDigit 0 = .ok (.iload_n 0, 1) := dk_26 (dk_at dksX0_isDigit_0 0 rfl rfl)
theorem dX0_isDigit_1 : decode cX0_isDigit 1 = .ok (.i2l, 1) := dk_133 (dk_at dksX0_isDigit_0 1 rfl rfl)
theorem dX0_isDigit_2 : decode cX0_isDigit 2 = .ok (.ldc2_w 130, 3) := dk_20 0 130 (dk_at dksX0_isDigit_0 2 rfl rfl)
theorem dX0_isDigit_5 : decode cX0_isDigit 5 = .ok (.ldc2_w 132, 3) := dk_20 0 132 (dk_at dksX0_isDigit_0 5 rfl rfl)
theorem dX0_isDigit_8 : decode cX0_isDigit 8 = .ok (.invokestatic 16, 3) := dk_184 0 16 (dk_at dksX0_isDigit_0 8 rfl rfl)
theorem dX0_isDigit_11 : decode cX0_isDigit 11 = .ok (.ireturn, 1) := dk_172 (dk_at dksX0_isDigit_0 11 rfl rfl)
abbrev cX0_digits : ByteArray := prog_1_method_20_code
def yX0_digits : MethodName := ⟨RX0, "digits", "()V"⟩
def dkwX0_digits_4 : List UInt8 := [180, 0, 169, 191, 177]
abbrev dktX0_digits_4 : List UInt8 := dkwX0_digits_4 ++ []
def dkwX0_digits_3 : List UInt8 := [167, 255, 189, 42, 6, 181, 0, 143, 42, 180, 0, 134, 42, 180, 0, 140, 100, 7, 164, 0, 8, 42]
abbrev dktX0_digits_3 : List UInt8 := dkwX0_digits_3 ++ dktX0_digits_4
def dkwX0_digits_2 : List UInt8 := [96, 16, 48, 100, 167, 0, 7, 42, 180, 0, 159, 181, 0, 159, 42, 89, 180, 0, 134, 4, 96, 181, 0, 134]
abbrev dktX0_digits_2 : List UInt8 := dkwX0_digits_2 ++ dktX0_digits_3
def dkwX0_digits_1 : List UInt8 := [42, 180, 0, 140, 100, 7, 162, 0, 25, 16, 10, 42, 180, 0, 159, 104, 42, 42, 180, 0, 134, 182, 0, 137]
abbrev dktX0_digits_1 : List UInt8 := dkwX0_digits_1 ++ dktX0_digits_2
def dkwX0_digits_0 : List UInt8 := [42, 3, 181, 0, 159, 42, 42, 180, 0, 134, 182, 0, 137, 184, 0, 153, 153, 0, 59, 42, 42, 180, 0, 134]
abbrev dktX0_digits_0 : List UInt8 := dkwX0_digits_0 ++ dktX0_digits_1
theorem dksX0_digits_0 : cX0_digits.data.toList.drop 0 = dktX0_digits_0 := by decide +kernel
theorem dksX0_digits_1 : cX0_digits.data.toList.drop 24 = dktX0_digits_1 := dk_seg dksX0_digits_0 24 rfl rfl
theorem dksX0_digits_2 : cX0_digits.data.toList.drop 48 = dktX0_digits_2 := dk_seg dksX0_digits_1 24 rfl rfl
theorem dksX0_digits_3 : cX0_digits.data.toList.drop 72 = dktX0_digits_3 := dk_seg dksX0_digits_2 24 rfl rfl
theorem dksX0_digits_4 : cX0_digits.data.toList.drop 94 = dktX0_digits_4 := dk_seg dksX0_digits_3 22 rfl rfl
theorem dX0_digits_0 : decode cX0_digits 0 = .ok (.aload_n 0, 1) := dk_42 (dk_at dksX0_digits_0 0 rfl rfl)
theorem dX0_digits_1 : decode cX0_digits 1 = .ok (.iconst 0, 1) := dk_3 (dk_at dksX0_digits_0 1 rfl rfl)
theorem dX0_digits_2 : decode cX0_digits 2 = .ok (.putfield 159, 3) := dk_181 0 159 (dk_at dksX0_digits_0 2 rfl rfl)
theorem dX0_digits_5 : decode cX0_digits 5 = .ok (.aload_n 0, 1) := dk_42 (dk_at dksX0_digits_0 5 rfl rfl)
theorem dX0_digits_6 : decode cX0_digits 6 = .ok (.aload_n 0, 1) := dk_42 (dk_at dksX0_digits_0 6 rfl rfl)
theorem dX0_digits_7 : decode cX0_digits 7 = .ok (.getfield 134, 3) := dk_180 0 134 (dk_at dksX0_digits_0 7 rfl rfl)
theorem dX0_digits_10 : decode cX0_digits 10 = .ok (.invokevirtual 137, 3) := dk_182 0 137 (dk_at dksX0_digits_0 10 rfl rfl)
theorem dX0_digits_13 : decode cX0_digits 13 = .ok (.invokestatic 153, 3) := dk_184 0 153 (dk_at dksX0_digits_0 13 rfl rfl)
theorem dX0_digits_16 : decode cX0_digits 16 = .ok (.ifCond .eq 59, 3) := dk_153 0 59 (dk_at dksX0_digits_0 16 rfl rfl)
theorem dX0_digits_19 : decode cX0_digits 19 = .ok (.aload_n 0, 1) := dk_42 (dk_at dksX0_digits_0 19 rfl rfl)
theorem dX0_digits_20 : decode cX0_digits 20 = .ok (.aload_n 0, 1) := dk_42 (dk_at dksX0_digits_0 20 rfl rfl)
theorem dX0_digits_21 : decode cX0_digits 21 = .ok (.getfield 134, 3) := dk_180 0 134 (dk_at dksX0_digits_0 21 rfl rfl)
theorem dX0_digits_24 : decode cX0_digits 24 = .ok (.aload_n 0, 1) := dk_42 (dk_at dksX0_digits_1 0 rfl rfl)
theorem dX0_digits_25 : decode cX0_digits 25 = .ok (.getfield 140, 3) := dk_180 0 140 (dk_at dksX0_digits_1 1 rfl rfl)
theorem dX0_digits_28 : decode cX0_digits 28 = .ok (.isub, 1) := dk_100 (dk_at dksX0_digits_1 4 rfl rfl)
theorem dX0_digits_29 : decode cX0_digits 29 = .ok (.iconst 4, 1) := dk_7 (dk_at dksX0_digits_1 5 rfl rfl)
theorem dX0_digits_30 : decode cX0_digits 30 = .ok (.if_icmp .ge 25, 3) := dk_162 0 25 (dk_at dksX0_digits_1 6 rfl rfl)
theorem dX0_digits_33 : decode cX0_digits 33 = .ok (.bipush 10, 2) := dk_16 10 (dk_at dksX0_digits_1 9 rfl rfl)
theorem dX0_digits_35 : decode cX0_digits 35 = .ok (.aload_n 0, 1) := dk_42 (dk_at dksX0_digits_1 11 rfl rfl)
theorem dX0_digits_36 : decode cX0_digits 36 = .ok (.getfield 159, 3) := dk_180 0 159 (dk_at dksX0_digits_1 12 rfl rfl)
theorem dX0_digits_39 : decode cX0_digits 39 = .ok (.imul, 1) := dk_104 (dk_at dksX0_digits_1 15 rfl rfl)
theorem dX0_digits_40 : decode cX0_digits 40 = .ok (.aload_n 0, 1) := dk_42 (dk_at dksX0_digits_1 16 rfl rfl)
theorem dX0_digits_41 : decode cX0_digits 41 = .ok (.aload_n 0, 1) := dk_42 (dk_at dksX0_digits_1 17 rfl rfl)
theorem dX0_digits_42 : decode cX0_digits 42 = .ok (.getfield 134, 3) := dk_180 0 134 (dk_at dksX0_digits_1 18 rfl rfl)
theorem dX0_digits_45 : decode cX0_digits 45 = .ok (.invokevirtual 137, 3) := dk_182 0 137 (dk_at dksX0_digits_1 21 rfl rfl)
theorem dX0_digits_48 : decode cX0_digits 48 = .ok (.iadd, 1) := dk_96 (dk_at dksX0_digits_2 0 rfl rfl)
theorem dX0_digits_49 : decode cX0_digits 49 = .ok (.bipush 48, 2) := dk_16 48 (dk_at dksX0_digits_2 1 rfl rfl)
theorem dX0_digits_51 : decode cX0_digits 51 = .ok (.isub, 1) := dk_100 (dk_at dksX0_digits_2 3 rfl rfl)
theorem dX0_digits_52 : decode cX0_digits 52 = .ok (.goto 7, 3) := dk_167 0 7 (dk_at dksX0_digits_2 4 rfl rfl)
theorem dX0_digits_55 : decode cX0_digits 55 = .ok (.aload_n 0, 1) := dk_42 (dk_at dksX0_digits_2 7 rfl rfl)
theorem dX0_digits_56 : decode cX0_digits 56 = .ok (.getfield 159, 3) := dk_180 0 159 (dk_at dksX0_digits_2 8 rfl rfl)
theorem dX0_digits_59 : decode cX0_digits 59 = .ok (.putfield 159, 3) := dk_181 0 159 (dk_at dksX0_digits_2 11 rfl rfl)
theorem dX0_digits_62 : decode cX0_digits 62 = .ok (.aload_n 0, 1) := dk_42 (dk_at dksX0_digits_2 14 rfl rfl)
theorem dX0_digits_63 : decode cX0_digits 63 = .ok (.dup, 1) := dk_89 (dk_at dksX0_digits_2 15 rfl rfl)
theorem dX0_digits_64 : decode cX0_digits 64 = .ok (.getfield 134, 3) := dk_180 0 134 (dk_at dksX0_digits_2 16 rfl rfl)
theorem dX0_digits_67 : decode cX0_digits 67 = .ok (.iconst 1, 1) := dk_4 (dk_at dksX0_digits_2 19 rfl rfl)
theorem dX0_digits_68 : decode cX0_digits 68 = .ok (.iadd, 1) := dk_96 (dk_at dksX0_digits_2 20 rfl rfl)
theorem dX0_digits_69 : decode cX0_digits 69 = .ok (.putfield 134, 3) := dk_181 0 134 (dk_at dksX0_digits_2 21 rfl rfl)
theorem dX0_digits_72 : decode cX0_digits 72 = .ok (.goto (-67), 3) := dk_167 255 189 (dk_at dksX0_digits_3 0 rfl rfl)
theorem dX0_digits_75 : decode cX0_digits 75 = .ok (.aload_n 0, 1) := dk_42 (dk_at dksX0_digits_3 3 rfl rfl)
theorem dX0_digits_76 : decode cX0_digits 76 = .ok (.iconst 3, 1) := dk_6 (dk_at dksX0_digits_3 4 rfl rfl)
theorem dX0_digits_77 : decode cX0_digits 77 = .ok (.putfield 143, 3) := dk_181 0 143 (dk_at dksX0_digits_3 5 rfl rfl)
theorem dX0_digits_80 : decode cX0_digits 80 = .ok (.aload_n 0, 1) := dk_42 (dk_at dksX0_digits_3 8 rfl rfl)
theorem dX0_digits_81 : decode cX0_digits 81 = .ok (.getfield 134, 3) := dk_180 0 134 (dk_at dksX0_digits_3 9 rfl rfl)
theorem dX0_digits_84 : decode cX0_digits 84 = .ok (.aload_n 0, 1) := dk_42 (dk_at dksX0_digits_3 12 rfl rfl)
theorem dX0_digits_85 : decode cX0_digits 85 = .ok (.getfield 140, 3) := dk_180 0 140 (dk_at dksX0_digits_3 13 rfl rfl)
theorem dX0_digits_88 : decode cX0_digits 88 = .ok (.isub, 1) := dk_100 (dk_at dksX0_digits_3 16 rfl rfl)
theorem dX0_digits_89 : decode cX0_digits 89 = .ok (.iconst 4, 1) := dk_7 (dk_at dksX0_digits_3 17 rfl rfl)
theorem dX0_digits_90 : decode cX0_digits 90 = .ok (.if_icmp .le 8, 3) := dk_164 0 8 (dk_at dksX0_digits_3 18 rfl rfl)
theorem dX0_digits_93 : decode cX0_digits 93 = .ok (.aload_n 0, 1) := dk_42 (dk_at dksX0_digits_3 21 rfl rfl)
theorem dX0_digits_94 : decode cX0_digits 94 = .ok (.getfield 169, 3) := dk_180 0 169 (dk_at dksX0_digits_4 0 rfl rfl)
theorem dX0_digits_97 : decode cX0_digits 97 = .ok (.athrow, 1) := dk_191 (dk_at dksX0_digits_4 3 rfl rfl)
theorem dX0_digits_98 : decode cX0_digits 98 = .ok (.return_, 1) := dk_177 (dk_at dksX0_digits_4 4 rfl rfl)
abbrev cX0_isKey : ByteArray := prog_1_method_22_code
def yX0_isKey : MethodName := ⟨RX0, "isKey", "(I)Z"⟩
def dkwX0_isKey_0 : List UInt8 := [42, 180, 0, 143, 4, 160, 0, 15, 42, 180, 0, 159, 27, 160, 0, 7, 4, 167, 0, 4, 3, 172]
abbrev dktX0_isKey_0 : List UInt8 := dkwX0_isKey_0 ++ []
theorem dksX0_isKey_0 : cX0_isKey.data.toList.drop 0 = dktX0_isKey_0 := by decide +kernel
theorem dX0_isKey_0 : decode cX0_isKey 0 = .ok (.aload_n 0, 1) := dk_42 (dk_at dksX0_isKey_0 0 rfl rfl)
theorem dX0_isKey_1 : decode cX0_isKey 1 = .ok (.getfield 143, 3) := dk_180 0 143 (dk_at dksX0_isKey_0 1 rfl rfl)
theorem dX0_isKey_4 : decode cX0_isKey 4 = .ok (.iconst 1, 1) := dk_4 (dk_at dksX0_isKey_0 4 rfl rfl)
theorem dX0_isKey_5 : decode cX0_isKey 5 = .ok (.if_icmp .ne 15, 3) := dk_160 0 15 (dk_at dksX0_isKey_0 5 rfl rfl)
theorem dX0_isKey_8 : decode cX0_isKey 8 = .ok (.aload_n 0, 1) := dk_42 (dk_at dksX0_isKey_0 8 rfl rfl)
theorem dX0_isKey_9 : decode cX0_isKey 9 = .ok (.getfield 159, 3) := dk_180 0 159 (dk_at dksX0_isKey_0 9 rfl rfl)
theorem dX0_isKey_12 : decode cX0_isKey 12 = .ok (.iload_n 1, 1) := dk_27 (dk_at dksX0_isKey_0 12 rfl rfl)
theorem dX0_isKey_13 : decode cX0_isKey 13 = .ok (.if_icmp .ne 7, 3) := dk_160 0 7 (dk_at dksX0_isKey_0 13 rfl rfl)
theorem dX0_isKey_16 : decode cX0_isKey 16 = .ok (.iconst 1, 1) := dk_4 (dk_at dksX0_isKey_0 16 rfl rfl)
theorem dX0_isKey_17 : decode cX0_isKey 17 = .ok (.goto 4, 3) := dk_167 0 4 (dk_at dksX0_isKey_0 17 rfl rfl)
theorem dX0_isKey_20 : decode cX0_isKey 20 = .ok (.iconst 0, 1) := dk_3 (dk_at dksX0_isKey_0 20 rfl rfl)
theorem dX0_isKey_21 : decode cX0_isKey 21 = .ok (.ireturn, 1) := dk_172 (dk_at dksX0_isKey_0 21 rfl rfl)
abbrev cX0_need : ByteArray := prog_1_method_23_code
def yX0_need : MethodName := ⟨RX0, "need", "(Z)V"⟩
def dkwX0_need_0 : List UInt8 := [27, 154, 0, 8, 42, 180, 0, 169, 191, 42, 182, 0, 190, 177]
abbrev dktX0_need_0 : List UInt8 := dkwX0_need_0 ++ []
theorem dksX0_need_0 : cX0_need.data.toList.drop 0 = dktX0_need_0 := by decide +kernel
theorem dX0_need_0 : decode cX0_need 0 = .ok (.iload_n 1, 1) := dk_27 (dk_at dksX0_need_0 0 rfl rfl)
theorem dX0_need_1 : decode cX0_need 1 = .ok (.ifCond .ne 8, 3) := dk_154 0 8 (dk_at dksX0_need_0 1 rfl rfl)
theorem dX0_need_4 : decode cX0_need 4 = .ok (.aload_n 0, 1) := dk_42 (dk_at dksX0_need_0 4 rfl rfl)
theorem dX0_need_5 : decode cX0_need 5 = .ok (.getfield 169, 3) := dk_180 0 169 (dk_at dksX0_need_0 5 rfl rfl)
theorem dX0_need_8 : decode cX0_need 8 = .ok (.athrow, 1) := dk_191 (dk_at dksX0_need_0 8 rfl rfl)
theorem dX0_need_9 : decode cX0_need 9 = .ok (.aload_n 0, 1) := dk_42 (dk_at dksX0_need_0 9 rfl rfl)
theorem dX0_need_10 : decode cX0_need 10 = .ok (.invokevirtual 190, 3) := dk_182 0 190 (dk_at dksX0_need_0 10 rfl rfl)
theorem dX0_need_13 : decode cX0_need 13 = .ok (.return_, 1) := dk_177 (dk_at dksX0_need_0 13 rfl rfl)
abbrev cX0_either : ByteArray := prog_1_method_25_code
def yX0_either : MethodName := ⟨RX0, "either", "()LNobodyCanLiftIt$Node;"⟩
def dkwX0_either_1 : List UInt8 := [42, 182, 0, 200, 183, 0, 209, 76, 167, 255, 229, 43, 176]
abbrev dktX0_either_1 : List UInt8 := dkwX0_either_1 ++ []
def dkwX0_either_0 : List UInt8 := [42, 182, 0, 200, 76, 42, 6, 182, 0, 204, 153, 0, 25, 42, 182, 0, 190, 187, 0, 207, 89, 16, 124, 43]
abbrev dktX0_either_0 : List UInt8 := dkwX0_either_0 ++ dktX0_either_1
theorem dksX0_either_0 : cX0_either.data.toList.drop 0 = dktX0_either_0 := by decide +kernel
theorem dksX0_either_1 : cX0_either.data.toList.drop 24 = dktX0_either_1 := dk_seg dksX0_either_0 24 rfl rfl
theorem dX0_either_0 : decode cX0_either 0 = .ok (.aload_n 0, 1) := dk_42 (dk_at dksX0_either_0 0 rfl rfl)
theorem dX0_either_1 : decode cX0_either 1 = .ok (.invokevirtual 200, 3) := dk_182 0 200 (dk_at dksX0_either_0 1 rfl rfl)
theorem dX0_either_4 : decode cX0_either 4 = .ok (.astore_n 1, 1) := dk_76 (dk_at dksX0_either_0 4 rfl rfl)
theorem dX0_either_5 : decode cX0_either 5 = .ok (.aload_n 0, 1) := dk_42 (dk_at dksX0_either_0 5 rfl rfl)
theorem dX0_either_6 : decode cX0_either 6 = .ok (.iconst 3, 1) := dk_6 (dk_at dksX0_either_0 6 rfl rfl)
theorem dX0_either_7 : decode cX0_either 7 = .ok (.invokevirtual 204, 3) := dk_182 0 204 (dk_at dksX0_either_0 7 rfl rfl)
theorem dX0_either_10 : decode cX0_either 10 = .ok (.ifCond .eq 25, 3) := dk_153 0 25 (dk_at dksX0_either_0 10 rfl rfl)
theorem dX0_either_13 : decode cX0_either 13 = .ok (.aload_n 0, 1) := dk_42 (dk_at dksX0_either_0 13 rfl rfl)
theorem dX0_either_14 : decode cX0_either 14 = .ok (.invokevirtual 190, 3) := dk_182 0 190 (dk_at dksX0_either_0 14 rfl rfl)
theorem dX0_either_17 : decode cX0_either 17 = .ok (.new 207, 3) := dk_187 0 207 (dk_at dksX0_either_0 17 rfl rfl)
theorem dX0_either_20 : decode cX0_either 20 = .ok (.dup, 1) := dk_89 (dk_at dksX0_either_0 20 rfl rfl)
theorem dX0_either_21 : decode cX0_either 21 = .ok (.bipush 124, 2) := dk_16 124 (dk_at dksX0_either_0 21 rfl rfl)
theorem dX0_either_23 : decode cX0_either 23 = .ok (.aload_n 1, 1) := dk_43 (dk_at dksX0_either_0 23 rfl rfl)
theorem dX0_either_24 : decode cX0_either 24 = .ok (.aload_n 0, 1) := dk_42 (dk_at dksX0_either_1 0 rfl rfl)
theorem dX0_either_25 : decode cX0_either 25 = .ok (.invokevirtual 200, 3) := dk_182 0 200 (dk_at dksX0_either_1 1 rfl rfl)
theorem dX0_either_28 : decode cX0_either 28 = .ok (.invokespecial 209, 3) := dk_183 0 209 (dk_at dksX0_either_1 4 rfl rfl)
theorem dX0_either_31 : decode cX0_either 31 = .ok (.astore_n 1, 1) := dk_76 (dk_at dksX0_either_1 7 rfl rfl)
theorem dX0_either_32 : decode cX0_either 32 = .ok (.goto (-27), 3) := dk_167 255 229 (dk_at dksX0_either_1 8 rfl rfl)
theorem dX0_either_35 : decode cX0_either 35 = .ok (.aload_n 1, 1) := dk_43 (dk_at dksX0_either_1 11 rfl rfl)
theorem dX0_either_36 : decode cX0_either 36 = .ok (.areturn, 1) := dk_176 (dk_at dksX0_either_1 12 rfl rfl)
abbrev cX0_both : ByteArray := prog_1_method_26_code
def yX0_both : MethodName := ⟨RX0, "both", "()LNobodyCanLiftIt$Node;"⟩
def dkwX0_both_1 : List UInt8 := [42, 182, 0, 212, 183, 0, 209, 76, 167, 255, 229, 43, 176]
abbrev dktX0_both_1 : List UInt8 := dkwX0_both_1 ++ []
def dkwX0_both_0 : List UInt8 := [42, 182, 0, 212, 76, 42, 7, 182, 0, 204, 153, 0, 25, 42, 182, 0, 190, 187, 0, 207, 89, 16, 38, 43]
abbrev dktX0_both_0 : List UInt8 := dkwX0_both_0 ++ dktX0_both_1
theorem dksX0_both_0 : cX0_both.data.toList.drop 0 = dktX0_both_0 := by decide +kernel
theorem dksX0_both_1 : cX0_both.data.toList.drop 24 = dktX0_both_1 := dk_seg dksX0_both_0 24 rfl rfl
theorem dX0_both_0 : decode cX0_both 0 = .ok (.aload_n 0, 1) := dk_42 (dk_at dksX0_both_0 0 rfl rfl)
theorem dX0_both_1 : decode cX0_both 1 = .ok (.invokevirtual 212, 3) := dk_182 0 212 (dk_at dksX0_both_0 1 rfl rfl)
theorem dX0_both_4 : decode cX0_both 4 = .ok (.astore_n 1, 1) := dk_76 (dk_at dksX0_both_0 4 rfl rfl)
theorem dX0_both_5 : decode cX0_both 5 = .ok (.aload_n 0, 1) := dk_42 (dk_at dksX0_both_0 5 rfl rfl)
theorem dX0_both_6 : decode cX0_both 6 = .ok (.iconst 4, 1) := dk_7 (dk_at dksX0_both_0 6 rfl rfl)
theorem dX0_both_7 : decode cX0_both 7 = .ok (.invokevirtual 204, 3) := dk_182 0 204 (dk_at dksX0_both_0 7 rfl rfl)
theorem dX0_both_10 : decode cX0_both 10 = .ok (.ifCond .eq 25, 3) := dk_153 0 25 (dk_at dksX0_both_0 10 rfl rfl)
theorem dX0_both_13 : decode cX0_both 13 = .ok (.aload_n 0, 1) := dk_42 (dk_at dksX0_both_0 13 rfl rfl)
theorem dX0_both_14 : decode cX0_both 14 = .ok (.invokevirtual 190, 3) := dk_182 0 190 (dk_at dksX0_both_0 14 rfl rfl)
theorem dX0_both_17 : decode cX0_both 17 = .ok (.new 207, 3) := dk_187 0 207 (dk_at dksX0_both_0 17 rfl rfl)
theorem dX0_both_20 : decode cX0_both 20 = .ok (.dup, 1) := dk_89 (dk_at dksX0_both_0 20 rfl rfl)
theorem dX0_both_21 : decode cX0_both 21 = .ok (.bipush 38, 2) := dk_16 38 (dk_at dksX0_both_0 21 rfl rfl)
theorem dX0_both_23 : decode cX0_both 23 = .ok (.aload_n 1, 1) := dk_43 (dk_at dksX0_both_0 23 rfl rfl)
theorem dX0_both_24 : decode cX0_both 24 = .ok (.aload_n 0, 1) := dk_42 (dk_at dksX0_both_1 0 rfl rfl)
theorem dX0_both_25 : decode cX0_both 25 = .ok (.invokevirtual 212, 3) := dk_182 0 212 (dk_at dksX0_both_1 1 rfl rfl)
theorem dX0_both_28 : decode cX0_both 28 = .ok (.invokespecial 209, 3) := dk_183 0 209 (dk_at dksX0_both_1 4 rfl rfl)
theorem dX0_both_31 : decode cX0_both 31 = .ok (.astore_n 1, 1) := dk_76 (dk_at dksX0_both_1 7 rfl rfl)
theorem dX0_both_32 : decode cX0_both 32 = .ok (.goto (-27), 3) := dk_167 255 229 (dk_at dksX0_both_1 8 rfl rfl)
theorem dX0_both_35 : decode cX0_both 35 = .ok (.aload_n 1, 1) := dk_43 (dk_at dksX0_both_1 11 rfl rfl)
theorem dX0_both_36 : decode cX0_both 36 = .ok (.areturn, 1) := dk_176 (dk_at dksX0_both_1 12 rfl rfl)
abbrev cX0_not : ByteArray := prog_1_method_27_code
def yX0_not : MethodName := ⟨RX0, "not", "()LNobodyCanLiftIt$Node;"⟩
def dkwX0_not_3 : List UInt8 := [89, 28, 43, 42, 182, 0, 223, 183, 0, 209, 76, 43, 176]
abbrev dktX0_not_3 : List UInt8 := dkwX0_not_3 ++ []
def dkwX0_not_2 : List UInt8 := [154, 0, 12, 42, 16, 61, 182, 0, 226, 153, 0, 26, 42, 180, 0, 159, 61, 42, 182, 0, 190, 187, 0, 207]
abbrev dktX0_not_2 : List UInt8 := dkwX0_not_2 ++ dktX0_not_3
def dkwX0_not_1 : List UInt8 := [181, 0, 193, 187, 0, 218, 89, 43, 3, 183, 0, 220, 176, 42, 182, 0, 223, 76, 42, 16, 60, 182, 0, 226]
abbrev dktX0_not_1 : List UInt8 := dkwX0_not_1 ++ dktX0_not_2
def dkwX0_not_0 : List UInt8 := [42, 8, 182, 0, 204, 153, 0, 32, 42, 182, 0, 215, 42, 182, 0, 212, 76, 42, 89, 180, 0, 193, 4, 100]
abbrev dktX0_not_0 : List UInt8 := dkwX0_not_0 ++ dktX0_not_1
theorem dksX0_not_0 : cX0_not.data.toList.drop 0 = dktX0_not_0 := by decide +kernel
theorem dksX0_not_1 : cX0_not.data.toList.drop 24 = dktX0_not_1 := dk_seg dksX0_not_0 24 rfl rfl
theorem dksX0_not_2 : cX0_not.data.toList.drop 48 = dktX0_not_2 := dk_seg dksX0_not_1 24 rfl rfl
theorem dksX0_not_3 : cX0_not.data.toList.drop 72 = dktX0_not_3 := dk_seg dksX0_not_2 24 rfl rfl
theorem dX0_not_0 : decode cX0_not 0 = .ok (.aload_n 0, 1) := dk_42 (dk_at dksX0_not_0 0 rfl rfl)
theorem dX0_not_1 : decode cX0_not 1 = .ok (.iconst 5, 1) := dk_8 (dk_at dksX0_not_0 1 rfl rfl)
theorem dX0_not_2 : decode cX0_not 2 = .ok (.invokevirtual 204, 3) := dk_182 0 204 (dk_at dksX0_not_0 2 rfl rfl)
theorem dX0_not_5 : decode cX0_not 5 = .ok (.ifCond .eq 32, 3) := dk_153 0 32 (dk_at dksX0_not_0 5 rfl rfl)
theorem dX0_not_8 : decode cX0_not 8 = .ok (.aload_n 0, 1) := dk_42 (dk_at dksX0_not_0 8 rfl rfl)
theorem dX0_not_9 : decode cX0_not 9 = .ok (.invokevirtual 215, 3) := dk_182 0 215 (dk_at dksX0_not_0 9 rfl rfl)
theorem dX0_not_12 : decode cX0_not 12 = .ok (.aload_n 0, 1) := dk_42 (dk_at dksX0_not_0 12 rfl rfl)
theorem dX0_not_13 : decode cX0_not 13 = .ok (.invokevirtual 212, 3) := dk_182 0 212 (dk_at dksX0_not_0 13 rfl rfl)
theorem dX0_not_16 : decode cX0_not 16 = .ok (.astore_n 1, 1) := dk_76 (dk_at dksX0_not_0 16 rfl rfl)
theorem dX0_not_17 : decode cX0_not 17 = .ok (.aload_n 0, 1) := dk_42 (dk_at dksX0_not_0 17 rfl rfl)
theorem dX0_not_18 : decode cX0_not 18 = .ok (.dup, 1) := dk_89 (dk_at dksX0_not_0 18 rfl rfl)
theorem dX0_not_19 : decode cX0_not 19 = .ok (.getfield 193, 3) := dk_180 0 193 (dk_at dksX0_not_0 19 rfl rfl)
theorem dX0_not_22 : decode cX0_not 22 = .ok (.iconst 1, 1) := dk_4 (dk_at dksX0_not_0 22 rfl rfl)
theorem dX0_not_23 : decode cX0_not 23 = .ok (.isub, 1) := dk_100 (dk_at dksX0_not_0 23 rfl rfl)
theorem dX0_not_24 : decode cX0_not 24 = .ok (.putfield 193, 3) := dk_181 0 193 (dk_at dksX0_not_1 0 rfl rfl)
theorem dX0_not_27 : decode cX0_not 27 = .ok (.new 218, 3) := dk_187 0 218 (dk_at dksX0_not_1 3 rfl rfl)
theorem dX0_not_30 : decode cX0_not 30 = .ok (.dup, 1) := dk_89 (dk_at dksX0_not_1 6 rfl rfl)
theorem dX0_not_31 : decode cX0_not 31 = .ok (.aload_n 1, 1) := dk_43 (dk_at dksX0_not_1 7 rfl rfl)
theorem dX0_not_32 : decode cX0_not 32 = .ok (.iconst 0, 1) := dk_3 (dk_at dksX0_not_1 8 rfl rfl)
theorem dX0_not_33 : decode cX0_not 33 = .ok (.invokespecial 220, 3) := dk_183 0 220 (dk_at dksX0_not_1 9 rfl rfl)
theorem dX0_not_36 : decode cX0_not 36 = .ok (.areturn, 1) := dk_176 (dk_at dksX0_not_1 12 rfl rfl)
theorem dX0_not_37 : decode cX0_not 37 = .ok (.aload_n 0, 1) := dk_42 (dk_at dksX0_not_1 13 rfl rfl)
theorem dX0_not_38 : decode cX0_not 38 = .ok (.invokevirtual 223, 3) := dk_182 0 223 (dk_at dksX0_not_1 14 rfl rfl)
theorem dX0_not_41 : decode cX0_not 41 = .ok (.astore_n 1, 1) := dk_76 (dk_at dksX0_not_1 17 rfl rfl)
theorem dX0_not_42 : decode cX0_not 42 = .ok (.aload_n 0, 1) := dk_42 (dk_at dksX0_not_1 18 rfl rfl)
theorem dX0_not_43 : decode cX0_not 43 = .ok (.bipush 60, 2) := dk_16 60 (dk_at dksX0_not_1 19 rfl rfl)
theorem dX0_not_45 : decode cX0_not 45 = .ok (.invokevirtual 226, 3) := dk_182 0 226 (dk_at dksX0_not_1 21 rfl rfl)
theorem dX0_not_48 : decode cX0_not 48 = .ok (.ifCond .ne 12, 3) := dk_154 0 12 (dk_at dksX0_not_2 0 rfl rfl)
theorem dX0_not_51 : decode cX0_not 51 = .ok (.aload_n 0, 1) := dk_42 (dk_at dksX0_not_2 3 rfl rfl)
theorem dX0_not_52 : decode cX0_not 52 = .ok (.bipush 61, 2) := dk_16 61 (dk_at dksX0_not_2 4 rfl rfl)
theorem dX0_not_54 : decode cX0_not 54 = .ok (.invokevirtual 226, 3) := dk_182 0 226 (dk_at dksX0_not_2 6 rfl rfl)
theorem dX0_not_57 : decode cX0_not 57 = .ok (.ifCond .eq 26, 3) := dk_153 0 26 (dk_at dksX0_not_2 9 rfl rfl)
theorem dX0_not_60 : decode cX0_not 60 = .ok (.aload_n 0, 1) := dk_42 (dk_at dksX0_not_2 12 rfl rfl)
theorem dX0_not_61 : decode cX0_not 61 = .ok (.getfield 159, 3) := dk_180 0 159 (dk_at dksX0_not_2 13 rfl rfl)
theorem dX0_not_64 : decode cX0_not 64 = .ok (.istore_n 2, 1) := dk_61 (dk_at dksX0_not_2 16 rfl rfl)
theorem dX0_not_65 : decode cX0_not 65 = .ok (.aload_n 0, 1) := dk_42 (dk_at dksX0_not_2 17 rfl rfl)
theorem dX0_not_66 : decode cX0_not 66 = .ok (.invokevirtual 190, 3) := dk_182 0 190 (dk_at dksX0_not_2 18 rfl rfl)
theorem dX0_not_69 : decode cX0_not 69 = .ok (.new 207, 3) := dk_187 0 207 (dk_at dksX0_not_2 21 rfl rfl)
theorem dX0_not_72 : decode cX0_not 72 = .ok (.dup, 1) := dk_89 (dk_at dksX0_not_3 0 rfl rfl)
theorem dX0_not_73 : decode cX0_not 73 = .ok (.iload_n 2, 1) := dk_28 (dk_at dksX0_not_3 1 rfl rfl)
theorem dX0_not_74 : decode cX0_not 74 = .ok (.aload_n 1, 1) := dk_43 (dk_at dksX0_not_3 2 rfl rfl)
theorem dX0_not_75 : decode cX0_not 75 = .ok (.aload_n 0, 1) := dk_42 (dk_at dksX0_not_3 3 rfl rfl)
theorem dX0_not_76 : decode cX0_not 76 = .ok (.invokevirtual 223, 3) := dk_182 0 223 (dk_at dksX0_not_3 4 rfl rfl)
theorem dX0_not_79 : decode cX0_not 79 = .ok (.invokespecial 209, 3) := dk_183 0 209 (dk_at dksX0_not_3 7 rfl rfl)
theorem dX0_not_82 : decode cX0_not 82 = .ok (.astore_n 1, 1) := dk_76 (dk_at dksX0_not_3 10 rfl rfl)
theorem dX0_not_83 : decode cX0_not 83 = .ok (.aload_n 1, 1) := dk_43 (dk_at dksX0_not_3 11 rfl rfl)
theorem dX0_not_84 : decode cX0_not 84 = .ok (.areturn, 1) := dk_176 (dk_at dksX0_not_3 12 rfl rfl)
abbrev cX0_openOne : ByteArray := prog_1_method_24_code
def yX0_openOne : MethodName := ⟨RX0, "openOne", "()V"⟩
def dkwX0_openOne_1 : List UInt8 := [181, 0, 193, 177]
abbrev dktX0_openOne_1 : List UInt8 := dkwX0_openOne_1 ++ []
def dkwX0_openOne_0 : List UInt8 := [42, 42, 180, 0, 193, 8, 162, 0, 7, 4, 167, 0, 4, 3, 182, 0, 196, 42, 89, 180, 0, 193, 4, 96]
abbrev dktX0_openOne_0 : List UInt8 := dkwX0_openOne_0 ++ dktX0_openOne_1
theorem dksX0_openOne_0 : cX0_openOne.data.toList.drop 0 = dktX0_openOne_0 := by decide +kernel
theorem dksX0_openOne_1 : cX0_openOne.data.toList.drop 24 = dktX0_openOne_1 := dk_seg dksX0_openOne_0 24 rfl rfl
theorem dX0_openOne_0 : decode cX0_openOne 0 = .ok (.aload_n 0, 1) := dk_42 (dk_at dksX0_openOne_0 0 rfl rfl)
theorem dX0_openOne_1 : decode cX0_openOne 1 = .ok (.aload_n 0, 1) := dk_42 (dk_at dksX0_openOne_0 1 rfl rfl)
theorem dX0_openOne_2 : decode cX0_openOne 2 = .ok (.getfield 193, 3) := dk_180 0 193 (dk_at dksX0_openOne_0 2 rfl rfl)
theorem dX0_openOne_5 : decode cX0_openOne 5 = .ok (.iconst 5, 1) := dk_8 (dk_at dksX0_openOne_0 5 rfl rfl)
theorem dX0_openOne_6 : decode cX0_openOne 6 = .ok (.if_icmp .ge 7, 3) := dk_162 0 7 (dk_at dksX0_openOne_0 6 rfl rfl)
theorem dX0_openOne_9 : decode cX0_openOne 9 = .ok (.iconst 1, 1) := dk_4 (dk_at dksX0_openOne_0 9 rfl rfl)
theorem dX0_openOne_10 : decode cX0_openOne 10 = .ok (.goto 4, 3) := dk_167 0 4 (dk_at dksX0_openOne_0 10 rfl rfl)
theorem dX0_openOne_13 : decode cX0_openOne 13 = .ok (.iconst 0, 1) := dk_3 (dk_at dksX0_openOne_0 13 rfl rfl)
theorem dX0_openOne_14 : decode cX0_openOne 14 = .ok (.invokevirtual 196, 3) := dk_182 0 196 (dk_at dksX0_openOne_0 14 rfl rfl)
theorem dX0_openOne_17 : decode cX0_openOne 17 = .ok (.aload_n 0, 1) := dk_42 (dk_at dksX0_openOne_0 17 rfl rfl)
theorem dX0_openOne_18 : decode cX0_openOne 18 = .ok (.dup, 1) := dk_89 (dk_at dksX0_openOne_0 18 rfl rfl)
theorem dX0_openOne_19 : decode cX0_openOne 19 = .ok (.getfield 193, 3) := dk_180 0 193 (dk_at dksX0_openOne_0 19 rfl rfl)
theorem dX0_openOne_22 : decode cX0_openOne 22 = .ok (.iconst 1, 1) := dk_4 (dk_at dksX0_openOne_0 22 rfl rfl)
theorem dX0_openOne_23 : decode cX0_openOne 23 = .ok (.iadd, 1) := dk_96 (dk_at dksX0_openOne_0 23 rfl rfl)
theorem dX0_openOne_24 : decode cX0_openOne 24 = .ok (.putfield 193, 3) := dk_181 0 193 (dk_at dksX0_openOne_1 0 rfl rfl)
theorem dX0_openOne_27 : decode cX0_openOne 27 = .ok (.return_, 1) := dk_177 (dk_at dksX0_openOne_1 3 rfl rfl)
abbrev cX0_plus : ByteArray := prog_1_method_28_code
def yX0_plus : MethodName := ⟨RX0, "plus", "()LNobodyCanLiftIt$Node;"⟩
def dkwX0_plus_2 : List UInt8 := [167, 255, 215, 43, 176]
abbrev dktX0_plus_2 : List UInt8 := dkwX0_plus_2 ++ []
def dkwX0_plus_1 : List UInt8 := [180, 0, 159, 61, 42, 182, 0, 190, 187, 0, 207, 89, 28, 43, 42, 182, 0, 229, 183, 0, 209, 76]
abbrev dktX0_plus_1 : List UInt8 := dkwX0_plus_1 ++ dktX0_plus_2
def dkwX0_plus_0 : List UInt8 := [42, 182, 0, 229, 76, 42, 16, 43, 182, 0, 226, 154, 0, 12, 42, 16, 45, 182, 0, 226, 153, 0, 29, 42]
abbrev dktX0_plus_0 : List UInt8 := dkwX0_plus_0 ++ dktX0_plus_1
theorem dksX0_plus_0 : cX0_plus.data.toList.drop 0 = dktX0_plus_0 := by decide +kernel
theorem dksX0_plus_1 : cX0_plus.data.toList.drop 24 = dktX0_plus_1 := dk_seg dksX0_plus_0 24 rfl rfl
theorem dksX0_plus_2 : cX0_plus.data.toList.drop 46 = dktX0_plus_2 := dk_seg dksX0_plus_1 22 rfl rfl
theorem dX0_plus_0 : decode cX0_plus 0 = .ok (.aload_n 0, 1) := dk_42 (dk_at dksX0_plus_0 0 rfl rfl)
theorem dX0_plus_1 : decode cX0_plus 1 = .ok (.invokevirtual 229, 3) := dk_182 0 229 (dk_at dksX0_plus_0 1 rfl rfl)
theorem dX0_plus_4 : decode cX0_plus 4 = .ok (.astore_n 1, 1) := dk_76 (dk_at dksX0_plus_0 4 rfl rfl)
theorem dX0_plus_5 : decode cX0_plus 5 = .ok (.aload_n 0, 1) := dk_42 (dk_at dksX0_plus_0 5 rfl rfl)
theorem dX0_plus_6 : decode cX0_plus 6 = .ok (.bipush 43, 2) := dk_16 43 (dk_at dksX0_plus_0 6 rfl rfl)
theorem dX0_plus_8 : decode cX0_plus 8 = .ok (.invokevirtual 226, 3) := dk_182 0 226 (dk_at dksX0_plus_0 8 rfl rfl)
theorem dX0_plus_11 : decode cX0_plus 11 = .ok (.ifCond .ne 12, 3) := dk_154 0 12 (dk_at dksX0_plus_0 11 rfl rfl)
theorem dX0_plus_14 : decode cX0_plus 14 = .ok (.aload_n 0, 1) := dk_42 (dk_at dksX0_plus_0 14 rfl rfl)
theorem dX0_plus_15 : decode cX0_plus 15 = .ok (.bipush 45, 2) := dk_16 45 (dk_at dksX0_plus_0 15 rfl rfl)
theorem dX0_plus_17 : decode cX0_plus 17 = .ok (.invokevirtual 226, 3) := dk_182 0 226 (dk_at dksX0_plus_0 17 rfl rfl)
theorem dX0_plus_20 : decode cX0_plus 20 = .ok (.ifCond .eq 29, 3) := dk_153 0 29 (dk_at dksX0_plus_0 20 rfl rfl)
theorem dX0_plus_23 : decode cX0_plus 23 = .ok (.aload_n 0, 1) := dk_42 (dk_at dksX0_plus_0 23 rfl rfl)
theorem dX0_plus_24 : decode cX0_plus 24 = .ok (.getfield 159, 3) := dk_180 0 159 (dk_at dksX0_plus_1 0 rfl rfl)
theorem dX0_plus_27 : decode cX0_plus 27 = .ok (.istore_n 2, 1) := dk_61 (dk_at dksX0_plus_1 3 rfl rfl)
theorem dX0_plus_28 : decode cX0_plus 28 = .ok (.aload_n 0, 1) := dk_42 (dk_at dksX0_plus_1 4 rfl rfl)
theorem dX0_plus_29 : decode cX0_plus 29 = .ok (.invokevirtual 190, 3) := dk_182 0 190 (dk_at dksX0_plus_1 5 rfl rfl)
theorem dX0_plus_32 : decode cX0_plus 32 = .ok (.new 207, 3) := dk_187 0 207 (dk_at dksX0_plus_1 8 rfl rfl)
theorem dX0_plus_35 : decode cX0_plus 35 = .ok (.dup, 1) := dk_89 (dk_at dksX0_plus_1 11 rfl rfl)
theorem dX0_plus_36 : decode cX0_plus 36 = .ok (.iload_n 2, 1) := dk_28 (dk_at dksX0_plus_1 12 rfl rfl)
theorem dX0_plus_37 : decode cX0_plus 37 = .ok (.aload_n 1, 1) := dk_43 (dk_at dksX0_plus_1 13 rfl rfl)
theorem dX0_plus_38 : decode cX0_plus 38 = .ok (.aload_n 0, 1) := dk_42 (dk_at dksX0_plus_1 14 rfl rfl)
theorem dX0_plus_39 : decode cX0_plus 39 = .ok (.invokevirtual 229, 3) := dk_182 0 229 (dk_at dksX0_plus_1 15 rfl rfl)
theorem dX0_plus_42 : decode cX0_plus 42 = .ok (.invokespecial 209, 3) := dk_183 0 209 (dk_at dksX0_plus_1 18 rfl rfl)
theorem dX0_plus_45 : decode cX0_plus 45 = .ok (.astore_n 1, 1) := dk_76 (dk_at dksX0_plus_1 21 rfl rfl)
theorem dX0_plus_46 : decode cX0_plus 46 = .ok (.goto (-41), 3) := dk_167 255 215 (dk_at dksX0_plus_2 0 rfl rfl)
theorem dX0_plus_49 : decode cX0_plus 49 = .ok (.aload_n 1, 1) := dk_43 (dk_at dksX0_plus_2 3 rfl rfl)
theorem dX0_plus_50 : decode cX0_plus 50 = .ok (.areturn, 1) := dk_176 (dk_at dksX0_plus_2 4 rfl rfl)
abbrev cX0_times : ByteArray := prog_1_method_29_code
def yX0_times : MethodName := ⟨RX0, "times", "()LNobodyCanLiftIt$Node;"⟩
def dkwX0_times_1 : List UInt8 := [43, 42, 182, 0, 232, 183, 0, 209, 76, 167, 255, 228, 43, 176]
abbrev dktX0_times_1 : List UInt8 := dkwX0_times_1 ++ []
def dkwX0_times_0 : List UInt8 := [42, 182, 0, 232, 76, 42, 16, 42, 182, 0, 226, 153, 0, 25, 42, 182, 0, 190, 187, 0, 207, 89, 16, 42]
abbrev dktX0_times_0 : List UInt8 := dkwX0_times_0 ++ dktX0_times_1
theorem dksX0_times_0 : cX0_times.data.toList.drop 0 = dktX0_times_0 := by decide +kernel
theorem dksX0_times_1 : cX0_times.data.toList.drop 24 = dktX0_times_1 := dk_seg dksX0_times_0 24 rfl rfl
theorem dX0_times_0 : decode cX0_times 0 = .ok (.aload_n 0, 1) := dk_42 (dk_at dksX0_times_0 0 rfl rfl)
theorem dX0_times_1 : decode cX0_times 1 = .ok (.invokevirtual 232, 3) := dk_182 0 232 (dk_at dksX0_times_0 1 rfl rfl)
theorem dX0_times_4 : decode cX0_times 4 = .ok (.astore_n 1, 1) := dk_76 (dk_at dksX0_times_0 4 rfl rfl)
theorem dX0_times_5 : decode cX0_times 5 = .ok (.aload_n 0, 1) := dk_42 (dk_at dksX0_times_0 5 rfl rfl)
theorem dX0_times_6 : decode cX0_times 6 = .ok (.bipush 42, 2) := dk_16 42 (dk_at dksX0_times_0 6 rfl rfl)
theorem dX0_times_8 : decode cX0_times 8 = .ok (.invokevirtual 226, 3) := dk_182 0 226 (dk_at dksX0_times_0 8 rfl rfl)
theorem dX0_times_11 : decode cX0_times 11 = .ok (.ifCond .eq 25, 3) := dk_153 0 25 (dk_at dksX0_times_0 11 rfl rfl)
theorem dX0_times_14 : decode cX0_times 14 = .ok (.aload_n 0, 1) := dk_42 (dk_at dksX0_times_0 14 rfl rfl)
theorem dX0_times_15 : decode cX0_times 15 = .ok (.invokevirtual 190, 3) := dk_182 0 190 (dk_at dksX0_times_0 15 rfl rfl)
theorem dX0_times_18 : decode cX0_times 18 = .ok (.new 207, 3) := dk_187 0 207 (dk_at dksX0_times_0 18 rfl rfl)
theorem dX0_times_21 : decode cX0_times 21 = .ok (.dup, 1) := dk_89 (dk_at dksX0_times_0 21 rfl rfl)
theorem dX0_times_22 : decode cX0_times 22 = .ok (.bipush 42, 2) := dk_16 42 (dk_at dksX0_times_0 22 rfl rfl)
theorem dX0_times_24 : decode cX0_times 24 = .ok (.aload_n 1, 1) := dk_43 (dk_at dksX0_times_1 0 rfl rfl)
theorem dX0_times_25 : decode cX0_times 25 = .ok (.aload_n 0, 1) := dk_42 (dk_at dksX0_times_1 1 rfl rfl)
theorem dX0_times_26 : decode cX0_times 26 = .ok (.invokevirtual 232, 3) := dk_182 0 232 (dk_at dksX0_times_1 2 rfl rfl)
theorem dX0_times_29 : decode cX0_times 29 = .ok (.invokespecial 209, 3) := dk_183 0 209 (dk_at dksX0_times_1 5 rfl rfl)
theorem dX0_times_32 : decode cX0_times 32 = .ok (.astore_n 1, 1) := dk_76 (dk_at dksX0_times_1 8 rfl rfl)
theorem dX0_times_33 : decode cX0_times 33 = .ok (.goto (-28), 3) := dk_167 255 228 (dk_at dksX0_times_1 9 rfl rfl)
theorem dX0_times_36 : decode cX0_times 36 = .ok (.aload_n 1, 1) := dk_43 (dk_at dksX0_times_1 12 rfl rfl)
theorem dX0_times_37 : decode cX0_times 37 = .ok (.areturn, 1) := dk_176 (dk_at dksX0_times_1 13 rfl rfl)
abbrev cX0_one : ByteArray := prog_1_method_30_code
def yX0_one : MethodName := ⟨RX0, "one", "()LNobodyCanLiftIt$Node;"⟩
def dkwX0_one_5 : List UInt8 := [154, 0, 8, 42, 180, 0, 169, 191, 42, 89, 180, 0, 193, 4, 100, 181, 0, 193, 42, 182, 0, 190, 44, 176]
abbrev dktX0_one_5 : List UInt8 := dkwX0_one_5 ++ []
def dkwX0_one_4 : List UInt8 := [154, 0, 8, 42, 180, 0, 169, 191, 42, 182, 0, 215, 42, 182, 0, 245, 77, 42, 16, 41, 182, 0, 226]
abbrev dktX0_one_4 : List UInt8 := dkwX0_one_4 ++ dktX0_one_5
def dkwX0_one_3 : List UInt8 := [180, 0, 193, 4, 100, 181, 0, 193, 187, 0, 218, 89, 44, 4, 183, 0, 220, 176, 42, 16, 40, 182, 0, 226]
abbrev dktX0_one_3 : List UInt8 := dkwX0_one_3 ++ dktX0_one_4
def dkwX0_one_2 : List UInt8 := [183, 0, 242, 176, 42, 16, 45, 182, 0, 226, 153, 0, 32, 42, 182, 0, 215, 42, 182, 0, 232, 77, 42, 89]
abbrev dktX0_one_2 : List UInt8 := dkwX0_one_2 ++ dktX0_one_3
def dkwX0_one_1 : List UInt8 := [183, 0, 237, 176, 42, 180, 0, 143, 5, 160, 0, 17, 42, 182, 0, 190, 187, 0, 240, 89, 42, 27]
abbrev dktX0_one_1 : List UInt8 := dkwX0_one_1 ++ dktX0_one_2
def dkwX0_one_0 : List UInt8 := [42, 180, 0, 159, 60, 42, 180, 0, 143, 6, 160, 0, 16, 42, 182, 0, 190, 187, 0, 235, 89, 27]
abbrev dktX0_one_0 : List UInt8 := dkwX0_one_0 ++ dktX0_one_1
theorem dksX0_one_0 : cX0_one.data.toList.drop 0 = dktX0_one_0 := by decide +kernel
theorem dksX0_one_1 : cX0_one.data.toList.drop 22 = dktX0_one_1 := dk_seg dksX0_one_0 22 rfl rfl
theorem dksX0_one_2 : cX0_one.data.toList.drop 44 = dktX0_one_2 := dk_seg dksX0_one_1 22 rfl rfl
theorem dksX0_one_3 : cX0_one.data.toList.drop 68 = dktX0_one_3 := dk_seg dksX0_one_2 24 rfl rfl
theorem dksX0_one_4 : cX0_one.data.toList.drop 92 = dktX0_one_4 := dk_seg dksX0_one_3 24 rfl rfl
theorem dksX0_one_5 : cX0_one.data.toList.drop 115 = dktX0_one_5 := dk_seg dksX0_one_4 23 rfl rfl
theorem dX0_one_0 : decode cX0_one 0 = .ok (.aload_n 0, 1) := dk_42 (dk_at dksX0_one_0 0 rfl rfl)
theorem dX0_one_1 : decode cX0_one 1 = .ok (.getfield 159, 3) := dk_180 0 159 (dk_at dksX0_one_0 1 rfl rfl)
theorem dX0_one_4 : decode cX0_one 4 = .ok (.istore_n 1, 1) := dk_60 (dk_at dksX0_one_0 4 rfl rfl)
theorem dX0_one_5 : decode cX0_one 5 = .ok (.aload_n 0, 1) := dk_42 (dk_at dksX0_one_0 5 rfl rfl)
theorem dX0_one_6 : decode cX0_one 6 = .ok (.getfield 143, 3) := dk_180 0 143 (dk_at dksX0_one_0 6 rfl rfl)
theorem dX0_one_9 : decode cX0_one 9 = .ok (.iconst 3, 1) := dk_6 (dk_at dksX0_one_0 9 rfl rfl)
theorem dX0_one_10 : decode cX0_one 10 = .ok (.if_icmp .ne 16, 3) := dk_160 0 16 (dk_at dksX0_one_0 10 rfl rfl)
theorem dX0_one_13 : decode cX0_one 13 = .ok (.aload_n 0, 1) := dk_42 (dk_at dksX0_one_0 13 rfl rfl)
theorem dX0_one_14 : decode cX0_one 14 = .ok (.invokevirtual 190, 3) := dk_182 0 190 (dk_at dksX0_one_0 14 rfl rfl)
theorem dX0_one_17 : decode cX0_one 17 = .ok (.new 235, 3) := dk_187 0 235 (dk_at dksX0_one_0 17 rfl rfl)
theorem dX0_one_20 : decode cX0_one 20 = .ok (.dup, 1) := dk_89 (dk_at dksX0_one_0 20 rfl rfl)
theorem dX0_one_21 : decode cX0_one 21 = .ok (.iload_n 1, 1) := dk_27 (dk_at dksX0_one_0 21 rfl rfl)
theorem dX0_one_22 : decode cX0_one 22 = .ok (.invokespecial 237, 3) := dk_183 0 237 (dk_at dksX0_one_1 0 rfl rfl)
theorem dX0_one_25 : decode cX0_one 25 = .ok (.areturn, 1) := dk_176 (dk_at dksX0_one_1 3 rfl rfl)
theorem dX0_one_26 : decode cX0_one 26 = .ok (.aload_n 0, 1) := dk_42 (dk_at dksX0_one_1 4 rfl rfl)
theorem dX0_one_27 : decode cX0_one 27 = .ok (.getfield 143, 3) := dk_180 0 143 (dk_at dksX0_one_1 5 rfl rfl)
theorem dX0_one_30 : decode cX0_one 30 = .ok (.iconst 2, 1) := dk_5 (dk_at dksX0_one_1 8 rfl rfl)
theorem dX0_one_31 : decode cX0_one 31 = .ok (.if_icmp .ne 17, 3) := dk_160 0 17 (dk_at dksX0_one_1 9 rfl rfl)
theorem dX0_one_34 : decode cX0_one 34 = .ok (.aload_n 0, 1) := dk_42 (dk_at dksX0_one_1 12 rfl rfl)
theorem dX0_one_35 : decode cX0_one 35 = .ok (.invokevirtual 190, 3) := dk_182 0 190 (dk_at dksX0_one_1 13 rfl rfl)
theorem dX0_one_38 : decode cX0_one 38 = .ok (.new 240, 3) := dk_187 0 240 (dk_at dksX0_one_1 16 rfl rfl)
theorem dX0_one_41 : decode cX0_one 41 = .ok (.dup, 1) := dk_89 (dk_at dksX0_one_1 19 rfl rfl)
theorem dX0_one_42 : decode cX0_one 42 = .ok (.aload_n 0, 1) := dk_42 (dk_at dksX0_one_1 20 rfl rfl)
theorem dX0_one_43 : decode cX0_one 43 = .ok (.iload_n 1, 1) := dk_27 (dk_at dksX0_one_1 21 rfl rfl)
theorem dX0_one_44 : decode cX0_one 44 = .ok (.invokespecial 242, 3) := dk_183 0 242 (dk_at dksX0_one_2 0 rfl rfl)
theorem dX0_one_47 : decode cX0_one 47 = .ok (.areturn, 1) := dk_176 (dk_at dksX0_one_2 3 rfl rfl)
theorem dX0_one_48 : decode cX0_one 48 = .ok (.aload_n 0, 1) := dk_42 (dk_at dksX0_one_2 4 rfl rfl)
theorem dX0_one_49 : decode cX0_one 49 = .ok (.bipush 45, 2) := dk_16 45 (dk_at dksX0_one_2 5 rfl rfl)
theorem dX0_one_51 : decode cX0_one 51 = .ok (.invokevirtual 226, 3) := dk_182 0 226 (dk_at dksX0_one_2 7 rfl rfl)
theorem dX0_one_54 : decode cX0_one 54 = .ok (.ifCond .eq 32, 3) := dk_153 0 32 (dk_at dksX0_one_2 10 rfl rfl)
theorem dX0_one_57 : decode cX0_one 57 = .ok (.aload_n 0, 1) := dk_42 (dk_at dksX0_one_2 13 rfl rfl)
theorem dX0_one_58 : decode cX0_one 58 = .ok (.invokevirtual 215, 3) := dk_182 0 215 (dk_at dksX0_one_2 14 rfl rfl)
theorem dX0_one_61 : decode cX0_one 61 = .ok (.aload_n 0, 1) := dk_42 (dk_at dksX0_one_2 17 rfl rfl)
theorem dX0_one_62 : decode cX0_one 62 = .ok (.invokevirtual 232, 3) := dk_182 0 232 (dk_at dksX0_one_2 18 rfl rfl)
theorem dX0_one_65 : decode cX0_one 65 = .ok (.astore_n 2, 1) := dk_77 (dk_at dksX0_one_2 21 rfl rfl)
theorem dX0_one_66 : decode cX0_one 66 = .ok (.aload_n 0, 1) := dk_42 (dk_at dksX0_one_2 22 rfl rfl)
theorem dX0_one_67 : decode cX0_one 67 = .ok (.dup, 1) := dk_89 (dk_at dksX0_one_2 23 rfl rfl)
theorem dX0_one_68 : decode cX0_one 68 = .ok (.getfield 193, 3) := dk_180 0 193 (dk_at dksX0_one_3 0 rfl rfl)
theorem dX0_one_71 : decode cX0_one 71 = .ok (.iconst 1, 1) := dk_4 (dk_at dksX0_one_3 3 rfl rfl)
theorem dX0_one_72 : decode cX0_one 72 = .ok (.isub, 1) := dk_100 (dk_at dksX0_one_3 4 rfl rfl)
theorem dX0_one_73 : decode cX0_one 73 = .ok (.putfield 193, 3) := dk_181 0 193 (dk_at dksX0_one_3 5 rfl rfl)
theorem dX0_one_76 : decode cX0_one 76 = .ok (.new 218, 3) := dk_187 0 218 (dk_at dksX0_one_3 8 rfl rfl)
theorem dX0_one_79 : decode cX0_one 79 = .ok (.dup, 1) := dk_89 (dk_at dksX0_one_3 11 rfl rfl)
theorem dX0_one_80 : decode cX0_one 80 = .ok (.aload_n 2, 1) := dk_44 (dk_at dksX0_one_3 12 rfl rfl)
theorem dX0_one_81 : decode cX0_one 81 = .ok (.iconst 1, 1) := dk_4 (dk_at dksX0_one_3 13 rfl rfl)
theorem dX0_one_82 : decode cX0_one 82 = .ok (.invokespecial 220, 3) := dk_183 0 220 (dk_at dksX0_one_3 14 rfl rfl)
theorem dX0_one_85 : decode cX0_one 85 = .ok (.areturn, 1) := dk_176 (dk_at dksX0_one_3 17 rfl rfl)
theorem dX0_one_86 : decode cX0_one 86 = .ok (.aload_n 0, 1) := dk_42 (dk_at dksX0_one_3 18 rfl rfl)
theorem dX0_one_87 : decode cX0_one 87 = .ok (.bipush 40, 2) := dk_16 40 (dk_at dksX0_one_3 19 rfl rfl)
theorem dX0_one_89 : decode cX0_one 89 = .ok (.invokevirtual 226, 3) := dk_182 0 226 (dk_at dksX0_one_3 21 rfl rfl)
theorem dX0_one_92 : decode cX0_one 92 = .ok (.ifCond .ne 8, 3) := dk_154 0 8 (dk_at dksX0_one_4 0 rfl rfl)
theorem dX0_one_95 : decode cX0_one 95 = .ok (.aload_n 0, 1) := dk_42 (dk_at dksX0_one_4 3 rfl rfl)
theorem dX0_one_96 : decode cX0_one 96 = .ok (.getfield 169, 3) := dk_180 0 169 (dk_at dksX0_one_4 4 rfl rfl)
theorem dX0_one_99 : decode cX0_one 99 = .ok (.athrow, 1) := dk_191 (dk_at dksX0_one_4 7 rfl rfl)
theorem dX0_one_100 : decode cX0_one 100 = .ok (.aload_n 0, 1) := dk_42 (dk_at dksX0_one_4 8 rfl rfl)
theorem dX0_one_101 : decode cX0_one 101 = .ok (.invokevirtual 215, 3) := dk_182 0 215 (dk_at dksX0_one_4 9 rfl rfl)
theorem dX0_one_104 : decode cX0_one 104 = .ok (.aload_n 0, 1) := dk_42 (dk_at dksX0_one_4 12 rfl rfl)
theorem dX0_one_105 : decode cX0_one 105 = .ok (.invokevirtual 245, 3) := dk_182 0 245 (dk_at dksX0_one_4 13 rfl rfl)
theorem dX0_one_108 : decode cX0_one 108 = .ok (.astore_n 2, 1) := dk_77 (dk_at dksX0_one_4 16 rfl rfl)
theorem dX0_one_109 : decode cX0_one 109 = .ok (.aload_n 0, 1) := dk_42 (dk_at dksX0_one_4 17 rfl rfl)
theorem dX0_one_110 : decode cX0_one 110 = .ok (.bipush 41, 2) := dk_16 41 (dk_at dksX0_one_4 18 rfl rfl)
theorem dX0_one_112 : decode cX0_one 112 = .ok (.invokevirtual 226, 3) := dk_182 0 226 (dk_at dksX0_one_4 20 rfl rfl)
theorem dX0_one_115 : decode cX0_one 115 = .ok (.ifCond .ne 8, 3) := dk_154 0 8 (dk_at dksX0_one_5 0 rfl rfl)
theorem dX0_one_118 : decode cX0_one 118 = .ok (.aload_n 0, 1) := dk_42 (dk_at dksX0_one_5 3 rfl rfl)
theorem dX0_one_119 : decode cX0_one 119 = .ok (.getfield 169, 3) := dk_180 0 169 (dk_at dksX0_one_5 4 rfl rfl)
theorem dX0_one_122 : decode cX0_one 122 = .ok (.athrow, 1) := dk_191 (dk_at dksX0_one_5 7 rfl rfl)
theorem dX0_one_123 : decode cX0_one 123 = .ok (.aload_n 0, 1) := dk_42 (dk_at dksX0_one_5 8 rfl rfl)
theorem dX0_one_124 : decode cX0_one 124 = .ok (.dup, 1) := dk_89 (dk_at dksX0_one_5 9 rfl rfl)
theorem dX0_one_125 : decode cX0_one 125 = .ok (.getfield 193, 3) := dk_180 0 193 (dk_at dksX0_one_5 10 rfl rfl)
theorem dX0_one_128 : decode cX0_one 128 = .ok (.iconst 1, 1) := dk_4 (dk_at dksX0_one_5 13 rfl rfl)
theorem dX0_one_129 : decode cX0_one 129 = .ok (.isub, 1) := dk_100 (dk_at dksX0_one_5 14 rfl rfl)
theorem dX0_one_130 : decode cX0_one 130 = .ok (.putfield 193, 3) := dk_181 0 193 (dk_at dksX0_one_5 15 rfl rfl)
theorem dX0_one_133 : decode cX0_one 133 = .ok (.aload_n 0, 1) := dk_42 (dk_at dksX0_one_5 18 rfl rfl)
theorem dX0_one_134 : decode cX0_one 134 = .ok (.invokevirtual 190, 3) := dk_182 0 190 (dk_at dksX0_one_5 19 rfl rfl)
theorem dX0_one_137 : decode cX0_one 137 = .ok (.aload_n 2, 1) := dk_44 (dk_at dksX0_one_5 22 rfl rfl)
theorem dX0_one_138 : decode cX0_one 138 = .ok (.areturn, 1) := dk_176 (dk_at dksX0_one_5 23 rfl rfl)
abbrev cX0_isSign : ByteArray := prog_1_method_21_code
def yX0_isSign : MethodName := ⟨RX0, "isSign", "(I)Z"⟩
def dkwX0_isSign_0 : List UInt8 := [42, 180, 0, 143, 7, 160, 0, 15, 42, 180, 0, 159, 27, 160, 0, 7, 4, 167, 0, 4, 3, 172]
abbrev dktX0_isSign_0 : List UInt8 := dkwX0_isSign_0 ++ []
theorem dksX0_isSign_0 : cX0_isSign.data.toList.drop 0 = dktX0_isSign_0 := by decide +kernel
theorem dX0_isSign_0 : decode cX0_isSign 0 = .ok (.aload_n 0, 1) := dk_42 (dk_at dksX0_isSign_0 0 rfl rfl)
theorem dX0_isSign_1 : decode cX0_isSign 1 = .ok (.getfield 143, 3) := dk_180 0 143 (dk_at dksX0_isSign_0 1 rfl rfl)
theorem dX0_isSign_4 : decode cX0_isSign 4 = .ok (.iconst 4, 1) := dk_7 (dk_at dksX0_isSign_0 4 rfl rfl)
theorem dX0_isSign_5 : decode cX0_isSign 5 = .ok (.if_icmp .ne 15, 3) := dk_160 0 15 (dk_at dksX0_isSign_0 5 rfl rfl)
theorem dX0_isSign_8 : decode cX0_isSign 8 = .ok (.aload_n 0, 1) := dk_42 (dk_at dksX0_isSign_0 8 rfl rfl)
theorem dX0_isSign_9 : decode cX0_isSign 9 = .ok (.getfield 159, 3) := dk_180 0 159 (dk_at dksX0_isSign_0 9 rfl rfl)
theorem dX0_isSign_12 : decode cX0_isSign 12 = .ok (.iload_n 1, 1) := dk_27 (dk_at dksX0_isSign_0 12 rfl rfl)
theorem dX0_isSign_13 : decode cX0_isSign 13 = .ok (.if_icmp .ne 7, 3) := dk_160 0 7 (dk_at dksX0_isSign_0 13 rfl rfl)
theorem dX0_isSign_16 : decode cX0_isSign 16 = .ok (.iconst 1, 1) := dk_4 (dk_at dksX0_isSign_0 16 rfl rfl)
theorem dX0_isSign_17 : decode cX0_isSign 17 = .ok (.goto 4, 3) := dk_167 0 4 (dk_at dksX0_isSign_0 17 rfl rfl)
theorem dX0_isSign_20 : decode cX0_isSign 20 = .ok (.iconst 0, 1) := dk_3 (dk_at dksX0_isSign_0 20 rfl rfl)
theorem dX0_isSign_21 : decode cX0_isSign 21 = .ok (.ireturn, 1) := dk_172 (dk_at dksX0_isSign_0 21 rfl rfl)
abbrev cX0_init : ByteArray := prog_1_method_36_code
def yX0_init : MethodName := ⟨RX0, "<init>", "()V"⟩
def dkwX0_init_13 : List UInt8 := [187, 1, 67, 89, 183, 1, 69, 83, 181, 1, 70, 42, 19, 1, 74, 182, 1, 76, 177]
abbrev dktX0_init_13 : List UInt8 := dkwX0_init_13 ++ []
def dkwX0_init_12 : List UInt8 := [83, 89, 4, 187, 1, 67, 89, 183, 1, 69, 83, 89, 5, 187, 1, 67, 89, 183, 1, 69, 83, 89, 6]
abbrev dktX0_init_12 : List UInt8 := dkwX0_init_12 ++ dktX0_init_13
def dkwX0_init_11 : List UInt8 := [181, 1, 61, 42, 7, 188, 10, 181, 1, 64, 42, 7, 189, 1, 67, 89, 3, 187, 1, 67, 89, 183, 1, 69]
abbrev dktX0_init_11 : List UInt8 := dkwX0_init_11 ++ dktX0_init_12
def dkwX0_init_10 : List UInt8 := [197, 1, 53, 2, 181, 1, 55, 42, 16, 10, 188, 10, 181, 1, 58, 42, 7, 8, 197, 1, 53, 2]
abbrev dktX0_init_10 : List UInt8 := dkwX0_init_10 ++ dktX0_init_11
def dkwX0_init_9 : List UInt8 := [181, 1, 44, 42, 187, 1, 37, 89, 183, 1, 39, 181, 1, 47, 42, 8, 188, 10, 181, 1, 50, 42, 6, 8]
abbrev dktX0_init_9 : List UInt8 := dkwX0_init_9 ++ dktX0_init_10
def dkwX0_init_8 : List UInt8 := [188, 8, 181, 0, 122, 42, 187, 1, 37, 89, 183, 1, 39, 181, 1, 40, 42, 187, 1, 37, 89, 183, 1, 39]
abbrev dktX0_init_8 : List UInt8 := dkwX0_init_8 ++ dktX0_init_9
def dkwX0_init_7 : List UInt8 := [19, 1, 33, 83, 89, 7, 19, 1, 34, 83, 89, 8, 19, 1, 35, 83, 181, 0, 187, 42, 17, 0, 160]
abbrev dktX0_init_7 : List UInt8 := dkwX0_init_7 ++ dktX0_init_8
def dkwX0_init_6 : List UInt8 := [189, 0, 165, 89, 3, 19, 1, 29, 83, 89, 4, 19, 1, 30, 83, 89, 5, 19, 1, 31, 83, 89, 6]
abbrev dktX0_init_6 : List UInt8 := dkwX0_init_6 ++ dktX0_init_7
def dkwX0_init_5 : List UInt8 := [6, 19, 1, 24, 83, 89, 7, 19, 1, 26, 83, 89, 8, 19, 1, 28, 83, 181, 0, 179, 42, 16, 6]
abbrev dktX0_init_5 : List UInt8 := dkwX0_init_5 ++ dktX0_init_6
def dkwX0_init_4 : List UInt8 := [16, 6, 189, 0, 165, 89, 3, 19, 1, 18, 83, 89, 4, 19, 1, 20, 83, 89, 5, 19, 1, 22, 83, 89]
abbrev dktX0_init_4 : List UInt8 := dkwX0_init_4 ++ dktX0_init_5
def dkwX0_init_3 : List UInt8 := [181, 0, 62, 42, 187, 0, 253, 89, 183, 1, 15, 181, 0, 169, 42, 16, 6, 189, 1, 16, 181, 0, 255, 42]
abbrev dktX0_init_3 : List UInt8 := dkwX0_init_3 ++ dktX0_init_4
def dkwX0_init_2 : List UInt8 := [16, 6, 16, 35, 79, 89, 16, 7, 16, 40, 79, 89, 16, 8, 16, 45, 79, 89, 16, 9, 16, 50, 79]
abbrev dktX0_init_2 : List UInt8 := dkwX0_init_2 ++ dktX0_init_3
def dkwX0_init_1 : List UInt8 := [16, 10, 79, 89, 5, 16, 15, 79, 89, 6, 16, 20, 79, 89, 7, 16, 25, 79, 89, 8, 16, 30, 79, 89]
abbrev dktX0_init_1 : List UInt8 := dkwX0_init_1 ++ dktX0_init_2
def dkwX0_init_0 : List UInt8 := [42, 183, 1, 11, 42, 8, 189, 0, 40, 181, 0, 47, 42, 16, 10, 188, 10, 89, 3, 8, 79, 89, 4]
abbrev dktX0_init_0 : List UInt8 := dkwX0_init_0 ++ dktX0_init_1
theorem dksX0_init_0 : cX0_init.data.toList.drop 0 = dktX0_init_0 := by decide +kernel
theorem dksX0_init_1 : cX0_init.data.toList.drop 23 = dktX0_init_1 := dk_seg dksX0_init_0 23 rfl rfl
theorem dksX0_init_2 : cX0_init.data.toList.drop 47 = dktX0_init_2 := dk_seg dksX0_init_1 24 rfl rfl
theorem dksX0_init_3 : cX0_init.data.toList.drop 70 = dktX0_init_3 := dk_seg dksX0_init_2 23 rfl rfl
theorem dksX0_init_4 : cX0_init.data.toList.drop 94 = dktX0_init_4 := dk_seg dksX0_init_3 24 rfl rfl
theorem dksX0_init_5 : cX0_init.data.toList.drop 118 = dktX0_init_5 := dk_seg dksX0_init_4 24 rfl rfl
theorem dksX0_init_6 : cX0_init.data.toList.drop 141 = dktX0_init_6 := dk_seg dksX0_init_5 23 rfl rfl
theorem dksX0_init_7 : cX0_init.data.toList.drop 164 = dktX0_init_7 := dk_seg dksX0_init_6 23 rfl rfl
theorem dksX0_init_8 : cX0_init.data.toList.drop 187 = dktX0_init_8 := dk_seg dksX0_init_7 23 rfl rfl
theorem dksX0_init_9 : cX0_init.data.toList.drop 211 = dktX0_init_9 := dk_seg dksX0_init_8 24 rfl rfl
theorem dksX0_init_10 : cX0_init.data.toList.drop 235 = dktX0_init_10 := dk_seg dksX0_init_9 24 rfl rfl
theorem dksX0_init_11 : cX0_init.data.toList.drop 257 = dktX0_init_11 := dk_seg dksX0_init_10 22 rfl rfl
theorem dksX0_init_12 : cX0_init.data.toList.drop 281 = dktX0_init_12 := dk_seg dksX0_init_11 24 rfl rfl
theorem dksX0_init_13 : cX0_init.data.toList.drop 304 = dktX0_init_13 := dk_seg dksX0_init_12 23 rfl rfl
theorem dX0_init_0 : decode cX0_init 0 = .ok (.aload_n 0, 1) := dk_42 (dk_at dksX0_init_0 0 rfl rfl)
theorem dX0_init_1 : decode cX0_init 1 = .ok (.invokespecial 267, 3) := dk_183 1 11 (dk_at dksX0_init_0 1 rfl rfl)
theorem dX0_init_4 : decode cX0_init 4 = .ok (.aload_n 0, 1) := dk_42 (dk_at dksX0_init_0 4 rfl rfl)
theorem dX0_init_5 : decode cX0_init 5 = .ok (.iconst 5, 1) := dk_8 (dk_at dksX0_init_0 5 rfl rfl)
theorem dX0_init_6 : decode cX0_init 6 = .ok (.anewarray 40, 3) := dk_189 0 40 (dk_at dksX0_init_0 6 rfl rfl)
theorem dX0_init_9 : decode cX0_init 9 = .ok (.putfield 47, 3) := dk_181 0 47 (dk_at dksX0_init_0 9 rfl rfl)
theorem dX0_init_12 : decode cX0_init 12 = .ok (.aload_n 0, 1) := dk_42 (dk_at dksX0_init_0 12 rfl rfl)
theorem dX0_init_13 : decode cX0_init 13 = .ok (.bipush 10, 2) := dk_16 10 (dk_at dksX0_init_0 13 rfl rfl)
theorem dX0_init_15 : decode cX0_init 15 = .ok (.newarray .int, 2) := dk_188_10 (dk_at dksX0_init_0 15 rfl rfl)
theorem dX0_init_17 : decode cX0_init 17 = .ok (.dup, 1) := dk_89 (dk_at dksX0_init_0 17 rfl rfl)
theorem dX0_init_18 : decode cX0_init 18 = .ok (.iconst 0, 1) := dk_3 (dk_at dksX0_init_0 18 rfl rfl)
theorem dX0_init_19 : decode cX0_init 19 = .ok (.iconst 5, 1) := dk_8 (dk_at dksX0_init_0 19 rfl rfl)
theorem dX0_init_20 : decode cX0_init 20 = .ok (.iastore, 1) := dk_79 (dk_at dksX0_init_0 20 rfl rfl)
theorem dX0_init_21 : decode cX0_init 21 = .ok (.dup, 1) := dk_89 (dk_at dksX0_init_0 21 rfl rfl)
theorem dX0_init_22 : decode cX0_init 22 = .ok (.iconst 1, 1) := dk_4 (dk_at dksX0_init_0 22 rfl rfl)
theorem dX0_init_23 : decode cX0_init 23 = .ok (.bipush 10, 2) := dk_16 10 (dk_at dksX0_init_1 0 rfl rfl)
theorem dX0_init_25 : decode cX0_init 25 = .ok (.iastore, 1) := dk_79 (dk_at dksX0_init_1 2 rfl rfl)
theorem dX0_init_26 : decode cX0_init 26 = .ok (.dup, 1) := dk_89 (dk_at dksX0_init_1 3 rfl rfl)
theorem dX0_init_27 : decode cX0_init 27 = .ok (.iconst 2, 1) := dk_5 (dk_at dksX0_init_1 4 rfl rfl)
theorem dX0_init_28 : decode cX0_init 28 = .ok (.bipush 15, 2) := dk_16 15 (dk_at dksX0_init_1 5 rfl rfl)
theorem dX0_init_30 : decode cX0_init 30 = .ok (.iastore, 1) := dk_79 (dk_at dksX0_init_1 7 rfl rfl)
theorem dX0_init_31 : decode cX0_init 31 = .ok (.dup, 1) := dk_89 (dk_at dksX0_init_1 8 rfl rfl)
theorem dX0_init_32 : decode cX0_init 32 = .ok (.iconst 3, 1) := dk_6 (dk_at dksX0_init_1 9 rfl rfl)
theorem dX0_init_33 : decode cX0_init 33 = .ok (.bipush 20, 2) := dk_16 20 (dk_at dksX0_init_1 10 rfl rfl)
theorem dX0_init_35 : decode cX0_init 35 = .ok (.iastore, 1) := dk_79 (dk_at dksX0_init_1 12 rfl rfl)
theorem dX0_init_36 : decode cX0_init 36 = .ok (.dup, 1) := dk_89 (dk_at dksX0_init_1 13 rfl rfl)
theorem dX0_init_37 : decode cX0_init 37 = .ok (.iconst 4, 1) := dk_7 (dk_at dksX0_init_1 14 rfl rfl)
theorem dX0_init_38 : decode cX0_init 38 = .ok (.bipush 25, 2) := dk_16 25 (dk_at dksX0_init_1 15 rfl rfl)
theorem dX0_init_40 : decode cX0_init 40 = .ok (.iastore, 1) := dk_79 (dk_at dksX0_init_1 17 rfl rfl)
theorem dX0_init_41 : decode cX0_init 41 = .ok (.dup, 1) := dk_89 (dk_at dksX0_init_1 18 rfl rfl)
theorem dX0_init_42 : decode cX0_init 42 = .ok (.iconst 5, 1) := dk_8 (dk_at dksX0_init_1 19 rfl rfl)
theorem dX0_init_43 : decode cX0_init 43 = .ok (.bipush 30, 2) := dk_16 30 (dk_at dksX0_init_1 20 rfl rfl)
theorem dX0_init_45 : decode cX0_init 45 = .ok (.iastore, 1) := dk_79 (dk_at dksX0_init_1 22 rfl rfl)
theorem dX0_init_46 : decode cX0_init 46 = .ok (.dup, 1) := dk_89 (dk_at dksX0_init_1 23 rfl rfl)
theorem dX0_init_47 : decode cX0_init 47 = .ok (.bipush 6, 2) := dk_16 6 (dk_at dksX0_init_2 0 rfl rfl)
theorem dX0_init_49 : decode cX0_init 49 = .ok (.bipush 35, 2) := dk_16 35 (dk_at dksX0_init_2 2 rfl rfl)
theorem dX0_init_51 : decode cX0_init 51 = .ok (.iastore, 1) := dk_79 (dk_at dksX0_init_2 4 rfl rfl)
theorem dX0_init_52 : decode cX0_init 52 = .ok (.dup, 1) := dk_89 (dk_at dksX0_init_2 5 rfl rfl)
theorem dX0_init_53 : decode cX0_init 53 = .ok (.bipush 7, 2) := dk_16 7 (dk_at dksX0_init_2 6 rfl rfl)
theorem dX0_init_55 : decode cX0_init 55 = .ok (.bipush 40, 2) := dk_16 40 (dk_at dksX0_init_2 8 rfl rfl)
theorem dX0_init_57 : decode cX0_init 57 = .ok (.iastore, 1) := dk_79 (dk_at dksX0_init_2 10 rfl rfl)
theorem dX0_init_58 : decode cX0_init 58 = .ok (.dup, 1) := dk_89 (dk_at dksX0_init_2 11 rfl rfl)
theorem dX0_init_59 : decode cX0_init 59 = .ok (.bipush 8, 2) := dk_16 8 (dk_at dksX0_init_2 12 rfl rfl)
theorem dX0_init_61 : decode cX0_init 61 = .ok (.bipush 45, 2) := dk_16 45 (dk_at dksX0_init_2 14 rfl rfl)
theorem dX0_init_63 : decode cX0_init 63 = .ok (.iastore, 1) := dk_79 (dk_at dksX0_init_2 16 rfl rfl)
theorem dX0_init_64 : decode cX0_init 64 = .ok (.dup, 1) := dk_89 (dk_at dksX0_init_2 17 rfl rfl)
theorem dX0_init_65 : decode cX0_init 65 = .ok (.bipush 9, 2) := dk_16 9 (dk_at dksX0_init_2 18 rfl rfl)
theorem dX0_init_67 : decode cX0_init 67 = .ok (.bipush 50, 2) := dk_16 50 (dk_at dksX0_init_2 20 rfl rfl)
theorem dX0_init_69 : decode cX0_init 69 = .ok (.iastore, 1) := dk_79 (dk_at dksX0_init_2 22 rfl rfl)
theorem dX0_init_70 : decode cX0_init 70 = .ok (.putfield 62, 3) := dk_181 0 62 (dk_at dksX0_init_3 0 rfl rfl)
theorem dX0_init_73 : decode cX0_init 73 = .ok (.aload_n 0, 1) := dk_42 (dk_at dksX0_init_3 3 rfl rfl)
theorem dX0_init_74 : decode cX0_init 74 = .ok (.new 253, 3) := dk_187 0 253 (dk_at dksX0_init_3 4 rfl rfl)
theorem dX0_init_77 : decode cX0_init 77 = .ok (.dup, 1) := dk_89 (dk_at dksX0_init_3 7 rfl rfl)
theorem dX0_init_78 : decode cX0_init 78 = .ok (.invokespecial 271, 3) := dk_183 1 15 (dk_at dksX0_init_3 8 rfl rfl)
theorem dX0_init_81 : decode cX0_init 81 = .ok (.putfield 169, 3) := dk_181 0 169 (dk_at dksX0_init_3 11 rfl rfl)
theorem dX0_init_84 : decode cX0_init 84 = .ok (.aload_n 0, 1) := dk_42 (dk_at dksX0_init_3 14 rfl rfl)
theorem dX0_init_85 : decode cX0_init 85 = .ok (.bipush 6, 2) := dk_16 6 (dk_at dksX0_init_3 15 rfl rfl)
theorem dX0_init_87 : decode cX0_init 87 = .ok (.anewarray 272, 3) := dk_189 1 16 (dk_at dksX0_init_3 17 rfl rfl)
theorem dX0_init_90 : decode cX0_init 90 = .ok (.putfield 255, 3) := dk_181 0 255 (dk_at dksX0_init_3 20 rfl rfl)
theorem dX0_init_93 : decode cX0_init 93 = .ok (.aload_n 0, 1) := dk_42 (dk_at dksX0_init_3 23 rfl rfl)
theorem dX0_init_94 : decode cX0_init 94 = .ok (.bipush 6, 2) := dk_16 6 (dk_at dksX0_init_4 0 rfl rfl)
theorem dX0_init_96 : decode cX0_init 96 = .ok (.anewarray 165, 3) := dk_189 0 165 (dk_at dksX0_init_4 2 rfl rfl)
theorem dX0_init_99 : decode cX0_init 99 = .ok (.dup, 1) := dk_89 (dk_at dksX0_init_4 5 rfl rfl)
theorem dX0_init_100 : decode cX0_init 100 = .ok (.iconst 0, 1) := dk_3 (dk_at dksX0_init_4 6 rfl rfl)
theorem dX0_init_101 : decode cX0_init 101 = .ok (.ldc_w 274, 3) := dk_19 1 18 (dk_at dksX0_init_4 7 rfl rfl)
theorem dX0_init_104 : decode cX0_init 104 = .ok (.aastore, 1) := dk_83 (dk_at dksX0_init_4 10 rfl rfl)
theorem dX0_init_105 : decode cX0_init 105 = .ok (.dup, 1) := dk_89 (dk_at dksX0_init_4 11 rfl rfl)
theorem dX0_init_106 : decode cX0_init 106 = .ok (.iconst 1, 1) := dk_4 (dk_at dksX0_init_4 12 rfl rfl)
theorem dX0_init_107 : decode cX0_init 107 = .ok (.ldc_w 276, 3) := dk_19 1 20 (dk_at dksX0_init_4 13 rfl rfl)
theorem dX0_init_110 : decode cX0_init 110 = .ok (.aastore, 1) := dk_83 (dk_at dksX0_init_4 16 rfl rfl)
theorem dX0_init_111 : decode cX0_init 111 = .ok (.dup, 1) := dk_89 (dk_at dksX0_init_4 17 rfl rfl)
theorem dX0_init_112 : decode cX0_init 112 = .ok (.iconst 2, 1) := dk_5 (dk_at dksX0_init_4 18 rfl rfl)
theorem dX0_init_113 : decode cX0_init 113 = .ok (.ldc_w 278, 3) := dk_19 1 22 (dk_at dksX0_init_4 19 rfl rfl)
theorem dX0_init_116 : decode cX0_init 116 = .ok (.aastore, 1) := dk_83 (dk_at dksX0_init_4 22 rfl rfl)
theorem dX0_init_117 : decode cX0_init 117 = .ok (.dup, 1) := dk_89 (dk_at dksX0_init_4 23 rfl rfl)
theorem dX0_init_118 : decode cX0_init 118 = .ok (.iconst 3, 1) := dk_6 (dk_at dksX0_init_5 0 rfl rfl)
theorem dX0_init_119 : decode cX0_init 119 = .ok (.ldc_w 280, 3) := dk_19 1 24 (dk_at dksX0_init_5 1 rfl rfl)
theorem dX0_init_122 : decode cX0_init 122 = .ok (.aastore, 1) := dk_83 (dk_at dksX0_init_5 4 rfl rfl)
theorem dX0_init_123 : decode cX0_init 123 = .ok (.dup, 1) := dk_89 (dk_at dksX0_init_5 5 rfl rfl)
theorem dX0_init_124 : decode cX0_init 124 = .ok (.iconst 4, 1) := dk_7 (dk_at dksX0_init_5 6 rfl rfl)
theorem dX0_init_125 : decode cX0_init 125 = .ok (.ldc_w 282, 3) := dk_19 1 26 (dk_at dksX0_init_5 7 rfl rfl)
theorem dX0_init_128 : decode cX0_init 128 = .ok (.aastore, 1) := dk_83 (dk_at dksX0_init_5 10 rfl rfl)
theorem dX0_init_129 : decode cX0_init 129 = .ok (.dup, 1) := dk_89 (dk_at dksX0_init_5 11 rfl rfl)
theorem dX0_init_130 : decode cX0_init 130 = .ok (.iconst 5, 1) := dk_8 (dk_at dksX0_init_5 12 rfl rfl)
theorem dX0_init_131 : decode cX0_init 131 = .ok (.ldc_w 284, 3) := dk_19 1 28 (dk_at dksX0_init_5 13 rfl rfl)
theorem dX0_init_134 : decode cX0_init 134 = .ok (.aastore, 1) := dk_83 (dk_at dksX0_init_5 16 rfl rfl)
theorem dX0_init_135 : decode cX0_init 135 = .ok (.putfield 179, 3) := dk_181 0 179 (dk_at dksX0_init_5 17 rfl rfl)
theorem dX0_init_138 : decode cX0_init 138 = .ok (.aload_n 0, 1) := dk_42 (dk_at dksX0_init_5 20 rfl rfl)
theorem dX0_init_139 : decode cX0_init 139 = .ok (.bipush 6, 2) := dk_16 6 (dk_at dksX0_init_5 21 rfl rfl)
theorem dX0_init_141 : decode cX0_init 141 = .ok (.anewarray 165, 3) := dk_189 0 165 (dk_at dksX0_init_6 0 rfl rfl)
theorem dX0_init_144 : decode cX0_init 144 = .ok (.dup, 1) := dk_89 (dk_at dksX0_init_6 3 rfl rfl)
theorem dX0_init_145 : decode cX0_init 145 = .ok (.iconst 0, 1) := dk_3 (dk_at dksX0_init_6 4 rfl rfl)
theorem dX0_init_146 : decode cX0_init 146 = .ok (.ldc_w 285, 3) := dk_19 1 29 (dk_at dksX0_init_6 5 rfl rfl)
theorem dX0_init_149 : decode cX0_init 149 = .ok (.aastore, 1) := dk_83 (dk_at dksX0_init_6 8 rfl rfl)
theorem dX0_init_150 : decode cX0_init 150 = .ok (.dup, 1) := dk_89 (dk_at dksX0_init_6 9 rfl rfl)
theorem dX0_init_151 : decode cX0_init 151 = .ok (.iconst 1, 1) := dk_4 (dk_at dksX0_init_6 10 rfl rfl)
theorem dX0_init_152 : decode cX0_init 152 = .ok (.ldc_w 286, 3) := dk_19 1 30 (dk_at dksX0_init_6 11 rfl rfl)
theorem dX0_init_155 : decode cX0_init 155 = .ok (.aastore, 1) := dk_83 (dk_at dksX0_init_6 14 rfl rfl)
theorem dX0_init_156 : decode cX0_init 156 = .ok (.dup, 1) := dk_89 (dk_at dksX0_init_6 15 rfl rfl)
theorem dX0_init_157 : decode cX0_init 157 = .ok (.iconst 2, 1) := dk_5 (dk_at dksX0_init_6 16 rfl rfl)
theorem dX0_init_158 : decode cX0_init 158 = .ok (.ldc_w 287, 3) := dk_19 1 31 (dk_at dksX0_init_6 17 rfl rfl)
theorem dX0_init_161 : decode cX0_init 161 = .ok (.aastore, 1) := dk_83 (dk_at dksX0_init_6 20 rfl rfl)
theorem dX0_init_162 : decode cX0_init 162 = .ok (.dup, 1) := dk_89 (dk_at dksX0_init_6 21 rfl rfl)
theorem dX0_init_163 : decode cX0_init 163 = .ok (.iconst 3, 1) := dk_6 (dk_at dksX0_init_6 22 rfl rfl)
theorem dX0_init_164 : decode cX0_init 164 = .ok (.ldc_w 289, 3) := dk_19 1 33 (dk_at dksX0_init_7 0 rfl rfl)
theorem dX0_init_167 : decode cX0_init 167 = .ok (.aastore, 1) := dk_83 (dk_at dksX0_init_7 3 rfl rfl)
theorem dX0_init_168 : decode cX0_init 168 = .ok (.dup, 1) := dk_89 (dk_at dksX0_init_7 4 rfl rfl)
theorem dX0_init_169 : decode cX0_init 169 = .ok (.iconst 4, 1) := dk_7 (dk_at dksX0_init_7 5 rfl rfl)
theorem dX0_init_170 : decode cX0_init 170 = .ok (.ldc_w 290, 3) := dk_19 1 34 (dk_at dksX0_init_7 6 rfl rfl)
theorem dX0_init_173 : decode cX0_init 173 = .ok (.aastore, 1) := dk_83 (dk_at dksX0_init_7 9 rfl rfl)
theorem dX0_init_174 : decode cX0_init 174 = .ok (.dup, 1) := dk_89 (dk_at dksX0_init_7 10 rfl rfl)
theorem dX0_init_175 : decode cX0_init 175 = .ok (.iconst 5, 1) := dk_8 (dk_at dksX0_init_7 11 rfl rfl)
theorem dX0_init_176 : decode cX0_init 176 = .ok (.ldc_w 291, 3) := dk_19 1 35 (dk_at dksX0_init_7 12 rfl rfl)
theorem dX0_init_179 : decode cX0_init 179 = .ok (.aastore, 1) := dk_83 (dk_at dksX0_init_7 15 rfl rfl)
theorem dX0_init_180 : decode cX0_init 180 = .ok (.putfield 187, 3) := dk_181 0 187 (dk_at dksX0_init_7 16 rfl rfl)
theorem dX0_init_183 : decode cX0_init 183 = .ok (.aload_n 0, 1) := dk_42 (dk_at dksX0_init_7 19 rfl rfl)
theorem dX0_init_184 : decode cX0_init 184 = .ok (.sipush 160, 3) := dk_17 0 160 (dk_at dksX0_init_7 20 rfl rfl)
theorem dX0_init_187 : decode cX0_init 187 = .ok (.newarray .byte, 2) := dk_188_8 (dk_at dksX0_init_8 0 rfl rfl)
theorem dX0_init_189 : decode cX0_init 189 = .ok (.putfield 122, 3) := dk_181 0 122 (dk_at dksX0_init_8 2 rfl rfl)
theorem dX0_init_192 : decode cX0_init 192 = .ok (.aload_n 0, 1) := dk_42 (dk_at dksX0_init_8 5 rfl rfl)
theorem dX0_init_193 : decode cX0_init 193 = .ok (.new 293, 3) := dk_187 1 37 (dk_at dksX0_init_8 6 rfl rfl)
theorem dX0_init_196 : decode cX0_init 196 = .ok (.dup, 1) := dk_89 (dk_at dksX0_init_8 9 rfl rfl)
theorem dX0_init_197 : decode cX0_init 197 = .ok (.invokespecial 295, 3) := dk_183 1 39 (dk_at dksX0_init_8 10 rfl rfl)
theorem dX0_init_200 : decode cX0_init 200 = .ok (.putfield 296, 3) := dk_181 1 40 (dk_at dksX0_init_8 13 rfl rfl)
theorem dX0_init_203 : decode cX0_init 203 = .ok (.aload_n 0, 1) := dk_42 (dk_at dksX0_init_8 16 rfl rfl)
theorem dX0_init_204 : decode cX0_init 204 = .ok (.new 293, 3) := dk_187 1 37 (dk_at dksX0_init_8 17 rfl rfl)
theorem dX0_init_207 : decode cX0_init 207 = .ok (.dup, 1) := dk_89 (dk_at dksX0_init_8 20 rfl rfl)
theorem dX0_init_208 : decode cX0_init 208 = .ok (.invokespecial 295, 3) := dk_183 1 39 (dk_at dksX0_init_8 21 rfl rfl)
theorem dX0_init_211 : decode cX0_init 211 = .ok (.putfield 300, 3) := dk_181 1 44 (dk_at dksX0_init_9 0 rfl rfl)
theorem dX0_init_214 : decode cX0_init 214 = .ok (.aload_n 0, 1) := dk_42 (dk_at dksX0_init_9 3 rfl rfl)
theorem dX0_init_215 : decode cX0_init 215 = .ok (.new 293, 3) := dk_187 1 37 (dk_at dksX0_init_9 4 rfl rfl)
theorem dX0_init_218 : decode cX0_init 218 = .ok (.dup, 1) := dk_89 (dk_at dksX0_init_9 7 rfl rfl)
theorem dX0_init_219 : decode cX0_init 219 = .ok (.invokespecial 295, 3) := dk_183 1 39 (dk_at dksX0_init_9 8 rfl rfl)
theorem dX0_init_222 : decode cX0_init 222 = .ok (.putfield 303, 3) := dk_181 1 47 (dk_at dksX0_init_9 11 rfl rfl)
theorem dX0_init_225 : decode cX0_init 225 = .ok (.aload_n 0, 1) := dk_42 (dk_at dksX0_init_9 14 rfl rfl)
theorem dX0_init_226 : decode cX0_init 226 = .ok (.iconst 5, 1) := dk_8 (dk_at dksX0_init_9 15 rfl rfl)
theorem dX0_init_227 : decode cX0_init 227 = .ok (.newarray .int, 2) := dk_188_10 (dk_at dksX0_init_9 16 rfl rfl)
theorem dX0_init_229 : decode cX0_init 229 = .ok (.putfield 306, 3) := dk_181 1 50 (dk_at dksX0_init_9 18 rfl rfl)
theorem dX0_init_232 : decode cX0_init 232 = .ok (.aload_n 0, 1) := dk_42 (dk_at dksX0_init_9 21 rfl rfl)
theorem dX0_init_233 : decode cX0_init 233 = .ok (.iconst 3, 1) := dk_6 (dk_at dksX0_init_9 22 rfl rfl)
theorem dX0_init_234 : decode cX0_init 234 = .ok (.iconst 5, 1) := dk_8 (dk_at dksX0_init_9 23 rfl rfl)
theorem dX0_init_235 : decode cX0_init 235 = .ok (.multianewarray 309 2, 4) := by decide +kernel
theorem dX0_init_239 : decode cX0_init 239 = .ok (.putfield 311, 3) := dk_181 1 55 (dk_at dksX0_init_10 4 rfl rfl)
theorem dX0_init_242 : decode cX0_init 242 = .ok (.aload_n 0, 1) := dk_42 (dk_at dksX0_init_10 7 rfl rfl)
theorem dX0_init_243 : decode cX0_init 243 = .ok (.bipush 10, 2) := dk_16 10 (dk_at dksX0_init_10 8 rfl rfl)
theorem dX0_init_245 : decode cX0_init 245 = .ok (.newarray .int, 2) := dk_188_10 (dk_at dksX0_init_10 10 rfl rfl)
theorem dX0_init_247 : decode cX0_init 247 = .ok (.putfield 314, 3) := dk_181 1 58 (dk_at dksX0_init_10 12 rfl rfl)
theorem dX0_init_250 : decode cX0_init 250 = .ok (.aload_n 0, 1) := dk_42 (dk_at dksX0_init_10 15 rfl rfl)
theorem dX0_init_251 : decode cX0_init 251 = .ok (.iconst 4, 1) := dk_7 (dk_at dksX0_init_10 16 rfl rfl)
theorem dX0_init_252 : decode cX0_init 252 = .ok (.iconst 5, 1) := dk_8 (dk_at dksX0_init_10 17 rfl rfl)
theorem dX0_init_253 : decode cX0_init 253 = .ok (.multianewarray 309 2, 4) := by decide +kernel
theorem dX0_init_257 : decode cX0_init 257 = .ok (.putfield 317, 3) := dk_181 1 61 (dk_at dksX0_init_11 0 rfl rfl)
theorem dX0_init_260 : decode cX0_init 260 = .ok (.aload_n 0, 1) := dk_42 (dk_at dksX0_init_11 3 rfl rfl)
theorem dX0_init_261 : decode cX0_init 261 = .ok (.iconst 4, 1) := dk_7 (dk_at dksX0_init_11 4 rfl rfl)
theorem dX0_init_262 : decode cX0_init 262 = .ok (.newarray .int, 2) := dk_188_10 (dk_at dksX0_init_11 5 rfl rfl)
theorem dX0_init_264 : decode cX0_init 264 = .ok (.putfield 320, 3) := dk_181 1 64 (dk_at dksX0_init_11 7 rfl rfl)
theorem dX0_init_267 : decode cX0_init 267 = .ok (.aload_n 0, 1) := dk_42 (dk_at dksX0_init_11 10 rfl rfl)
theorem dX0_init_268 : decode cX0_init 268 = .ok (.iconst 4, 1) := dk_7 (dk_at dksX0_init_11 11 rfl rfl)
theorem dX0_init_269 : decode cX0_init 269 = .ok (.anewarray 323, 3) := dk_189 1 67 (dk_at dksX0_init_11 12 rfl rfl)
theorem dX0_init_272 : decode cX0_init 272 = .ok (.dup, 1) := dk_89 (dk_at dksX0_init_11 15 rfl rfl)
theorem dX0_init_273 : decode cX0_init 273 = .ok (.iconst 0, 1) := dk_3 (dk_at dksX0_init_11 16 rfl rfl)
theorem dX0_init_274 : decode cX0_init 274 = .ok (.new 323, 3) := dk_187 1 67 (dk_at dksX0_init_11 17 rfl rfl)
theorem dX0_init_277 : decode cX0_init 277 = .ok (.dup, 1) := dk_89 (dk_at dksX0_init_11 20 rfl rfl)
theorem dX0_init_278 : decode cX0_init 278 = .ok (.invokespecial 325, 3) := dk_183 1 69 (dk_at dksX0_init_11 21 rfl rfl)
theorem dX0_init_281 : decode cX0_init 281 = .ok (.aastore, 1) := dk_83 (dk_at dksX0_init_12 0 rfl rfl)
theorem dX0_init_282 : decode cX0_init 282 = .ok (.dup, 1) := dk_89 (dk_at dksX0_init_12 1 rfl rfl)
theorem dX0_init_283 : decode cX0_init 283 = .ok (.iconst 1, 1) := dk_4 (dk_at dksX0_init_12 2 rfl rfl)
theorem dX0_init_284 : decode cX0_init 284 = .ok (.new 323, 3) := dk_187 1 67 (dk_at dksX0_init_12 3 rfl rfl)
theorem dX0_init_287 : decode cX0_init 287 = .ok (.dup, 1) := dk_89 (dk_at dksX0_init_12 6 rfl rfl)
theorem dX0_init_288 : decode cX0_init 288 = .ok (.invokespecial 325, 3) := dk_183 1 69 (dk_at dksX0_init_12 7 rfl rfl)
theorem dX0_init_291 : decode cX0_init 291 = .ok (.aastore, 1) := dk_83 (dk_at dksX0_init_12 10 rfl rfl)
theorem dX0_init_292 : decode cX0_init 292 = .ok (.dup, 1) := dk_89 (dk_at dksX0_init_12 11 rfl rfl)
theorem dX0_init_293 : decode cX0_init 293 = .ok (.iconst 2, 1) := dk_5 (dk_at dksX0_init_12 12 rfl rfl)
theorem dX0_init_294 : decode cX0_init 294 = .ok (.new 323, 3) := dk_187 1 67 (dk_at dksX0_init_12 13 rfl rfl)
theorem dX0_init_297 : decode cX0_init 297 = .ok (.dup, 1) := dk_89 (dk_at dksX0_init_12 16 rfl rfl)
theorem dX0_init_298 : decode cX0_init 298 = .ok (.invokespecial 325, 3) := dk_183 1 69 (dk_at dksX0_init_12 17 rfl rfl)
theorem dX0_init_301 : decode cX0_init 301 = .ok (.aastore, 1) := dk_83 (dk_at dksX0_init_12 20 rfl rfl)
theorem dX0_init_302 : decode cX0_init 302 = .ok (.dup, 1) := dk_89 (dk_at dksX0_init_12 21 rfl rfl)
theorem dX0_init_303 : decode cX0_init 303 = .ok (.iconst 3, 1) := dk_6 (dk_at dksX0_init_12 22 rfl rfl)
theorem dX0_init_304 : decode cX0_init 304 = .ok (.new 323, 3) := dk_187 1 67 (dk_at dksX0_init_13 0 rfl rfl)
theorem dX0_init_307 : decode cX0_init 307 = .ok (.dup, 1) := dk_89 (dk_at dksX0_init_13 3 rfl rfl)
theorem dX0_init_308 : decode cX0_init 308 = .ok (.invokespecial 325, 3) := dk_183 1 69 (dk_at dksX0_init_13 4 rfl rfl)
theorem dX0_init_311 : decode cX0_init 311 = .ok (.aastore, 1) := dk_83 (dk_at dksX0_init_13 7 rfl rfl)
theorem dX0_init_312 : decode cX0_init 312 = .ok (.putfield 326, 3) := dk_181 1 70 (dk_at dksX0_init_13 8 rfl rfl)
theorem dX0_init_315 : decode cX0_init 315 = .ok (.aload_n 0, 1) := dk_42 (dk_at dksX0_init_13 11 rfl rfl)
theorem dX0_init_316 : decode cX0_init 316 = .ok (.ldc_w 330, 3) := dk_19 1 74 (dk_at dksX0_init_13 12 rfl rfl)
theorem dX0_init_319 : decode cX0_init 319 = .ok (.invokevirtual 332, 3) := dk_182 1 76 (dk_at dksX0_init_13 15 rfl rfl)
theorem dX0_init_322 : decode cX0_init 322 = .ok (.return_, 1) := dk_177 (dk_at dksX0_init_13 18 rfl rfl)
abbrev cX0_firstText : ByteArray := prog_1_method_32_code
def yX0_firstText : MethodName := ⟨RX0, "firstText", "(Ljava/lang/String;)V"⟩
def dkwX0_firstText_1 : List UInt8 := [132, 2, 1, 167, 255, 233, 42, 43, 182, 0, 173, 181, 0, 248, 42, 182, 1, 6, 61, 177]
abbrev dktX0_firstText_1 : List UInt8 := dkwX0_firstText_1 ++ []
def dkwX0_firstText_0 : List UInt8 := [3, 61, 28, 43, 182, 0, 173, 162, 0, 21, 42, 180, 0, 122, 28, 43, 28, 182, 0, 175, 145, 84]
abbrev dktX0_firstText_0 : List UInt8 := dkwX0_firstText_0 ++ dktX0_firstText_1
theorem dksX0_firstText_0 : cX0_firstText.data.toList.drop 0 = dktX0_firstText_0 := by decide +kernel
theorem dksX0_firstText_1 : cX0_firstText.data.toList.drop 22 = dktX0_firstText_1 := dk_seg dksX0_firstText_0 22 rfl rfl
theorem dX0_firstText_0 : decode cX0_firstText 0 = .ok (.iconst 0, 1) := dk_3 (dk_at dksX0_firstText_0 0 rfl rfl)
theorem dX0_firstText_1 : decode cX0_firstText 1 = .ok (.istore_n 2, 1) := dk_61 (dk_at dksX0_firstText_0 1 rfl rfl)
theorem dX0_firstText_2 : decode cX0_firstText 2 = .ok (.iload_n 2, 1) := dk_28 (dk_at dksX0_firstText_0 2 rfl rfl)
theorem dX0_firstText_3 : decode cX0_firstText 3 = .ok (.aload_n 1, 1) := dk_43 (dk_at dksX0_firstText_0 3 rfl rfl)
theorem dX0_firstText_4 : decode cX0_firstText 4 = .ok (.invokevirtual 173, 3) := dk_182 0 173 (dk_at dksX0_firstText_0 4 rfl rfl)
theorem dX0_firstText_7 : decode cX0_firstText 7 = .ok (.if_icmp .ge 21, 3) := dk_162 0 21 (dk_at dksX0_firstText_0 7 rfl rfl)
theorem dX0_firstText_10 : decode cX0_firstText 10 = .ok (.aload_n 0, 1) := dk_42 (dk_at dksX0_firstText_0 10 rfl rfl)
theorem dX0_firstText_11 : decode cX0_firstText 11 = .ok (.getfield 122, 3) := dk_180 0 122 (dk_at dksX0_firstText_0 11 rfl rfl)
theorem dX0_firstText_14 : decode cX0_firstText 14 = .ok (.iload_n 2, 1) := dk_28 (dk_at dksX0_firstText_0 14 rfl rfl)
theorem dX0_firstText_15 : decode cX0_firstText 15 = .ok (.aload_n 1, 1) := dk_43 (dk_at dksX0_firstText_0 15 rfl rfl)
theorem dX0_firstText_16 : decode cX0_firstText 16 = .ok (.iload_n 2, 1) := dk_28 (dk_at dksX0_firstText_0 16 rfl rfl)
theorem dX0_firstText_17 : decode cX0_firstText 17 = .ok (.invokevirtual 175, 3) := dk_182 0 175 (dk_at dksX0_firstText_0 17 rfl rfl)
theorem dX0_firstText_20 : decode cX0_firstText 20 = .ok (.i2b, 1) := dk_145 (dk_at dksX0_firstText_0 20 rfl rfl)
theorem dX0_firstText_21 : decode cX0_firstText 21 = .ok (.bastore, 1) := dk_84 (dk_at dksX0_firstText_0 21 rfl rfl)
theorem dX0_firstText_22 : decode cX0_firstText 22 = .ok (.iinc 2 1, 3) := dk_132 2 1 (dk_at dksX0_firstText_1 0 rfl rfl)
theorem dX0_firstText_25 : decode cX0_firstText 25 = .ok (.goto (-23), 3) := dk_167 255 233 (dk_at dksX0_firstText_1 3 rfl rfl)
theorem dX0_firstText_28 : decode cX0_firstText 28 = .ok (.aload_n 0, 1) := dk_42 (dk_at dksX0_firstText_1 6 rfl rfl)
theorem dX0_firstText_29 : decode cX0_firstText 29 = .ok (.aload_n 1, 1) := dk_43 (dk_at dksX0_firstText_1 7 rfl rfl)
theorem dX0_firstText_30 : decode cX0_firstText 30 = .ok (.invokevirtual 173, 3) := dk_182 0 173 (dk_at dksX0_firstText_1 8 rfl rfl)
theorem dX0_firstText_33 : decode cX0_firstText 33 = .ok (.putfield 248, 3) := dk_181 0 248 (dk_at dksX0_firstText_1 11 rfl rfl)
theorem dX0_firstText_36 : decode cX0_firstText 36 = .ok (.aload_n 0, 1) := dk_42 (dk_at dksX0_firstText_1 14 rfl rfl)
theorem dX0_firstText_37 : decode cX0_firstText 37 = .ok (.invokevirtual 262, 3) := dk_182 1 6 (dk_at dksX0_firstText_1 15 rfl rfl)
theorem dX0_firstText_40 : decode cX0_firstText 40 = .ok (.istore_n 2, 1) := dk_61 (dk_at dksX0_firstText_1 18 rfl rfl)
theorem dX0_firstText_41 : decode cX0_firstText 41 = .ok (.return_, 1) := dk_177 (dk_at dksX0_firstText_1 19 rfl rfl)
abbrev cX0_force : ByteArray := prog_1_method_37_code
def yX0_force : MethodName := ⟨RX0, "force", "(I)I"⟩
def dkwX0_force_0 : List UInt8 := [42, 27, 182, 1, 80, 154, 0, 6, 16, 254, 172, 42, 180, 1, 83, 61, 42, 27, 181, 1, 83, 28, 172]
abbrev dktX0_force_0 : List UInt8 := dkwX0_force_0 ++ []
theorem dksX0_force_0 : cX0_force.data.toList.drop 0 = dktX0_force_0 := by decide +kernel
theorem dX0_force_0 : decode cX0_force 0 = .ok (.aload_n 0, 1) := dk_42 (dk_at dksX0_force_0 0 rfl rfl)
theorem dX0_force_1 : decode cX0_force 1 = .ok (.iload_n 1, 1) := dk_27 (dk_at dksX0_force_0 1 rfl rfl)
theorem dX0_force_2 : decode cX0_force 2 = .ok (.invokevirtual 336, 3) := dk_182 1 80 (dk_at dksX0_force_0 2 rfl rfl)
theorem dX0_force_5 : decode cX0_force 5 = .ok (.ifCond .ne 6, 3) := dk_154 0 6 (dk_at dksX0_force_0 5 rfl rfl)
theorem dX0_force_8 : decode cX0_force 8 = .ok (.bipush (-2), 2) := dk_16 254 (dk_at dksX0_force_0 8 rfl rfl)
theorem dX0_force_10 : decode cX0_force 10 = .ok (.ireturn, 1) := dk_172 (dk_at dksX0_force_0 10 rfl rfl)
theorem dX0_force_11 : decode cX0_force 11 = .ok (.aload_n 0, 1) := dk_42 (dk_at dksX0_force_0 11 rfl rfl)
theorem dX0_force_12 : decode cX0_force 12 = .ok (.getfield 339, 3) := dk_180 1 83 (dk_at dksX0_force_0 12 rfl rfl)
theorem dX0_force_15 : decode cX0_force 15 = .ok (.istore_n 2, 1) := dk_61 (dk_at dksX0_force_0 15 rfl rfl)
theorem dX0_force_16 : decode cX0_force 16 = .ok (.aload_n 0, 1) := dk_42 (dk_at dksX0_force_0 16 rfl rfl)
theorem dX0_force_17 : decode cX0_force 17 = .ok (.iload_n 1, 1) := dk_27 (dk_at dksX0_force_0 17 rfl rfl)
theorem dX0_force_18 : decode cX0_force 18 = .ok (.putfield 339, 3) := dk_181 1 83 (dk_at dksX0_force_0 18 rfl rfl)
theorem dX0_force_21 : decode cX0_force 21 = .ok (.iload_n 2, 1) := dk_28 (dk_at dksX0_force_0 21 rfl rfl)
theorem dX0_force_22 : decode cX0_force 22 = .ok (.ireturn, 1) := dk_172 (dk_at dksX0_force_0 22 rfl rfl)
abbrev cX0_isText : ByteArray := prog_1_method_35_code
def yX0_isText : MethodName := ⟨RX0, "isText", "(I)Z"⟩
def dkwX0_isText_0 : List UInt8 := [27, 133, 9, 42, 180, 1, 3, 4, 100, 133, 184, 0, 16, 172]
abbrev dktX0_isText_0 : List UInt8 := dkwX0_isText_0 ++ []
theorem dksX0_isText_0 : cX0_isText.data.toList.drop 0 = dktX0_isText_0 := by decide +kernel
theorem dX0_isText_0 : decode cX0_isText 0 = .ok (.iload_n 1, 1) := dk_27 (dk_at dksX0_isText_0 0 rfl rfl)
theorem dX0_isText_1 : decode cX0_isText 1 = .ok (.i2l, 1) := dk_133 (dk_at dksX0_isText_0 1 rfl rfl)
theorem dX0_isText_2 : decode cX0_isText 2 = .ok (.lconst 0, 1) := dk_9 (dk_at dksX0_isText_0 2 rfl rfl)
theorem dX0_isText_3 : decode cX0_isText 3 = .ok (.aload_n 0, 1) := dk_42 (dk_at dksX0_isText_0 3 rfl rfl)
theorem dX0_isText_4 : decode cX0_isText 4 = .ok (.getfield 259, 3) := dk_180 1 3 (dk_at dksX0_isText_0 4 rfl rfl)
theorem dX0_isText_7 : decode cX0_isText 7 = .ok (.iconst 1, 1) := dk_4 (dk_at dksX0_isText_0 7 rfl rfl)
theorem dX0_isText_8 : decode cX0_isText 8 = .ok (.isub, 1) := dk_100 (dk_at dksX0_isText_0 8 rfl rfl)
theorem dX0_isText_9 : decode cX0_isText 9 = .ok (.i2l, 1) := dk_133 (dk_at dksX0_isText_0 9 rfl rfl)
theorem dX0_isText_10 : decode cX0_isText 10 = .ok (.invokestatic 16, 3) := dk_184 0 16 (dk_at dksX0_isText_0 10 rfl rfl)
theorem dX0_isText_13 : decode cX0_isText 13 = .ok (.ireturn, 1) := dk_172 (dk_at dksX0_isText_0 13 rfl rfl)
abbrev cX0_feels : ByteArray := prog_1_method_46_code
def yX0_feels : MethodName := ⟨RX0, "feels", "(II)J"⟩
def dkwX0_feels_1 : List UInt8 := [182, 1, 106, 42, 180, 1, 40, 28, 182, 1, 130, 173]
abbrev dktX0_feels_1 : List UInt8 := dkwX0_feels_1 ++ []
def dkwX0_feels_0 : List UInt8 := [42, 27, 182, 0, 59, 153, 0, 13, 28, 133, 9, 10, 184, 0, 16, 154, 0, 7, 20, 1, 128, 173, 42, 27]
abbrev dktX0_feels_0 : List UInt8 := dkwX0_feels_0 ++ dktX0_feels_1
theorem dksX0_feels_0 : cX0_feels.data.toList.drop 0 = dktX0_feels_0 := by decide +kernel
theorem dksX0_feels_1 : cX0_feels.data.toList.drop 24 = dktX0_feels_1 := dk_seg dksX0_feels_0 24 rfl rfl
theorem dX0_feels_0 : decode cX0_feels 0 = .ok (.aload_n 0, 1) := dk_42 (dk_at dksX0_feels_0 0 rfl rfl)
theorem dX0_feels_1 : decode cX0_feels 1 = .ok (.iload_n 1, 1) := dk_27 (dk_at dksX0_feels_0 1 rfl rfl)
theorem dX0_feels_2 : decode cX0_feels 2 = .ok (.invokevirtual 59, 3) := dk_182 0 59 (dk_at dksX0_feels_0 2 rfl rfl)
theorem dX0_feels_5 : decode cX0_feels 5 = .ok (.ifCond .eq 13, 3) := dk_153 0 13 (dk_at dksX0_feels_0 5 rfl rfl)
theorem dX0_feels_8 : decode cX0_feels 8 = .ok (.iload_n 2, 1) := dk_28 (dk_at dksX0_feels_0 8 rfl rfl)
theorem dX0_feels_9 : decode cX0_feels 9 = .ok (.i2l, 1) := dk_133 (dk_at dksX0_feels_0 9 rfl rfl)
theorem dX0_feels_10 : decode cX0_feels 10 = .ok (.lconst 0, 1) := dk_9 (dk_at dksX0_feels_0 10 rfl rfl)
theorem dX0_feels_11 : decode cX0_feels 11 = .ok (.lconst 1, 1) := dk_10 (dk_at dksX0_feels_0 11 rfl rfl)
theorem dX0_feels_12 : decode cX0_feels 12 = .ok (.invokestatic 16, 3) := dk_184 0 16 (dk_at dksX0_feels_0 12 rfl rfl)
theorem dX0_feels_15 : decode cX0_feels 15 = .ok (.ifCond .ne 7, 3) := dk_154 0 7 (dk_at dksX0_feels_0 15 rfl rfl)
theorem dX0_feels_18 : decode cX0_feels 18 = .ok (.ldc2_w 384, 3) := dk_20 1 128 (dk_at dksX0_feels_0 18 rfl rfl)
theorem dX0_feels_21 : decode cX0_feels 21 = .ok (.lreturn, 1) := dk_173 (dk_at dksX0_feels_0 21 rfl rfl)
theorem dX0_feels_22 : decode cX0_feels 22 = .ok (.aload_n 0, 1) := dk_42 (dk_at dksX0_feels_0 22 rfl rfl)
theorem dX0_feels_23 : decode cX0_feels 23 = .ok (.iload_n 1, 1) := dk_27 (dk_at dksX0_feels_0 23 rfl rfl)
theorem dX0_feels_24 : decode cX0_feels 24 = .ok (.invokevirtual 362, 3) := dk_182 1 106 (dk_at dksX0_feels_1 0 rfl rfl)
theorem dX0_feels_27 : decode cX0_feels 27 = .ok (.aload_n 0, 1) := dk_42 (dk_at dksX0_feels_1 3 rfl rfl)
theorem dX0_feels_28 : decode cX0_feels 28 = .ok (.getfield 296, 3) := dk_180 1 40 (dk_at dksX0_feels_1 4 rfl rfl)
theorem dX0_feels_31 : decode cX0_feels 31 = .ok (.iload_n 2, 1) := dk_28 (dk_at dksX0_feels_1 7 rfl rfl)
theorem dX0_feels_32 : decode cX0_feels 32 = .ok (.invokevirtual 386, 3) := dk_182 1 130 (dk_at dksX0_feels_1 8 rfl rfl)
theorem dX0_feels_35 : decode cX0_feels 35 = .ok (.lreturn, 1) := dk_173 (dk_at dksX0_feels_1 11 rfl rfl)
abbrev cX0_weight : ByteArray := prog_1_method_47_code
def yX0_weight : MethodName := ⟨RX0, "weight", "(I)J"⟩
def dkwX0_weight_1 : List UInt8 := [182, 1, 130, 173]
abbrev dktX0_weight_1 : List UInt8 := dkwX0_weight_1 ++ []
def dkwX0_weight_0 : List UInt8 := [27, 133, 9, 10, 184, 0, 16, 154, 0, 7, 20, 1, 128, 173, 42, 182, 1, 121, 42, 180, 1, 44, 27]
abbrev dktX0_weight_0 : List UInt8 := dkwX0_weight_0 ++ dktX0_weight_1
theorem dksX0_weight_0 : cX0_weight.data.toList.drop 0 = dktX0_weight_0 := by decide +kernel
theorem dksX0_weight_1 : cX0_weight.data.toList.drop 23 = dktX0_weight_1 := dk_seg dksX0_weight_0 23 rfl rfl
theorem dX0_weight_0 : decode cX0_weight 0 = .ok (.iload_n 1, 1) := dk_27 (dk_at dksX0_weight_0 0 rfl rfl)
theorem dX0_weight_1 : decode cX0_weight 1 = .ok (.i2l, 1) := dk_133 (dk_at dksX0_weight_0 1 rfl rfl)
theorem dX0_weight_2 : decode cX0_weight 2 = .ok (.lconst 0, 1) := dk_9 (dk_at dksX0_weight_0 2 rfl rfl)
theorem dX0_weight_3 : decode cX0_weight 3 = .ok (.lconst 1, 1) := dk_10 (dk_at dksX0_weight_0 3 rfl rfl)
theorem dX0_weight_4 : decode cX0_weight 4 = .ok (.invokestatic 16, 3) := dk_184 0 16 (dk_at dksX0_weight_0 4 rfl rfl)
theorem dX0_weight_7 : decode cX0_weight 7 = .ok (.ifCond .ne 7, 3) := dk_154 0 7 (dk_at dksX0_weight_0 7 rfl rfl)
theorem dX0_weight_10 : decode cX0_weight 10 = .ok (.ldc2_w 384, 3) := dk_20 1 128 (dk_at dksX0_weight_0 10 rfl rfl)
theorem dX0_weight_13 : decode cX0_weight 13 = .ok (.lreturn, 1) := dk_173 (dk_at dksX0_weight_0 13 rfl rfl)
theorem dX0_weight_14 : decode cX0_weight 14 = .ok (.aload_n 0, 1) := dk_42 (dk_at dksX0_weight_0 14 rfl rfl)
theorem dX0_weight_15 : decode cX0_weight 15 = .ok (.invokevirtual 377, 3) := dk_182 1 121 (dk_at dksX0_weight_0 15 rfl rfl)
theorem dX0_weight_18 : decode cX0_weight 18 = .ok (.aload_n 0, 1) := dk_42 (dk_at dksX0_weight_0 18 rfl rfl)
theorem dX0_weight_19 : decode cX0_weight 19 = .ok (.getfield 300, 3) := dk_180 1 44 (dk_at dksX0_weight_0 19 rfl rfl)
theorem dX0_weight_22 : decode cX0_weight 22 = .ok (.iload_n 1, 1) := dk_27 (dk_at dksX0_weight_0 22 rfl rfl)
theorem dX0_weight_23 : decode cX0_weight 23 = .ok (.invokevirtual 386, 3) := dk_182 1 130 (dk_at dksX0_weight_1 0 rfl rfl)
theorem dX0_weight_26 : decode cX0_weight 26 = .ok (.lreturn, 1) := dk_173 (dk_at dksX0_weight_1 3 rfl rfl)
abbrev cX0_year : ByteArray := prog_1_method_49_code
def yX0_year : MethodName := ⟨RX0, "year", "()I"⟩
def dkwX0_year_0 : List UInt8 := [42, 180, 0, 69, 17, 3, 231, 160, 0, 6, 16, 253, 172, 42, 182, 1, 134, 42, 180, 0, 66, 172]
abbrev dktX0_year_0 : List UInt8 := dkwX0_year_0 ++ []
theorem dksX0_year_0 : cX0_year.data.toList.drop 0 = dktX0_year_0 := by decide +kernel
theorem dX0_year_0 : decode cX0_year 0 = .ok (.aload_n 0, 1) := dk_42 (dk_at dksX0_year_0 0 rfl rfl)
theorem dX0_year_1 : decode cX0_year 1 = .ok (.getfield 69, 3) := dk_180 0 69 (dk_at dksX0_year_0 1 rfl rfl)
theorem dX0_year_4 : decode cX0_year 4 = .ok (.sipush 999, 3) := dk_17 3 231 (dk_at dksX0_year_0 4 rfl rfl)
theorem dX0_year_7 : decode cX0_year 7 = .ok (.if_icmp .ne 6, 3) := dk_160 0 6 (dk_at dksX0_year_0 7 rfl rfl)
theorem dX0_year_10 : decode cX0_year 10 = .ok (.bipush (-3), 2) := dk_16 253 (dk_at dksX0_year_0 10 rfl rfl)
theorem dX0_year_12 : decode cX0_year 12 = .ok (.ireturn, 1) := dk_172 (dk_at dksX0_year_0 12 rfl rfl)
theorem dX0_year_13 : decode cX0_year 13 = .ok (.aload_n 0, 1) := dk_42 (dk_at dksX0_year_0 13 rfl rfl)
theorem dX0_year_14 : decode cX0_year 14 = .ok (.invokevirtual 390, 3) := dk_182 1 134 (dk_at dksX0_year_0 14 rfl rfl)
theorem dX0_year_17 : decode cX0_year 17 = .ok (.aload_n 0, 1) := dk_42 (dk_at dksX0_year_0 17 rfl rfl)
theorem dX0_year_18 : decode cX0_year 18 = .ok (.getfield 66, 3) := dk_180 0 66 (dk_at dksX0_year_0 18 rfl rfl)
theorem dX0_year_21 : decode cX0_year 21 = .ok (.ireturn, 1) := dk_172 (dk_at dksX0_year_0 21 rfl rfl)
abbrev cX0_passes : ByteArray := prog_1_method_48_code
def yX0_passes : MethodName := ⟨RX0, "passes", "()V"⟩
def dkwX0_passes_7 : List UInt8 := [181, 0, 66, 42, 89, 180, 0, 69, 4, 96, 181, 0, 69, 177]
abbrev dktX0_passes_7 : List UInt8 := dkwX0_passes_7 ++ []
def dkwX0_passes_6 : List UInt8 := [181, 0, 75, 132, 2, 1, 167, 255, 189, 42, 89, 180, 0, 66, 27, 153, 0, 7, 4, 167, 0, 4, 3, 96]
abbrev dktX0_passes_6 : List UInt8 := dkwX0_passes_6 ++ dktX0_passes_7
def dkwX0_passes_5 : List UInt8 := [42, 180, 0, 47, 28, 50, 17, 3, 231, 42, 180, 0, 47, 28, 50, 180, 0, 75, 4, 96, 184, 0, 1]
abbrev dktX0_passes_5 : List UInt8 := dkwX0_passes_5 ++ dktX0_passes_6
def dkwX0_passes_4 : List UInt8 := [16, 99, 42, 180, 0, 47, 28, 50, 180, 0, 78, 42, 180, 1, 50, 28, 46, 96, 184, 0, 1, 181, 0, 78]
abbrev dktX0_passes_4 : List UInt8 := dkwX0_passes_4 ++ dktX0_passes_5
def dkwX0_passes_3 : List UInt8 := [3, 79, 132, 2, 1, 167, 255, 218, 3, 61, 28, 42, 180, 0, 10, 162, 0, 65, 42, 180, 0, 47, 28, 50]
abbrev dktX0_passes_3 : List UInt8 := dkwX0_passes_3 ++ dktX0_passes_4
def dkwX0_passes_2 : List UInt8 := [180, 1, 50, 28, 42, 180, 0, 47, 28, 50, 180, 0, 81, 153, 0, 11, 42, 28, 182, 0, 113, 167, 0, 4]
abbrev dktX0_passes_2 : List UInt8 := dkwX0_passes_2 ++ dktX0_passes_3
def dkwX0_passes_1 : List UInt8 := [182, 1, 124, 158, 0, 7, 4, 167, 0, 4, 3, 60, 3, 61, 28, 42, 180, 0, 10, 162, 0, 36, 42]
abbrev dktX0_passes_1 : List UInt8 := dkwX0_passes_1 ++ dktX0_passes_2
def dkwX0_passes_0 : List UInt8 := [42, 182, 1, 121, 42, 180, 0, 66, 16, 10, 162, 0, 22, 42, 180, 1, 44, 42, 182, 1, 113, 133]
abbrev dktX0_passes_0 : List UInt8 := dkwX0_passes_0 ++ dktX0_passes_1
theorem dksX0_passes_0 : cX0_passes.data.toList.drop 0 = dktX0_passes_0 := by decide +kernel
theorem dksX0_passes_1 : cX0_passes.data.toList.drop 22 = dktX0_passes_1 := dk_seg dksX0_passes_0 22 rfl rfl
theorem dksX0_passes_2 : cX0_passes.data.toList.drop 45 = dktX0_passes_2 := dk_seg dksX0_passes_1 23 rfl rfl
theorem dksX0_passes_3 : cX0_passes.data.toList.drop 69 = dktX0_passes_3 := dk_seg dksX0_passes_2 24 rfl rfl
theorem dksX0_passes_4 : cX0_passes.data.toList.drop 93 = dktX0_passes_4 := dk_seg dksX0_passes_3 24 rfl rfl
theorem dksX0_passes_5 : cX0_passes.data.toList.drop 117 = dktX0_passes_5 := dk_seg dksX0_passes_4 24 rfl rfl
theorem dksX0_passes_6 : cX0_passes.data.toList.drop 140 = dktX0_passes_6 := dk_seg dksX0_passes_5 23 rfl rfl
theorem dksX0_passes_7 : cX0_passes.data.toList.drop 164 = dktX0_passes_7 := dk_seg dksX0_passes_6 24 rfl rfl
theorem dX0_passes_0 : decode cX0_passes 0 = .ok (.aload_n 0, 1) := dk_42 (dk_at dksX0_passes_0 0 rfl rfl)
theorem dX0_passes_1 : decode cX0_passes 1 = .ok (.invokevirtual 377, 3) := dk_182 1 121 (dk_at dksX0_passes_0 1 rfl rfl)
theorem dX0_passes_4 : decode cX0_passes 4 = .ok (.aload_n 0, 1) := dk_42 (dk_at dksX0_passes_0 4 rfl rfl)
theorem dX0_passes_5 : decode cX0_passes 5 = .ok (.getfield 66, 3) := dk_180 0 66 (dk_at dksX0_passes_0 5 rfl rfl)
theorem dX0_passes_8 : decode cX0_passes 8 = .ok (.bipush 10, 2) := dk_16 10 (dk_at dksX0_passes_0 8 rfl rfl)
theorem dX0_passes_10 : decode cX0_passes 10 = .ok (.if_icmp .ge 22, 3) := dk_162 0 22 (dk_at dksX0_passes_0 10 rfl rfl)
theorem dX0_passes_13 : decode cX0_passes 13 = .ok (.aload_n 0, 1) := dk_42 (dk_at dksX0_passes_0 13 rfl rfl)
theorem dX0_passes_14 : decode cX0_passes 14 = .ok (.getfield 300, 3) := dk_180 1 44 (dk_at dksX0_passes_0 14 rfl rfl)
theorem dX0_passes_17 : decode cX0_passes 17 = .ok (.aload_n 0, 1) := dk_42 (dk_at dksX0_passes_0 17 rfl rfl)
theorem dX0_passes_18 : decode cX0_passes 18 = .ok (.invokevirtual 369, 3) := dk_182 1 113 (dk_at dksX0_passes_0 18 rfl rfl)
theorem dX0_passes_21 : decode cX0_passes 21 = .ok (.i2l, 1) := dk_133 (dk_at dksX0_passes_0 21 rfl rfl)
theorem dX0_passes_22 : decode cX0_passes 22 = .ok (.invokevirtual 380, 3) := dk_182 1 124 (dk_at dksX0_passes_1 0 rfl rfl)
theorem dX0_passes_25 : decode cX0_passes 25 = .ok (.ifCond .le 7, 3) := dk_158 0 7 (dk_at dksX0_passes_1 3 rfl rfl)
theorem dX0_passes_28 : decode cX0_passes 28 = .ok (.iconst 1, 1) := dk_4 (dk_at dksX0_passes_1 6 rfl rfl)
theorem dX0_passes_29 : decode cX0_passes 29 = .ok (.goto 4, 3) := dk_167 0 4 (dk_at dksX0_passes_1 7 rfl rfl)
theorem dX0_passes_32 : decode cX0_passes 32 = .ok (.iconst 0, 1) := dk_3 (dk_at dksX0_passes_1 10 rfl rfl)
theorem dX0_passes_33 : decode cX0_passes 33 = .ok (.istore_n 1, 1) := dk_60 (dk_at dksX0_passes_1 11 rfl rfl)
theorem dX0_passes_34 : decode cX0_passes 34 = .ok (.iconst 0, 1) := dk_3 (dk_at dksX0_passes_1 12 rfl rfl)
theorem dX0_passes_35 : decode cX0_passes 35 = .ok (.istore_n 2, 1) := dk_61 (dk_at dksX0_passes_1 13 rfl rfl)
theorem dX0_passes_36 : decode cX0_passes 36 = .ok (.iload_n 2, 1) := dk_28 (dk_at dksX0_passes_1 14 rfl rfl)
theorem dX0_passes_37 : decode cX0_passes 37 = .ok (.aload_n 0, 1) := dk_42 (dk_at dksX0_passes_1 15 rfl rfl)
theorem dX0_passes_38 : decode cX0_passes 38 = .ok (.getfield 10, 3) := dk_180 0 10 (dk_at dksX0_passes_1 16 rfl rfl)
theorem dX0_passes_41 : decode cX0_passes 41 = .ok (.if_icmp .ge 36, 3) := dk_162 0 36 (dk_at dksX0_passes_1 19 rfl rfl)
theorem dX0_passes_44 : decode cX0_passes 44 = .ok (.aload_n 0, 1) := dk_42 (dk_at dksX0_passes_1 22 rfl rfl)
theorem dX0_passes_45 : decode cX0_passes 45 = .ok (.getfield 306, 3) := dk_180 1 50 (dk_at dksX0_passes_2 0 rfl rfl)
theorem dX0_passes_48 : decode cX0_passes 48 = .ok (.iload_n 2, 1) := dk_28 (dk_at dksX0_passes_2 3 rfl rfl)
theorem dX0_passes_49 : decode cX0_passes 49 = .ok (.aload_n 0, 1) := dk_42 (dk_at dksX0_passes_2 4 rfl rfl)
theorem dX0_passes_50 : decode cX0_passes 50 = .ok (.getfield 47, 3) := dk_180 0 47 (dk_at dksX0_passes_2 5 rfl rfl)
theorem dX0_passes_53 : decode cX0_passes 53 = .ok (.iload_n 2, 1) := dk_28 (dk_at dksX0_passes_2 8 rfl rfl)
theorem dX0_passes_54 : decode cX0_passes 54 = .ok (.aaload, 1) := dk_50 (dk_at dksX0_passes_2 9 rfl rfl)
theorem dX0_passes_55 : decode cX0_passes 55 = .ok (.getfield 81, 3) := dk_180 0 81 (dk_at dksX0_passes_2 10 rfl rfl)
theorem dX0_passes_58 : decode cX0_passes 58 = .ok (.ifCond .eq 11, 3) := dk_153 0 11 (dk_at dksX0_passes_2 13 rfl rfl)
theorem dX0_passes_61 : decode cX0_passes 61 = .ok (.aload_n 0, 1) := dk_42 (dk_at dksX0_passes_2 16 rfl rfl)
theorem dX0_passes_62 : decode cX0_passes 62 = .ok (.iload_n 2, 1) := dk_28 (dk_at dksX0_passes_2 17 rfl rfl)
theorem dX0_passes_63 : decode cX0_passes 63 = .ok (.invokevirtual 113, 3) := dk_182 0 113 (dk_at dksX0_passes_2 18 rfl rfl)
theorem dX0_passes_66 : decode cX0_passes 66 = .ok (.goto 4, 3) := dk_167 0 4 (dk_at dksX0_passes_2 21 rfl rfl)
theorem dX0_passes_69 : decode cX0_passes 69 = .ok (.iconst 0, 1) := dk_3 (dk_at dksX0_passes_3 0 rfl rfl)
theorem dX0_passes_70 : decode cX0_passes 70 = .ok (.iastore, 1) := dk_79 (dk_at dksX0_passes_3 1 rfl rfl)
theorem dX0_passes_71 : decode cX0_passes 71 = .ok (.iinc 2 1, 3) := dk_132 2 1 (dk_at dksX0_passes_3 2 rfl rfl)
theorem dX0_passes_74 : decode cX0_passes 74 = .ok (.goto (-38), 3) := dk_167 255 218 (dk_at dksX0_passes_3 5 rfl rfl)
theorem dX0_passes_77 : decode cX0_passes 77 = .ok (.iconst 0, 1) := dk_3 (dk_at dksX0_passes_3 8 rfl rfl)
theorem dX0_passes_78 : decode cX0_passes 78 = .ok (.istore_n 2, 1) := dk_61 (dk_at dksX0_passes_3 9 rfl rfl)
theorem dX0_passes_79 : decode cX0_passes 79 = .ok (.iload_n 2, 1) := dk_28 (dk_at dksX0_passes_3 10 rfl rfl)
theorem dX0_passes_80 : decode cX0_passes 80 = .ok (.aload_n 0, 1) := dk_42 (dk_at dksX0_passes_3 11 rfl rfl)
theorem dX0_passes_81 : decode cX0_passes 81 = .ok (.getfield 10, 3) := dk_180 0 10 (dk_at dksX0_passes_3 12 rfl rfl)
theorem dX0_passes_84 : decode cX0_passes 84 = .ok (.if_icmp .ge 65, 3) := dk_162 0 65 (dk_at dksX0_passes_3 15 rfl rfl)
theorem dX0_passes_87 : decode cX0_passes 87 = .ok (.aload_n 0, 1) := dk_42 (dk_at dksX0_passes_3 18 rfl rfl)
theorem dX0_passes_88 : decode cX0_passes 88 = .ok (.getfield 47, 3) := dk_180 0 47 (dk_at dksX0_passes_3 19 rfl rfl)
theorem dX0_passes_91 : decode cX0_passes 91 = .ok (.iload_n 2, 1) := dk_28 (dk_at dksX0_passes_3 22 rfl rfl)
theorem dX0_passes_92 : decode cX0_passes 92 = .ok (.aaload, 1) := dk_50 (dk_at dksX0_passes_3 23 rfl rfl)
theorem dX0_passes_93 : decode cX0_passes 93 = .ok (.bipush 99, 2) := dk_16 99 (dk_at dksX0_passes_4 0 rfl rfl)
theorem dX0_passes_95 : decode cX0_passes 95 = .ok (.aload_n 0, 1) := dk_42 (dk_at dksX0_passes_4 2 rfl rfl)
theorem dX0_passes_96 : decode cX0_passes 96 = .ok (.getfield 47, 3) := dk_180 0 47 (dk_at dksX0_passes_4 3 rfl rfl)
theorem dX0_passes_99 : decode cX0_passes 99 = .ok (.iload_n 2, 1) := dk_28 (dk_at dksX0_passes_4 6 rfl rfl)
theorem dX0_passes_100 : decode cX0_passes 100 = .ok (.aaload, 1) := dk_50 (dk_at dksX0_passes_4 7 rfl rfl)
theorem dX0_passes_101 : decode cX0_passes 101 = .ok (.getfield 78, 3) := dk_180 0 78 (dk_at dksX0_passes_4 8 rfl rfl)
theorem dX0_passes_104 : decode cX0_passes 104 = .ok (.aload_n 0, 1) := dk_42 (dk_at dksX0_passes_4 11 rfl rfl)
theorem dX0_passes_105 : decode cX0_passes 105 = .ok (.getfield 306, 3) := dk_180 1 50 (dk_at dksX0_passes_4 12 rfl rfl)
theorem dX0_passes_108 : decode cX0_passes 108 = .ok (.iload_n 2, 1) := dk_28 (dk_at dksX0_passes_4 15 rfl rfl)
theorem dX0_passes_109 : decode cX0_passes 109 = .ok (.iaload, 1) := dk_46 (dk_at dksX0_passes_4 16 rfl rfl)
theorem dX0_passes_110 : decode cX0_passes 110 = .ok (.iadd, 1) := dk_96 (dk_at dksX0_passes_4 17 rfl rfl)
theorem dX0_passes_111 : decode cX0_passes 111 = .ok (.invokestatic 1, 3) := dk_184 0 1 (dk_at dksX0_passes_4 18 rfl rfl)
theorem dX0_passes_114 : decode cX0_passes 114 = .ok (.putfield 78, 3) := dk_181 0 78 (dk_at dksX0_passes_4 21 rfl rfl)
theorem dX0_passes_117 : decode cX0_passes 117 = .ok (.aload_n 0, 1) := dk_42 (dk_at dksX0_passes_5 0 rfl rfl)
theorem dX0_passes_118 : decode cX0_passes 118 = .ok (.getfield 47, 3) := dk_180 0 47 (dk_at dksX0_passes_5 1 rfl rfl)
theorem dX0_passes_121 : decode cX0_passes 121 = .ok (.iload_n 2, 1) := dk_28 (dk_at dksX0_passes_5 4 rfl rfl)
theorem dX0_passes_122 : decode cX0_passes 122 = .ok (.aaload, 1) := dk_50 (dk_at dksX0_passes_5 5 rfl rfl)
theorem dX0_passes_123 : decode cX0_passes 123 = .ok (.sipush 999, 3) := dk_17 3 231 (dk_at dksX0_passes_5 6 rfl rfl)
theorem dX0_passes_126 : decode cX0_passes 126 = .ok (.aload_n 0, 1) := dk_42 (dk_at dksX0_passes_5 9 rfl rfl)
theorem dX0_passes_127 : decode cX0_passes 127 = .ok (.getfield 47, 3) := dk_180 0 47 (dk_at dksX0_passes_5 10 rfl rfl)
theorem dX0_passes_130 : decode cX0_passes 130 = .ok (.iload_n 2, 1) := dk_28 (dk_at dksX0_passes_5 13 rfl rfl)
theorem dX0_passes_131 : decode cX0_passes 131 = .ok (.aaload, 1) := dk_50 (dk_at dksX0_passes_5 14 rfl rfl)
theorem dX0_passes_132 : decode cX0_passes 132 = .ok (.getfield 75, 3) := dk_180 0 75 (dk_at dksX0_passes_5 15 rfl rfl)
theorem dX0_passes_135 : decode cX0_passes 135 = .ok (.iconst 1, 1) := dk_4 (dk_at dksX0_passes_5 18 rfl rfl)
theorem dX0_passes_136 : decode cX0_passes 136 = .ok (.iadd, 1) := dk_96 (dk_at dksX0_passes_5 19 rfl rfl)
theorem dX0_passes_137 : decode cX0_passes 137 = .ok (.invokestatic 1, 3) := dk_184 0 1 (dk_at dksX0_passes_5 20 rfl rfl)
theorem dX0_passes_140 : decode cX0_passes 140 = .ok (.putfield 75, 3) := dk_181 0 75 (dk_at dksX0_passes_6 0 rfl rfl)
theorem dX0_passes_143 : decode cX0_passes 143 = .ok (.iinc 2 1, 3) := dk_132 2 1 (dk_at dksX0_passes_6 3 rfl rfl)
theorem dX0_passes_146 : decode cX0_passes 146 = .ok (.goto (-67), 3) := dk_167 255 189 (dk_at dksX0_passes_6 6 rfl rfl)
theorem dX0_passes_149 : decode cX0_passes 149 = .ok (.aload_n 0, 1) := dk_42 (dk_at dksX0_passes_6 9 rfl rfl)
theorem dX0_passes_150 : decode cX0_passes 150 = .ok (.dup, 1) := dk_89 (dk_at dksX0_passes_6 10 rfl rfl)
theorem dX0_passes_151 : decode cX0_passes 151 = .ok (.getfield 66, 3) := dk_180 0 66 (dk_at dksX0_passes_6 11 rfl rfl)
theorem dX0_passes_154 : decode cX0_passes 154 = .ok (.iload_n 1, 1) := dk_27 (dk_at dksX0_passes_6 14 rfl rfl)
theorem dX0_passes_155 : decode cX0_passes 155 = .ok (.ifCond .eq 7, 3) := dk_153 0 7 (dk_at dksX0_passes_6 15 rfl rfl)
theorem dX0_passes_158 : decode cX0_passes 158 = .ok (.iconst 1, 1) := dk_4 (dk_at dksX0_passes_6 18 rfl rfl)
theorem dX0_passes_159 : decode cX0_passes 159 = .ok (.goto 4, 3) := dk_167 0 4 (dk_at dksX0_passes_6 19 rfl rfl)
theorem dX0_passes_162 : decode cX0_passes 162 = .ok (.iconst 0, 1) := dk_3 (dk_at dksX0_passes_6 22 rfl rfl)
theorem dX0_passes_163 : decode cX0_passes 163 = .ok (.iadd, 1) := dk_96 (dk_at dksX0_passes_6 23 rfl rfl)
theorem dX0_passes_164 : decode cX0_passes 164 = .ok (.putfield 66, 3) := dk_181 0 66 (dk_at dksX0_passes_7 0 rfl rfl)
theorem dX0_passes_167 : decode cX0_passes 167 = .ok (.aload_n 0, 1) := dk_42 (dk_at dksX0_passes_7 3 rfl rfl)
theorem dX0_passes_168 : decode cX0_passes 168 = .ok (.dup, 1) := dk_89 (dk_at dksX0_passes_7 4 rfl rfl)
theorem dX0_passes_169 : decode cX0_passes 169 = .ok (.getfield 69, 3) := dk_180 0 69 (dk_at dksX0_passes_7 5 rfl rfl)
theorem dX0_passes_172 : decode cX0_passes 172 = .ok (.iconst 1, 1) := dk_4 (dk_at dksX0_passes_7 8 rfl rfl)
theorem dX0_passes_173 : decode cX0_passes 173 = .ok (.iadd, 1) := dk_96 (dk_at dksX0_passes_7 9 rfl rfl)
theorem dX0_passes_174 : decode cX0_passes 174 = .ok (.putfield 69, 3) := dk_181 0 69 (dk_at dksX0_passes_7 10 rfl rfl)
theorem dX0_passes_177 : decode cX0_passes 177 = .ok (.return_, 1) := dk_177 (dk_at dksX0_passes_7 13 rfl rfl)
abbrev cX0_lift : ByteArray := prog_1_method_50_code
def yX0_lift : MethodName := ⟨RX0, "lift", "(I)I"⟩
def dkwX0_lift_1 : List UInt8 := [180, 0, 66, 61, 42, 3, 181, 0, 66, 28, 172]
abbrev dktX0_lift_1 : List UInt8 := dkwX0_lift_1 ++ []
def dkwX0_lift_0 : List UInt8 := [42, 27, 182, 0, 59, 154, 0, 6, 16, 254, 172, 42, 27, 182, 0, 116, 154, 0, 6, 16, 253, 172, 42]
abbrev dktX0_lift_0 : List UInt8 := dkwX0_lift_0 ++ dktX0_lift_1
theorem dksX0_lift_0 : cX0_lift.data.toList.drop 0 = dktX0_lift_0 := by decide +kernel
theorem dksX0_lift_1 : cX0_lift.data.toList.drop 23 = dktX0_lift_1 := dk_seg dksX0_lift_0 23 rfl rfl
theorem dX0_lift_0 : decode cX0_lift 0 = .ok (.aload_n 0, 1) := dk_42 (dk_at dksX0_lift_0 0 rfl rfl)
theorem dX0_lift_1 : decode cX0_lift 1 = .ok (.iload_n 1, 1) := dk_27 (dk_at dksX0_lift_0 1 rfl rfl)
theorem dX0_lift_2 : decode cX0_lift 2 = .ok (.invokevirtual 59, 3) := dk_182 0 59 (dk_at dksX0_lift_0 2 rfl rfl)
theorem dX0_lift_5 : decode cX0_lift 5 = .ok (.ifCond .ne 6, 3) := dk_154 0 6 (dk_at dksX0_lift_0 5 rfl rfl)
theorem dX0_lift_8 : decode cX0_lift 8 = .ok (.bipush (-2), 2) := dk_16 254 (dk_at dksX0_lift_0 8 rfl rfl)
theorem dX0_lift_10 : decode cX0_lift 10 = .ok (.ireturn, 1) := dk_172 (dk_at dksX0_lift_0 10 rfl rfl)
theorem dX0_lift_11 : decode cX0_lift 11 = .ok (.aload_n 0, 1) := dk_42 (dk_at dksX0_lift_0 11 rfl rfl)
theorem dX0_lift_12 : decode cX0_lift 12 = .ok (.iload_n 1, 1) := dk_27 (dk_at dksX0_lift_0 12 rfl rfl)
theorem dX0_lift_13 : decode cX0_lift 13 = .ok (.invokevirtual 116, 3) := dk_182 0 116 (dk_at dksX0_lift_0 13 rfl rfl)
theorem dX0_lift_16 : decode cX0_lift 16 = .ok (.ifCond .ne 6, 3) := dk_154 0 6 (dk_at dksX0_lift_0 16 rfl rfl)
theorem dX0_lift_19 : decode cX0_lift 19 = .ok (.bipush (-3), 2) := dk_16 253 (dk_at dksX0_lift_0 19 rfl rfl)
theorem dX0_lift_21 : decode cX0_lift 21 = .ok (.ireturn, 1) := dk_172 (dk_at dksX0_lift_0 21 rfl rfl)
theorem dX0_lift_22 : decode cX0_lift 22 = .ok (.aload_n 0, 1) := dk_42 (dk_at dksX0_lift_0 22 rfl rfl)
theorem dX0_lift_23 : decode cX0_lift 23 = .ok (.getfield 66, 3) := dk_180 0 66 (dk_at dksX0_lift_1 0 rfl rfl)
theorem dX0_lift_26 : decode cX0_lift 26 = .ok (.istore_n 2, 1) := dk_61 (dk_at dksX0_lift_1 3 rfl rfl)
theorem dX0_lift_27 : decode cX0_lift 27 = .ok (.aload_n 0, 1) := dk_42 (dk_at dksX0_lift_1 4 rfl rfl)
theorem dX0_lift_28 : decode cX0_lift 28 = .ok (.iconst 0, 1) := dk_3 (dk_at dksX0_lift_1 5 rfl rfl)
theorem dX0_lift_29 : decode cX0_lift 29 = .ok (.putfield 66, 3) := dk_181 0 66 (dk_at dksX0_lift_1 6 rfl rfl)
theorem dX0_lift_32 : decode cX0_lift 32 = .ok (.iload_n 2, 1) := dk_28 (dk_at dksX0_lift_1 9 rfl rfl)
theorem dX0_lift_33 : decode cX0_lift 33 = .ok (.ireturn, 1) := dk_172 (dk_at dksX0_lift_1 10 rfl rfl)
abbrev cX0_run : ByteArray := prog_1_method_55_code
def yX0_run : MethodName := ⟨RX0, "run", "(III)I"⟩
def dkwX0_run_2 : List UInt8 := [182, 1, 154, 172]
abbrev dktX0_run_2 : List UInt8 := dkwX0_run_2 ++ []
def dkwX0_run_1 : List UInt8 := [184, 0, 16, 154, 0, 6, 16, 254, 172, 29, 154, 0, 11, 42, 28, 182, 1, 151, 167, 0, 9, 42, 27, 28]
abbrev dktX0_run_1 : List UInt8 := dkwX0_run_1 ++ dktX0_run_2
def dkwX0_run_0 : List UInt8 := [42, 27, 182, 0, 59, 153, 0, 25, 28, 133, 9, 20, 1, 149, 184, 0, 16, 153, 0, 13, 29, 133, 9, 10]
abbrev dktX0_run_0 : List UInt8 := dkwX0_run_0 ++ dktX0_run_1
theorem dksX0_run_0 : cX0_run.data.toList.drop 0 = dktX0_run_0 := by decide +kernel
theorem dksX0_run_1 : cX0_run.data.toList.drop 24 = dktX0_run_1 := dk_seg dksX0_run_0 24 rfl rfl
theorem dksX0_run_2 : cX0_run.data.toList.drop 48 = dktX0_run_2 := dk_seg dksX0_run_1 24 rfl rfl
theorem dX0_run_0 : decode cX0_run 0 = .ok (.aload_n 0, 1) := dk_42 (dk_at dksX0_run_0 0 rfl rfl)
theorem dX0_run_1 : decode cX0_run 1 = .ok (.iload_n 1, 1) := dk_27 (dk_at dksX0_run_0 1 rfl rfl)
theorem dX0_run_2 : decode cX0_run 2 = .ok (.invokevirtual 59, 3) := dk_182 0 59 (dk_at dksX0_run_0 2 rfl rfl)
theorem dX0_run_5 : decode cX0_run 5 = .ok (.ifCond .eq 25, 3) := dk_153 0 25 (dk_at dksX0_run_0 5 rfl rfl)
theorem dX0_run_8 : decode cX0_run 8 = .ok (.iload_n 2, 1) := dk_28 (dk_at dksX0_run_0 8 rfl rfl)
theorem dX0_run_9 : decode cX0_run 9 = .ok (.i2l, 1) := dk_133 (dk_at dksX0_run_0 9 rfl rfl)
theorem dX0_run_10 : decode cX0_run 10 = .ok (.lconst 0, 1) := dk_9 (dk_at dksX0_run_0 10 rfl rfl)
theorem dX0_run_11 : decode cX0_run 11 = .ok (.ldc2_w 405, 3) := dk_20 1 149 (dk_at dksX0_run_0 11 rfl rfl)
theorem dX0_run_14 : decode cX0_run 14 = .ok (.invokestatic 16, 3) := dk_184 0 16 (dk_at dksX0_run_0 14 rfl rfl)
theorem dX0_run_17 : decode cX0_run 17 = .ok (.ifCond .eq 13, 3) := dk_153 0 13 (dk_at dksX0_run_0 17 rfl rfl)
theorem dX0_run_20 : decode cX0_run 20 = .ok (.iload_n 3, 1) := dk_29 (dk_at dksX0_run_0 20 rfl rfl)
theorem dX0_run_21 : decode cX0_run 21 = .ok (.i2l, 1) := dk_133 (dk_at dksX0_run_0 21 rfl rfl)
theorem dX0_run_22 : decode cX0_run 22 = .ok (.lconst 0, 1) := dk_9 (dk_at dksX0_run_0 22 rfl rfl)
theorem dX0_run_23 : decode cX0_run 23 = .ok (.lconst 1, 1) := dk_10 (dk_at dksX0_run_0 23 rfl rfl)
theorem dX0_run_24 : decode cX0_run 24 = .ok (.invokestatic 16, 3) := dk_184 0 16 (dk_at dksX0_run_1 0 rfl rfl)
theorem dX0_run_27 : decode cX0_run 27 = .ok (.ifCond .ne 6, 3) := dk_154 0 6 (dk_at dksX0_run_1 3 rfl rfl)
theorem dX0_run_30 : decode cX0_run 30 = .ok (.bipush (-2), 2) := dk_16 254 (dk_at dksX0_run_1 6 rfl rfl)
theorem dX0_run_32 : decode cX0_run 32 = .ok (.ireturn, 1) := dk_172 (dk_at dksX0_run_1 8 rfl rfl)
theorem dX0_run_33 : decode cX0_run 33 = .ok (.iload_n 3, 1) := dk_29 (dk_at dksX0_run_1 9 rfl rfl)
theorem dX0_run_34 : decode cX0_run 34 = .ok (.ifCond .ne 11, 3) := dk_154 0 11 (dk_at dksX0_run_1 10 rfl rfl)
theorem dX0_run_37 : decode cX0_run 37 = .ok (.aload_n 0, 1) := dk_42 (dk_at dksX0_run_1 13 rfl rfl)
theorem dX0_run_38 : decode cX0_run 38 = .ok (.iload_n 2, 1) := dk_28 (dk_at dksX0_run_1 14 rfl rfl)
theorem dX0_run_39 : decode cX0_run 39 = .ok (.invokevirtual 407, 3) := dk_182 1 151 (dk_at dksX0_run_1 15 rfl rfl)
theorem dX0_run_42 : decode cX0_run 42 = .ok (.goto 9, 3) := dk_167 0 9 (dk_at dksX0_run_1 18 rfl rfl)
theorem dX0_run_45 : decode cX0_run 45 = .ok (.aload_n 0, 1) := dk_42 (dk_at dksX0_run_1 21 rfl rfl)
theorem dX0_run_46 : decode cX0_run 46 = .ok (.iload_n 1, 1) := dk_27 (dk_at dksX0_run_1 22 rfl rfl)
theorem dX0_run_47 : decode cX0_run 47 = .ok (.iload_n 2, 1) := dk_28 (dk_at dksX0_run_1 23 rfl rfl)
theorem dX0_run_48 : decode cX0_run 48 = .ok (.invokevirtual 410, 3) := dk_182 1 154 (dk_at dksX0_run_2 0 rfl rfl)
theorem dX0_run_51 : decode cX0_run 51 = .ok (.ireturn, 1) := dk_172 (dk_at dksX0_run_2 3 rfl rfl)
abbrev cX0_onBehind : ByteArray := prog_1_method_53_code
def yX0_onBehind : MethodName := ⟨RX0, "onBehind", "(I)I"⟩
def dkwX0_onBehind_1 : List UInt8 := [180, 0, 66, 61, 42, 182, 1, 146, 28, 172, 78, 42, 182, 1, 146, 45, 191]
abbrev dktX0_onBehind_1 : List UInt8 := dkwX0_onBehind_1 ++ []
def dkwX0_onBehind_0 : List UInt8 := [42, 182, 1, 143, 3, 61, 28, 27, 162, 0, 13, 42, 182, 1, 134, 132, 2, 1, 167, 255, 244, 42]
abbrev dktX0_onBehind_0 : List UInt8 := dkwX0_onBehind_0 ++ dktX0_onBehind_1
theorem dksX0_onBehind_0 : cX0_onBehind.data.toList.drop 0 = dktX0_onBehind_0 := by decide +kernel
theorem dksX0_onBehind_1 : cX0_onBehind.data.toList.drop 22 = dktX0_onBehind_1 := dk_seg dksX0_onBehind_0 22 rfl rfl
theorem dX0_onBehind_0 : decode cX0_onBehind 0 = .ok (.aload_n 0, 1) := dk_42 (dk_at dksX0_onBehind_0 0 rfl rfl)
theorem dX0_onBehind_1 : decode cX0_onBehind 1 = .ok (.invokevirtual 399, 3) := dk_182 1 143 (dk_at dksX0_onBehind_0 1 rfl rfl)
theorem dX0_onBehind_4 : decode cX0_onBehind 4 = .ok (.iconst 0, 1) := dk_3 (dk_at dksX0_onBehind_0 4 rfl rfl)
theorem dX0_onBehind_5 : decode cX0_onBehind 5 = .ok (.istore_n 2, 1) := dk_61 (dk_at dksX0_onBehind_0 5 rfl rfl)
theorem dX0_onBehind_6 : decode cX0_onBehind 6 = .ok (.iload_n 2, 1) := dk_28 (dk_at dksX0_onBehind_0 6 rfl rfl)
theorem dX0_onBehind_7 : decode cX0_onBehind 7 = .ok (.iload_n 1, 1) := dk_27 (dk_at dksX0_onBehind_0 7 rfl rfl)
theorem dX0_onBehind_8 : decode cX0_onBehind 8 = .ok (.if_icmp .ge 13, 3) := dk_162 0 13 (dk_at dksX0_onBehind_0 8 rfl rfl)
theorem dX0_onBehind_11 : decode cX0_onBehind 11 = .ok (.aload_n 0, 1) := dk_42 (dk_at dksX0_onBehind_0 11 rfl rfl)
theorem dX0_onBehind_12 : decode cX0_onBehind 12 = .ok (.invokevirtual 390, 3) := dk_182 1 134 (dk_at dksX0_onBehind_0 12 rfl rfl)
theorem dX0_onBehind_15 : decode cX0_onBehind 15 = .ok (.iinc 2 1, 3) := dk_132 2 1 (dk_at dksX0_onBehind_0 15 rfl rfl)
theorem dX0_onBehind_18 : decode cX0_onBehind 18 = .ok (.goto (-12), 3) := dk_167 255 244 (dk_at dksX0_onBehind_0 18 rfl rfl)
theorem dX0_onBehind_21 : decode cX0_onBehind 21 = .ok (.aload_n 0, 1) := dk_42 (dk_at dksX0_onBehind_0 21 rfl rfl)
theorem dX0_onBehind_22 : decode cX0_onBehind 22 = .ok (.getfield 66, 3) := dk_180 0 66 (dk_at dksX0_onBehind_1 0 rfl rfl)
theorem dX0_onBehind_25 : decode cX0_onBehind 25 = .ok (.istore_n 2, 1) := dk_61 (dk_at dksX0_onBehind_1 3 rfl rfl)
theorem dX0_onBehind_26 : decode cX0_onBehind 26 = .ok (.aload_n 0, 1) := dk_42 (dk_at dksX0_onBehind_1 4 rfl rfl)
theorem dX0_onBehind_27 : decode cX0_onBehind 27 = .ok (.invokevirtual 402, 3) := dk_182 1 146 (dk_at dksX0_onBehind_1 5 rfl rfl)
theorem dX0_onBehind_30 : decode cX0_onBehind 30 = .ok (.iload_n 2, 1) := dk_28 (dk_at dksX0_onBehind_1 8 rfl rfl)
theorem dX0_onBehind_31 : decode cX0_onBehind 31 = .ok (.ireturn, 1) := dk_172 (dk_at dksX0_onBehind_1 9 rfl rfl)
theorem dX0_onBehind_32 : decode cX0_onBehind 32 = .ok (.astore_n 3, 1) := dk_78 (dk_at dksX0_onBehind_1 10 rfl rfl)
theorem dX0_onBehind_33 : decode cX0_onBehind 33 = .ok (.aload_n 0, 1) := dk_42 (dk_at dksX0_onBehind_1 11 rfl rfl)
theorem dX0_onBehind_34 : decode cX0_onBehind 34 = .ok (.invokevirtual 402, 3) := dk_182 1 146 (dk_at dksX0_onBehind_1 12 rfl rfl)
theorem dX0_onBehind_37 : decode cX0_onBehind 37 = .ok (.aload_n 3, 1) := dk_45 (dk_at dksX0_onBehind_1 15 rfl rfl)
theorem dX0_onBehind_38 : decode cX0_onBehind 38 = .ok (.athrow, 1) := dk_191 (dk_at dksX0_onBehind_1 16 rfl rfl)
abbrev cX0_keeps : ByteArray := prog_1_method_51_code
def yX0_keeps : MethodName := ⟨RX0, "keeps", "()V"⟩
def dkwX0_keeps_2 : List UInt8 := [180, 0, 66, 181, 1, 137, 42, 42, 180, 0, 69, 181, 1, 140, 177]
abbrev dktX0_keeps_2 : List UInt8 := dkwX0_keeps_2 ++ []
def dkwX0_keeps_1 : List UInt8 := [42, 7, 28, 96, 27, 182, 0, 95, 79, 132, 2, 1, 167, 255, 232, 132, 1, 1, 167, 255, 216, 42, 42]
abbrev dktX0_keeps_1 : List UInt8 := dkwX0_keeps_1 ++ dktX0_keeps_2
def dkwX0_keeps_0 : List UInt8 := [3, 60, 27, 42, 180, 0, 10, 162, 0, 38, 3, 61, 28, 6, 162, 0, 25, 42, 180, 1, 55, 28, 50, 27]
abbrev dktX0_keeps_0 : List UInt8 := dkwX0_keeps_0 ++ dktX0_keeps_1
theorem dksX0_keeps_0 : cX0_keeps.data.toList.drop 0 = dktX0_keeps_0 := by decide +kernel
theorem dksX0_keeps_1 : cX0_keeps.data.toList.drop 24 = dktX0_keeps_1 := dk_seg dksX0_keeps_0 24 rfl rfl
theorem dksX0_keeps_2 : cX0_keeps.data.toList.drop 47 = dktX0_keeps_2 := dk_seg dksX0_keeps_1 23 rfl rfl
theorem dX0_keeps_0 : decode cX0_keeps 0 = .ok (.iconst 0, 1) := dk_3 (dk_at dksX0_keeps_0 0 rfl rfl)
theorem dX0_keeps_1 : decode cX0_keeps 1 = .ok (.istore_n 1, 1) := dk_60 (dk_at dksX0_keeps_0 1 rfl rfl)
theorem dX0_keeps_2 : decode cX0_keeps 2 = .ok (.iload_n 1, 1) := dk_27 (dk_at dksX0_keeps_0 2 rfl rfl)
theorem dX0_keeps_3 : decode cX0_keeps 3 = .ok (.aload_n 0, 1) := dk_42 (dk_at dksX0_keeps_0 3 rfl rfl)
theorem dX0_keeps_4 : decode cX0_keeps 4 = .ok (.getfield 10, 3) := dk_180 0 10 (dk_at dksX0_keeps_0 4 rfl rfl)
theorem dX0_keeps_7 : decode cX0_keeps 7 = .ok (.if_icmp .ge 38, 3) := dk_162 0 38 (dk_at dksX0_keeps_0 7 rfl rfl)
theorem dX0_keeps_10 : decode cX0_keeps 10 = .ok (.iconst 0, 1) := dk_3 (dk_at dksX0_keeps_0 10 rfl rfl)
theorem dX0_keeps_11 : decode cX0_keeps 11 = .ok (.istore_n 2, 1) := dk_61 (dk_at dksX0_keeps_0 11 rfl rfl)
theorem dX0_keeps_12 : decode cX0_keeps 12 = .ok (.iload_n 2, 1) := dk_28 (dk_at dksX0_keeps_0 12 rfl rfl)
theorem dX0_keeps_13 : decode cX0_keeps 13 = .ok (.iconst 3, 1) := dk_6 (dk_at dksX0_keeps_0 13 rfl rfl)
theorem dX0_keeps_14 : decode cX0_keeps 14 = .ok (.if_icmp .ge 25, 3) := dk_162 0 25 (dk_at dksX0_keeps_0 14 rfl rfl)
theorem dX0_keeps_17 : decode cX0_keeps 17 = .ok (.aload_n 0, 1) := dk_42 (dk_at dksX0_keeps_0 17 rfl rfl)
theorem dX0_keeps_18 : decode cX0_keeps 18 = .ok (.getfield 311, 3) := dk_180 1 55 (dk_at dksX0_keeps_0 18 rfl rfl)
theorem dX0_keeps_21 : decode cX0_keeps 21 = .ok (.iload_n 2, 1) := dk_28 (dk_at dksX0_keeps_0 21 rfl rfl)
theorem dX0_keeps_22 : decode cX0_keeps 22 = .ok (.aaload, 1) := dk_50 (dk_at dksX0_keeps_0 22 rfl rfl)
theorem dX0_keeps_23 : decode cX0_keeps 23 = .ok (.iload_n 1, 1) := dk_27 (dk_at dksX0_keeps_0 23 rfl rfl)
theorem dX0_keeps_24 : decode cX0_keeps 24 = .ok (.aload_n 0, 1) := dk_42 (dk_at dksX0_keeps_1 0 rfl rfl)
theorem dX0_keeps_25 : decode cX0_keeps 25 = .ok (.iconst 4, 1) := dk_7 (dk_at dksX0_keeps_1 1 rfl rfl)
theorem dX0_keeps_26 : decode cX0_keeps 26 = .ok (.iload_n 2, 1) := dk_28 (dk_at dksX0_keeps_1 2 rfl rfl)
theorem dX0_keeps_27 : decode cX0_keeps 27 = .ok (.iadd, 1) := dk_96 (dk_at dksX0_keeps_1 3 rfl rfl)
theorem dX0_keeps_28 : decode cX0_keeps 28 = .ok (.iload_n 1, 1) := dk_27 (dk_at dksX0_keeps_1 4 rfl rfl)
theorem dX0_keeps_29 : decode cX0_keeps 29 = .ok (.invokevirtual 95, 3) := dk_182 0 95 (dk_at dksX0_keeps_1 5 rfl rfl)
theorem dX0_keeps_32 : decode cX0_keeps 32 = .ok (.iastore, 1) := dk_79 (dk_at dksX0_keeps_1 8 rfl rfl)
theorem dX0_keeps_33 : decode cX0_keeps 33 = .ok (.iinc 2 1, 3) := dk_132 2 1 (dk_at dksX0_keeps_1 9 rfl rfl)
theorem dX0_keeps_36 : decode cX0_keeps 36 = .ok (.goto (-24), 3) := dk_167 255 232 (dk_at dksX0_keeps_1 12 rfl rfl)
theorem dX0_keeps_39 : decode cX0_keeps 39 = .ok (.iinc 1 1, 3) := dk_132 1 1 (dk_at dksX0_keeps_1 15 rfl rfl)
theorem dX0_keeps_42 : decode cX0_keeps 42 = .ok (.goto (-40), 3) := dk_167 255 216 (dk_at dksX0_keeps_1 18 rfl rfl)
theorem dX0_keeps_45 : decode cX0_keeps 45 = .ok (.aload_n 0, 1) := dk_42 (dk_at dksX0_keeps_1 21 rfl rfl)
theorem dX0_keeps_46 : decode cX0_keeps 46 = .ok (.aload_n 0, 1) := dk_42 (dk_at dksX0_keeps_1 22 rfl rfl)
theorem dX0_keeps_47 : decode cX0_keeps 47 = .ok (.getfield 66, 3) := dk_180 0 66 (dk_at dksX0_keeps_2 0 rfl rfl)
theorem dX0_keeps_50 : decode cX0_keeps 50 = .ok (.putfield 393, 3) := dk_181 1 137 (dk_at dksX0_keeps_2 3 rfl rfl)
theorem dX0_keeps_53 : decode cX0_keeps 53 = .ok (.aload_n 0, 1) := dk_42 (dk_at dksX0_keeps_2 6 rfl rfl)
theorem dX0_keeps_54 : decode cX0_keeps 54 = .ok (.aload_n 0, 1) := dk_42 (dk_at dksX0_keeps_2 7 rfl rfl)
theorem dX0_keeps_55 : decode cX0_keeps 55 = .ok (.getfield 69, 3) := dk_180 0 69 (dk_at dksX0_keeps_2 8 rfl rfl)
theorem dX0_keeps_58 : decode cX0_keeps 58 = .ok (.putfield 396, 3) := dk_181 1 140 (dk_at dksX0_keeps_2 11 rfl rfl)
theorem dX0_keeps_61 : decode cX0_keeps 61 = .ok (.return_, 1) := dk_177 (dk_at dksX0_keeps_2 14 rfl rfl)
abbrev cX0_laysBack : ByteArray := prog_1_method_52_code
def yX0_laysBack : MethodName := ⟨RX0, "laysBack", "()V"⟩
def dkwX0_laysBack_2 : List UInt8 := [180, 1, 137, 181, 0, 66, 42, 42, 180, 1, 140, 181, 0, 69, 177]
abbrev dktX0_laysBack_2 : List UInt8 := dkwX0_laysBack_2 ++ []
def dkwX0_laysBack_1 : List UInt8 := [180, 1, 55, 28, 50, 27, 46, 182, 0, 98, 132, 2, 1, 167, 255, 232, 132, 1, 1, 167, 255, 216, 42, 42]
abbrev dktX0_laysBack_1 : List UInt8 := dkwX0_laysBack_1 ++ dktX0_laysBack_2
def dkwX0_laysBack_0 : List UInt8 := [3, 60, 27, 42, 180, 0, 10, 162, 0, 38, 3, 61, 28, 6, 162, 0, 25, 42, 7, 28, 96, 27, 42]
abbrev dktX0_laysBack_0 : List UInt8 := dkwX0_laysBack_0 ++ dktX0_laysBack_1
theorem dksX0_laysBack_0 : cX0_laysBack.data.toList.drop 0 = dktX0_laysBack_0 := by decide +kernel
theorem dksX0_laysBack_1 : cX0_laysBack.data.toList.drop 23 = dktX0_laysBack_1 := dk_seg dksX0_laysBack_0 23 rfl rfl
theorem dksX0_laysBack_2 : cX0_laysBack.data.toList.drop 47 = dktX0_laysBack_2 := dk_seg dksX0_laysBack_1 24 rfl rfl
theorem dX0_laysBack_0 : decode cX0_laysBack 0 = .ok (.iconst 0, 1) := dk_3 (dk_at dksX0_laysBack_0 0 rfl rfl)
theorem dX0_laysBack_1 : decode cX0_laysBack 1 = .ok (.istore_n 1, 1) := dk_60 (dk_at dksX0_laysBack_0 1 rfl rfl)
theorem dX0_laysBack_2 : decode cX0_laysBack 2 = .ok (.iload_n 1, 1) := dk_27 (dk_at dksX0_laysBack_0 2 rfl rfl)
theorem dX0_laysBack_3 : decode cX0_laysBack 3 = .ok (.aload_n 0, 1) := dk_42 (dk_at dksX0_laysBack_0 3 rfl rfl)
theorem dX0_laysBack_4 : decode cX0_laysBack 4 = .ok (.getfield 10, 3) := dk_180 0 10 (dk_at dksX0_laysBack_0 4 rfl rfl)
theorem dX0_laysBack_7 : decode cX0_laysBack 7 = .ok (.if_icmp .ge 38, 3) := dk_162 0 38 (dk_at dksX0_laysBack_0 7 rfl rfl)
theorem dX0_laysBack_10 : decode cX0_laysBack 10 = .ok (.iconst 0, 1) := dk_3 (dk_at dksX0_laysBack_0 10 rfl rfl)
theorem dX0_laysBack_11 : decode cX0_laysBack 11 = .ok (.istore_n 2, 1) := dk_61 (dk_at dksX0_laysBack_0 11 rfl rfl)
theorem dX0_laysBack_12 : decode cX0_laysBack 12 = .ok (.iload_n 2, 1) := dk_28 (dk_at dksX0_laysBack_0 12 rfl rfl)
theorem dX0_laysBack_13 : decode cX0_laysBack 13 = .ok (.iconst 3, 1) := dk_6 (dk_at dksX0_laysBack_0 13 rfl rfl)
theorem dX0_laysBack_14 : decode cX0_laysBack 14 = .ok (.if_icmp .ge 25, 3) := dk_162 0 25 (dk_at dksX0_laysBack_0 14 rfl rfl)
theorem dX0_laysBack_17 : decode cX0_laysBack 17 = .ok (.aload_n 0, 1) := dk_42 (dk_at dksX0_laysBack_0 17 rfl rfl)
theorem dX0_laysBack_18 : decode cX0_laysBack 18 = .ok (.iconst 4, 1) := dk_7 (dk_at dksX0_laysBack_0 18 rfl rfl)
theorem dX0_laysBack_19 : decode cX0_laysBack 19 = .ok (.iload_n 2, 1) := dk_28 (dk_at dksX0_laysBack_0 19 rfl rfl)
theorem dX0_laysBack_20 : decode cX0_laysBack 20 = .ok (.iadd, 1) := dk_96 (dk_at dksX0_laysBack_0 20 rfl rfl)
theorem dX0_laysBack_21 : decode cX0_laysBack 21 = .ok (.iload_n 1, 1) := dk_27 (dk_at dksX0_laysBack_0 21 rfl rfl)
theorem dX0_laysBack_22 : decode cX0_laysBack 22 = .ok (.aload_n 0, 1) := dk_42 (dk_at dksX0_laysBack_0 22 rfl rfl)
theorem dX0_laysBack_23 : decode cX0_laysBack 23 = .ok (.getfield 311, 3) := dk_180 1 55 (dk_at dksX0_laysBack_1 0 rfl rfl)
theorem dX0_laysBack_26 : decode cX0_laysBack 26 = .ok (.iload_n 2, 1) := dk_28 (dk_at dksX0_laysBack_1 3 rfl rfl)
theorem dX0_laysBack_27 : decode cX0_laysBack 27 = .ok (.aaload, 1) := dk_50 (dk_at dksX0_laysBack_1 4 rfl rfl)
theorem dX0_laysBack_28 : decode cX0_laysBack 28 = .ok (.iload_n 1, 1) := dk_27 (dk_at dksX0_laysBack_1 5 rfl rfl)
theorem dX0_laysBack_29 : decode cX0_laysBack 29 = .ok (.iaload, 1) := dk_46 (dk_at dksX0_laysBack_1 6 rfl rfl)
theorem dX0_laysBack_30 : decode cX0_laysBack 30 = .ok (.invokevirtual 98, 3) := dk_182 0 98 (dk_at dksX0_laysBack_1 7 rfl rfl)
theorem dX0_laysBack_33 : decode cX0_laysBack 33 = .ok (.iinc 2 1, 3) := dk_132 2 1 (dk_at dksX0_laysBack_1 10 rfl rfl)
theorem dX0_laysBack_36 : decode cX0_laysBack 36 = .ok (.goto (-24), 3) := dk_167 255 232 (dk_at dksX0_laysBack_1 13 rfl rfl)
theorem dX0_laysBack_39 : decode cX0_laysBack 39 = .ok (.iinc 1 1, 3) := dk_132 1 1 (dk_at dksX0_laysBack_1 16 rfl rfl)
theorem dX0_laysBack_42 : decode cX0_laysBack 42 = .ok (.goto (-40), 3) := dk_167 255 216 (dk_at dksX0_laysBack_1 19 rfl rfl)
theorem dX0_laysBack_45 : decode cX0_laysBack 45 = .ok (.aload_n 0, 1) := dk_42 (dk_at dksX0_laysBack_1 22 rfl rfl)
theorem dX0_laysBack_46 : decode cX0_laysBack 46 = .ok (.aload_n 0, 1) := dk_42 (dk_at dksX0_laysBack_1 23 rfl rfl)
theorem dX0_laysBack_47 : decode cX0_laysBack 47 = .ok (.getfield 393, 3) := dk_180 1 137 (dk_at dksX0_laysBack_2 0 rfl rfl)
theorem dX0_laysBack_50 : decode cX0_laysBack 50 = .ok (.putfield 66, 3) := dk_181 0 66 (dk_at dksX0_laysBack_2 3 rfl rfl)
theorem dX0_laysBack_53 : decode cX0_laysBack 53 = .ok (.aload_n 0, 1) := dk_42 (dk_at dksX0_laysBack_2 6 rfl rfl)
theorem dX0_laysBack_54 : decode cX0_laysBack 54 = .ok (.aload_n 0, 1) := dk_42 (dk_at dksX0_laysBack_2 7 rfl rfl)
theorem dX0_laysBack_55 : decode cX0_laysBack 55 = .ok (.getfield 396, 3) := dk_180 1 140 (dk_at dksX0_laysBack_2 8 rfl rfl)
theorem dX0_laysBack_58 : decode cX0_laysBack 58 = .ok (.putfield 69, 3) := dk_181 0 69 (dk_at dksX0_laysBack_2 11 rfl rfl)
theorem dX0_laysBack_61 : decode cX0_laysBack 61 = .ok (.return_, 1) := dk_177 (dk_at dksX0_laysBack_2 14 rfl rfl)
abbrev cX0_easeBehind : ByteArray := prog_1_method_54_code
def yX0_easeBehind : MethodName := ⟨RX0, "easeBehind", "(II)I"⟩
def dkwX0_easeBehind_1 : List UInt8 := [180, 0, 47, 27, 50, 180, 0, 78, 62, 42, 182, 1, 146, 29, 172, 58, 4, 42, 182, 1, 146, 25, 4, 191]
abbrev dktX0_easeBehind_1 : List UInt8 := dkwX0_easeBehind_1 ++ []
def dkwX0_easeBehind_0 : List UInt8 := [42, 182, 1, 143, 3, 62, 29, 28, 162, 0, 13, 42, 182, 1, 134, 132, 3, 1, 167, 255, 244, 42]
abbrev dktX0_easeBehind_0 : List UInt8 := dkwX0_easeBehind_0 ++ dktX0_easeBehind_1
theorem dksX0_easeBehind_0 : cX0_easeBehind.data.toList.drop 0 = dktX0_easeBehind_0 := by decide +kernel
theorem dksX0_easeBehind_1 : cX0_easeBehind.data.toList.drop 22 = dktX0_easeBehind_1 := dk_seg dksX0_easeBehind_0 22 rfl rfl
theorem dX0_easeBehind_0 : decode cX0_easeBehind 0 = .ok (.aload_n 0, 1) := dk_42 (dk_at dksX0_easeBehind_0 0 rfl rfl)
theorem dX0_easeBehind_1 : decode cX0_easeBehind 1 = .ok (.invokevirtual 399, 3) := dk_182 1 143 (dk_at dksX0_easeBehind_0 1 rfl rfl)
theorem dX0_easeBehind_4 : decode cX0_easeBehind 4 = .ok (.iconst 0, 1) := dk_3 (dk_at dksX0_easeBehind_0 4 rfl rfl)
theorem dX0_easeBehind_5 : decode cX0_easeBehind 5 = .ok (.istore_n 3, 1) := dk_62 (dk_at dksX0_easeBehind_0 5 rfl rfl)
theorem dX0_easeBehind_6 : decode cX0_easeBehind 6 = .ok (.iload_n 3, 1) := dk_29 (dk_at dksX0_easeBehind_0 6 rfl rfl)
theorem dX0_easeBehind_7 : decode cX0_easeBehind 7 = .ok (.iload_n 2, 1) := dk_28 (dk_at dksX0_easeBehind_0 7 rfl rfl)
theorem dX0_easeBehind_8 : decode cX0_easeBehind 8 = .ok (.if_icmp .ge 13, 3) := dk_162 0 13 (dk_at dksX0_easeBehind_0 8 rfl rfl)
theorem dX0_easeBehind_11 : decode cX0_easeBehind 11 = .ok (.aload_n 0, 1) := dk_42 (dk_at dksX0_easeBehind_0 11 rfl rfl)
theorem dX0_easeBehind_12 : decode cX0_easeBehind 12 = .ok (.invokevirtual 390, 3) := dk_182 1 134 (dk_at dksX0_easeBehind_0 12 rfl rfl)
theorem dX0_easeBehind_15 : decode cX0_easeBehind 15 = .ok (.iinc 3 1, 3) := dk_132 3 1 (dk_at dksX0_easeBehind_0 15 rfl rfl)
theorem dX0_easeBehind_18 : decode cX0_easeBehind 18 = .ok (.goto (-12), 3) := dk_167 255 244 (dk_at dksX0_easeBehind_0 18 rfl rfl)
theorem dX0_easeBehind_21 : decode cX0_easeBehind 21 = .ok (.aload_n 0, 1) := dk_42 (dk_at dksX0_easeBehind_0 21 rfl rfl)
theorem dX0_easeBehind_22 : decode cX0_easeBehind 22 = .ok (.getfield 47, 3) := dk_180 0 47 (dk_at dksX0_easeBehind_1 0 rfl rfl)
theorem dX0_easeBehind_25 : decode cX0_easeBehind 25 = .ok (.iload_n 1, 1) := dk_27 (dk_at dksX0_easeBehind_1 3 rfl rfl)
theorem dX0_easeBehind_26 : decode cX0_easeBehind 26 = .ok (.aaload, 1) := dk_50 (dk_at dksX0_easeBehind_1 4 rfl rfl)
theorem dX0_easeBehind_27 : decode cX0_easeBehind 27 = .ok (.getfield 78, 3) := dk_180 0 78 (dk_at dksX0_easeBehind_1 5 rfl rfl)
theorem dX0_easeBehind_30 : decode cX0_easeBehind 30 = .ok (.istore_n 3, 1) := dk_62 (dk_at dksX0_easeBehind_1 8 rfl rfl)
theorem dX0_easeBehind_31 : decode cX0_easeBehind 31 = .ok (.aload_n 0, 1) := dk_42 (dk_at dksX0_easeBehind_1 9 rfl rfl)
theorem dX0_easeBehind_32 : decode cX0_easeBehind 32 = .ok (.invokevirtual 402, 3) := dk_182 1 146 (dk_at dksX0_easeBehind_1 10 rfl rfl)
theorem dX0_easeBehind_35 : decode cX0_easeBehind 35 = .ok (.iload_n 3, 1) := dk_29 (dk_at dksX0_easeBehind_1 13 rfl rfl)
theorem dX0_easeBehind_36 : decode cX0_easeBehind 36 = .ok (.ireturn, 1) := dk_172 (dk_at dksX0_easeBehind_1 14 rfl rfl)
theorem dX0_easeBehind_37 : decode cX0_easeBehind 37 = .ok (.astore 4, 2) := dk_58 4 (dk_at dksX0_easeBehind_1 15 rfl rfl)
theorem dX0_easeBehind_39 : decode cX0_easeBehind 39 = .ok (.aload_n 0, 1) := dk_42 (dk_at dksX0_easeBehind_1 17 rfl rfl)
theorem dX0_easeBehind_40 : decode cX0_easeBehind 40 = .ok (.invokevirtual 402, 3) := dk_182 1 146 (dk_at dksX0_easeBehind_1 18 rfl rfl)
theorem dX0_easeBehind_43 : decode cX0_easeBehind 43 = .ok (.aload 4, 2) := dk_25 4 (dk_at dksX0_easeBehind_1 21 rfl rfl)
theorem dX0_easeBehind_45 : decode cX0_easeBehind 45 = .ok (.athrow, 1) := dk_191 (dk_at dksX0_easeBehind_1 23 rfl rfl)
abbrev cX0_heavy : ByteArray := prog_1_method_56_code
def yX0_heavy : MethodName := ⟨RX0, "heavy", "(II)J"⟩
def dkwX0_heavy_3 : List UInt8 := [42, 182, 1, 146, 25, 5, 191]
abbrev dktX0_heavy_3 : List UInt8 := dkwX0_heavy_3 ++ []
def dkwX0_heavy_2 : List UInt8 := [167, 255, 244, 42, 182, 1, 121, 42, 180, 1, 44, 28, 182, 1, 130, 66, 42, 182, 1, 146, 33, 173, 58, 5]
abbrev dktX0_heavy_2 : List UInt8 := dkwX0_heavy_2 ++ dktX0_heavy_3
def dkwX0_heavy_1 : List UInt8 := [20, 1, 128, 173, 42, 182, 1, 143, 3, 62, 29, 27, 162, 0, 13, 42, 182, 1, 134, 132, 3, 1]
abbrev dktX0_heavy_1 : List UInt8 := dkwX0_heavy_1 ++ dktX0_heavy_2
def dkwX0_heavy_0 : List UInt8 := [27, 133, 9, 20, 1, 149, 184, 0, 16, 153, 0, 13, 28, 133, 9, 10, 184, 0, 16, 154, 0, 7]
abbrev dktX0_heavy_0 : List UInt8 := dkwX0_heavy_0 ++ dktX0_heavy_1
theorem dksX0_heavy_0 : cX0_heavy.data.toList.drop 0 = dktX0_heavy_0 := by decide +kernel
theorem dksX0_heavy_1 : cX0_heavy.data.toList.drop 22 = dktX0_heavy_1 := dk_seg dksX0_heavy_0 22 rfl rfl
theorem dksX0_heavy_2 : cX0_heavy.data.toList.drop 44 = dktX0_heavy_2 := dk_seg dksX0_heavy_1 22 rfl rfl
theorem dksX0_heavy_3 : cX0_heavy.data.toList.drop 68 = dktX0_heavy_3 := dk_seg dksX0_heavy_2 24 rfl rfl
theorem dX0_heavy_0 : decode cX0_heavy 0 = .ok (.iload_n 1, 1) := dk_27 (dk_at dksX0_heavy_0 0 rfl rfl)
theorem dX0_heavy_1 : decode cX0_heavy 1 = .ok (.i2l, 1) := dk_133 (dk_at dksX0_heavy_0 1 rfl rfl)
theorem dX0_heavy_2 : decode cX0_heavy 2 = .ok (.lconst 0, 1) := dk_9 (dk_at dksX0_heavy_0 2 rfl rfl)
theorem dX0_heavy_3 : decode cX0_heavy 3 = .ok (.ldc2_w 405, 3) := dk_20 1 149 (dk_at dksX0_heavy_0 3 rfl rfl)
theorem dX0_heavy_6 : decode cX0_heavy 6 = .ok (.invokestatic 16, 3) := dk_184 0 16 (dk_at dksX0_heavy_0 6 rfl rfl)
theorem dX0_heavy_9 : decode cX0_heavy 9 = .ok (.ifCond .eq 13, 3) := dk_153 0 13 (dk_at dksX0_heavy_0 9 rfl rfl)
theorem dX0_heavy_12 : decode cX0_heavy 12 = .ok (.iload_n 2, 1) := dk_28 (dk_at dksX0_heavy_0 12 rfl rfl)
theorem dX0_heavy_13 : decode cX0_heavy 13 = .ok (.i2l, 1) := dk_133 (dk_at dksX0_heavy_0 13 rfl rfl)
theorem dX0_heavy_14 : decode cX0_heavy 14 = .ok (.lconst 0, 1) := dk_9 (dk_at dksX0_heavy_0 14 rfl rfl)
theorem dX0_heavy_15 : decode cX0_heavy 15 = .ok (.lconst 1, 1) := dk_10 (dk_at dksX0_heavy_0 15 rfl rfl)
theorem dX0_heavy_16 : decode cX0_heavy 16 = .ok (.invokestatic 16, 3) := dk_184 0 16 (dk_at dksX0_heavy_0 16 rfl rfl)
theorem dX0_heavy_19 : decode cX0_heavy 19 = .ok (.ifCond .ne 7, 3) := dk_154 0 7 (dk_at dksX0_heavy_0 19 rfl rfl)
theorem dX0_heavy_22 : decode cX0_heavy 22 = .ok (.ldc2_w 384, 3) := dk_20 1 128 (dk_at dksX0_heavy_1 0 rfl rfl)
theorem dX0_heavy_25 : decode cX0_heavy 25 = .ok (.lreturn, 1) := dk_173 (dk_at dksX0_heavy_1 3 rfl rfl)
theorem dX0_heavy_26 : decode cX0_heavy 26 = .ok (.aload_n 0, 1) := dk_42 (dk_at dksX0_heavy_1 4 rfl rfl)
theorem dX0_heavy_27 : decode cX0_heavy 27 = .ok (.invokevirtual 399, 3) := dk_182 1 143 (dk_at dksX0_heavy_1 5 rfl rfl)
theorem dX0_heavy_30 : decode cX0_heavy 30 = .ok (.iconst 0, 1) := dk_3 (dk_at dksX0_heavy_1 8 rfl rfl)
theorem dX0_heavy_31 : decode cX0_heavy 31 = .ok (.istore_n 3, 1) := dk_62 (dk_at dksX0_heavy_1 9 rfl rfl)
theorem dX0_heavy_32 : decode cX0_heavy 32 = .ok (.iload_n 3, 1) := dk_29 (dk_at dksX0_heavy_1 10 rfl rfl)
theorem dX0_heavy_33 : decode cX0_heavy 33 = .ok (.iload_n 1, 1) := dk_27 (dk_at dksX0_heavy_1 11 rfl rfl)
theorem dX0_heavy_34 : decode cX0_heavy 34 = .ok (.if_icmp .ge 13, 3) := dk_162 0 13 (dk_at dksX0_heavy_1 12 rfl rfl)
theorem dX0_heavy_37 : decode cX0_heavy 37 = .ok (.aload_n 0, 1) := dk_42 (dk_at dksX0_heavy_1 15 rfl rfl)
theorem dX0_heavy_38 : decode cX0_heavy 38 = .ok (.invokevirtual 390, 3) := dk_182 1 134 (dk_at dksX0_heavy_1 16 rfl rfl)
theorem dX0_heavy_41 : decode cX0_heavy 41 = .ok (.iinc 3 1, 3) := dk_132 3 1 (dk_at dksX0_heavy_1 19 rfl rfl)
theorem dX0_heavy_44 : decode cX0_heavy 44 = .ok (.goto (-12), 3) := dk_167 255 244 (dk_at dksX0_heavy_2 0 rfl rfl)
theorem dX0_heavy_47 : decode cX0_heavy 47 = .ok (.aload_n 0, 1) := dk_42 (dk_at dksX0_heavy_2 3 rfl rfl)
theorem dX0_heavy_48 : decode cX0_heavy 48 = .ok (.invokevirtual 377, 3) := dk_182 1 121 (dk_at dksX0_heavy_2 4 rfl rfl)
theorem dX0_heavy_51 : decode cX0_heavy 51 = .ok (.aload_n 0, 1) := dk_42 (dk_at dksX0_heavy_2 7 rfl rfl)
theorem dX0_heavy_52 : decode cX0_heavy 52 = .ok (.getfield 300, 3) := dk_180 1 44 (dk_at dksX0_heavy_2 8 rfl rfl)
theorem dX0_heavy_55 : decode cX0_heavy 55 = .ok (.iload_n 2, 1) := dk_28 (dk_at dksX0_heavy_2 11 rfl rfl)
theorem dX0_heavy_56 : decode cX0_heavy 56 = .ok (.invokevirtual 386, 3) := dk_182 1 130 (dk_at dksX0_heavy_2 12 rfl rfl)
theorem dX0_heavy_59 : decode cX0_heavy 59 = .ok (.lstore_n 3, 1) := dk_66 (dk_at dksX0_heavy_2 15 rfl rfl)
theorem dX0_heavy_60 : decode cX0_heavy 60 = .ok (.aload_n 0, 1) := dk_42 (dk_at dksX0_heavy_2 16 rfl rfl)
theorem dX0_heavy_61 : decode cX0_heavy 61 = .ok (.invokevirtual 402, 3) := dk_182 1 146 (dk_at dksX0_heavy_2 17 rfl rfl)
theorem dX0_heavy_64 : decode cX0_heavy 64 = .ok (.lload_n 3, 1) := dk_33 (dk_at dksX0_heavy_2 20 rfl rfl)
theorem dX0_heavy_65 : decode cX0_heavy 65 = .ok (.lreturn, 1) := dk_173 (dk_at dksX0_heavy_2 21 rfl rfl)
theorem dX0_heavy_66 : decode cX0_heavy 66 = .ok (.astore 5, 2) := dk_58 5 (dk_at dksX0_heavy_2 22 rfl rfl)
theorem dX0_heavy_68 : decode cX0_heavy 68 = .ok (.aload_n 0, 1) := dk_42 (dk_at dksX0_heavy_3 0 rfl rfl)
theorem dX0_heavy_69 : decode cX0_heavy 69 = .ok (.invokevirtual 402, 3) := dk_182 1 146 (dk_at dksX0_heavy_3 1 rfl rfl)
theorem dX0_heavy_72 : decode cX0_heavy 72 = .ok (.aload 5, 2) := dk_25 5 (dk_at dksX0_heavy_3 4 rfl rfl)
theorem dX0_heavy_74 : decode cX0_heavy 74 = .ok (.athrow, 1) := dk_191 (dk_at dksX0_heavy_3 6 rfl rfl)
abbrev cX0_when : ByteArray := prog_1_method_59_code
def yX0_when : MethodName := ⟨RX0, "when", "(II)I"⟩
def dkwX0_when_2 : List UInt8 := [167, 0, 5, 16, 254, 172]
abbrev dktX0_when_2 : List UInt8 := dkwX0_when_2 ++ []
def dkwX0_when_1 : List UInt8 := [184, 0, 16, 153, 0, 7, 4, 167, 0, 4, 3, 62, 29, 153, 0, 12, 42, 27, 28, 182, 1, 160]
abbrev dktX0_when_1 : List UInt8 := dkwX0_when_1 ++ dktX0_when_2
def dkwX0_when_0 : List UInt8 := [28, 154, 0, 11, 42, 27, 182, 0, 59, 167, 0, 25, 28, 4, 160, 0, 19, 27, 133, 9, 20, 0, 104]
abbrev dktX0_when_0 : List UInt8 := dkwX0_when_0 ++ dktX0_when_1
theorem dksX0_when_0 : cX0_when.data.toList.drop 0 = dktX0_when_0 := by decide +kernel
theorem dksX0_when_1 : cX0_when.data.toList.drop 23 = dktX0_when_1 := dk_seg dksX0_when_0 23 rfl rfl
theorem dksX0_when_2 : cX0_when.data.toList.drop 45 = dktX0_when_2 := dk_seg dksX0_when_1 22 rfl rfl
theorem dX0_when_0 : decode cX0_when 0 = .ok (.iload_n 2, 1) := dk_28 (dk_at dksX0_when_0 0 rfl rfl)
theorem dX0_when_1 : decode cX0_when 1 = .ok (.ifCond .ne 11, 3) := dk_154 0 11 (dk_at dksX0_when_0 1 rfl rfl)
theorem dX0_when_4 : decode cX0_when 4 = .ok (.aload_n 0, 1) := dk_42 (dk_at dksX0_when_0 4 rfl rfl)
theorem dX0_when_5 : decode cX0_when 5 = .ok (.iload_n 1, 1) := dk_27 (dk_at dksX0_when_0 5 rfl rfl)
theorem dX0_when_6 : decode cX0_when 6 = .ok (.invokevirtual 59, 3) := dk_182 0 59 (dk_at dksX0_when_0 6 rfl rfl)
theorem dX0_when_9 : decode cX0_when 9 = .ok (.goto 25, 3) := dk_167 0 25 (dk_at dksX0_when_0 9 rfl rfl)
theorem dX0_when_12 : decode cX0_when 12 = .ok (.iload_n 2, 1) := dk_28 (dk_at dksX0_when_0 12 rfl rfl)
theorem dX0_when_13 : decode cX0_when 13 = .ok (.iconst 1, 1) := dk_4 (dk_at dksX0_when_0 13 rfl rfl)
theorem dX0_when_14 : decode cX0_when 14 = .ok (.if_icmp .ne 19, 3) := dk_160 0 19 (dk_at dksX0_when_0 14 rfl rfl)
theorem dX0_when_17 : decode cX0_when 17 = .ok (.iload_n 1, 1) := dk_27 (dk_at dksX0_when_0 17 rfl rfl)
theorem dX0_when_18 : decode cX0_when 18 = .ok (.i2l, 1) := dk_133 (dk_at dksX0_when_0 18 rfl rfl)
theorem dX0_when_19 : decode cX0_when 19 = .ok (.lconst 0, 1) := dk_9 (dk_at dksX0_when_0 19 rfl rfl)
theorem dX0_when_20 : decode cX0_when 20 = .ok (.ldc2_w 104, 3) := dk_20 0 104 (dk_at dksX0_when_0 20 rfl rfl)
theorem dX0_when_23 : decode cX0_when 23 = .ok (.invokestatic 16, 3) := dk_184 0 16 (dk_at dksX0_when_1 0 rfl rfl)
theorem dX0_when_26 : decode cX0_when 26 = .ok (.ifCond .eq 7, 3) := dk_153 0 7 (dk_at dksX0_when_1 3 rfl rfl)
theorem dX0_when_29 : decode cX0_when 29 = .ok (.iconst 1, 1) := dk_4 (dk_at dksX0_when_1 6 rfl rfl)
theorem dX0_when_30 : decode cX0_when 30 = .ok (.goto 4, 3) := dk_167 0 4 (dk_at dksX0_when_1 7 rfl rfl)
theorem dX0_when_33 : decode cX0_when 33 = .ok (.iconst 0, 1) := dk_3 (dk_at dksX0_when_1 10 rfl rfl)
theorem dX0_when_34 : decode cX0_when 34 = .ok (.istore_n 3, 1) := dk_62 (dk_at dksX0_when_1 11 rfl rfl)
theorem dX0_when_35 : decode cX0_when 35 = .ok (.iload_n 3, 1) := dk_29 (dk_at dksX0_when_1 12 rfl rfl)
theorem dX0_when_36 : decode cX0_when 36 = .ok (.ifCond .eq 12, 3) := dk_153 0 12 (dk_at dksX0_when_1 13 rfl rfl)
theorem dX0_when_39 : decode cX0_when 39 = .ok (.aload_n 0, 1) := dk_42 (dk_at dksX0_when_1 16 rfl rfl)
theorem dX0_when_40 : decode cX0_when 40 = .ok (.iload_n 1, 1) := dk_27 (dk_at dksX0_when_1 17 rfl rfl)
theorem dX0_when_41 : decode cX0_when 41 = .ok (.iload_n 2, 1) := dk_28 (dk_at dksX0_when_1 18 rfl rfl)
theorem dX0_when_42 : decode cX0_when 42 = .ok (.invokevirtual 416, 3) := dk_182 1 160 (dk_at dksX0_when_1 19 rfl rfl)
theorem dX0_when_45 : decode cX0_when 45 = .ok (.goto 5, 3) := dk_167 0 5 (dk_at dksX0_when_2 0 rfl rfl)
theorem dX0_when_48 : decode cX0_when 48 = .ok (.bipush (-2), 2) := dk_16 254 (dk_at dksX0_when_2 3 rfl rfl)
theorem dX0_when_50 : decode cX0_when 50 = .ok (.ireturn, 1) := dk_172 (dk_at dksX0_when_2 5 rfl rfl)
abbrev cX0_firstTime : ByteArray := prog_1_method_58_code
def yX0_firstTime : MethodName := ⟨RX0, "firstTime", "(II)I"⟩
def dkwX0_firstTime_2 : List UInt8 := [172, 58, 5, 42, 182, 1, 146, 25, 5, 191]
abbrev dktX0_firstTime_2 : List UInt8 := dkwX0_firstTime_2 ++ []
def dkwX0_firstTime_1 : List UInt8 := [42, 182, 1, 146, 21, 4, 172, 42, 182, 1, 134, 132, 3, 1, 167, 255, 224, 2, 62, 42, 182, 1, 146, 29]
abbrev dktX0_firstTime_1 : List UInt8 := dkwX0_firstTime_1 ++ dktX0_firstTime_2
def dkwX0_firstTime_0 : List UInt8 := [42, 182, 1, 143, 3, 62, 29, 16, 60, 163, 0, 32, 42, 27, 28, 182, 1, 157, 153, 0, 13, 29, 54, 4]
abbrev dktX0_firstTime_0 : List UInt8 := dkwX0_firstTime_0 ++ dktX0_firstTime_1
theorem dksX0_firstTime_0 : cX0_firstTime.data.toList.drop 0 = dktX0_firstTime_0 := by decide +kernel
theorem dksX0_firstTime_1 : cX0_firstTime.data.toList.drop 24 = dktX0_firstTime_1 := dk_seg dksX0_firstTime_0 24 rfl rfl
theorem dksX0_firstTime_2 : cX0_firstTime.data.toList.drop 48 = dktX0_firstTime_2 := dk_seg dksX0_firstTime_1 24 rfl rfl
theorem dX0_firstTime_0 : decode cX0_firstTime 0 = .ok (.aload_n 0, 1) := dk_42 (dk_at dksX0_firstTime_0 0 rfl rfl)
theorem dX0_firstTime_1 : decode cX0_firstTime 1 = .ok (.invokevirtual 399, 3) := dk_182 1 143 (dk_at dksX0_firstTime_0 1 rfl rfl)
theorem dX0_firstTime_4 : decode cX0_firstTime 4 = .ok (.iconst 0, 1) := dk_3 (dk_at dksX0_firstTime_0 4 rfl rfl)
theorem dX0_firstTime_5 : decode cX0_firstTime 5 = .ok (.istore_n 3, 1) := dk_62 (dk_at dksX0_firstTime_0 5 rfl rfl)
theorem dX0_firstTime_6 : decode cX0_firstTime 6 = .ok (.iload_n 3, 1) := dk_29 (dk_at dksX0_firstTime_0 6 rfl rfl)
theorem dX0_firstTime_7 : decode cX0_firstTime 7 = .ok (.bipush 60, 2) := dk_16 60 (dk_at dksX0_firstTime_0 7 rfl rfl)
theorem dX0_firstTime_9 : decode cX0_firstTime 9 = .ok (.if_icmp .gt 32, 3) := dk_163 0 32 (dk_at dksX0_firstTime_0 9 rfl rfl)
theorem dX0_firstTime_12 : decode cX0_firstTime 12 = .ok (.aload_n 0, 1) := dk_42 (dk_at dksX0_firstTime_0 12 rfl rfl)
theorem dX0_firstTime_13 : decode cX0_firstTime 13 = .ok (.iload_n 1, 1) := dk_27 (dk_at dksX0_firstTime_0 13 rfl rfl)
theorem dX0_firstTime_14 : decode cX0_firstTime 14 = .ok (.iload_n 2, 1) := dk_28 (dk_at dksX0_firstTime_0 14 rfl rfl)
theorem dX0_firstTime_15 : decode cX0_firstTime 15 = .ok (.invokevirtual 413, 3) := dk_182 1 157 (dk_at dksX0_firstTime_0 15 rfl rfl)
theorem dX0_firstTime_18 : decode cX0_firstTime 18 = .ok (.ifCond .eq 13, 3) := dk_153 0 13 (dk_at dksX0_firstTime_0 18 rfl rfl)
theorem dX0_firstTime_21 : decode cX0_firstTime 21 = .ok (.iload_n 3, 1) := dk_29 (dk_at dksX0_firstTime_0 21 rfl rfl)
theorem dX0_firstTime_22 : decode cX0_firstTime 22 = .ok (.istore 4, 2) := dk_54 4 (dk_at dksX0_firstTime_0 22 rfl rfl)
theorem dX0_firstTime_24 : decode cX0_firstTime 24 = .ok (.aload_n 0, 1) := dk_42 (dk_at dksX0_firstTime_1 0 rfl rfl)
theorem dX0_firstTime_25 : decode cX0_firstTime 25 = .ok (.invokevirtual 402, 3) := dk_182 1 146 (dk_at dksX0_firstTime_1 1 rfl rfl)
theorem dX0_firstTime_28 : decode cX0_firstTime 28 = .ok (.iload 4, 2) := dk_21 4 (dk_at dksX0_firstTime_1 4 rfl rfl)
theorem dX0_firstTime_30 : decode cX0_firstTime 30 = .ok (.ireturn, 1) := dk_172 (dk_at dksX0_firstTime_1 6 rfl rfl)
theorem dX0_firstTime_31 : decode cX0_firstTime 31 = .ok (.aload_n 0, 1) := dk_42 (dk_at dksX0_firstTime_1 7 rfl rfl)
theorem dX0_firstTime_32 : decode cX0_firstTime 32 = .ok (.invokevirtual 390, 3) := dk_182 1 134 (dk_at dksX0_firstTime_1 8 rfl rfl)
theorem dX0_firstTime_35 : decode cX0_firstTime 35 = .ok (.iinc 3 1, 3) := dk_132 3 1 (dk_at dksX0_firstTime_1 11 rfl rfl)
theorem dX0_firstTime_38 : decode cX0_firstTime 38 = .ok (.goto (-32), 3) := dk_167 255 224 (dk_at dksX0_firstTime_1 14 rfl rfl)
theorem dX0_firstTime_41 : decode cX0_firstTime 41 = .ok (.iconst (-1), 1) := dk_2 (dk_at dksX0_firstTime_1 17 rfl rfl)
theorem dX0_firstTime_42 : decode cX0_firstTime 42 = .ok (.istore_n 3, 1) := dk_62 (dk_at dksX0_firstTime_1 18 rfl rfl)
theorem dX0_firstTime_43 : decode cX0_firstTime 43 = .ok (.aload_n 0, 1) := dk_42 (dk_at dksX0_firstTime_1 19 rfl rfl)
theorem dX0_firstTime_44 : decode cX0_firstTime 44 = .ok (.invokevirtual 402, 3) := dk_182 1 146 (dk_at dksX0_firstTime_1 20 rfl rfl)
theorem dX0_firstTime_47 : decode cX0_firstTime 47 = .ok (.iload_n 3, 1) := dk_29 (dk_at dksX0_firstTime_1 23 rfl rfl)
theorem dX0_firstTime_48 : decode cX0_firstTime 48 = .ok (.ireturn, 1) := dk_172 (dk_at dksX0_firstTime_2 0 rfl rfl)
theorem dX0_firstTime_49 : decode cX0_firstTime 49 = .ok (.astore 5, 2) := dk_58 5 (dk_at dksX0_firstTime_2 1 rfl rfl)
theorem dX0_firstTime_51 : decode cX0_firstTime 51 = .ok (.aload_n 0, 1) := dk_42 (dk_at dksX0_firstTime_2 3 rfl rfl)
theorem dX0_firstTime_52 : decode cX0_firstTime 52 = .ok (.invokevirtual 402, 3) := dk_182 1 146 (dk_at dksX0_firstTime_2 4 rfl rfl)
theorem dX0_firstTime_55 : decode cX0_firstTime 55 = .ok (.aload 5, 2) := dk_25 5 (dk_at dksX0_firstTime_2 7 rfl rfl)
theorem dX0_firstTime_57 : decode cX0_firstTime 57 = .ok (.athrow, 1) := dk_191 (dk_at dksX0_firstTime_2 9 rfl rfl)
abbrev cX0_isNow : ByteArray := prog_1_method_57_code
def yX0_isNow : MethodName := ⟨RX0, "isNow", "(II)Z"⟩
def dkwX0_isNow_1 : List UInt8 := [3, 172]
abbrev dktX0_isNow_1 : List UInt8 := dkwX0_isNow_1 ++ []
def dkwX0_isNow_0 : List UInt8 := [28, 154, 0, 11, 42, 27, 182, 0, 116, 167, 0, 16, 42, 180, 0, 66, 27, 161, 0, 7, 4, 167, 0, 4]
abbrev dktX0_isNow_0 : List UInt8 := dkwX0_isNow_0 ++ dktX0_isNow_1
theorem dksX0_isNow_0 : cX0_isNow.data.toList.drop 0 = dktX0_isNow_0 := by decide +kernel
theorem dksX0_isNow_1 : cX0_isNow.data.toList.drop 24 = dktX0_isNow_1 := dk_seg dksX0_isNow_0 24 rfl rfl
theorem dX0_isNow_0 : decode cX0_isNow 0 = .ok (.iload_n 2, 1) := dk_28 (dk_at dksX0_isNow_0 0 rfl rfl)
theorem dX0_isNow_1 : decode cX0_isNow 1 = .ok (.ifCond .ne 11, 3) := dk_154 0 11 (dk_at dksX0_isNow_0 1 rfl rfl)
theorem dX0_isNow_4 : decode cX0_isNow 4 = .ok (.aload_n 0, 1) := dk_42 (dk_at dksX0_isNow_0 4 rfl rfl)
theorem dX0_isNow_5 : decode cX0_isNow 5 = .ok (.iload_n 1, 1) := dk_27 (dk_at dksX0_isNow_0 5 rfl rfl)
theorem dX0_isNow_6 : decode cX0_isNow 6 = .ok (.invokevirtual 116, 3) := dk_182 0 116 (dk_at dksX0_isNow_0 6 rfl rfl)
theorem dX0_isNow_9 : decode cX0_isNow 9 = .ok (.goto 16, 3) := dk_167 0 16 (dk_at dksX0_isNow_0 9 rfl rfl)
theorem dX0_isNow_12 : decode cX0_isNow 12 = .ok (.aload_n 0, 1) := dk_42 (dk_at dksX0_isNow_0 12 rfl rfl)
theorem dX0_isNow_13 : decode cX0_isNow 13 = .ok (.getfield 66, 3) := dk_180 0 66 (dk_at dksX0_isNow_0 13 rfl rfl)
theorem dX0_isNow_16 : decode cX0_isNow 16 = .ok (.iload_n 1, 1) := dk_27 (dk_at dksX0_isNow_0 16 rfl rfl)
theorem dX0_isNow_17 : decode cX0_isNow 17 = .ok (.if_icmp .lt 7, 3) := dk_161 0 7 (dk_at dksX0_isNow_0 17 rfl rfl)
theorem dX0_isNow_20 : decode cX0_isNow 20 = .ok (.iconst 1, 1) := dk_4 (dk_at dksX0_isNow_0 20 rfl rfl)
theorem dX0_isNow_21 : decode cX0_isNow 21 = .ok (.goto 4, 3) := dk_167 0 4 (dk_at dksX0_isNow_0 21 rfl rfl)
theorem dX0_isNow_24 : decode cX0_isNow 24 = .ok (.iconst 0, 1) := dk_3 (dk_at dksX0_isNow_1 0 rfl rfl)
theorem dX0_isNow_25 : decode cX0_isNow 25 = .ok (.ireturn, 1) := dk_172 (dk_at dksX0_isNow_1 1 rfl rfl)
abbrev cX0_best : ByteArray := prog_1_method_65_code
def yX0_best : MethodName := ⟨RX0, "best", "(I)I"⟩
def dkwX0_best_3 : List UInt8 := [42, 182, 1, 189, 172, 42, 182, 1, 166, 172, 16, 254, 172]
abbrev dktX0_best_3 : List UInt8 := dkwX0_best_3 ++ []
def dkwX0_best_2 : List UInt8 := [42, 182, 1, 186, 172, 42, 182, 1, 186, 61, 28, 2, 160, 0, 7, 2, 167, 0, 7, 28, 184, 1, 169, 172]
abbrev dktX0_best_2 : List UInt8 := dkwX0_best_2 ++ dktX0_best_3
def dkwX0_best_1 : List UInt8 := [170, 0, 0, 0, 0, 0, 65, 0, 0, 0, 0, 0, 0, 0, 3, 0, 0, 0, 31, 0, 0, 0, 36, 0, 0, 0, 55, 0, 0, 0, 60]
abbrev dktX0_best_1 : List UInt8 := dkwX0_best_1 ++ dktX0_best_2
def dkwX0_best_0 : List UInt8 := [27]
abbrev dktX0_best_0 : List UInt8 := dkwX0_best_0 ++ dktX0_best_1
theorem dksX0_best_0 : cX0_best.data.toList.drop 0 = dktX0_best_0 := by decide +kernel
theorem dksX0_best_1 : cX0_best.data.toList.drop 1 = dktX0_best_1 := dk_seg dksX0_best_0 1 rfl rfl
theorem dksX0_best_2 : cX0_best.data.toList.drop 32 = dktX0_best_2 := dk_seg dksX0_best_1 31 rfl rfl
theorem dksX0_best_3 : cX0_best.data.toList.drop 56 = dktX0_best_3 := dk_seg dksX0_best_2 24 rfl rfl
theorem dX0_best_0 : decode cX0_best 0 = .ok (.iload_n 1, 1) := dk_27 (dk_at dksX0_best_0 0 rfl rfl)
theorem dX0_best_1 : decode cX0_best 1 = .ok (.tableswitch 65 0 3 #[31, 36, 55, 60], 31) := by decide +kernel
theorem dX0_best_32 : decode cX0_best 32 = .ok (.aload_n 0, 1) := dk_42 (dk_at dksX0_best_2 0 rfl rfl)
theorem dX0_best_33 : decode cX0_best 33 = .ok (.invokevirtual 442, 3) := dk_182 1 186 (dk_at dksX0_best_2 1 rfl rfl)
theorem dX0_best_36 : decode cX0_best 36 = .ok (.ireturn, 1) := dk_172 (dk_at dksX0_best_2 4 rfl rfl)
theorem dX0_best_37 : decode cX0_best 37 = .ok (.aload_n 0, 1) := dk_42 (dk_at dksX0_best_2 5 rfl rfl)
theorem dX0_best_38 : decode cX0_best 38 = .ok (.invokevirtual 442, 3) := dk_182 1 186 (dk_at dksX0_best_2 6 rfl rfl)
theorem dX0_best_41 : decode cX0_best 41 = .ok (.istore_n 2, 1) := dk_61 (dk_at dksX0_best_2 9 rfl rfl)
theorem dX0_best_42 : decode cX0_best 42 = .ok (.iload_n 2, 1) := dk_28 (dk_at dksX0_best_2 10 rfl rfl)
theorem dX0_best_43 : decode cX0_best 43 = .ok (.iconst (-1), 1) := dk_2 (dk_at dksX0_best_2 11 rfl rfl)
theorem dX0_best_44 : decode cX0_best 44 = .ok (.if_icmp .ne 7, 3) := dk_160 0 7 (dk_at dksX0_best_2 12 rfl rfl)
theorem dX0_best_47 : decode cX0_best 47 = .ok (.iconst (-1), 1) := dk_2 (dk_at dksX0_best_2 15 rfl rfl)
theorem dX0_best_48 : decode cX0_best 48 = .ok (.goto 7, 3) := dk_167 0 7 (dk_at dksX0_best_2 16 rfl rfl)
theorem dX0_best_51 : decode cX0_best 51 = .ok (.iload_n 2, 1) := dk_28 (dk_at dksX0_best_2 19 rfl rfl)
theorem dX0_best_52 : decode cX0_best 52 = .ok (.invokestatic 425, 3) := dk_184 1 169 (dk_at dksX0_best_2 20 rfl rfl)
theorem dX0_best_55 : decode cX0_best 55 = .ok (.ireturn, 1) := dk_172 (dk_at dksX0_best_2 23 rfl rfl)
theorem dX0_best_56 : decode cX0_best 56 = .ok (.aload_n 0, 1) := dk_42 (dk_at dksX0_best_3 0 rfl rfl)
theorem dX0_best_57 : decode cX0_best 57 = .ok (.invokevirtual 445, 3) := dk_182 1 189 (dk_at dksX0_best_3 1 rfl rfl)
theorem dX0_best_60 : decode cX0_best 60 = .ok (.ireturn, 1) := dk_172 (dk_at dksX0_best_3 4 rfl rfl)
theorem dX0_best_61 : decode cX0_best 61 = .ok (.aload_n 0, 1) := dk_42 (dk_at dksX0_best_3 5 rfl rfl)
theorem dX0_best_62 : decode cX0_best 62 = .ok (.invokevirtual 422, 3) := dk_182 1 166 (dk_at dksX0_best_3 6 rfl rfl)
theorem dX0_best_65 : decode cX0_best 65 = .ok (.ireturn, 1) := dk_172 (dk_at dksX0_best_3 9 rfl rfl)
theorem dX0_best_66 : decode cX0_best 66 = .ok (.bipush (-2), 2) := dk_16 254 (dk_at dksX0_best_3 10 rfl rfl)
theorem dX0_best_68 : decode cX0_best 68 = .ok (.ireturn, 1) := dk_172 (dk_at dksX0_best_3 12 rfl rfl)
abbrev cX0_leave : ByteArray := prog_1_method_63_code
def yX0_leave : MethodName := ⟨RX0, "leave", "()I"⟩
def dkwX0_leave_4 : List UInt8 := [58, 5, 42, 27, 182, 1, 174, 25, 5, 191, 28, 172]
abbrev dktX0_leave_4 : List UInt8 := dkwX0_leave_4 ++ []
def dkwX0_leave_3 : List UInt8 := [153, 0, 7, 29, 167, 0, 4, 28, 61, 132, 3, 1, 167, 255, 182, 42, 27, 182, 1, 174, 167, 0, 13]
abbrev dktX0_leave_3 : List UInt8 := dkwX0_leave_3 ++ dktX0_leave_4
def dkwX0_leave_2 : List UInt8 := [154, 0, 33, 21, 4, 154, 0, 6, 167, 0, 25, 42, 27, 29, 2, 130, 126, 182, 1, 174, 42, 182, 1, 177]
abbrev dktX0_leave_2 : List UInt8 := dkwX0_leave_2 ++ dktX0_leave_3
def dkwX0_leave_1 : List UInt8 := [29, 184, 1, 169, 28, 184, 1, 169, 162, 0, 7, 4, 167, 0, 4, 3, 54, 4, 29, 27, 2, 130, 126]
abbrev dktX0_leave_1 : List UInt8 := dkwX0_leave_1 ++ dktX0_leave_2
def dkwX0_leave_0 : List UInt8 := [42, 182, 1, 166, 60, 2, 61, 3, 62, 29, 4, 42, 180, 0, 10, 120, 162, 0, 70, 28, 2, 159, 0, 14]
abbrev dktX0_leave_0 : List UInt8 := dkwX0_leave_0 ++ dktX0_leave_1
theorem dksX0_leave_0 : cX0_leave.data.toList.drop 0 = dktX0_leave_0 := by decide +kernel
theorem dksX0_leave_1 : cX0_leave.data.toList.drop 24 = dktX0_leave_1 := dk_seg dksX0_leave_0 24 rfl rfl
theorem dksX0_leave_2 : cX0_leave.data.toList.drop 47 = dktX0_leave_2 := dk_seg dksX0_leave_1 23 rfl rfl
theorem dksX0_leave_3 : cX0_leave.data.toList.drop 71 = dktX0_leave_3 := dk_seg dksX0_leave_2 24 rfl rfl
theorem dksX0_leave_4 : cX0_leave.data.toList.drop 94 = dktX0_leave_4 := dk_seg dksX0_leave_3 23 rfl rfl
theorem dX0_leave_0 : decode cX0_leave 0 = .ok (.aload_n 0, 1) := dk_42 (dk_at dksX0_leave_0 0 rfl rfl)
theorem dX0_leave_1 : decode cX0_leave 1 = .ok (.invokevirtual 422, 3) := dk_182 1 166 (dk_at dksX0_leave_0 1 rfl rfl)
theorem dX0_leave_4 : decode cX0_leave 4 = .ok (.istore_n 1, 1) := dk_60 (dk_at dksX0_leave_0 4 rfl rfl)
theorem dX0_leave_5 : decode cX0_leave 5 = .ok (.iconst (-1), 1) := dk_2 (dk_at dksX0_leave_0 5 rfl rfl)
theorem dX0_leave_6 : decode cX0_leave 6 = .ok (.istore_n 2, 1) := dk_61 (dk_at dksX0_leave_0 6 rfl rfl)
theorem dX0_leave_7 : decode cX0_leave 7 = .ok (.iconst 0, 1) := dk_3 (dk_at dksX0_leave_0 7 rfl rfl)
theorem dX0_leave_8 : decode cX0_leave 8 = .ok (.istore_n 3, 1) := dk_62 (dk_at dksX0_leave_0 8 rfl rfl)
theorem dX0_leave_9 : decode cX0_leave 9 = .ok (.iload_n 3, 1) := dk_29 (dk_at dksX0_leave_0 9 rfl rfl)
theorem dX0_leave_10 : decode cX0_leave 10 = .ok (.iconst 1, 1) := dk_4 (dk_at dksX0_leave_0 10 rfl rfl)
theorem dX0_leave_11 : decode cX0_leave 11 = .ok (.aload_n 0, 1) := dk_42 (dk_at dksX0_leave_0 11 rfl rfl)
theorem dX0_leave_12 : decode cX0_leave 12 = .ok (.getfield 10, 3) := dk_180 0 10 (dk_at dksX0_leave_0 12 rfl rfl)
theorem dX0_leave_15 : decode cX0_leave 15 = .ok (.ishl, 1) := dk_120 (dk_at dksX0_leave_0 15 rfl rfl)
theorem dX0_leave_16 : decode cX0_leave 16 = .ok (.if_icmp .ge 70, 3) := dk_162 0 70 (dk_at dksX0_leave_0 16 rfl rfl)
theorem dX0_leave_19 : decode cX0_leave 19 = .ok (.iload_n 2, 1) := dk_28 (dk_at dksX0_leave_0 19 rfl rfl)
theorem dX0_leave_20 : decode cX0_leave 20 = .ok (.iconst (-1), 1) := dk_2 (dk_at dksX0_leave_0 20 rfl rfl)
theorem dX0_leave_21 : decode cX0_leave 21 = .ok (.if_icmp .eq 14, 3) := dk_159 0 14 (dk_at dksX0_leave_0 21 rfl rfl)
theorem dX0_leave_24 : decode cX0_leave 24 = .ok (.iload_n 3, 1) := dk_29 (dk_at dksX0_leave_1 0 rfl rfl)
theorem dX0_leave_25 : decode cX0_leave 25 = .ok (.invokestatic 425, 3) := dk_184 1 169 (dk_at dksX0_leave_1 1 rfl rfl)
theorem dX0_leave_28 : decode cX0_leave 28 = .ok (.iload_n 2, 1) := dk_28 (dk_at dksX0_leave_1 4 rfl rfl)
theorem dX0_leave_29 : decode cX0_leave 29 = .ok (.invokestatic 425, 3) := dk_184 1 169 (dk_at dksX0_leave_1 5 rfl rfl)
theorem dX0_leave_32 : decode cX0_leave 32 = .ok (.if_icmp .ge 7, 3) := dk_162 0 7 (dk_at dksX0_leave_1 8 rfl rfl)
theorem dX0_leave_35 : decode cX0_leave 35 = .ok (.iconst 1, 1) := dk_4 (dk_at dksX0_leave_1 11 rfl rfl)
theorem dX0_leave_36 : decode cX0_leave 36 = .ok (.goto 4, 3) := dk_167 0 4 (dk_at dksX0_leave_1 12 rfl rfl)
theorem dX0_leave_39 : decode cX0_leave 39 = .ok (.iconst 0, 1) := dk_3 (dk_at dksX0_leave_1 15 rfl rfl)
theorem dX0_leave_40 : decode cX0_leave 40 = .ok (.istore 4, 2) := dk_54 4 (dk_at dksX0_leave_1 16 rfl rfl)
theorem dX0_leave_42 : decode cX0_leave 42 = .ok (.iload_n 3, 1) := dk_29 (dk_at dksX0_leave_1 18 rfl rfl)
theorem dX0_leave_43 : decode cX0_leave 43 = .ok (.iload_n 1, 1) := dk_27 (dk_at dksX0_leave_1 19 rfl rfl)
theorem dX0_leave_44 : decode cX0_leave 44 = .ok (.iconst (-1), 1) := dk_2 (dk_at dksX0_leave_1 20 rfl rfl)
theorem dX0_leave_45 : decode cX0_leave 45 = .ok (.ixor, 1) := dk_130 (dk_at dksX0_leave_1 21 rfl rfl)
theorem dX0_leave_46 : decode cX0_leave 46 = .ok (.iand, 1) := dk_126 (dk_at dksX0_leave_1 22 rfl rfl)
theorem dX0_leave_47 : decode cX0_leave 47 = .ok (.ifCond .ne 33, 3) := dk_154 0 33 (dk_at dksX0_leave_2 0 rfl rfl)
theorem dX0_leave_50 : decode cX0_leave 50 = .ok (.iload 4, 2) := dk_21 4 (dk_at dksX0_leave_2 3 rfl rfl)
theorem dX0_leave_52 : decode cX0_leave 52 = .ok (.ifCond .ne 6, 3) := dk_154 0 6 (dk_at dksX0_leave_2 5 rfl rfl)
theorem dX0_leave_55 : decode cX0_leave 55 = .ok (.goto 25, 3) := dk_167 0 25 (dk_at dksX0_leave_2 8 rfl rfl)
theorem dX0_leave_58 : decode cX0_leave 58 = .ok (.aload_n 0, 1) := dk_42 (dk_at dksX0_leave_2 11 rfl rfl)
theorem dX0_leave_59 : decode cX0_leave 59 = .ok (.iload_n 1, 1) := dk_27 (dk_at dksX0_leave_2 12 rfl rfl)
theorem dX0_leave_60 : decode cX0_leave 60 = .ok (.iload_n 3, 1) := dk_29 (dk_at dksX0_leave_2 13 rfl rfl)
theorem dX0_leave_61 : decode cX0_leave 61 = .ok (.iconst (-1), 1) := dk_2 (dk_at dksX0_leave_2 14 rfl rfl)
theorem dX0_leave_62 : decode cX0_leave 62 = .ok (.ixor, 1) := dk_130 (dk_at dksX0_leave_2 15 rfl rfl)
theorem dX0_leave_63 : decode cX0_leave 63 = .ok (.iand, 1) := dk_126 (dk_at dksX0_leave_2 16 rfl rfl)
theorem dX0_leave_64 : decode cX0_leave 64 = .ok (.invokevirtual 430, 3) := dk_182 1 174 (dk_at dksX0_leave_2 17 rfl rfl)
theorem dX0_leave_67 : decode cX0_leave 67 = .ok (.aload_n 0, 1) := dk_42 (dk_at dksX0_leave_2 20 rfl rfl)
theorem dX0_leave_68 : decode cX0_leave 68 = .ok (.invokevirtual 433, 3) := dk_182 1 177 (dk_at dksX0_leave_2 21 rfl rfl)
theorem dX0_leave_71 : decode cX0_leave 71 = .ok (.ifCond .eq 7, 3) := dk_153 0 7 (dk_at dksX0_leave_3 0 rfl rfl)
theorem dX0_leave_74 : decode cX0_leave 74 = .ok (.iload_n 3, 1) := dk_29 (dk_at dksX0_leave_3 3 rfl rfl)
theorem dX0_leave_75 : decode cX0_leave 75 = .ok (.goto 4, 3) := dk_167 0 4 (dk_at dksX0_leave_3 4 rfl rfl)
theorem dX0_leave_78 : decode cX0_leave 78 = .ok (.iload_n 2, 1) := dk_28 (dk_at dksX0_leave_3 7 rfl rfl)
theorem dX0_leave_79 : decode cX0_leave 79 = .ok (.istore_n 2, 1) := dk_61 (dk_at dksX0_leave_3 8 rfl rfl)
theorem dX0_leave_80 : decode cX0_leave 80 = .ok (.iinc 3 1, 3) := dk_132 3 1 (dk_at dksX0_leave_3 9 rfl rfl)
theorem dX0_leave_83 : decode cX0_leave 83 = .ok (.goto (-74), 3) := dk_167 255 182 (dk_at dksX0_leave_3 12 rfl rfl)
theorem dX0_leave_86 : decode cX0_leave 86 = .ok (.aload_n 0, 1) := dk_42 (dk_at dksX0_leave_3 15 rfl rfl)
theorem dX0_leave_87 : decode cX0_leave 87 = .ok (.iload_n 1, 1) := dk_27 (dk_at dksX0_leave_3 16 rfl rfl)
theorem dX0_leave_88 : decode cX0_leave 88 = .ok (.invokevirtual 430, 3) := dk_182 1 174 (dk_at dksX0_leave_3 17 rfl rfl)
theorem dX0_leave_91 : decode cX0_leave 91 = .ok (.goto 13, 3) := dk_167 0 13 (dk_at dksX0_leave_3 20 rfl rfl)
theorem dX0_leave_94 : decode cX0_leave 94 = .ok (.astore 5, 2) := dk_58 5 (dk_at dksX0_leave_4 0 rfl rfl)
theorem dX0_leave_96 : decode cX0_leave 96 = .ok (.aload_n 0, 1) := dk_42 (dk_at dksX0_leave_4 2 rfl rfl)
theorem dX0_leave_97 : decode cX0_leave 97 = .ok (.iload_n 1, 1) := dk_27 (dk_at dksX0_leave_4 3 rfl rfl)
theorem dX0_leave_98 : decode cX0_leave 98 = .ok (.invokevirtual 430, 3) := dk_182 1 174 (dk_at dksX0_leave_4 4 rfl rfl)
theorem dX0_leave_101 : decode cX0_leave 101 = .ok (.aload 5, 2) := dk_25 5 (dk_at dksX0_leave_4 7 rfl rfl)
theorem dX0_leave_103 : decode cX0_leave 103 = .ok (.athrow, 1) := dk_191 (dk_at dksX0_leave_4 9 rfl rfl)
theorem dX0_leave_104 : decode cX0_leave 104 = .ok (.iload_n 2, 1) := dk_28 (dk_at dksX0_leave_4 10 rfl rfl)
theorem dX0_leave_105 : decode cX0_leave 105 = .ok (.ireturn, 1) := dk_172 (dk_at dksX0_leave_4 11 rfl rfl)
abbrev cX0_hereSet : ByteArray := prog_1_method_60_code
def yX0_hereSet : MethodName := ⟨RX0, "hereSet", "()I"⟩
def dkwX0_hereSet_1 : List UInt8 := [153, 0, 9, 4, 28, 120, 167, 0, 4, 3, 128, 60, 132, 2, 1, 167, 255, 223, 27, 172]
abbrev dktX0_hereSet_1 : List UInt8 := dkwX0_hereSet_1 ++ []
def dkwX0_hereSet_0 : List UInt8 := [3, 60, 3, 61, 28, 42, 180, 0, 10, 162, 0, 31, 27, 42, 180, 0, 47, 28, 50, 180, 0, 81]
abbrev dktX0_hereSet_0 : List UInt8 := dkwX0_hereSet_0 ++ dktX0_hereSet_1
theorem dksX0_hereSet_0 : cX0_hereSet.data.toList.drop 0 = dktX0_hereSet_0 := by decide +kernel
theorem dksX0_hereSet_1 : cX0_hereSet.data.toList.drop 22 = dktX0_hereSet_1 := dk_seg dksX0_hereSet_0 22 rfl rfl
theorem dX0_hereSet_0 : decode cX0_hereSet 0 = .ok (.iconst 0, 1) := dk_3 (dk_at dksX0_hereSet_0 0 rfl rfl)
theorem dX0_hereSet_1 : decode cX0_hereSet 1 = .ok (.istore_n 1, 1) := dk_60 (dk_at dksX0_hereSet_0 1 rfl rfl)
theorem dX0_hereSet_2 : decode cX0_hereSet 2 = .ok (.iconst 0, 1) := dk_3 (dk_at dksX0_hereSet_0 2 rfl rfl)
theorem dX0_hereSet_3 : decode cX0_hereSet 3 = .ok (.istore_n 2, 1) := dk_61 (dk_at dksX0_hereSet_0 3 rfl rfl)
theorem dX0_hereSet_4 : decode cX0_hereSet 4 = .ok (.iload_n 2, 1) := dk_28 (dk_at dksX0_hereSet_0 4 rfl rfl)
theorem dX0_hereSet_5 : decode cX0_hereSet 5 = .ok (.aload_n 0, 1) := dk_42 (dk_at dksX0_hereSet_0 5 rfl rfl)
theorem dX0_hereSet_6 : decode cX0_hereSet 6 = .ok (.getfield 10, 3) := dk_180 0 10 (dk_at dksX0_hereSet_0 6 rfl rfl)
theorem dX0_hereSet_9 : decode cX0_hereSet 9 = .ok (.if_icmp .ge 31, 3) := dk_162 0 31 (dk_at dksX0_hereSet_0 9 rfl rfl)
theorem dX0_hereSet_12 : decode cX0_hereSet 12 = .ok (.iload_n 1, 1) := dk_27 (dk_at dksX0_hereSet_0 12 rfl rfl)
theorem dX0_hereSet_13 : decode cX0_hereSet 13 = .ok (.aload_n 0, 1) := dk_42 (dk_at dksX0_hereSet_0 13 rfl rfl)
theorem dX0_hereSet_14 : decode cX0_hereSet 14 = .ok (.getfield 47, 3) := dk_180 0 47 (dk_at dksX0_hereSet_0 14 rfl rfl)
theorem dX0_hereSet_17 : decode cX0_hereSet 17 = .ok (.iload_n 2, 1) := dk_28 (dk_at dksX0_hereSet_0 17 rfl rfl)
theorem dX0_hereSet_18 : decode cX0_hereSet 18 = .ok (.aaload, 1) := dk_50 (dk_at dksX0_hereSet_0 18 rfl rfl)
theorem dX0_hereSet_19 : decode cX0_hereSet 19 = .ok (.getfield 81, 3) := dk_180 0 81 (dk_at dksX0_hereSet_0 19 rfl rfl)
theorem dX0_hereSet_22 : decode cX0_hereSet 22 = .ok (.ifCond .eq 9, 3) := dk_153 0 9 (dk_at dksX0_hereSet_1 0 rfl rfl)
theorem dX0_hereSet_25 : decode cX0_hereSet 25 = .ok (.iconst 1, 1) := dk_4 (dk_at dksX0_hereSet_1 3 rfl rfl)
theorem dX0_hereSet_26 : decode cX0_hereSet 26 = .ok (.iload_n 2, 1) := dk_28 (dk_at dksX0_hereSet_1 4 rfl rfl)
theorem dX0_hereSet_27 : decode cX0_hereSet 27 = .ok (.ishl, 1) := dk_120 (dk_at dksX0_hereSet_1 5 rfl rfl)
theorem dX0_hereSet_28 : decode cX0_hereSet 28 = .ok (.goto 4, 3) := dk_167 0 4 (dk_at dksX0_hereSet_1 6 rfl rfl)
theorem dX0_hereSet_31 : decode cX0_hereSet 31 = .ok (.iconst 0, 1) := dk_3 (dk_at dksX0_hereSet_1 9 rfl rfl)
theorem dX0_hereSet_32 : decode cX0_hereSet 32 = .ok (.ior, 1) := dk_128 (dk_at dksX0_hereSet_1 10 rfl rfl)
theorem dX0_hereSet_33 : decode cX0_hereSet 33 = .ok (.istore_n 1, 1) := dk_60 (dk_at dksX0_hereSet_1 11 rfl rfl)
theorem dX0_hereSet_34 : decode cX0_hereSet 34 = .ok (.iinc 2 1, 3) := dk_132 2 1 (dk_at dksX0_hereSet_1 12 rfl rfl)
theorem dX0_hereSet_37 : decode cX0_hereSet 37 = .ok (.goto (-33), 3) := dk_167 255 223 (dk_at dksX0_hereSet_1 15 rfl rfl)
theorem dX0_hereSet_40 : decode cX0_hereSet 40 = .ok (.iload_n 1, 1) := dk_27 (dk_at dksX0_hereSet_1 18 rfl rfl)
theorem dX0_hereSet_41 : decode cX0_hereSet 41 = .ok (.ireturn, 1) := dk_172 (dk_at dksX0_hereSet_1 19 rfl rfl)
abbrev cX0_comes : ByteArray := prog_1_method_61_code
def yX0_comes : MethodName := ⟨RX0, "comes", "(I)V"⟩
def dkwX0_comes_1 : List UInt8 := [132, 2, 1, 167, 255, 231, 177]
abbrev dktX0_comes_1 : List UInt8 := dkwX0_comes_1 ++ []
def dkwX0_comes_0 : List UInt8 := [3, 61, 28, 42, 180, 0, 10, 162, 0, 23, 42, 180, 0, 47, 28, 50, 27, 28, 184, 1, 163, 181, 0, 81]
abbrev dktX0_comes_0 : List UInt8 := dkwX0_comes_0 ++ dktX0_comes_1
theorem dksX0_comes_0 : cX0_comes.data.toList.drop 0 = dktX0_comes_0 := by decide +kernel
theorem dksX0_comes_1 : cX0_comes.data.toList.drop 24 = dktX0_comes_1 := dk_seg dksX0_comes_0 24 rfl rfl
theorem dX0_comes_0 : decode cX0_comes 0 = .ok (.iconst 0, 1) := dk_3 (dk_at dksX0_comes_0 0 rfl rfl)
theorem dX0_comes_1 : decode cX0_comes 1 = .ok (.istore_n 2, 1) := dk_61 (dk_at dksX0_comes_0 1 rfl rfl)
theorem dX0_comes_2 : decode cX0_comes 2 = .ok (.iload_n 2, 1) := dk_28 (dk_at dksX0_comes_0 2 rfl rfl)
theorem dX0_comes_3 : decode cX0_comes 3 = .ok (.aload_n 0, 1) := dk_42 (dk_at dksX0_comes_0 3 rfl rfl)
theorem dX0_comes_4 : decode cX0_comes 4 = .ok (.getfield 10, 3) := dk_180 0 10 (dk_at dksX0_comes_0 4 rfl rfl)
theorem dX0_comes_7 : decode cX0_comes 7 = .ok (.if_icmp .ge 23, 3) := dk_162 0 23 (dk_at dksX0_comes_0 7 rfl rfl)
theorem dX0_comes_10 : decode cX0_comes 10 = .ok (.aload_n 0, 1) := dk_42 (dk_at dksX0_comes_0 10 rfl rfl)
theorem dX0_comes_11 : decode cX0_comes 11 = .ok (.getfield 47, 3) := dk_180 0 47 (dk_at dksX0_comes_0 11 rfl rfl)
theorem dX0_comes_14 : decode cX0_comes 14 = .ok (.iload_n 2, 1) := dk_28 (dk_at dksX0_comes_0 14 rfl rfl)
theorem dX0_comes_15 : decode cX0_comes 15 = .ok (.aaload, 1) := dk_50 (dk_at dksX0_comes_0 15 rfl rfl)
theorem dX0_comes_16 : decode cX0_comes 16 = .ok (.iload_n 1, 1) := dk_27 (dk_at dksX0_comes_0 16 rfl rfl)
theorem dX0_comes_17 : decode cX0_comes 17 = .ok (.iload_n 2, 1) := dk_28 (dk_at dksX0_comes_0 17 rfl rfl)
theorem dX0_comes_18 : decode cX0_comes 18 = .ok (.invokestatic 419, 3) := dk_184 1 163 (dk_at dksX0_comes_0 18 rfl rfl)
theorem dX0_comes_21 : decode cX0_comes 21 = .ok (.putfield 81, 3) := dk_181 0 81 (dk_at dksX0_comes_0 21 rfl rfl)
theorem dX0_comes_24 : decode cX0_comes 24 = .ok (.iinc 2 1, 3) := dk_132 2 1 (dk_at dksX0_comes_1 0 rfl rfl)
theorem dX0_comes_27 : decode cX0_comes 27 = .ok (.goto (-25), 3) := dk_167 255 231 (dk_at dksX0_comes_1 3 rfl rfl)
theorem dX0_comes_30 : decode cX0_comes 30 = .ok (.return_, 1) := dk_177 (dk_at dksX0_comes_1 6 rfl rfl)
abbrev cX0_isIn : ByteArray := prog_1_method_3_code
def yX0_isIn : MethodName := ⟨RX0, "isIn", "(II)Z"⟩
def dkwX0_isIn_0 : List UInt8 := [26, 27, 122, 4, 126, 4, 160, 0, 7, 4, 167, 0, 4, 3, 172]
abbrev dktX0_isIn_0 : List UInt8 := dkwX0_isIn_0 ++ []
theorem dksX0_isIn_0 : cX0_isIn.data.toList.drop 0 = dktX0_isIn_0 := by decide +kernel
theorem dX0_isIn_0 : decode cX0_isIn 0 = .ok (.iload_n 0, 1) := dk_26 (dk_at dksX0_isIn_0 0 rfl rfl)
theorem dX0_isIn_1 : decode cX0_isIn 1 = .ok (.iload_n 1, 1) := dk_27 (dk_at dksX0_isIn_0 1 rfl rfl)
theorem dX0_isIn_2 : decode cX0_isIn 2 = .ok (.ishr, 1) := dk_122 (dk_at dksX0_isIn_0 2 rfl rfl)
theorem dX0_isIn_3 : decode cX0_isIn 3 = .ok (.iconst 1, 1) := dk_4 (dk_at dksX0_isIn_0 3 rfl rfl)
theorem dX0_isIn_4 : decode cX0_isIn 4 = .ok (.iand, 1) := dk_126 (dk_at dksX0_isIn_0 4 rfl rfl)
theorem dX0_isIn_5 : decode cX0_isIn 5 = .ok (.iconst 1, 1) := dk_4 (dk_at dksX0_isIn_0 5 rfl rfl)
theorem dX0_isIn_6 : decode cX0_isIn 6 = .ok (.if_icmp .ne 7, 3) := dk_160 0 7 (dk_at dksX0_isIn_0 6 rfl rfl)
theorem dX0_isIn_9 : decode cX0_isIn 9 = .ok (.iconst 1, 1) := dk_4 (dk_at dksX0_isIn_0 9 rfl rfl)
theorem dX0_isIn_10 : decode cX0_isIn 10 = .ok (.goto 4, 3) := dk_167 0 4 (dk_at dksX0_isIn_0 10 rfl rfl)
theorem dX0_isIn_13 : decode cX0_isIn 13 = .ok (.iconst 0, 1) := dk_3 (dk_at dksX0_isIn_0 13 rfl rfl)
theorem dX0_isIn_14 : decode cX0_isIn 14 = .ok (.ireturn, 1) := dk_172 (dk_at dksX0_isIn_0 14 rfl rfl)
abbrev cX0_anybodyLifts : ByteArray := prog_1_method_62_code
def yX0_anybodyLifts : MethodName := ⟨RX0, "anybodyLifts", "()Z"⟩
def dkwX0_anybodyLifts_1 : List UInt8 := [167, 255, 235, 3, 172]
abbrev dktX0_anybodyLifts_1 : List UInt8 := dkwX0_anybodyLifts_1 ++ []
def dkwX0_anybodyLifts_0 : List UInt8 := [3, 60, 27, 42, 180, 0, 10, 162, 0, 19, 42, 27, 182, 0, 116, 153, 0, 5, 4, 172, 132, 1, 1]
abbrev dktX0_anybodyLifts_0 : List UInt8 := dkwX0_anybodyLifts_0 ++ dktX0_anybodyLifts_1
theorem dksX0_anybodyLifts_0 : cX0_anybodyLifts.data.toList.drop 0 = dktX0_anybodyLifts_0 := by decide +kernel
theorem dksX0_anybodyLifts_1 : cX0_anybodyLifts.data.toList.drop 23 = dktX0_anybodyLifts_1 := dk_seg dksX0_anybodyLifts_0 23 rfl rfl
theorem dX0_anybodyLifts_0 : decode cX0_anybodyLifts 0 = .ok (.iconst 0, 1) := dk_3 (dk_at dksX0_anybodyLifts_0 0 rfl rfl)
theorem dX0_anybodyLifts_1 : decode cX0_anybodyLifts 1 = .ok (.istore_n 1, 1) := dk_60 (dk_at dksX0_anybodyLifts_0 1 rfl rfl)
theorem dX0_anybodyLifts_2 : decode cX0_anybodyLifts 2 = .ok (.iload_n 1, 1) := dk_27 (dk_at dksX0_anybodyLifts_0 2 rfl rfl)
theorem dX0_anybodyLifts_3 : decode cX0_anybodyLifts 3 = .ok (.aload_n 0, 1) := dk_42 (dk_at dksX0_anybodyLifts_0 3 rfl rfl)
theorem dX0_anybodyLifts_4 : decode cX0_anybodyLifts 4 = .ok (.getfield 10, 3) := dk_180 0 10 (dk_at dksX0_anybodyLifts_0 4 rfl rfl)
theorem dX0_anybodyLifts_7 : decode cX0_anybodyLifts 7 = .ok (.if_icmp .ge 19, 3) := dk_162 0 19 (dk_at dksX0_anybodyLifts_0 7 rfl rfl)
theorem dX0_anybodyLifts_10 : decode cX0_anybodyLifts 10 = .ok (.aload_n 0, 1) := dk_42 (dk_at dksX0_anybodyLifts_0 10 rfl rfl)
theorem dX0_anybodyLifts_11 : decode cX0_anybodyLifts 11 = .ok (.iload_n 1, 1) := dk_27 (dk_at dksX0_anybodyLifts_0 11 rfl rfl)
theorem dX0_anybodyLifts_12 : decode cX0_anybodyLifts 12 = .ok (.invokevirtual 116, 3) := dk_182 0 116 (dk_at dksX0_anybodyLifts_0 12 rfl rfl)
theorem dX0_anybodyLifts_15 : decode cX0_anybodyLifts 15 = .ok (.ifCond .eq 5, 3) := dk_153 0 5 (dk_at dksX0_anybodyLifts_0 15 rfl rfl)
theorem dX0_anybodyLifts_18 : decode cX0_anybodyLifts 18 = .ok (.iconst 1, 1) := dk_4 (dk_at dksX0_anybodyLifts_0 18 rfl rfl)
theorem dX0_anybodyLifts_19 : decode cX0_anybodyLifts 19 = .ok (.ireturn, 1) := dk_172 (dk_at dksX0_anybodyLifts_0 19 rfl rfl)
theorem dX0_anybodyLifts_20 : decode cX0_anybodyLifts 20 = .ok (.iinc 1 1, 3) := dk_132 1 1 (dk_at dksX0_anybodyLifts_0 20 rfl rfl)
theorem dX0_anybodyLifts_23 : decode cX0_anybodyLifts 23 = .ok (.goto (-21), 3) := dk_167 255 235 (dk_at dksX0_anybodyLifts_1 0 rfl rfl)
theorem dX0_anybodyLifts_26 : decode cX0_anybodyLifts 26 = .ok (.iconst 0, 1) := dk_3 (dk_at dksX0_anybodyLifts_1 3 rfl rfl)
theorem dX0_anybodyLifts_27 : decode cX0_anybodyLifts 27 = .ok (.ireturn, 1) := dk_172 (dk_at dksX0_anybodyLifts_1 4 rfl rfl)
abbrev cX0_lightestOf : ByteArray := prog_1_method_64_code
def yX0_lightestOf : MethodName := ⟨RX0, "lightestOf", "()I"⟩
def dkwX0_lightestOf_4 : List UInt8 := [182, 1, 174, 25, 4, 191, 28, 172]
abbrev dktX0_lightestOf_4 : List UInt8 := dkwX0_lightestOf_4 ++ []
def dkwX0_lightestOf_3 : List UInt8 := [180, 1, 44, 182, 1, 184, 132, 3, 1, 167, 255, 187, 42, 27, 182, 1, 174, 167, 0, 13, 58, 4, 42, 27]
abbrev dktX0_lightestOf_3 : List UInt8 := dkwX0_lightestOf_3 ++ dktX0_lightestOf_4
def dkwX0_lightestOf_2 : List UInt8 := [159, 0, 17, 42, 180, 1, 44, 42, 180, 1, 47, 182, 1, 181, 156, 0, 16, 29, 61, 42, 180, 1, 47, 42]
abbrev dktX0_lightestOf_2 : List UInt8 := dkwX0_lightestOf_2 ++ dktX0_lightestOf_3
def dkwX0_lightestOf_1 : List UInt8 := [154, 0, 6, 167, 0, 50, 42, 27, 4, 29, 120, 2, 130, 126, 182, 1, 174, 42, 182, 1, 121, 28, 2]
abbrev dktX0_lightestOf_1 : List UInt8 := dkwX0_lightestOf_1 ++ dktX0_lightestOf_2
def dkwX0_lightestOf_0 : List UInt8 := [42, 182, 1, 166, 60, 2, 61, 3, 62, 29, 42, 180, 0, 10, 162, 0, 67, 27, 29, 184, 1, 163]
abbrev dktX0_lightestOf_0 : List UInt8 := dkwX0_lightestOf_0 ++ dktX0_lightestOf_1
theorem dksX0_lightestOf_0 : cX0_lightestOf.data.toList.drop 0 = dktX0_lightestOf_0 := by decide +kernel
theorem dksX0_lightestOf_1 : cX0_lightestOf.data.toList.drop 22 = dktX0_lightestOf_1 := dk_seg dksX0_lightestOf_0 22 rfl rfl
theorem dksX0_lightestOf_2 : cX0_lightestOf.data.toList.drop 45 = dktX0_lightestOf_2 := dk_seg dksX0_lightestOf_1 23 rfl rfl
theorem dksX0_lightestOf_3 : cX0_lightestOf.data.toList.drop 69 = dktX0_lightestOf_3 := dk_seg dksX0_lightestOf_2 24 rfl rfl
theorem dksX0_lightestOf_4 : cX0_lightestOf.data.toList.drop 93 = dktX0_lightestOf_4 := dk_seg dksX0_lightestOf_3 24 rfl rfl
theorem dX0_lightestOf_0 : decode cX0_lightestOf 0 = .ok (.aload_n 0, 1) := dk_42 (dk_at dksX0_lightestOf_0 0 rfl rfl)
theorem dX0_lightestOf_1 : decode cX0_lightestOf 1 = .ok (.invokevirtual 422, 3) := dk_182 1 166 (dk_at dksX0_lightestOf_0 1 rfl rfl)
theorem dX0_lightestOf_4 : decode cX0_lightestOf 4 = .ok (.istore_n 1, 1) := dk_60 (dk_at dksX0_lightestOf_0 4 rfl rfl)
theorem dX0_lightestOf_5 : decode cX0_lightestOf 5 = .ok (.iconst (-1), 1) := dk_2 (dk_at dksX0_lightestOf_0 5 rfl rfl)
theorem dX0_lightestOf_6 : decode cX0_lightestOf 6 = .ok (.istore_n 2, 1) := dk_61 (dk_at dksX0_lightestOf_0 6 rfl rfl)
theorem dX0_lightestOf_7 : decode cX0_lightestOf 7 = .ok (.iconst 0, 1) := dk_3 (dk_at dksX0_lightestOf_0 7 rfl rfl)
theorem dX0_lightestOf_8 : decode cX0_lightestOf 8 = .ok (.istore_n 3, 1) := dk_62 (dk_at dksX0_lightestOf_0 8 rfl rfl)
theorem dX0_lightestOf_9 : decode cX0_lightestOf 9 = .ok (.iload_n 3, 1) := dk_29 (dk_at dksX0_lightestOf_0 9 rfl rfl)
theorem dX0_lightestOf_10 : decode cX0_lightestOf 10 = .ok (.aload_n 0, 1) := dk_42 (dk_at dksX0_lightestOf_0 10 rfl rfl)
theorem dX0_lightestOf_11 : decode cX0_lightestOf 11 = .ok (.getfield 10, 3) := dk_180 0 10 (dk_at dksX0_lightestOf_0 11 rfl rfl)
theorem dX0_lightestOf_14 : decode cX0_lightestOf 14 = .ok (.if_icmp .ge 67, 3) := dk_162 0 67 (dk_at dksX0_lightestOf_0 14 rfl rfl)
theorem dX0_lightestOf_17 : decode cX0_lightestOf 17 = .ok (.iload_n 1, 1) := dk_27 (dk_at dksX0_lightestOf_0 17 rfl rfl)
theorem dX0_lightestOf_18 : decode cX0_lightestOf 18 = .ok (.iload_n 3, 1) := dk_29 (dk_at dksX0_lightestOf_0 18 rfl rfl)
theorem dX0_lightestOf_19 : decode cX0_lightestOf 19 = .ok (.invokestatic 419, 3) := dk_184 1 163 (dk_at dksX0_lightestOf_0 19 rfl rfl)
theorem dX0_lightestOf_22 : decode cX0_lightestOf 22 = .ok (.ifCond .ne 6, 3) := dk_154 0 6 (dk_at dksX0_lightestOf_1 0 rfl rfl)
theorem dX0_lightestOf_25 : decode cX0_lightestOf 25 = .ok (.goto 50, 3) := dk_167 0 50 (dk_at dksX0_lightestOf_1 3 rfl rfl)
theorem dX0_lightestOf_28 : decode cX0_lightestOf 28 = .ok (.aload_n 0, 1) := dk_42 (dk_at dksX0_lightestOf_1 6 rfl rfl)
theorem dX0_lightestOf_29 : decode cX0_lightestOf 29 = .ok (.iload_n 1, 1) := dk_27 (dk_at dksX0_lightestOf_1 7 rfl rfl)
theorem dX0_lightestOf_30 : decode cX0_lightestOf 30 = .ok (.iconst 1, 1) := dk_4 (dk_at dksX0_lightestOf_1 8 rfl rfl)
theorem dX0_lightestOf_31 : decode cX0_lightestOf 31 = .ok (.iload_n 3, 1) := dk_29 (dk_at dksX0_lightestOf_1 9 rfl rfl)
theorem dX0_lightestOf_32 : decode cX0_lightestOf 32 = .ok (.ishl, 1) := dk_120 (dk_at dksX0_lightestOf_1 10 rfl rfl)
theorem dX0_lightestOf_33 : decode cX0_lightestOf 33 = .ok (.iconst (-1), 1) := dk_2 (dk_at dksX0_lightestOf_1 11 rfl rfl)
theorem dX0_lightestOf_34 : decode cX0_lightestOf 34 = .ok (.ixor, 1) := dk_130 (dk_at dksX0_lightestOf_1 12 rfl rfl)
theorem dX0_lightestOf_35 : decode cX0_lightestOf 35 = .ok (.iand, 1) := dk_126 (dk_at dksX0_lightestOf_1 13 rfl rfl)
theorem dX0_lightestOf_36 : decode cX0_lightestOf 36 = .ok (.invokevirtual 430, 3) := dk_182 1 174 (dk_at dksX0_lightestOf_1 14 rfl rfl)
theorem dX0_lightestOf_39 : decode cX0_lightestOf 39 = .ok (.aload_n 0, 1) := dk_42 (dk_at dksX0_lightestOf_1 17 rfl rfl)
theorem dX0_lightestOf_40 : decode cX0_lightestOf 40 = .ok (.invokevirtual 377, 3) := dk_182 1 121 (dk_at dksX0_lightestOf_1 18 rfl rfl)
theorem dX0_lightestOf_43 : decode cX0_lightestOf 43 = .ok (.iload_n 2, 1) := dk_28 (dk_at dksX0_lightestOf_1 21 rfl rfl)
theorem dX0_lightestOf_44 : decode cX0_lightestOf 44 = .ok (.iconst (-1), 1) := dk_2 (dk_at dksX0_lightestOf_1 22 rfl rfl)
theorem dX0_lightestOf_45 : decode cX0_lightestOf 45 = .ok (.if_icmp .eq 17, 3) := dk_159 0 17 (dk_at dksX0_lightestOf_2 0 rfl rfl)
theorem dX0_lightestOf_48 : decode cX0_lightestOf 48 = .ok (.aload_n 0, 1) := dk_42 (dk_at dksX0_lightestOf_2 3 rfl rfl)
theorem dX0_lightestOf_49 : decode cX0_lightestOf 49 = .ok (.getfield 300, 3) := dk_180 1 44 (dk_at dksX0_lightestOf_2 4 rfl rfl)
theorem dX0_lightestOf_52 : decode cX0_lightestOf 52 = .ok (.aload_n 0, 1) := dk_42 (dk_at dksX0_lightestOf_2 7 rfl rfl)
theorem dX0_lightestOf_53 : decode cX0_lightestOf 53 = .ok (.getfield 303, 3) := dk_180 1 47 (dk_at dksX0_lightestOf_2 8 rfl rfl)
theorem dX0_lightestOf_56 : decode cX0_lightestOf 56 = .ok (.invokevirtual 437, 3) := dk_182 1 181 (dk_at dksX0_lightestOf_2 11 rfl rfl)
theorem dX0_lightestOf_59 : decode cX0_lightestOf 59 = .ok (.ifCond .ge 16, 3) := dk_156 0 16 (dk_at dksX0_lightestOf_2 14 rfl rfl)
theorem dX0_lightestOf_62 : decode cX0_lightestOf 62 = .ok (.iload_n 3, 1) := dk_29 (dk_at dksX0_lightestOf_2 17 rfl rfl)
theorem dX0_lightestOf_63 : decode cX0_lightestOf 63 = .ok (.istore_n 2, 1) := dk_61 (dk_at dksX0_lightestOf_2 18 rfl rfl)
theorem dX0_lightestOf_64 : decode cX0_lightestOf 64 = .ok (.aload_n 0, 1) := dk_42 (dk_at dksX0_lightestOf_2 19 rfl rfl)
theorem dX0_lightestOf_65 : decode cX0_lightestOf 65 = .ok (.getfield 303, 3) := dk_180 1 47 (dk_at dksX0_lightestOf_2 20 rfl rfl)
theorem dX0_lightestOf_68 : decode cX0_lightestOf 68 = .ok (.aload_n 0, 1) := dk_42 (dk_at dksX0_lightestOf_2 23 rfl rfl)
theorem dX0_lightestOf_69 : decode cX0_lightestOf 69 = .ok (.getfield 300, 3) := dk_180 1 44 (dk_at dksX0_lightestOf_3 0 rfl rfl)
theorem dX0_lightestOf_72 : decode cX0_lightestOf 72 = .ok (.invokevirtual 440, 3) := dk_182 1 184 (dk_at dksX0_lightestOf_3 3 rfl rfl)
theorem dX0_lightestOf_75 : decode cX0_lightestOf 75 = .ok (.iinc 3 1, 3) := dk_132 3 1 (dk_at dksX0_lightestOf_3 6 rfl rfl)
theorem dX0_lightestOf_78 : decode cX0_lightestOf 78 = .ok (.goto (-69), 3) := dk_167 255 187 (dk_at dksX0_lightestOf_3 9 rfl rfl)
theorem dX0_lightestOf_81 : decode cX0_lightestOf 81 = .ok (.aload_n 0, 1) := dk_42 (dk_at dksX0_lightestOf_3 12 rfl rfl)
theorem dX0_lightestOf_82 : decode cX0_lightestOf 82 = .ok (.iload_n 1, 1) := dk_27 (dk_at dksX0_lightestOf_3 13 rfl rfl)
theorem dX0_lightestOf_83 : decode cX0_lightestOf 83 = .ok (.invokevirtual 430, 3) := dk_182 1 174 (dk_at dksX0_lightestOf_3 14 rfl rfl)
theorem dX0_lightestOf_86 : decode cX0_lightestOf 86 = .ok (.goto 13, 3) := dk_167 0 13 (dk_at dksX0_lightestOf_3 17 rfl rfl)
theorem dX0_lightestOf_89 : decode cX0_lightestOf 89 = .ok (.astore 4, 2) := dk_58 4 (dk_at dksX0_lightestOf_3 20 rfl rfl)
theorem dX0_lightestOf_91 : decode cX0_lightestOf 91 = .ok (.aload_n 0, 1) := dk_42 (dk_at dksX0_lightestOf_3 22 rfl rfl)
theorem dX0_lightestOf_92 : decode cX0_lightestOf 92 = .ok (.iload_n 1, 1) := dk_27 (dk_at dksX0_lightestOf_3 23 rfl rfl)
theorem dX0_lightestOf_93 : decode cX0_lightestOf 93 = .ok (.invokevirtual 430, 3) := dk_182 1 174 (dk_at dksX0_lightestOf_4 0 rfl rfl)
theorem dX0_lightestOf_96 : decode cX0_lightestOf 96 = .ok (.aload 4, 2) := dk_25 4 (dk_at dksX0_lightestOf_4 3 rfl rfl)
theorem dX0_lightestOf_98 : decode cX0_lightestOf 98 = .ok (.athrow, 1) := dk_191 (dk_at dksX0_lightestOf_4 5 rfl rfl)
theorem dX0_lightestOf_99 : decode cX0_lightestOf 99 = .ok (.iload_n 2, 1) := dk_28 (dk_at dksX0_lightestOf_4 6 rfl rfl)
theorem dX0_lightestOf_100 : decode cX0_lightestOf 100 = .ok (.ireturn, 1) := dk_172 (dk_at dksX0_lightestOf_4 7 rfl rfl)
abbrev cX0_prop : ByteArray := prog_1_method_67_code
def yX0_prop : MethodName := ⟨RX0, "prop", "(III)I"⟩
def dkwX0_prop_4 : List UInt8 := [167, 255, 211, 29, 154, 0, 8, 21, 4, 167, 0, 5, 21, 5, 172]
abbrev dktX0_prop_4 : List UInt8 := dkwX0_prop_4 ++ []
def dkwX0_prop_3 : List UInt8 := [162, 0, 8, 21, 6, 167, 0, 5, 21, 4, 54, 4, 21, 5, 21, 7, 184, 0, 1, 54, 5, 132, 6, 1]
abbrev dktX0_prop_3 : List UInt8 := dkwX0_prop_3 ++ dktX0_prop_4
def dkwX0_prop_2 : List UInt8 := [54, 6, 21, 6, 16, 10, 162, 0, 44, 42, 21, 6, 28, 27, 182, 1, 196, 54, 7, 21, 7, 21, 5]
abbrev dktX0_prop_2 : List UInt8 := dkwX0_prop_2 ++ dktX0_prop_3
def dkwX0_prop_1 : List UInt8 := [29, 133, 9, 10, 184, 0, 16, 154, 0, 6, 16, 254, 172, 2, 54, 4, 42, 27, 182, 1, 151, 54, 5, 3]
abbrev dktX0_prop_1 : List UInt8 := dkwX0_prop_1 ++ dktX0_prop_2
def dkwX0_prop_0 : List UInt8 := [27, 133, 9, 20, 1, 192, 184, 0, 16, 153, 0, 25, 28, 133, 10, 20, 1, 194, 184, 0, 16, 153, 0, 13]
abbrev dktX0_prop_0 : List UInt8 := dkwX0_prop_0 ++ dktX0_prop_1
theorem dksX0_prop_0 : cX0_prop.data.toList.drop 0 = dktX0_prop_0 := by decide +kernel
theorem dksX0_prop_1 : cX0_prop.data.toList.drop 24 = dktX0_prop_1 := dk_seg dksX0_prop_0 24 rfl rfl
theorem dksX0_prop_2 : cX0_prop.data.toList.drop 48 = dktX0_prop_2 := dk_seg dksX0_prop_1 24 rfl rfl
theorem dksX0_prop_3 : cX0_prop.data.toList.drop 71 = dktX0_prop_3 := dk_seg dksX0_prop_2 23 rfl rfl
theorem dksX0_prop_4 : cX0_prop.data.toList.drop 95 = dktX0_prop_4 := dk_seg dksX0_prop_3 24 rfl rfl
theorem dX0_prop_0 : decode cX0_prop 0 = .ok (.iload_n 1, 1) := dk_27 (dk_at dksX0_prop_0 0 rfl rfl)
theorem dX0_prop_1 : decode cX0_prop 1 = .ok (.i2l, 1) := dk_133 (dk_at dksX0_prop_0 1 rfl rfl)
theorem dX0_prop_2 : decode cX0_prop 2 = .ok (.lconst 0, 1) := dk_9 (dk_at dksX0_prop_0 2 rfl rfl)
theorem dX0_prop_3 : decode cX0_prop 3 = .ok (.ldc2_w 448, 3) := dk_20 1 192 (dk_at dksX0_prop_0 3 rfl rfl)
theorem dX0_prop_6 : decode cX0_prop 6 = .ok (.invokestatic 16, 3) := dk_184 0 16 (dk_at dksX0_prop_0 6 rfl rfl)
theorem dX0_prop_9 : decode cX0_prop 9 = .ok (.ifCond .eq 25, 3) := dk_153 0 25 (dk_at dksX0_prop_0 9 rfl rfl)
theorem dX0_prop_12 : decode cX0_prop 12 = .ok (.iload_n 2, 1) := dk_28 (dk_at dksX0_prop_0 12 rfl rfl)
theorem dX0_prop_13 : decode cX0_prop 13 = .ok (.i2l, 1) := dk_133 (dk_at dksX0_prop_0 13 rfl rfl)
theorem dX0_prop_14 : decode cX0_prop 14 = .ok (.lconst 1, 1) := dk_10 (dk_at dksX0_prop_0 14 rfl rfl)
theorem dX0_prop_15 : decode cX0_prop 15 = .ok (.ldc2_w 450, 3) := dk_20 1 194 (dk_at dksX0_prop_0 15 rfl rfl)
theorem dX0_prop_18 : decode cX0_prop 18 = .ok (.invokestatic 16, 3) := dk_184 0 16 (dk_at dksX0_prop_0 18 rfl rfl)
theorem dX0_prop_21 : decode cX0_prop 21 = .ok (.ifCond .eq 13, 3) := dk_153 0 13 (dk_at dksX0_prop_0 21 rfl rfl)
theorem dX0_prop_24 : decode cX0_prop 24 = .ok (.iload_n 3, 1) := dk_29 (dk_at dksX0_prop_1 0 rfl rfl)
theorem dX0_prop_25 : decode cX0_prop 25 = .ok (.i2l, 1) := dk_133 (dk_at dksX0_prop_1 1 rfl rfl)
theorem dX0_prop_26 : decode cX0_prop 26 = .ok (.lconst 0, 1) := dk_9 (dk_at dksX0_prop_1 2 rfl rfl)
theorem dX0_prop_27 : decode cX0_prop 27 = .ok (.lconst 1, 1) := dk_10 (dk_at dksX0_prop_1 3 rfl rfl)
theorem dX0_prop_28 : decode cX0_prop 28 = .ok (.invokestatic 16, 3) := dk_184 0 16 (dk_at dksX0_prop_1 4 rfl rfl)
theorem dX0_prop_31 : decode cX0_prop 31 = .ok (.ifCond .ne 6, 3) := dk_154 0 6 (dk_at dksX0_prop_1 7 rfl rfl)
theorem dX0_prop_34 : decode cX0_prop 34 = .ok (.bipush (-2), 2) := dk_16 254 (dk_at dksX0_prop_1 10 rfl rfl)
theorem dX0_prop_36 : decode cX0_prop 36 = .ok (.ireturn, 1) := dk_172 (dk_at dksX0_prop_1 12 rfl rfl)
theorem dX0_prop_37 : decode cX0_prop 37 = .ok (.iconst (-1), 1) := dk_2 (dk_at dksX0_prop_1 13 rfl rfl)
theorem dX0_prop_38 : decode cX0_prop 38 = .ok (.istore 4, 2) := dk_54 4 (dk_at dksX0_prop_1 14 rfl rfl)
theorem dX0_prop_40 : decode cX0_prop 40 = .ok (.aload_n 0, 1) := dk_42 (dk_at dksX0_prop_1 16 rfl rfl)
theorem dX0_prop_41 : decode cX0_prop 41 = .ok (.iload_n 1, 1) := dk_27 (dk_at dksX0_prop_1 17 rfl rfl)
theorem dX0_prop_42 : decode cX0_prop 42 = .ok (.invokevirtual 407, 3) := dk_182 1 151 (dk_at dksX0_prop_1 18 rfl rfl)
theorem dX0_prop_45 : decode cX0_prop 45 = .ok (.istore 5, 2) := dk_54 5 (dk_at dksX0_prop_1 21 rfl rfl)
theorem dX0_prop_47 : decode cX0_prop 47 = .ok (.iconst 0, 1) := dk_3 (dk_at dksX0_prop_1 23 rfl rfl)
theorem dX0_prop_48 : decode cX0_prop 48 = .ok (.istore 6, 2) := dk_54 6 (dk_at dksX0_prop_2 0 rfl rfl)
theorem dX0_prop_50 : decode cX0_prop 50 = .ok (.iload 6, 2) := dk_21 6 (dk_at dksX0_prop_2 2 rfl rfl)
theorem dX0_prop_52 : decode cX0_prop 52 = .ok (.bipush 10, 2) := dk_16 10 (dk_at dksX0_prop_2 4 rfl rfl)
theorem dX0_prop_54 : decode cX0_prop 54 = .ok (.if_icmp .ge 44, 3) := dk_162 0 44 (dk_at dksX0_prop_2 6 rfl rfl)
theorem dX0_prop_57 : decode cX0_prop 57 = .ok (.aload_n 0, 1) := dk_42 (dk_at dksX0_prop_2 9 rfl rfl)
theorem dX0_prop_58 : decode cX0_prop 58 = .ok (.iload 6, 2) := dk_21 6 (dk_at dksX0_prop_2 10 rfl rfl)
theorem dX0_prop_60 : decode cX0_prop 60 = .ok (.iload_n 2, 1) := dk_28 (dk_at dksX0_prop_2 12 rfl rfl)
theorem dX0_prop_61 : decode cX0_prop 61 = .ok (.iload_n 1, 1) := dk_27 (dk_at dksX0_prop_2 13 rfl rfl)
theorem dX0_prop_62 : decode cX0_prop 62 = .ok (.invokevirtual 452, 3) := dk_182 1 196 (dk_at dksX0_prop_2 14 rfl rfl)
theorem dX0_prop_65 : decode cX0_prop 65 = .ok (.istore 7, 2) := dk_54 7 (dk_at dksX0_prop_2 17 rfl rfl)
theorem dX0_prop_67 : decode cX0_prop 67 = .ok (.iload 7, 2) := dk_21 7 (dk_at dksX0_prop_2 19 rfl rfl)
theorem dX0_prop_69 : decode cX0_prop 69 = .ok (.iload 5, 2) := dk_21 5 (dk_at dksX0_prop_2 21 rfl rfl)
theorem dX0_prop_71 : decode cX0_prop 71 = .ok (.if_icmp .ge 8, 3) := dk_162 0 8 (dk_at dksX0_prop_3 0 rfl rfl)
theorem dX0_prop_74 : decode cX0_prop 74 = .ok (.iload 6, 2) := dk_21 6 (dk_at dksX0_prop_3 3 rfl rfl)
theorem dX0_prop_76 : decode cX0_prop 76 = .ok (.goto 5, 3) := dk_167 0 5 (dk_at dksX0_prop_3 5 rfl rfl)
theorem dX0_prop_79 : decode cX0_prop 79 = .ok (.iload 4, 2) := dk_21 4 (dk_at dksX0_prop_3 8 rfl rfl)
theorem dX0_prop_81 : decode cX0_prop 81 = .ok (.istore 4, 2) := dk_54 4 (dk_at dksX0_prop_3 10 rfl rfl)
theorem dX0_prop_83 : decode cX0_prop 83 = .ok (.iload 5, 2) := dk_21 5 (dk_at dksX0_prop_3 12 rfl rfl)
theorem dX0_prop_85 : decode cX0_prop 85 = .ok (.iload 7, 2) := dk_21 7 (dk_at dksX0_prop_3 14 rfl rfl)
theorem dX0_prop_87 : decode cX0_prop 87 = .ok (.invokestatic 1, 3) := dk_184 0 1 (dk_at dksX0_prop_3 16 rfl rfl)
theorem dX0_prop_90 : decode cX0_prop 90 = .ok (.istore 5, 2) := dk_54 5 (dk_at dksX0_prop_3 19 rfl rfl)
theorem dX0_prop_92 : decode cX0_prop 92 = .ok (.iinc 6 1, 3) := dk_132 6 1 (dk_at dksX0_prop_3 21 rfl rfl)
theorem dX0_prop_95 : decode cX0_prop 95 = .ok (.goto (-45), 3) := dk_167 255 211 (dk_at dksX0_prop_4 0 rfl rfl)
theorem dX0_prop_98 : decode cX0_prop 98 = .ok (.iload_n 3, 1) := dk_29 (dk_at dksX0_prop_4 3 rfl rfl)
theorem dX0_prop_99 : decode cX0_prop 99 = .ok (.ifCond .ne 8, 3) := dk_154 0 8 (dk_at dksX0_prop_4 4 rfl rfl)
theorem dX0_prop_102 : decode cX0_prop 102 = .ok (.iload 4, 2) := dk_21 4 (dk_at dksX0_prop_4 7 rfl rfl)
theorem dX0_prop_104 : decode cX0_prop 104 = .ok (.goto 5, 3) := dk_167 0 5 (dk_at dksX0_prop_4 9 rfl rfl)
theorem dX0_prop_107 : decode cX0_prop 107 = .ok (.iload 5, 2) := dk_21 5 (dk_at dksX0_prop_4 12 rfl rfl)
theorem dX0_prop_109 : decode cX0_prop 109 = .ok (.ireturn, 1) := dk_172 (dk_at dksX0_prop_4 14 rfl rfl)
abbrev cX0_onPropping : ByteArray := prog_1_method_66_code
def yX0_onPropping : MethodName := ⟨RX0, "onPropping", "(III)I"⟩
def dkwX0_onPropping_2 : List UInt8 := [27, 21, 4, 79, 25, 6, 191]
abbrev dktX0_onPropping_2 : List UInt8 := dkwX0_onPropping_2 ++ []
def dkwX0_onPropping_1 : List UInt8 := [42, 29, 182, 1, 151, 54, 5, 42, 180, 0, 62, 27, 21, 4, 79, 21, 5, 172, 58, 6, 42, 180, 0, 62]
abbrev dktX0_onPropping_1 : List UInt8 := dkwX0_onPropping_1 ++ dktX0_onPropping_2
def dkwX0_onPropping_0 : List UInt8 := [42, 180, 0, 62, 27, 46, 54, 4, 42, 180, 0, 62, 27, 17, 3, 231, 21, 4, 28, 96, 184, 0, 1, 79]
abbrev dktX0_onPropping_0 : List UInt8 := dkwX0_onPropping_0 ++ dktX0_onPropping_1
theorem dksX0_onPropping_0 : cX0_onPropping.data.toList.drop 0 = dktX0_onPropping_0 := by decide +kernel
theorem dksX0_onPropping_1 : cX0_onPropping.data.toList.drop 24 = dktX0_onPropping_1 := dk_seg dksX0_onPropping_0 24 rfl rfl
theorem dksX0_onPropping_2 : cX0_onPropping.data.toList.drop 48 = dktX0_onPropping_2 := dk_seg dksX0_onPropping_1 24 rfl rfl
theorem dX0_onPropping_0 : decode cX0_onPropping 0 = .ok (.aload_n 0, 1) := dk_42 (dk_at dksX0_onPropping_0 0 rfl rfl)
theorem dX0_onPropping_1 : decode cX0_onPropping 1 = .ok (.getfield 62, 3) := dk_180 0 62 (dk_at dksX0_onPropping_0 1 rfl rfl)
theorem dX0_onPropping_4 : decode cX0_onPropping 4 = .ok (.iload_n 1, 1) := dk_27 (dk_at dksX0_onPropping_0 4 rfl rfl)
theorem dX0_onPropping_5 : decode cX0_onPropping 5 = .ok (.iaload, 1) := dk_46 (dk_at dksX0_onPropping_0 5 rfl rfl)
theorem dX0_onPropping_6 : decode cX0_onPropping 6 = .ok (.istore 4, 2) := dk_54 4 (dk_at dksX0_onPropping_0 6 rfl rfl)
theorem dX0_onPropping_8 : decode cX0_onPropping 8 = .ok (.aload_n 0, 1) := dk_42 (dk_at dksX0_onPropping_0 8 rfl rfl)
theorem dX0_onPropping_9 : decode cX0_onPropping 9 = .ok (.getfield 62, 3) := dk_180 0 62 (dk_at dksX0_onPropping_0 9 rfl rfl)
theorem dX0_onPropping_12 : decode cX0_onPropping 12 = .ok (.iload_n 1, 1) := dk_27 (dk_at dksX0_onPropping_0 12 rfl rfl)
theorem dX0_onPropping_13 : decode cX0_onPropping 13 = .ok (.sipush 999, 3) := dk_17 3 231 (dk_at dksX0_onPropping_0 13 rfl rfl)
theorem dX0_onPropping_16 : decode cX0_onPropping 16 = .ok (.iload 4, 2) := dk_21 4 (dk_at dksX0_onPropping_0 16 rfl rfl)
theorem dX0_onPropping_18 : decode cX0_onPropping 18 = .ok (.iload_n 2, 1) := dk_28 (dk_at dksX0_onPropping_0 18 rfl rfl)
theorem dX0_onPropping_19 : decode cX0_onPropping 19 = .ok (.iadd, 1) := dk_96 (dk_at dksX0_onPropping_0 19 rfl rfl)
theorem dX0_onPropping_20 : decode cX0_onPropping 20 = .ok (.invokestatic 1, 3) := dk_184 0 1 (dk_at dksX0_onPropping_0 20 rfl rfl)
theorem dX0_onPropping_23 : decode cX0_onPropping 23 = .ok (.iastore, 1) := dk_79 (dk_at dksX0_onPropping_0 23 rfl rfl)
theorem dX0_onPropping_24 : decode cX0_onPropping 24 = .ok (.aload_n 0, 1) := dk_42 (dk_at dksX0_onPropping_1 0 rfl rfl)
theorem dX0_onPropping_25 : decode cX0_onPropping 25 = .ok (.iload_n 3, 1) := dk_29 (dk_at dksX0_onPropping_1 1 rfl rfl)
theorem dX0_onPropping_26 : decode cX0_onPropping 26 = .ok (.invokevirtual 407, 3) := dk_182 1 151 (dk_at dksX0_onPropping_1 2 rfl rfl)
theorem dX0_onPropping_29 : decode cX0_onPropping 29 = .ok (.istore 5, 2) := dk_54 5 (dk_at dksX0_onPropping_1 5 rfl rfl)
theorem dX0_onPropping_31 : decode cX0_onPropping 31 = .ok (.aload_n 0, 1) := dk_42 (dk_at dksX0_onPropping_1 7 rfl rfl)
theorem dX0_onPropping_32 : decode cX0_onPropping 32 = .ok (.getfield 62, 3) := dk_180 0 62 (dk_at dksX0_onPropping_1 8 rfl rfl)
theorem dX0_onPropping_35 : decode cX0_onPropping 35 = .ok (.iload_n 1, 1) := dk_27 (dk_at dksX0_onPropping_1 11 rfl rfl)
theorem dX0_onPropping_36 : decode cX0_onPropping 36 = .ok (.iload 4, 2) := dk_21 4 (dk_at dksX0_onPropping_1 12 rfl rfl)
theorem dX0_onPropping_38 : decode cX0_onPropping 38 = .ok (.iastore, 1) := dk_79 (dk_at dksX0_onPropping_1 14 rfl rfl)
theorem dX0_onPropping_39 : decode cX0_onPropping 39 = .ok (.iload 5, 2) := dk_21 5 (dk_at dksX0_onPropping_1 15 rfl rfl)
theorem dX0_onPropping_41 : decode cX0_onPropping 41 = .ok (.ireturn, 1) := dk_172 (dk_at dksX0_onPropping_1 17 rfl rfl)
theorem dX0_onPropping_42 : decode cX0_onPropping 42 = .ok (.astore 6, 2) := dk_58 6 (dk_at dksX0_onPropping_1 18 rfl rfl)
theorem dX0_onPropping_44 : decode cX0_onPropping 44 = .ok (.aload_n 0, 1) := dk_42 (dk_at dksX0_onPropping_1 20 rfl rfl)
theorem dX0_onPropping_45 : decode cX0_onPropping 45 = .ok (.getfield 62, 3) := dk_180 0 62 (dk_at dksX0_onPropping_1 21 rfl rfl)
theorem dX0_onPropping_48 : decode cX0_onPropping 48 = .ok (.iload_n 1, 1) := dk_27 (dk_at dksX0_onPropping_2 0 rfl rfl)
theorem dX0_onPropping_49 : decode cX0_onPropping 49 = .ok (.iload 4, 2) := dk_21 4 (dk_at dksX0_onPropping_2 1 rfl rfl)
theorem dX0_onPropping_51 : decode cX0_onPropping 51 = .ok (.iastore, 1) := dk_79 (dk_at dksX0_onPropping_2 3 rfl rfl)
theorem dX0_onPropping_52 : decode cX0_onPropping 52 = .ok (.aload 6, 2) := dk_25 6 (dk_at dksX0_onPropping_2 4 rfl rfl)
theorem dX0_onPropping_54 : decode cX0_onPropping 54 = .ok (.athrow, 1) := dk_191 (dk_at dksX0_onPropping_2 6 rfl rfl)
abbrev cX0_sit : ByteArray := prog_1_method_69_code
def yX0_sit : MethodName := ⟨RX0, "sit", "(II)I"⟩
def dkwX0_sit_5 : List UInt8 := [154, 0, 7, 29, 167, 0, 5, 21, 4, 172]
abbrev dktX0_sit_5 : List UInt8 := dkwX0_sit_5 ++ []
def dkwX0_sit_4 : List UInt8 := [29, 62, 21, 7, 153, 0, 8, 21, 6, 167, 0, 5, 21, 4, 54, 4, 132, 5, 1, 167, 255, 174, 28]
abbrev dktX0_sit_4 : List UInt8 := dkwX0_sit_4 ++ dktX0_sit_5
def dkwX0_sit_3 : List UInt8 := [21, 6, 21, 4, 162, 0, 7, 4, 167, 0, 4, 3, 54, 7, 21, 7, 153, 0, 8, 21, 5, 167, 0, 4]
abbrev dktX0_sit_3 : List UInt8 := dkwX0_sit_3 ++ dktX0_sit_4
def dkwX0_sit_2 : List UInt8 := [50, 180, 0, 81, 153, 0, 6, 167, 0, 57, 42, 21, 5, 27, 182, 1, 199, 54, 6, 29, 2, 159, 0, 10]
abbrev dktX0_sit_2 : List UInt8 := dkwX0_sit_2 ++ dktX0_sit_3
def dkwX0_sit_1 : List UInt8 := [172, 2, 62, 2, 54, 4, 3, 54, 5, 21, 5, 42, 180, 0, 10, 162, 0, 79, 42, 180, 0, 47, 21, 5]
abbrev dktX0_sit_1 : List UInt8 := dkwX0_sit_1 ++ dktX0_sit_2
def dkwX0_sit_0 : List UInt8 := [27, 133, 9, 20, 1, 192, 184, 0, 16, 153, 0, 13, 28, 133, 9, 10, 184, 0, 16, 154, 0, 6, 16, 254]
abbrev dktX0_sit_0 : List UInt8 := dkwX0_sit_0 ++ dktX0_sit_1
theorem dksX0_sit_0 : cX0_sit.data.toList.drop 0 = dktX0_sit_0 := by decide +kernel
theorem dksX0_sit_1 : cX0_sit.data.toList.drop 24 = dktX0_sit_1 := dk_seg dksX0_sit_0 24 rfl rfl
theorem dksX0_sit_2 : cX0_sit.data.toList.drop 48 = dktX0_sit_2 := dk_seg dksX0_sit_1 24 rfl rfl
theorem dksX0_sit_3 : cX0_sit.data.toList.drop 72 = dktX0_sit_3 := dk_seg dksX0_sit_2 24 rfl rfl
theorem dksX0_sit_4 : cX0_sit.data.toList.drop 96 = dktX0_sit_4 := dk_seg dksX0_sit_3 24 rfl rfl
theorem dksX0_sit_5 : cX0_sit.data.toList.drop 119 = dktX0_sit_5 := dk_seg dksX0_sit_4 23 rfl rfl
theorem dX0_sit_0 : decode cX0_sit 0 = .ok (.iload_n 1, 1) := dk_27 (dk_at dksX0_sit_0 0 rfl rfl)
theorem dX0_sit_1 : decode cX0_sit 1 = .ok (.i2l, 1) := dk_133 (dk_at dksX0_sit_0 1 rfl rfl)
theorem dX0_sit_2 : decode cX0_sit 2 = .ok (.lconst 0, 1) := dk_9 (dk_at dksX0_sit_0 2 rfl rfl)
theorem dX0_sit_3 : decode cX0_sit 3 = .ok (.ldc2_w 448, 3) := dk_20 1 192 (dk_at dksX0_sit_0 3 rfl rfl)
theorem dX0_sit_6 : decode cX0_sit 6 = .ok (.invokestatic 16, 3) := dk_184 0 16 (dk_at dksX0_sit_0 6 rfl rfl)
theorem dX0_sit_9 : decode cX0_sit 9 = .ok (.ifCond .eq 13, 3) := dk_153 0 13 (dk_at dksX0_sit_0 9 rfl rfl)
theorem dX0_sit_12 : decode cX0_sit 12 = .ok (.iload_n 2, 1) := dk_28 (dk_at dksX0_sit_0 12 rfl rfl)
theorem dX0_sit_13 : decode cX0_sit 13 = .ok (.i2l, 1) := dk_133 (dk_at dksX0_sit_0 13 rfl rfl)
theorem dX0_sit_14 : decode cX0_sit 14 = .ok (.lconst 0, 1) := dk_9 (dk_at dksX0_sit_0 14 rfl rfl)
theorem dX0_sit_15 : decode cX0_sit 15 = .ok (.lconst 1, 1) := dk_10 (dk_at dksX0_sit_0 15 rfl rfl)
theorem dX0_sit_16 : decode cX0_sit 16 = .ok (.invokestatic 16, 3) := dk_184 0 16 (dk_at dksX0_sit_0 16 rfl rfl)
theorem dX0_sit_19 : decode cX0_sit 19 = .ok (.ifCond .ne 6, 3) := dk_154 0 6 (dk_at dksX0_sit_0 19 rfl rfl)
theorem dX0_sit_22 : decode cX0_sit 22 = .ok (.bipush (-2), 2) := dk_16 254 (dk_at dksX0_sit_0 22 rfl rfl)
theorem dX0_sit_24 : decode cX0_sit 24 = .ok (.ireturn, 1) := dk_172 (dk_at dksX0_sit_1 0 rfl rfl)
theorem dX0_sit_25 : decode cX0_sit 25 = .ok (.iconst (-1), 1) := dk_2 (dk_at dksX0_sit_1 1 rfl rfl)
theorem dX0_sit_26 : decode cX0_sit 26 = .ok (.istore_n 3, 1) := dk_62 (dk_at dksX0_sit_1 2 rfl rfl)
theorem dX0_sit_27 : decode cX0_sit 27 = .ok (.iconst (-1), 1) := dk_2 (dk_at dksX0_sit_1 3 rfl rfl)
theorem dX0_sit_28 : decode cX0_sit 28 = .ok (.istore 4, 2) := dk_54 4 (dk_at dksX0_sit_1 4 rfl rfl)
theorem dX0_sit_30 : decode cX0_sit 30 = .ok (.iconst 0, 1) := dk_3 (dk_at dksX0_sit_1 6 rfl rfl)
theorem dX0_sit_31 : decode cX0_sit 31 = .ok (.istore 5, 2) := dk_54 5 (dk_at dksX0_sit_1 7 rfl rfl)
theorem dX0_sit_33 : decode cX0_sit 33 = .ok (.iload 5, 2) := dk_21 5 (dk_at dksX0_sit_1 9 rfl rfl)
theorem dX0_sit_35 : decode cX0_sit 35 = .ok (.aload_n 0, 1) := dk_42 (dk_at dksX0_sit_1 11 rfl rfl)
theorem dX0_sit_36 : decode cX0_sit 36 = .ok (.getfield 10, 3) := dk_180 0 10 (dk_at dksX0_sit_1 12 rfl rfl)
theorem dX0_sit_39 : decode cX0_sit 39 = .ok (.if_icmp .ge 79, 3) := dk_162 0 79 (dk_at dksX0_sit_1 15 rfl rfl)
theorem dX0_sit_42 : decode cX0_sit 42 = .ok (.aload_n 0, 1) := dk_42 (dk_at dksX0_sit_1 18 rfl rfl)
theorem dX0_sit_43 : decode cX0_sit 43 = .ok (.getfield 47, 3) := dk_180 0 47 (dk_at dksX0_sit_1 19 rfl rfl)
theorem dX0_sit_46 : decode cX0_sit 46 = .ok (.iload 5, 2) := dk_21 5 (dk_at dksX0_sit_1 22 rfl rfl)
theorem dX0_sit_48 : decode cX0_sit 48 = .ok (.aaload, 1) := dk_50 (dk_at dksX0_sit_2 0 rfl rfl)
theorem dX0_sit_49 : decode cX0_sit 49 = .ok (.getfield 81, 3) := dk_180 0 81 (dk_at dksX0_sit_2 1 rfl rfl)
theorem dX0_sit_52 : decode cX0_sit 52 = .ok (.ifCond .eq 6, 3) := dk_153 0 6 (dk_at dksX0_sit_2 4 rfl rfl)
theorem dX0_sit_55 : decode cX0_sit 55 = .ok (.goto 57, 3) := dk_167 0 57 (dk_at dksX0_sit_2 7 rfl rfl)
theorem dX0_sit_58 : decode cX0_sit 58 = .ok (.aload_n 0, 1) := dk_42 (dk_at dksX0_sit_2 10 rfl rfl)
theorem dX0_sit_59 : decode cX0_sit 59 = .ok (.iload 5, 2) := dk_21 5 (dk_at dksX0_sit_2 11 rfl rfl)
theorem dX0_sit_61 : decode cX0_sit 61 = .ok (.iload_n 1, 1) := dk_27 (dk_at dksX0_sit_2 13 rfl rfl)
theorem dX0_sit_62 : decode cX0_sit 62 = .ok (.invokevirtual 455, 3) := dk_182 1 199 (dk_at dksX0_sit_2 14 rfl rfl)
theorem dX0_sit_65 : decode cX0_sit 65 = .ok (.istore 6, 2) := dk_54 6 (dk_at dksX0_sit_2 17 rfl rfl)
theorem dX0_sit_67 : decode cX0_sit 67 = .ok (.iload_n 3, 1) := dk_29 (dk_at dksX0_sit_2 19 rfl rfl)
theorem dX0_sit_68 : decode cX0_sit 68 = .ok (.iconst (-1), 1) := dk_2 (dk_at dksX0_sit_2 20 rfl rfl)
theorem dX0_sit_69 : decode cX0_sit 69 = .ok (.if_icmp .eq 10, 3) := dk_159 0 10 (dk_at dksX0_sit_2 21 rfl rfl)
theorem dX0_sit_72 : decode cX0_sit 72 = .ok (.iload 6, 2) := dk_21 6 (dk_at dksX0_sit_3 0 rfl rfl)
theorem dX0_sit_74 : decode cX0_sit 74 = .ok (.iload 4, 2) := dk_21 4 (dk_at dksX0_sit_3 2 rfl rfl)
theorem dX0_sit_76 : decode cX0_sit 76 = .ok (.if_icmp .ge 7, 3) := dk_162 0 7 (dk_at dksX0_sit_3 4 rfl rfl)
theorem dX0_sit_79 : decode cX0_sit 79 = .ok (.iconst 1, 1) := dk_4 (dk_at dksX0_sit_3 7 rfl rfl)
theorem dX0_sit_80 : decode cX0_sit 80 = .ok (.goto 4, 3) := dk_167 0 4 (dk_at dksX0_sit_3 8 rfl rfl)
theorem dX0_sit_83 : decode cX0_sit 83 = .ok (.iconst 0, 1) := dk_3 (dk_at dksX0_sit_3 11 rfl rfl)
theorem dX0_sit_84 : decode cX0_sit 84 = .ok (.istore 7, 2) := dk_54 7 (dk_at dksX0_sit_3 12 rfl rfl)
theorem dX0_sit_86 : decode cX0_sit 86 = .ok (.iload 7, 2) := dk_21 7 (dk_at dksX0_sit_3 14 rfl rfl)
theorem dX0_sit_88 : decode cX0_sit 88 = .ok (.ifCond .eq 8, 3) := dk_153 0 8 (dk_at dksX0_sit_3 16 rfl rfl)
theorem dX0_sit_91 : decode cX0_sit 91 = .ok (.iload 5, 2) := dk_21 5 (dk_at dksX0_sit_3 19 rfl rfl)
theorem dX0_sit_93 : decode cX0_sit 93 = .ok (.goto 4, 3) := dk_167 0 4 (dk_at dksX0_sit_3 21 rfl rfl)
theorem dX0_sit_96 : decode cX0_sit 96 = .ok (.iload_n 3, 1) := dk_29 (dk_at dksX0_sit_4 0 rfl rfl)
theorem dX0_sit_97 : decode cX0_sit 97 = .ok (.istore_n 3, 1) := dk_62 (dk_at dksX0_sit_4 1 rfl rfl)
theorem dX0_sit_98 : decode cX0_sit 98 = .ok (.iload 7, 2) := dk_21 7 (dk_at dksX0_sit_4 2 rfl rfl)
theorem dX0_sit_100 : decode cX0_sit 100 = .ok (.ifCond .eq 8, 3) := dk_153 0 8 (dk_at dksX0_sit_4 4 rfl rfl)
theorem dX0_sit_103 : decode cX0_sit 103 = .ok (.iload 6, 2) := dk_21 6 (dk_at dksX0_sit_4 7 rfl rfl)
theorem dX0_sit_105 : decode cX0_sit 105 = .ok (.goto 5, 3) := dk_167 0 5 (dk_at dksX0_sit_4 9 rfl rfl)
theorem dX0_sit_108 : decode cX0_sit 108 = .ok (.iload 4, 2) := dk_21 4 (dk_at dksX0_sit_4 12 rfl rfl)
theorem dX0_sit_110 : decode cX0_sit 110 = .ok (.istore 4, 2) := dk_54 4 (dk_at dksX0_sit_4 14 rfl rfl)
theorem dX0_sit_112 : decode cX0_sit 112 = .ok (.iinc 5 1, 3) := dk_132 5 1 (dk_at dksX0_sit_4 16 rfl rfl)
theorem dX0_sit_115 : decode cX0_sit 115 = .ok (.goto (-82), 3) := dk_167 255 174 (dk_at dksX0_sit_4 19 rfl rfl)
theorem dX0_sit_118 : decode cX0_sit 118 = .ok (.iload_n 2, 1) := dk_28 (dk_at dksX0_sit_4 22 rfl rfl)
theorem dX0_sit_119 : decode cX0_sit 119 = .ok (.ifCond .ne 7, 3) := dk_154 0 7 (dk_at dksX0_sit_5 0 rfl rfl)
theorem dX0_sit_122 : decode cX0_sit 122 = .ok (.iload_n 3, 1) := dk_29 (dk_at dksX0_sit_5 3 rfl rfl)
theorem dX0_sit_123 : decode cX0_sit 123 = .ok (.goto 5, 3) := dk_167 0 5 (dk_at dksX0_sit_5 4 rfl rfl)
theorem dX0_sit_126 : decode cX0_sit 126 = .ok (.iload 4, 2) := dk_21 4 (dk_at dksX0_sit_5 7 rfl rfl)
theorem dX0_sit_128 : decode cX0_sit 128 = .ok (.ireturn, 1) := dk_172 (dk_at dksX0_sit_5 9 rfl rfl)
abbrev cX0_onSitting : ByteArray := prog_1_method_68_code
def yX0_onSitting : MethodName := ⟨RX0, "onSitting", "(II)I"⟩
def dkwX0_onSitting_1 : List UInt8 := [181, 0, 81, 29, 172, 58, 4, 42, 180, 0, 47, 27, 50, 3, 181, 0, 81, 25, 4, 191]
abbrev dktX0_onSitting_1 : List UInt8 := dkwX0_onSitting_1 ++ []
def dkwX0_onSitting_0 : List UInt8 := [42, 180, 0, 47, 27, 50, 4, 181, 0, 81, 42, 28, 182, 1, 151, 62, 42, 180, 0, 47, 27, 50, 3]
abbrev dktX0_onSitting_0 : List UInt8 := dkwX0_onSitting_0 ++ dktX0_onSitting_1
theorem dksX0_onSitting_0 : cX0_onSitting.data.toList.drop 0 = dktX0_onSitting_0 := by decide +kernel
theorem dksX0_onSitting_1 : cX0_onSitting.data.toList.drop 23 = dktX0_onSitting_1 := dk_seg dksX0_onSitting_0 23 rfl rfl
theorem dX0_onSitting_0 : decode cX0_onSitting 0 = .ok (.aload_n 0, 1) := dk_42 (dk_at dksX0_onSitting_0 0 rfl rfl)
theorem dX0_onSitting_1 : decode cX0_onSitting 1 = .ok (.getfield 47, 3) := dk_180 0 47 (dk_at dksX0_onSitting_0 1 rfl rfl)
theorem dX0_onSitting_4 : decode cX0_onSitting 4 = .ok (.iload_n 1, 1) := dk_27 (dk_at dksX0_onSitting_0 4 rfl rfl)
theorem dX0_onSitting_5 : decode cX0_onSitting 5 = .ok (.aaload, 1) := dk_50 (dk_at dksX0_onSitting_0 5 rfl rfl)
theorem dX0_onSitting_6 : decode cX0_onSitting 6 = .ok (.iconst 1, 1) := dk_4 (dk_at dksX0_onSitting_0 6 rfl rfl)
theorem dX0_onSitting_7 : decode cX0_onSitting 7 = .ok (.putfield 81, 3) := dk_181 0 81 (dk_at dksX0_onSitting_0 7 rfl rfl)
theorem dX0_onSitting_10 : decode cX0_onSitting 10 = .ok (.aload_n 0, 1) := dk_42 (dk_at dksX0_onSitting_0 10 rfl rfl)
theorem dX0_onSitting_11 : decode cX0_onSitting 11 = .ok (.iload_n 2, 1) := dk_28 (dk_at dksX0_onSitting_0 11 rfl rfl)
theorem dX0_onSitting_12 : decode cX0_onSitting 12 = .ok (.invokevirtual 407, 3) := dk_182 1 151 (dk_at dksX0_onSitting_0 12 rfl rfl)
theorem dX0_onSitting_15 : decode cX0_onSitting 15 = .ok (.istore_n 3, 1) := dk_62 (dk_at dksX0_onSitting_0 15 rfl rfl)
theorem dX0_onSitting_16 : decode cX0_onSitting 16 = .ok (.aload_n 0, 1) := dk_42 (dk_at dksX0_onSitting_0 16 rfl rfl)
theorem dX0_onSitting_17 : decode cX0_onSitting 17 = .ok (.getfield 47, 3) := dk_180 0 47 (dk_at dksX0_onSitting_0 17 rfl rfl)
theorem dX0_onSitting_20 : decode cX0_onSitting 20 = .ok (.iload_n 1, 1) := dk_27 (dk_at dksX0_onSitting_0 20 rfl rfl)
theorem dX0_onSitting_21 : decode cX0_onSitting 21 = .ok (.aaload, 1) := dk_50 (dk_at dksX0_onSitting_0 21 rfl rfl)
theorem dX0_onSitting_22 : decode cX0_onSitting 22 = .ok (.iconst 0, 1) := dk_3 (dk_at dksX0_onSitting_0 22 rfl rfl)
theorem dX0_onSitting_23 : decode cX0_onSitting 23 = .ok (.putfield 81, 3) := dk_181 0 81 (dk_at dksX0_onSitting_1 0 rfl rfl)
theorem dX0_onSitting_26 : decode cX0_onSitting 26 = .ok (.iload_n 3, 1) := dk_29 (dk_at dksX0_onSitting_1 3 rfl rfl)
theorem dX0_onSitting_27 : decode cX0_onSitting 27 = .ok (.ireturn, 1) := dk_172 (dk_at dksX0_onSitting_1 4 rfl rfl)
theorem dX0_onSitting_28 : decode cX0_onSitting 28 = .ok (.astore 4, 2) := dk_58 4 (dk_at dksX0_onSitting_1 5 rfl rfl)
theorem dX0_onSitting_30 : decode cX0_onSitting 30 = .ok (.aload_n 0, 1) := dk_42 (dk_at dksX0_onSitting_1 7 rfl rfl)
theorem dX0_onSitting_31 : decode cX0_onSitting 31 = .ok (.getfield 47, 3) := dk_180 0 47 (dk_at dksX0_onSitting_1 8 rfl rfl)
theorem dX0_onSitting_34 : decode cX0_onSitting 34 = .ok (.iload_n 1, 1) := dk_27 (dk_at dksX0_onSitting_1 11 rfl rfl)
theorem dX0_onSitting_35 : decode cX0_onSitting 35 = .ok (.aaload, 1) := dk_50 (dk_at dksX0_onSitting_1 12 rfl rfl)
theorem dX0_onSitting_36 : decode cX0_onSitting 36 = .ok (.iconst 0, 1) := dk_3 (dk_at dksX0_onSitting_1 13 rfl rfl)
theorem dX0_onSitting_37 : decode cX0_onSitting 37 = .ok (.putfield 81, 3) := dk_181 0 81 (dk_at dksX0_onSitting_1 14 rfl rfl)
theorem dX0_onSitting_40 : decode cX0_onSitting 40 = .ok (.aload 4, 2) := dk_25 4 (dk_at dksX0_onSitting_1 17 rfl rfl)
theorem dX0_onSitting_42 : decode cX0_onSitting 42 = .ok (.athrow, 1) := dk_191 (dk_at dksX0_onSitting_1 19 rfl rfl)
abbrev cX0_tells : ByteArray := prog_1_method_78_code
def yX0_tells : MethodName := ⟨RX0, "tells", "(III)I"⟩
def dkwX0_tells_7 : List UInt8 := [182, 1, 251, 172]
abbrev dktX0_tells_7 : List UInt8 := dkwX0_tells_7 ++ []
def dkwX0_tells_6 : List UInt8 := [16, 6, 160, 0, 7, 4, 167, 0, 4, 3, 182, 1, 244, 172, 42, 25, 4, 182, 1, 248, 172, 42, 25, 4]
abbrev dktX0_tells_6 : List UInt8 := dkwX0_tells_6 ++ dktX0_tells_7
def dkwX0_tells_5 : List UInt8 := [25, 4, 28, 7, 29, 7, 160, 0, 7, 4, 167, 0, 4, 3, 182, 1, 244, 172, 42, 25, 4, 28, 8, 29]
abbrev dktX0_tells_5 : List UInt8 := dkwX0_tells_5 ++ dktX0_tells_6
def dkwX0_tells_4 : List UInt8 := [42, 25, 4, 182, 1, 218, 172, 42, 25, 4, 28, 182, 1, 238, 172, 42, 25, 4, 28, 182, 1, 241, 172, 42]
abbrev dktX0_tells_4 : List UInt8 := dkwX0_tells_4 ++ dktX0_tells_5
def dkwX0_tells_3 : List UInt8 := [170, 0, 0, 0, 0, 0, 0, 117, 0, 0, 0, 0, 0, 0, 0, 7, 0, 0, 0, 48, 0, 0, 0, 55, 0, 0, 0, 63, 0, 0, 0, 71, 0, 0, 0, 71, 0, 0, 0, 90, 0, 0, 0, 90, 0, 0, 0, 110]
abbrev dktX0_tells_3 : List UInt8 := dkwX0_tells_3 ++ dktX0_tells_4
def dkwX0_tells_2 : List UInt8 := [172, 25, 4, 25, 4, 184, 1, 202, 184, 1, 206, 16, 20, 164, 0, 6, 16, 254, 172, 29]
abbrev dktX0_tells_2 : List UInt8 := dkwX0_tells_2 ++ dktX0_tells_3
def dkwX0_tells_1 : List UInt8 := [154, 0, 6, 16, 254, 172, 42, 180, 1, 70, 27, 50, 180, 1, 234, 58, 4, 25, 4, 199, 0, 6, 16, 245]
abbrev dktX0_tells_1 : List UInt8 := dkwX0_tells_1 ++ dktX0_tells_2
def dkwX0_tells_0 : List UInt8 := [27, 184, 1, 229, 153, 0, 23, 42, 28, 182, 0, 59, 153, 0, 15, 29, 133, 9, 20, 1, 232, 184, 0, 16]
abbrev dktX0_tells_0 : List UInt8 := dkwX0_tells_0 ++ dktX0_tells_1
theorem dksX0_tells_0 : cX0_tells.data.toList.drop 0 = dktX0_tells_0 := by decide +kernel
theorem dksX0_tells_1 : cX0_tells.data.toList.drop 24 = dktX0_tells_1 := dk_seg dksX0_tells_0 24 rfl rfl
theorem dksX0_tells_2 : cX0_tells.data.toList.drop 48 = dktX0_tells_2 := dk_seg dksX0_tells_1 24 rfl rfl
theorem dksX0_tells_3 : cX0_tells.data.toList.drop 68 = dktX0_tells_3 := dk_seg dksX0_tells_2 20 rfl rfl
theorem dksX0_tells_4 : cX0_tells.data.toList.drop 116 = dktX0_tells_4 := dk_seg dksX0_tells_3 48 rfl rfl
theorem dksX0_tells_5 : cX0_tells.data.toList.drop 140 = dktX0_tells_5 := dk_seg dksX0_tells_4 24 rfl rfl
theorem dksX0_tells_6 : cX0_tells.data.toList.drop 164 = dktX0_tells_6 := dk_seg dksX0_tells_5 24 rfl rfl
theorem dksX0_tells_7 : cX0_tells.data.toList.drop 188 = dktX0_tells_7 := dk_seg dksX0_tells_6 24 rfl rfl
theorem dX0_tells_0 : decode cX0_tells 0 = .ok (.iload_n 1, 1) := dk_27 (dk_at dksX0_tells_0 0 rfl rfl)
theorem dX0_tells_1 : decode cX0_tells 1 = .ok (.invokestatic 485, 3) := dk_184 1 229 (dk_at dksX0_tells_0 1 rfl rfl)
theorem dX0_tells_4 : decode cX0_tells 4 = .ok (.ifCond .eq 23, 3) := dk_153 0 23 (dk_at dksX0_tells_0 4 rfl rfl)
theorem dX0_tells_7 : decode cX0_tells 7 = .ok (.aload_n 0, 1) := dk_42 (dk_at dksX0_tells_0 7 rfl rfl)
theorem dX0_tells_8 : decode cX0_tells 8 = .ok (.iload_n 2, 1) := dk_28 (dk_at dksX0_tells_0 8 rfl rfl)
theorem dX0_tells_9 : decode cX0_tells 9 = .ok (.invokevirtual 59, 3) := dk_182 0 59 (dk_at dksX0_tells_0 9 rfl rfl)
theorem dX0_tells_12 : decode cX0_tells 12 = .ok (.ifCond .eq 15, 3) := dk_153 0 15 (dk_at dksX0_tells_0 12 rfl rfl)
theorem dX0_tells_15 : decode cX0_tells 15 = .ok (.iload_n 3, 1) := dk_29 (dk_at dksX0_tells_0 15 rfl rfl)
theorem dX0_tells_16 : decode cX0_tells 16 = .ok (.i2l, 1) := dk_133 (dk_at dksX0_tells_0 16 rfl rfl)
theorem dX0_tells_17 : decode cX0_tells 17 = .ok (.lconst 0, 1) := dk_9 (dk_at dksX0_tells_0 17 rfl rfl)
theorem dX0_tells_18 : decode cX0_tells 18 = .ok (.ldc2_w 488, 3) := dk_20 1 232 (dk_at dksX0_tells_0 18 rfl rfl)
theorem dX0_tells_21 : decode cX0_tells 21 = .ok (.invokestatic 16, 3) := dk_184 0 16 (dk_at dksX0_tells_0 21 rfl rfl)
theorem dX0_tells_24 : decode cX0_tells 24 = .ok (.ifCond .ne 6, 3) := dk_154 0 6 (dk_at dksX0_tells_1 0 rfl rfl)
theorem dX0_tells_27 : decode cX0_tells 27 = .ok (.bipush (-2), 2) := dk_16 254 (dk_at dksX0_tells_1 3 rfl rfl)
theorem dX0_tells_29 : decode cX0_tells 29 = .ok (.ireturn, 1) := dk_172 (dk_at dksX0_tells_1 5 rfl rfl)
theorem dX0_tells_30 : decode cX0_tells 30 = .ok (.aload_n 0, 1) := dk_42 (dk_at dksX0_tells_1 6 rfl rfl)
theorem dX0_tells_31 : decode cX0_tells 31 = .ok (.getfield 326, 3) := dk_180 1 70 (dk_at dksX0_tells_1 7 rfl rfl)
theorem dX0_tells_34 : decode cX0_tells 34 = .ok (.iload_n 1, 1) := dk_27 (dk_at dksX0_tells_1 10 rfl rfl)
theorem dX0_tells_35 : decode cX0_tells 35 = .ok (.aaload, 1) := dk_50 (dk_at dksX0_tells_1 11 rfl rfl)
theorem dX0_tells_36 : decode cX0_tells 36 = .ok (.getfield 490, 3) := dk_180 1 234 (dk_at dksX0_tells_1 12 rfl rfl)
theorem dX0_tells_39 : decode cX0_tells 39 = .ok (.astore 4, 2) := dk_58 4 (dk_at dksX0_tells_1 15 rfl rfl)
theorem dX0_tells_41 : decode cX0_tells 41 = .ok (.aload 4, 2) := dk_25 4 (dk_at dksX0_tells_1 17 rfl rfl)
theorem dX0_tells_43 : decode cX0_tells 43 = .ok (.ifnonnull 6, 3) := dk_199 0 6 (dk_at dksX0_tells_1 19 rfl rfl)
theorem dX0_tells_46 : decode cX0_tells 46 = .ok (.bipush (-11), 2) := dk_16 245 (dk_at dksX0_tells_1 22 rfl rfl)
theorem dX0_tells_48 : decode cX0_tells 48 = .ok (.ireturn, 1) := dk_172 (dk_at dksX0_tells_2 0 rfl rfl)
theorem dX0_tells_49 : decode cX0_tells 49 = .ok (.aload 4, 2) := dk_25 4 (dk_at dksX0_tells_2 1 rfl rfl)
theorem dX0_tells_51 : decode cX0_tells 51 = .ok (.aload 4, 2) := dk_25 4 (dk_at dksX0_tells_2 3 rfl rfl)
theorem dX0_tells_53 : decode cX0_tells 53 = .ok (.invokestatic 458, 3) := dk_184 1 202 (dk_at dksX0_tells_2 5 rfl rfl)
theorem dX0_tells_56 : decode cX0_tells 56 = .ok (.invokestatic 462, 3) := dk_184 1 206 (dk_at dksX0_tells_2 8 rfl rfl)
theorem dX0_tells_59 : decode cX0_tells 59 = .ok (.bipush 20, 2) := dk_16 20 (dk_at dksX0_tells_2 11 rfl rfl)
theorem dX0_tells_61 : decode cX0_tells 61 = .ok (.if_icmp .le 6, 3) := dk_164 0 6 (dk_at dksX0_tells_2 13 rfl rfl)
theorem dX0_tells_64 : decode cX0_tells 64 = .ok (.bipush (-2), 2) := dk_16 254 (dk_at dksX0_tells_2 16 rfl rfl)
theorem dX0_tells_66 : decode cX0_tells 66 = .ok (.ireturn, 1) := dk_172 (dk_at dksX0_tells_2 18 rfl rfl)
theorem dX0_tells_67 : decode cX0_tells 67 = .ok (.iload_n 3, 1) := dk_29 (dk_at dksX0_tells_2 19 rfl rfl)
theorem dX0_tells_68 : decode cX0_tells 68 = .ok (.tableswitch 117 0 7 #[48, 55, 63, 71, 71, 90, 90, 110], 48) := by decide +kernel
theorem dX0_tells_116 : decode cX0_tells 116 = .ok (.aload_n 0, 1) := dk_42 (dk_at dksX0_tells_4 0 rfl rfl)
theorem dX0_tells_117 : decode cX0_tells 117 = .ok (.aload 4, 2) := dk_25 4 (dk_at dksX0_tells_4 1 rfl rfl)
theorem dX0_tells_119 : decode cX0_tells 119 = .ok (.invokevirtual 474, 3) := dk_182 1 218 (dk_at dksX0_tells_4 3 rfl rfl)
theorem dX0_tells_122 : decode cX0_tells 122 = .ok (.ireturn, 1) := dk_172 (dk_at dksX0_tells_4 6 rfl rfl)
theorem dX0_tells_123 : decode cX0_tells 123 = .ok (.aload_n 0, 1) := dk_42 (dk_at dksX0_tells_4 7 rfl rfl)
theorem dX0_tells_124 : decode cX0_tells 124 = .ok (.aload 4, 2) := dk_25 4 (dk_at dksX0_tells_4 8 rfl rfl)
theorem dX0_tells_126 : decode cX0_tells 126 = .ok (.iload_n 2, 1) := dk_28 (dk_at dksX0_tells_4 10 rfl rfl)
theorem dX0_tells_127 : decode cX0_tells 127 = .ok (.invokevirtual 494, 3) := dk_182 1 238 (dk_at dksX0_tells_4 11 rfl rfl)
theorem dX0_tells_130 : decode cX0_tells 130 = .ok (.ireturn, 1) := dk_172 (dk_at dksX0_tells_4 14 rfl rfl)
theorem dX0_tells_131 : decode cX0_tells 131 = .ok (.aload_n 0, 1) := dk_42 (dk_at dksX0_tells_4 15 rfl rfl)
theorem dX0_tells_132 : decode cX0_tells 132 = .ok (.aload 4, 2) := dk_25 4 (dk_at dksX0_tells_4 16 rfl rfl)
theorem dX0_tells_134 : decode cX0_tells 134 = .ok (.iload_n 2, 1) := dk_28 (dk_at dksX0_tells_4 18 rfl rfl)
theorem dX0_tells_135 : decode cX0_tells 135 = .ok (.invokevirtual 497, 3) := dk_182 1 241 (dk_at dksX0_tells_4 19 rfl rfl)
theorem dX0_tells_138 : decode cX0_tells 138 = .ok (.ireturn, 1) := dk_172 (dk_at dksX0_tells_4 22 rfl rfl)
theorem dX0_tells_139 : decode cX0_tells 139 = .ok (.aload_n 0, 1) := dk_42 (dk_at dksX0_tells_4 23 rfl rfl)
theorem dX0_tells_140 : decode cX0_tells 140 = .ok (.aload 4, 2) := dk_25 4 (dk_at dksX0_tells_5 0 rfl rfl)
theorem dX0_tells_142 : decode cX0_tells 142 = .ok (.iload_n 2, 1) := dk_28 (dk_at dksX0_tells_5 2 rfl rfl)
theorem dX0_tells_143 : decode cX0_tells 143 = .ok (.iconst 4, 1) := dk_7 (dk_at dksX0_tells_5 3 rfl rfl)
theorem dX0_tells_144 : decode cX0_tells 144 = .ok (.iload_n 3, 1) := dk_29 (dk_at dksX0_tells_5 4 rfl rfl)
theorem dX0_tells_145 : decode cX0_tells 145 = .ok (.iconst 4, 1) := dk_7 (dk_at dksX0_tells_5 5 rfl rfl)
theorem dX0_tells_146 : decode cX0_tells 146 = .ok (.if_icmp .ne 7, 3) := dk_160 0 7 (dk_at dksX0_tells_5 6 rfl rfl)
theorem dX0_tells_149 : decode cX0_tells 149 = .ok (.iconst 1, 1) := dk_4 (dk_at dksX0_tells_5 9 rfl rfl)
theorem dX0_tells_150 : decode cX0_tells 150 = .ok (.goto 4, 3) := dk_167 0 4 (dk_at dksX0_tells_5 10 rfl rfl)
theorem dX0_tells_153 : decode cX0_tells 153 = .ok (.iconst 0, 1) := dk_3 (dk_at dksX0_tells_5 13 rfl rfl)
theorem dX0_tells_154 : decode cX0_tells 154 = .ok (.invokevirtual 500, 3) := dk_182 1 244 (dk_at dksX0_tells_5 14 rfl rfl)
theorem dX0_tells_157 : decode cX0_tells 157 = .ok (.ireturn, 1) := dk_172 (dk_at dksX0_tells_5 17 rfl rfl)
theorem dX0_tells_158 : decode cX0_tells 158 = .ok (.aload_n 0, 1) := dk_42 (dk_at dksX0_tells_5 18 rfl rfl)
theorem dX0_tells_159 : decode cX0_tells 159 = .ok (.aload 4, 2) := dk_25 4 (dk_at dksX0_tells_5 19 rfl rfl)
theorem dX0_tells_161 : decode cX0_tells 161 = .ok (.iload_n 2, 1) := dk_28 (dk_at dksX0_tells_5 21 rfl rfl)
theorem dX0_tells_162 : decode cX0_tells 162 = .ok (.iconst 5, 1) := dk_8 (dk_at dksX0_tells_5 22 rfl rfl)
theorem dX0_tells_163 : decode cX0_tells 163 = .ok (.iload_n 3, 1) := dk_29 (dk_at dksX0_tells_5 23 rfl rfl)
theorem dX0_tells_164 : decode cX0_tells 164 = .ok (.bipush 6, 2) := dk_16 6 (dk_at dksX0_tells_6 0 rfl rfl)
theorem dX0_tells_166 : decode cX0_tells 166 = .ok (.if_icmp .ne 7, 3) := dk_160 0 7 (dk_at dksX0_tells_6 2 rfl rfl)
theorem dX0_tells_169 : decode cX0_tells 169 = .ok (.iconst 1, 1) := dk_4 (dk_at dksX0_tells_6 5 rfl rfl)
theorem dX0_tells_170 : decode cX0_tells 170 = .ok (.goto 4, 3) := dk_167 0 4 (dk_at dksX0_tells_6 6 rfl rfl)
theorem dX0_tells_173 : decode cX0_tells 173 = .ok (.iconst 0, 1) := dk_3 (dk_at dksX0_tells_6 9 rfl rfl)
theorem dX0_tells_174 : decode cX0_tells 174 = .ok (.invokevirtual 500, 3) := dk_182 1 244 (dk_at dksX0_tells_6 10 rfl rfl)
theorem dX0_tells_177 : decode cX0_tells 177 = .ok (.ireturn, 1) := dk_172 (dk_at dksX0_tells_6 13 rfl rfl)
theorem dX0_tells_178 : decode cX0_tells 178 = .ok (.aload_n 0, 1) := dk_42 (dk_at dksX0_tells_6 14 rfl rfl)
theorem dX0_tells_179 : decode cX0_tells 179 = .ok (.aload 4, 2) := dk_25 4 (dk_at dksX0_tells_6 15 rfl rfl)
theorem dX0_tells_181 : decode cX0_tells 181 = .ok (.invokevirtual 504, 3) := dk_182 1 248 (dk_at dksX0_tells_6 17 rfl rfl)
theorem dX0_tells_184 : decode cX0_tells 184 = .ok (.ireturn, 1) := dk_172 (dk_at dksX0_tells_6 20 rfl rfl)
theorem dX0_tells_185 : decode cX0_tells 185 = .ok (.aload_n 0, 1) := dk_42 (dk_at dksX0_tells_6 21 rfl rfl)
theorem dX0_tells_186 : decode cX0_tells 186 = .ok (.aload 4, 2) := dk_25 4 (dk_at dksX0_tells_6 22 rfl rfl)
theorem dX0_tells_188 : decode cX0_tells 188 = .ok (.invokevirtual 507, 3) := dk_182 1 251 (dk_at dksX0_tells_7 0 rfl rfl)
theorem dX0_tells_191 : decode cX0_tells 191 = .ok (.ireturn, 1) := dk_172 (dk_at dksX0_tells_7 3 rfl rfl)
abbrev cX0_isSheet : ByteArray := prog_1_method_87_code
def yX0_isSheet : MethodName := ⟨RX0, "isSheet", "(I)Z"⟩
def dkwX0_isSheet_0 : List UInt8 := [26, 133, 9, 20, 2, 23, 184, 0, 16, 172]
abbrev dktX0_isSheet_0 : List UInt8 := dkwX0_isSheet_0 ++ []
theorem dksX0_isSheet_0 : cX0_isSheet.data.toList.drop 0 = dktX0_isSheet_0 := by decide +kernel
theorem dX0_isSheet_0 : decode cX0_isSheet 0 = .ok (.iload_n 0, 1) := dk_26 (dk_at dksX0_isSheet_0 0 rfl rfl)
theorem dX0_isSheet_1 : decode cX0_isSheet 1 = .ok (.i2l, 1) := dk_133 (dk_at dksX0_isSheet_0 1 rfl rfl)
theorem dX0_isSheet_2 : decode cX0_isSheet 2 = .ok (.lconst 0, 1) := dk_9 (dk_at dksX0_isSheet_0 2 rfl rfl)
theorem dX0_isSheet_3 : decode cX0_isSheet 3 = .ok (.ldc2_w 535, 3) := dk_20 2 23 (dk_at dksX0_isSheet_0 3 rfl rfl)
theorem dX0_isSheet_6 : decode cX0_isSheet 6 = .ok (.invokestatic 16, 3) := dk_184 0 16 (dk_at dksX0_isSheet_0 6 rfl rfl)
theorem dX0_isSheet_9 : decode cX0_isSheet 9 = .ok (.ireturn, 1) := dk_172 (dk_at dksX0_isSheet_0 9 rfl rfl)
abbrev cX0_sortOf : ByteArray := prog_1_method_95_code
def yX0_sortOf : MethodName := ⟨RX0, "sortOf", "(Ljava/lang/Object;)I"⟩
def dkwX0_sortOf_0 : List UInt8 := [42, 193, 2, 35, 153, 0, 7, 3, 167, 0, 15, 42, 193, 2, 39, 153, 0, 7, 4, 167, 0, 4, 5, 172]
abbrev dktX0_sortOf_0 : List UInt8 := dkwX0_sortOf_0 ++ []
theorem dksX0_sortOf_0 : cX0_sortOf.data.toList.drop 0 = dktX0_sortOf_0 := by decide +kernel
theorem dX0_sortOf_0 : decode cX0_sortOf 0 = .ok (.aload_n 0, 1) := dk_42 (dk_at dksX0_sortOf_0 0 rfl rfl)
theorem dX0_sortOf_1 : decode cX0_sortOf 1 = .ok (.instanceof 547, 3) := dk_193 2 35 (dk_at dksX0_sortOf_0 1 rfl rfl)
theorem dX0_sortOf_4 : decode cX0_sortOf 4 = .ok (.ifCond .eq 7, 3) := dk_153 0 7 (dk_at dksX0_sortOf_0 4 rfl rfl)
theorem dX0_sortOf_7 : decode cX0_sortOf 7 = .ok (.iconst 0, 1) := dk_3 (dk_at dksX0_sortOf_0 7 rfl rfl)
theorem dX0_sortOf_8 : decode cX0_sortOf 8 = .ok (.goto 15, 3) := dk_167 0 15 (dk_at dksX0_sortOf_0 8 rfl rfl)
theorem dX0_sortOf_11 : decode cX0_sortOf 11 = .ok (.aload_n 0, 1) := dk_42 (dk_at dksX0_sortOf_0 11 rfl rfl)
theorem dX0_sortOf_12 : decode cX0_sortOf 12 = .ok (.instanceof 551, 3) := dk_193 2 39 (dk_at dksX0_sortOf_0 12 rfl rfl)
theorem dX0_sortOf_15 : decode cX0_sortOf 15 = .ok (.ifCond .eq 7, 3) := dk_153 0 7 (dk_at dksX0_sortOf_0 15 rfl rfl)
theorem dX0_sortOf_18 : decode cX0_sortOf 18 = .ok (.iconst 1, 1) := dk_4 (dk_at dksX0_sortOf_0 18 rfl rfl)
theorem dX0_sortOf_19 : decode cX0_sortOf 19 = .ok (.goto 4, 3) := dk_167 0 4 (dk_at dksX0_sortOf_0 19 rfl rfl)
theorem dX0_sortOf_22 : decode cX0_sortOf 22 = .ok (.iconst 2, 1) := dk_5 (dk_at dksX0_sortOf_0 22 rfl rfl)
theorem dX0_sortOf_23 : decode cX0_sortOf 23 = .ok (.ireturn, 1) := dk_172 (dk_at dksX0_sortOf_0 23 rfl rfl)
abbrev cX0_lengthOf : ByteArray := prog_1_method_93_code
def yX0_lengthOf : MethodName := ⟨RX0, "lengthOf", "(Ljava/lang/Object;I)I"⟩
def dkwX0_lengthOf_2 : List UInt8 := [42, 192, 2, 35, 190, 172, 42, 192, 2, 39, 190, 172, 42, 192, 2, 41, 190, 172]
abbrev dktX0_lengthOf_2 : List UInt8 := dkwX0_lengthOf_2 ++ []
def dkwX0_lengthOf_1 : List UInt8 := [171, 0, 0, 0, 0, 0, 39, 0, 0, 0, 2, 0, 0, 0, 0, 0, 0, 0, 27, 0, 0, 0, 1, 0, 0, 0, 33]
abbrev dktX0_lengthOf_1 : List UInt8 := dkwX0_lengthOf_1 ++ dktX0_lengthOf_2
def dkwX0_lengthOf_0 : List UInt8 := [27]
abbrev dktX0_lengthOf_0 : List UInt8 := dkwX0_lengthOf_0 ++ dktX0_lengthOf_1
theorem dksX0_lengthOf_0 : cX0_lengthOf.data.toList.drop 0 = dktX0_lengthOf_0 := by decide +kernel
theorem dksX0_lengthOf_1 : cX0_lengthOf.data.toList.drop 1 = dktX0_lengthOf_1 := dk_seg dksX0_lengthOf_0 1 rfl rfl
theorem dksX0_lengthOf_2 : cX0_lengthOf.data.toList.drop 28 = dktX0_lengthOf_2 := dk_seg dksX0_lengthOf_1 27 rfl rfl
theorem dX0_lengthOf_0 : decode cX0_lengthOf 0 = .ok (.iload_n 1, 1) := dk_27 (dk_at dksX0_lengthOf_0 0 rfl rfl)
theorem dX0_lengthOf_1 : decode cX0_lengthOf 1 = .ok (.lookupswitch 39 #[(0, 27), (1, 33)], 27) := by decide +kernel
theorem dX0_lengthOf_28 : decode cX0_lengthOf 28 = .ok (.aload_n 0, 1) := dk_42 (dk_at dksX0_lengthOf_2 0 rfl rfl)
theorem dX0_lengthOf_29 : decode cX0_lengthOf 29 = .ok (.checkcast 547, 3) := dk_192 2 35 (dk_at dksX0_lengthOf_2 1 rfl rfl)
theorem dX0_lengthOf_32 : decode cX0_lengthOf 32 = .ok (.arraylength, 1) := dk_190 (dk_at dksX0_lengthOf_2 4 rfl rfl)
theorem dX0_lengthOf_33 : decode cX0_lengthOf 33 = .ok (.ireturn, 1) := dk_172 (dk_at dksX0_lengthOf_2 5 rfl rfl)
theorem dX0_lengthOf_34 : decode cX0_lengthOf 34 = .ok (.aload_n 0, 1) := dk_42 (dk_at dksX0_lengthOf_2 6 rfl rfl)
theorem dX0_lengthOf_35 : decode cX0_lengthOf 35 = .ok (.checkcast 551, 3) := dk_192 2 39 (dk_at dksX0_lengthOf_2 7 rfl rfl)
theorem dX0_lengthOf_38 : decode cX0_lengthOf 38 = .ok (.arraylength, 1) := dk_190 (dk_at dksX0_lengthOf_2 10 rfl rfl)
theorem dX0_lengthOf_39 : decode cX0_lengthOf 39 = .ok (.ireturn, 1) := dk_172 (dk_at dksX0_lengthOf_2 11 rfl rfl)
theorem dX0_lengthOf_40 : decode cX0_lengthOf 40 = .ok (.aload_n 0, 1) := dk_42 (dk_at dksX0_lengthOf_2 12 rfl rfl)
theorem dX0_lengthOf_41 : decode cX0_lengthOf 41 = .ok (.checkcast 553, 3) := dk_192 2 41 (dk_at dksX0_lengthOf_2 13 rfl rfl)
theorem dX0_lengthOf_44 : decode cX0_lengthOf 44 = .ok (.arraylength, 1) := dk_190 (dk_at dksX0_lengthOf_2 16 rfl rfl)
theorem dX0_lengthOf_45 : decode cX0_lengthOf 45 = .ok (.ireturn, 1) := dk_172 (dk_at dksX0_lengthOf_2 17 rfl rfl)
abbrev cX0_unlike : ByteArray := prog_1_method_70_code
def yX0_unlike : MethodName := ⟨RX0, "unlike", "(Ljava/lang/Object;)I"⟩
def dkwX0_unlike_2 : List UInt8 := [132, 2, 1, 167, 255, 213, 2, 61, 42, 182, 1, 146, 28, 172, 58, 4, 42, 182, 1, 146, 25, 4, 191]
abbrev dktX0_unlike_2 : List UInt8 := dkwX0_unlike_2 ++ []
def dkwX0_unlike_1 : List UInt8 := [184, 1, 202, 28, 184, 1, 210, 42, 180, 0, 66, 159, 0, 11, 28, 62, 42, 182, 1, 146, 29, 172]
abbrev dktX0_unlike_1 : List UInt8 := dkwX0_unlike_1 ++ dktX0_unlike_2
def dkwX0_unlike_0 : List UInt8 := [42, 182, 1, 143, 3, 61, 28, 43, 43, 184, 1, 202, 184, 1, 206, 162, 0, 37, 42, 182, 1, 134, 43, 43]
abbrev dktX0_unlike_0 : List UInt8 := dkwX0_unlike_0 ++ dktX0_unlike_1
theorem dksX0_unlike_0 : cX0_unlike.data.toList.drop 0 = dktX0_unlike_0 := by decide +kernel
theorem dksX0_unlike_1 : cX0_unlike.data.toList.drop 24 = dktX0_unlike_1 := dk_seg dksX0_unlike_0 24 rfl rfl
theorem dksX0_unlike_2 : cX0_unlike.data.toList.drop 46 = dktX0_unlike_2 := dk_seg dksX0_unlike_1 22 rfl rfl
theorem dX0_unlike_0 : decode cX0_unlike 0 = .ok (.aload_n 0, 1) := dk_42 (dk_at dksX0_unlike_0 0 rfl rfl)
theorem dX0_unlike_1 : decode cX0_unlike 1 = .ok (.invokevirtual 399, 3) := dk_182 1 143 (dk_at dksX0_unlike_0 1 rfl rfl)
theorem dX0_unlike_4 : decode cX0_unlike 4 = .ok (.iconst 0, 1) := dk_3 (dk_at dksX0_unlike_0 4 rfl rfl)
theorem dX0_unlike_5 : decode cX0_unlike 5 = .ok (.istore_n 2, 1) := dk_61 (dk_at dksX0_unlike_0 5 rfl rfl)
theorem dX0_unlike_6 : decode cX0_unlike 6 = .ok (.iload_n 2, 1) := dk_28 (dk_at dksX0_unlike_0 6 rfl rfl)
theorem dX0_unlike_7 : decode cX0_unlike 7 = .ok (.aload_n 1, 1) := dk_43 (dk_at dksX0_unlike_0 7 rfl rfl)
theorem dX0_unlike_8 : decode cX0_unlike 8 = .ok (.aload_n 1, 1) := dk_43 (dk_at dksX0_unlike_0 8 rfl rfl)
theorem dX0_unlike_9 : decode cX0_unlike 9 = .ok (.invokestatic 458, 3) := dk_184 1 202 (dk_at dksX0_unlike_0 9 rfl rfl)
theorem dX0_unlike_12 : decode cX0_unlike 12 = .ok (.invokestatic 462, 3) := dk_184 1 206 (dk_at dksX0_unlike_0 12 rfl rfl)
theorem dX0_unlike_15 : decode cX0_unlike 15 = .ok (.if_icmp .ge 37, 3) := dk_162 0 37 (dk_at dksX0_unlike_0 15 rfl rfl)
theorem dX0_unlike_18 : decode cX0_unlike 18 = .ok (.aload_n 0, 1) := dk_42 (dk_at dksX0_unlike_0 18 rfl rfl)
theorem dX0_unlike_19 : decode cX0_unlike 19 = .ok (.invokevirtual 390, 3) := dk_182 1 134 (dk_at dksX0_unlike_0 19 rfl rfl)
theorem dX0_unlike_22 : decode cX0_unlike 22 = .ok (.aload_n 1, 1) := dk_43 (dk_at dksX0_unlike_0 22 rfl rfl)
theorem dX0_unlike_23 : decode cX0_unlike 23 = .ok (.aload_n 1, 1) := dk_43 (dk_at dksX0_unlike_0 23 rfl rfl)
theorem dX0_unlike_24 : decode cX0_unlike 24 = .ok (.invokestatic 458, 3) := dk_184 1 202 (dk_at dksX0_unlike_1 0 rfl rfl)
theorem dX0_unlike_27 : decode cX0_unlike 27 = .ok (.iload_n 2, 1) := dk_28 (dk_at dksX0_unlike_1 3 rfl rfl)
theorem dX0_unlike_28 : decode cX0_unlike 28 = .ok (.invokestatic 466, 3) := dk_184 1 210 (dk_at dksX0_unlike_1 4 rfl rfl)
theorem dX0_unlike_31 : decode cX0_unlike 31 = .ok (.aload_n 0, 1) := dk_42 (dk_at dksX0_unlike_1 7 rfl rfl)
theorem dX0_unlike_32 : decode cX0_unlike 32 = .ok (.getfield 66, 3) := dk_180 0 66 (dk_at dksX0_unlike_1 8 rfl rfl)
theorem dX0_unlike_35 : decode cX0_unlike 35 = .ok (.if_icmp .eq 11, 3) := dk_159 0 11 (dk_at dksX0_unlike_1 11 rfl rfl)
theorem dX0_unlike_38 : decode cX0_unlike 38 = .ok (.iload_n 2, 1) := dk_28 (dk_at dksX0_unlike_1 14 rfl rfl)
theorem dX0_unlike_39 : decode cX0_unlike 39 = .ok (.istore_n 3, 1) := dk_62 (dk_at dksX0_unlike_1 15 rfl rfl)
theorem dX0_unlike_40 : decode cX0_unlike 40 = .ok (.aload_n 0, 1) := dk_42 (dk_at dksX0_unlike_1 16 rfl rfl)
theorem dX0_unlike_41 : decode cX0_unlike 41 = .ok (.invokevirtual 402, 3) := dk_182 1 146 (dk_at dksX0_unlike_1 17 rfl rfl)
theorem dX0_unlike_44 : decode cX0_unlike 44 = .ok (.iload_n 3, 1) := dk_29 (dk_at dksX0_unlike_1 20 rfl rfl)
theorem dX0_unlike_45 : decode cX0_unlike 45 = .ok (.ireturn, 1) := dk_172 (dk_at dksX0_unlike_1 21 rfl rfl)
theorem dX0_unlike_46 : decode cX0_unlike 46 = .ok (.iinc 2 1, 3) := dk_132 2 1 (dk_at dksX0_unlike_2 0 rfl rfl)
theorem dX0_unlike_49 : decode cX0_unlike 49 = .ok (.goto (-43), 3) := dk_167 255 213 (dk_at dksX0_unlike_2 3 rfl rfl)
theorem dX0_unlike_52 : decode cX0_unlike 52 = .ok (.iconst (-1), 1) := dk_2 (dk_at dksX0_unlike_2 6 rfl rfl)
theorem dX0_unlike_53 : decode cX0_unlike 53 = .ok (.istore_n 2, 1) := dk_61 (dk_at dksX0_unlike_2 7 rfl rfl)
theorem dX0_unlike_54 : decode cX0_unlike 54 = .ok (.aload_n 0, 1) := dk_42 (dk_at dksX0_unlike_2 8 rfl rfl)
theorem dX0_unlike_55 : decode cX0_unlike 55 = .ok (.invokevirtual 402, 3) := dk_182 1 146 (dk_at dksX0_unlike_2 9 rfl rfl)
theorem dX0_unlike_58 : decode cX0_unlike 58 = .ok (.iload_n 2, 1) := dk_28 (dk_at dksX0_unlike_2 12 rfl rfl)
theorem dX0_unlike_59 : decode cX0_unlike 59 = .ok (.ireturn, 1) := dk_172 (dk_at dksX0_unlike_2 13 rfl rfl)
theorem dX0_unlike_60 : decode cX0_unlike 60 = .ok (.astore 4, 2) := dk_58 4 (dk_at dksX0_unlike_2 14 rfl rfl)
theorem dX0_unlike_62 : decode cX0_unlike 62 = .ok (.aload_n 0, 1) := dk_42 (dk_at dksX0_unlike_2 16 rfl rfl)
theorem dX0_unlike_63 : decode cX0_unlike 63 = .ok (.invokevirtual 402, 3) := dk_182 1 146 (dk_at dksX0_unlike_2 17 rfl rfl)
theorem dX0_unlike_66 : decode cX0_unlike 66 = .ok (.aload 4, 2) := dk_25 4 (dk_at dksX0_unlike_2 20 rfl rfl)
theorem dX0_unlike_68 : decode cX0_unlike 68 = .ok (.athrow, 1) := dk_191 (dk_at dksX0_unlike_2 22 rfl rfl)
abbrev cX0_item : ByteArray := prog_1_method_92_code
def yX0_item : MethodName := ⟨RX0, "item", "(Ljava/lang/Object;II)I"⟩
def dkwX0_item_4 : List UInt8 := [46, 172]
abbrev dktX0_item_4 : List UInt8 := dkwX0_item_4 ++ []
def dkwX0_item_3 : List UInt8 := [184, 2, 36, 42, 192, 2, 39, 28, 53, 172, 28, 42, 192, 2, 41, 190, 184, 2, 36, 42, 192, 2, 41, 28]
abbrev dktX0_item_3 : List UInt8 := dkwX0_item_3 ++ dktX0_item_4
def dkwX0_item_2 : List UInt8 := [28, 42, 192, 2, 35, 190, 184, 2, 36, 42, 192, 2, 35, 28, 51, 172, 28, 42, 192, 2, 39, 190]
abbrev dktX0_item_2 : List UInt8 := dkwX0_item_2 ++ dktX0_item_3
def dkwX0_item_1 : List UInt8 := [171, 0, 0, 0, 0, 0, 59, 0, 0, 0, 2, 0, 0, 0, 0, 0, 0, 0, 27, 0, 0, 0, 1, 0, 0, 0, 43]
abbrev dktX0_item_1 : List UInt8 := dkwX0_item_1 ++ dktX0_item_2
def dkwX0_item_0 : List UInt8 := [27]
abbrev dktX0_item_0 : List UInt8 := dkwX0_item_0 ++ dktX0_item_1
theorem dksX0_item_0 : cX0_item.data.toList.drop 0 = dktX0_item_0 := by decide +kernel
theorem dksX0_item_1 : cX0_item.data.toList.drop 1 = dktX0_item_1 := dk_seg dksX0_item_0 1 rfl rfl
theorem dksX0_item_2 : cX0_item.data.toList.drop 28 = dktX0_item_2 := dk_seg dksX0_item_1 27 rfl rfl
theorem dksX0_item_3 : cX0_item.data.toList.drop 50 = dktX0_item_3 := dk_seg dksX0_item_2 22 rfl rfl
theorem dksX0_item_4 : cX0_item.data.toList.drop 74 = dktX0_item_4 := dk_seg dksX0_item_3 24 rfl rfl
theorem dX0_item_0 : decode cX0_item 0 = .ok (.iload_n 1, 1) := dk_27 (dk_at dksX0_item_0 0 rfl rfl)
theorem dX0_item_1 : decode cX0_item 1 = .ok (.lookupswitch 59 #[(0, 27), (1, 43)], 27) := by decide +kernel
theorem dX0_item_28 : decode cX0_item 28 = .ok (.iload_n 2, 1) := dk_28 (dk_at dksX0_item_2 0 rfl rfl)
theorem dX0_item_29 : decode cX0_item 29 = .ok (.aload_n 0, 1) := dk_42 (dk_at dksX0_item_2 1 rfl rfl)
theorem dX0_item_30 : decode cX0_item 30 = .ok (.checkcast 547, 3) := dk_192 2 35 (dk_at dksX0_item_2 2 rfl rfl)
theorem dX0_item_33 : decode cX0_item 33 = .ok (.arraylength, 1) := dk_190 (dk_at dksX0_item_2 5 rfl rfl)
theorem dX0_item_34 : decode cX0_item 34 = .ok (.invokestatic 548, 3) := dk_184 2 36 (dk_at dksX0_item_2 6 rfl rfl)
theorem dX0_item_37 : decode cX0_item 37 = .ok (.aload_n 0, 1) := dk_42 (dk_at dksX0_item_2 9 rfl rfl)
theorem dX0_item_38 : decode cX0_item 38 = .ok (.checkcast 547, 3) := dk_192 2 35 (dk_at dksX0_item_2 10 rfl rfl)
theorem dX0_item_41 : decode cX0_item 41 = .ok (.iload_n 2, 1) := dk_28 (dk_at dksX0_item_2 13 rfl rfl)
theorem dX0_item_42 : decode cX0_item 42 = .ok (.baload, 1) := dk_51 (dk_at dksX0_item_2 14 rfl rfl)
theorem dX0_item_43 : decode cX0_item 43 = .ok (.ireturn, 1) := dk_172 (dk_at dksX0_item_2 15 rfl rfl)
theorem dX0_item_44 : decode cX0_item 44 = .ok (.iload_n 2, 1) := dk_28 (dk_at dksX0_item_2 16 rfl rfl)
theorem dX0_item_45 : decode cX0_item 45 = .ok (.aload_n 0, 1) := dk_42 (dk_at dksX0_item_2 17 rfl rfl)
theorem dX0_item_46 : decode cX0_item 46 = .ok (.checkcast 551, 3) := dk_192 2 39 (dk_at dksX0_item_2 18 rfl rfl)
theorem dX0_item_49 : decode cX0_item 49 = .ok (.arraylength, 1) := dk_190 (dk_at dksX0_item_2 21 rfl rfl)
theorem dX0_item_50 : decode cX0_item 50 = .ok (.invokestatic 548, 3) := dk_184 2 36 (dk_at dksX0_item_3 0 rfl rfl)
theorem dX0_item_53 : decode cX0_item 53 = .ok (.aload_n 0, 1) := dk_42 (dk_at dksX0_item_3 3 rfl rfl)
theorem dX0_item_54 : decode cX0_item 54 = .ok (.checkcast 551, 3) := dk_192 2 39 (dk_at dksX0_item_3 4 rfl rfl)
theorem dX0_item_57 : decode cX0_item 57 = .ok (.iload_n 2, 1) := dk_28 (dk_at dksX0_item_3 7 rfl rfl)
theorem dX0_item_58 : decode cX0_item 58 = .ok (.saload, 1) := dk_53 (dk_at dksX0_item_3 8 rfl rfl)
theorem dX0_item_59 : decode cX0_item 59 = .ok (.ireturn, 1) := dk_172 (dk_at dksX0_item_3 9 rfl rfl)
theorem dX0_item_60 : decode cX0_item 60 = .ok (.iload_n 2, 1) := dk_28 (dk_at dksX0_item_3 10 rfl rfl)
theorem dX0_item_61 : decode cX0_item 61 = .ok (.aload_n 0, 1) := dk_42 (dk_at dksX0_item_3 11 rfl rfl)
theorem dX0_item_62 : decode cX0_item 62 = .ok (.checkcast 553, 3) := dk_192 2 41 (dk_at dksX0_item_3 12 rfl rfl)
theorem dX0_item_65 : decode cX0_item 65 = .ok (.arraylength, 1) := dk_190 (dk_at dksX0_item_3 15 rfl rfl)
theorem dX0_item_66 : decode cX0_item 66 = .ok (.invokestatic 548, 3) := dk_184 2 36 (dk_at dksX0_item_3 16 rfl rfl)
theorem dX0_item_69 : decode cX0_item 69 = .ok (.aload_n 0, 1) := dk_42 (dk_at dksX0_item_3 19 rfl rfl)
theorem dX0_item_70 : decode cX0_item 70 = .ok (.checkcast 553, 3) := dk_192 2 41 (dk_at dksX0_item_3 20 rfl rfl)
theorem dX0_item_73 : decode cX0_item 73 = .ok (.iload_n 2, 1) := dk_28 (dk_at dksX0_item_3 23 rfl rfl)
theorem dX0_item_74 : decode cX0_item 74 = .ok (.iaload, 1) := dk_46 (dk_at dksX0_item_4 0 rfl rfl)
theorem dX0_item_75 : decode cX0_item 75 = .ok (.ireturn, 1) := dk_172 (dk_at dksX0_item_4 1 rfl rfl)
abbrev cX0_asksPlace : ByteArray := prog_1_method_94_code
def yX0_asksPlace : MethodName := ⟨RX0, "asksPlace", "(II)V"⟩
def dkwX0_asksPlace_0 : List UInt8 := [26, 155, 0, 8, 26, 27, 161, 0, 11, 187, 2, 47, 89, 183, 2, 49, 191, 177]
abbrev dktX0_asksPlace_0 : List UInt8 := dkwX0_asksPlace_0 ++ []
theorem dksX0_asksPlace_0 : cX0_asksPlace.data.toList.drop 0 = dktX0_asksPlace_0 := by decide +kernel
theorem dX0_asksPlace_0 : decode cX0_asksPlace 0 = .ok (.iload_n 0, 1) := dk_26 (dk_at dksX0_asksPlace_0 0 rfl rfl)
theorem dX0_asksPlace_1 : decode cX0_asksPlace 1 = .ok (.ifCond .lt 8, 3) := dk_155 0 8 (dk_at dksX0_asksPlace_0 1 rfl rfl)
theorem dX0_asksPlace_4 : decode cX0_asksPlace 4 = .ok (.iload_n 0, 1) := dk_26 (dk_at dksX0_asksPlace_0 4 rfl rfl)
theorem dX0_asksPlace_5 : decode cX0_asksPlace 5 = .ok (.iload_n 1, 1) := dk_27 (dk_at dksX0_asksPlace_0 5 rfl rfl)
theorem dX0_asksPlace_6 : decode cX0_asksPlace 6 = .ok (.if_icmp .lt 11, 3) := dk_161 0 11 (dk_at dksX0_asksPlace_0 6 rfl rfl)
theorem dX0_asksPlace_9 : decode cX0_asksPlace 9 = .ok (.new 559, 3) := dk_187 2 47 (dk_at dksX0_asksPlace_0 9 rfl rfl)
theorem dX0_asksPlace_12 : decode cX0_asksPlace 12 = .ok (.dup, 1) := dk_89 (dk_at dksX0_asksPlace_0 12 rfl rfl)
theorem dX0_asksPlace_13 : decode cX0_asksPlace 13 = .ok (.invokespecial 561, 3) := dk_183 2 49 (dk_at dksX0_asksPlace_0 13 rfl rfl)
theorem dX0_asksPlace_16 : decode cX0_asksPlace 16 = .ok (.athrow, 1) := dk_191 (dk_at dksX0_asksPlace_0 16 rfl rfl)
theorem dX0_asksPlace_17 : decode cX0_asksPlace 17 = .ok (.return_, 1) := dk_177 (dk_at dksX0_asksPlace_0 17 rfl rfl)
abbrev cX0_kindsOf : ByteArray := prog_1_method_72_code
def yX0_kindsOf : MethodName := ⟨RX0, "kindsOf", "(Ljava/lang/Object;I)I"⟩
def dkwX0_kindsOf_1 : List UInt8 := [4, 21, 4, 120, 167, 0, 4, 3, 128, 62, 132, 4, 1, 167, 255, 224, 29, 172]
abbrev dktX0_kindsOf_1 : List UInt8 := dkwX0_kindsOf_1 ++ []
def dkwX0_kindsOf_0 : List UInt8 := [3, 62, 3, 54, 4, 21, 4, 16, 6, 162, 0, 31, 29, 42, 43, 28, 21, 4, 182, 1, 221, 153, 0, 10]
abbrev dktX0_kindsOf_0 : List UInt8 := dkwX0_kindsOf_0 ++ dktX0_kindsOf_1
theorem dksX0_kindsOf_0 : cX0_kindsOf.data.toList.drop 0 = dktX0_kindsOf_0 := by decide +kernel
theorem dksX0_kindsOf_1 : cX0_kindsOf.data.toList.drop 24 = dktX0_kindsOf_1 := dk_seg dksX0_kindsOf_0 24 rfl rfl
theorem dX0_kindsOf_0 : decode cX0_kindsOf 0 = .ok (.iconst 0, 1) := dk_3 (dk_at dksX0_kindsOf_0 0 rfl rfl)
theorem dX0_kindsOf_1 : decode cX0_kindsOf 1 = .ok (.istore_n 3, 1) := dk_62 (dk_at dksX0_kindsOf_0 1 rfl rfl)
theorem dX0_kindsOf_2 : decode cX0_kindsOf 2 = .ok (.iconst 0, 1) := dk_3 (dk_at dksX0_kindsOf_0 2 rfl rfl)
theorem dX0_kindsOf_3 : decode cX0_kindsOf 3 = .ok (.istore 4, 2) := dk_54 4 (dk_at dksX0_kindsOf_0 3 rfl rfl)
theorem dX0_kindsOf_5 : decode cX0_kindsOf 5 = .ok (.iload 4, 2) := dk_21 4 (dk_at dksX0_kindsOf_0 5 rfl rfl)
theorem dX0_kindsOf_7 : decode cX0_kindsOf 7 = .ok (.bipush 6, 2) := dk_16 6 (dk_at dksX0_kindsOf_0 7 rfl rfl)
theorem dX0_kindsOf_9 : decode cX0_kindsOf 9 = .ok (.if_icmp .ge 31, 3) := dk_162 0 31 (dk_at dksX0_kindsOf_0 9 rfl rfl)
theorem dX0_kindsOf_12 : decode cX0_kindsOf 12 = .ok (.iload_n 3, 1) := dk_29 (dk_at dksX0_kindsOf_0 12 rfl rfl)
theorem dX0_kindsOf_13 : decode cX0_kindsOf 13 = .ok (.aload_n 0, 1) := dk_42 (dk_at dksX0_kindsOf_0 13 rfl rfl)
theorem dX0_kindsOf_14 : decode cX0_kindsOf 14 = .ok (.aload_n 1, 1) := dk_43 (dk_at dksX0_kindsOf_0 14 rfl rfl)
theorem dX0_kindsOf_15 : decode cX0_kindsOf 15 = .ok (.iload_n 2, 1) := dk_28 (dk_at dksX0_kindsOf_0 15 rfl rfl)
theorem dX0_kindsOf_16 : decode cX0_kindsOf 16 = .ok (.iload 4, 2) := dk_21 4 (dk_at dksX0_kindsOf_0 16 rfl rfl)
theorem dX0_kindsOf_18 : decode cX0_kindsOf 18 = .ok (.invokevirtual 477, 3) := dk_182 1 221 (dk_at dksX0_kindsOf_0 18 rfl rfl)
theorem dX0_kindsOf_21 : decode cX0_kindsOf 21 = .ok (.ifCond .eq 10, 3) := dk_153 0 10 (dk_at dksX0_kindsOf_0 21 rfl rfl)
theorem dX0_kindsOf_24 : decode cX0_kindsOf 24 = .ok (.iconst 1, 1) := dk_4 (dk_at dksX0_kindsOf_1 0 rfl rfl)
theorem dX0_kindsOf_25 : decode cX0_kindsOf 25 = .ok (.iload 4, 2) := dk_21 4 (dk_at dksX0_kindsOf_1 1 rfl rfl)
theorem dX0_kindsOf_27 : decode cX0_kindsOf 27 = .ok (.ishl, 1) := dk_120 (dk_at dksX0_kindsOf_1 3 rfl rfl)
theorem dX0_kindsOf_28 : decode cX0_kindsOf 28 = .ok (.goto 4, 3) := dk_167 0 4 (dk_at dksX0_kindsOf_1 4 rfl rfl)
theorem dX0_kindsOf_31 : decode cX0_kindsOf 31 = .ok (.iconst 0, 1) := dk_3 (dk_at dksX0_kindsOf_1 7 rfl rfl)
theorem dX0_kindsOf_32 : decode cX0_kindsOf 32 = .ok (.ior, 1) := dk_128 (dk_at dksX0_kindsOf_1 8 rfl rfl)
theorem dX0_kindsOf_33 : decode cX0_kindsOf 33 = .ok (.istore_n 3, 1) := dk_62 (dk_at dksX0_kindsOf_1 9 rfl rfl)
theorem dX0_kindsOf_34 : decode cX0_kindsOf 34 = .ok (.iinc 4 1, 3) := dk_132 4 1 (dk_at dksX0_kindsOf_1 10 rfl rfl)
theorem dX0_kindsOf_37 : decode cX0_kindsOf 37 = .ok (.goto (-32), 3) := dk_167 255 224 (dk_at dksX0_kindsOf_1 13 rfl rfl)
theorem dX0_kindsOf_40 : decode cX0_kindsOf 40 = .ok (.iload_n 3, 1) := dk_29 (dk_at dksX0_kindsOf_1 16 rfl rfl)
theorem dX0_kindsOf_41 : decode cX0_kindsOf 41 = .ok (.ireturn, 1) := dk_172 (dk_at dksX0_kindsOf_1 17 rfl rfl)
abbrev cX0_isSoAs : ByteArray := prog_1_method_71_code
def yX0_isSoAs : MethodName := ⟨RX0, "isSoAs", "(Ljava/lang/Object;II)Z"⟩
def dkwX0_isSoAs_3 : List UInt8 := [25, 6, 191]
abbrev dktX0_isSoAs_3 : List UInt8 := dkwX0_isSoAs_3 ++ []
def dkwX0_isSoAs_2 : List UInt8 := [54, 5, 42, 180, 0, 47, 28, 25, 4, 83, 21, 5, 172, 58, 6, 42, 180, 0, 47, 28, 25, 4, 83]
abbrev dktX0_isSoAs_2 : List UInt8 := dkwX0_isSoAs_2 ++ dktX0_isSoAs_3
def dkwX0_isSoAs_1 : List UInt8 := [184, 0, 51, 25, 4, 182, 1, 214, 83, 42, 43, 182, 1, 218, 2, 160, 0, 7, 4, 167, 0, 4, 3]
abbrev dktX0_isSoAs_1 : List UInt8 := dkwX0_isSoAs_1 ++ dktX0_isSoAs_2
def dkwX0_isSoAs_0 : List UInt8 := [42, 180, 0, 47, 28, 50, 58, 4, 42, 180, 0, 47, 28, 29, 25, 4, 180, 0, 72, 25, 4, 180, 0, 75]
abbrev dktX0_isSoAs_0 : List UInt8 := dkwX0_isSoAs_0 ++ dktX0_isSoAs_1
theorem dksX0_isSoAs_0 : cX0_isSoAs.data.toList.drop 0 = dktX0_isSoAs_0 := by decide +kernel
theorem dksX0_isSoAs_1 : cX0_isSoAs.data.toList.drop 24 = dktX0_isSoAs_1 := dk_seg dksX0_isSoAs_0 24 rfl rfl
theorem dksX0_isSoAs_2 : cX0_isSoAs.data.toList.drop 47 = dktX0_isSoAs_2 := dk_seg dksX0_isSoAs_1 23 rfl rfl
theorem dksX0_isSoAs_3 : cX0_isSoAs.data.toList.drop 70 = dktX0_isSoAs_3 := dk_seg dksX0_isSoAs_2 23 rfl rfl
theorem dX0_isSoAs_0 : decode cX0_isSoAs 0 = .ok (.aload_n 0, 1) := dk_42 (dk_at dksX0_isSoAs_0 0 rfl rfl)
theorem dX0_isSoAs_1 : decode cX0_isSoAs 1 = .ok (.getfield 47, 3) := dk_180 0 47 (dk_at dksX0_isSoAs_0 1 rfl rfl)
theorem dX0_isSoAs_4 : decode cX0_isSoAs 4 = .ok (.iload_n 2, 1) := dk_28 (dk_at dksX0_isSoAs_0 4 rfl rfl)
theorem dX0_isSoAs_5 : decode cX0_isSoAs 5 = .ok (.aaload, 1) := dk_50 (dk_at dksX0_isSoAs_0 5 rfl rfl)
theorem dX0_isSoAs_6 : decode cX0_isSoAs 6 = .ok (.astore 4, 2) := dk_58 4 (dk_at dksX0_isSoAs_0 6 rfl rfl)
theorem dX0_isSoAs_8 : decode cX0_isSoAs 8 = .ok (.aload_n 0, 1) := dk_42 (dk_at dksX0_isSoAs_0 8 rfl rfl)
theorem dX0_isSoAs_9 : decode cX0_isSoAs 9 = .ok (.getfield 47, 3) := dk_180 0 47 (dk_at dksX0_isSoAs_0 9 rfl rfl)
theorem dX0_isSoAs_12 : decode cX0_isSoAs 12 = .ok (.iload_n 2, 1) := dk_28 (dk_at dksX0_isSoAs_0 12 rfl rfl)
theorem dX0_isSoAs_13 : decode cX0_isSoAs 13 = .ok (.iload_n 3, 1) := dk_29 (dk_at dksX0_isSoAs_0 13 rfl rfl)
theorem dX0_isSoAs_14 : decode cX0_isSoAs 14 = .ok (.aload 4, 2) := dk_25 4 (dk_at dksX0_isSoAs_0 14 rfl rfl)
theorem dX0_isSoAs_16 : decode cX0_isSoAs 16 = .ok (.getfield 72, 3) := dk_180 0 72 (dk_at dksX0_isSoAs_0 16 rfl rfl)
theorem dX0_isSoAs_19 : decode cX0_isSoAs 19 = .ok (.aload 4, 2) := dk_25 4 (dk_at dksX0_isSoAs_0 19 rfl rfl)
theorem dX0_isSoAs_21 : decode cX0_isSoAs 21 = .ok (.getfield 75, 3) := dk_180 0 75 (dk_at dksX0_isSoAs_0 21 rfl rfl)
theorem dX0_isSoAs_24 : decode cX0_isSoAs 24 = .ok (.invokestatic 51, 3) := dk_184 0 51 (dk_at dksX0_isSoAs_1 0 rfl rfl)
theorem dX0_isSoAs_27 : decode cX0_isSoAs 27 = .ok (.aload 4, 2) := dk_25 4 (dk_at dksX0_isSoAs_1 3 rfl rfl)
theorem dX0_isSoAs_29 : decode cX0_isSoAs 29 = .ok (.invokevirtual 470, 3) := dk_182 1 214 (dk_at dksX0_isSoAs_1 5 rfl rfl)
theorem dX0_isSoAs_32 : decode cX0_isSoAs 32 = .ok (.aastore, 1) := dk_83 (dk_at dksX0_isSoAs_1 8 rfl rfl)
theorem dX0_isSoAs_33 : decode cX0_isSoAs 33 = .ok (.aload_n 0, 1) := dk_42 (dk_at dksX0_isSoAs_1 9 rfl rfl)
theorem dX0_isSoAs_34 : decode cX0_isSoAs 34 = .ok (.aload_n 1, 1) := dk_43 (dk_at dksX0_isSoAs_1 10 rfl rfl)
theorem dX0_isSoAs_35 : decode cX0_isSoAs 35 = .ok (.invokevirtual 474, 3) := dk_182 1 218 (dk_at dksX0_isSoAs_1 11 rfl rfl)
theorem dX0_isSoAs_38 : decode cX0_isSoAs 38 = .ok (.iconst (-1), 1) := dk_2 (dk_at dksX0_isSoAs_1 14 rfl rfl)
theorem dX0_isSoAs_39 : decode cX0_isSoAs 39 = .ok (.if_icmp .ne 7, 3) := dk_160 0 7 (dk_at dksX0_isSoAs_1 15 rfl rfl)
theorem dX0_isSoAs_42 : decode cX0_isSoAs 42 = .ok (.iconst 1, 1) := dk_4 (dk_at dksX0_isSoAs_1 18 rfl rfl)
theorem dX0_isSoAs_43 : decode cX0_isSoAs 43 = .ok (.goto 4, 3) := dk_167 0 4 (dk_at dksX0_isSoAs_1 19 rfl rfl)
theorem dX0_isSoAs_46 : decode cX0_isSoAs 46 = .ok (.iconst 0, 1) := dk_3 (dk_at dksX0_isSoAs_1 22 rfl rfl)
theorem dX0_isSoAs_47 : decode cX0_isSoAs 47 = .ok (.istore 5, 2) := dk_54 5 (dk_at dksX0_isSoAs_2 0 rfl rfl)
theorem dX0_isSoAs_49 : decode cX0_isSoAs 49 = .ok (.aload_n 0, 1) := dk_42 (dk_at dksX0_isSoAs_2 2 rfl rfl)
theorem dX0_isSoAs_50 : decode cX0_isSoAs 50 = .ok (.getfield 47, 3) := dk_180 0 47 (dk_at dksX0_isSoAs_2 3 rfl rfl)
theorem dX0_isSoAs_53 : decode cX0_isSoAs 53 = .ok (.iload_n 2, 1) := dk_28 (dk_at dksX0_isSoAs_2 6 rfl rfl)
theorem dX0_isSoAs_54 : decode cX0_isSoAs 54 = .ok (.aload 4, 2) := dk_25 4 (dk_at dksX0_isSoAs_2 7 rfl rfl)
theorem dX0_isSoAs_56 : decode cX0_isSoAs 56 = .ok (.aastore, 1) := dk_83 (dk_at dksX0_isSoAs_2 9 rfl rfl)
theorem dX0_isSoAs_57 : decode cX0_isSoAs 57 = .ok (.iload 5, 2) := dk_21 5 (dk_at dksX0_isSoAs_2 10 rfl rfl)
theorem dX0_isSoAs_59 : decode cX0_isSoAs 59 = .ok (.ireturn, 1) := dk_172 (dk_at dksX0_isSoAs_2 12 rfl rfl)
theorem dX0_isSoAs_60 : decode cX0_isSoAs 60 = .ok (.astore 6, 2) := dk_58 6 (dk_at dksX0_isSoAs_2 13 rfl rfl)
theorem dX0_isSoAs_62 : decode cX0_isSoAs 62 = .ok (.aload_n 0, 1) := dk_42 (dk_at dksX0_isSoAs_2 15 rfl rfl)
theorem dX0_isSoAs_63 : decode cX0_isSoAs 63 = .ok (.getfield 47, 3) := dk_180 0 47 (dk_at dksX0_isSoAs_2 16 rfl rfl)
theorem dX0_isSoAs_66 : decode cX0_isSoAs 66 = .ok (.iload_n 2, 1) := dk_28 (dk_at dksX0_isSoAs_2 19 rfl rfl)
theorem dX0_isSoAs_67 : decode cX0_isSoAs 67 = .ok (.aload 4, 2) := dk_25 4 (dk_at dksX0_isSoAs_2 20 rfl rfl)
theorem dX0_isSoAs_69 : decode cX0_isSoAs 69 = .ok (.aastore, 1) := dk_83 (dk_at dksX0_isSoAs_2 22 rfl rfl)
theorem dX0_isSoAs_70 : decode cX0_isSoAs 70 = .ok (.aload 6, 2) := dk_25 6 (dk_at dksX0_isSoAs_3 0 rfl rfl)
theorem dX0_isSoAs_72 : decode cX0_isSoAs 72 = .ok (.athrow, 1) := dk_191 (dk_at dksX0_isSoAs_3 2 rfl rfl)
abbrev cX0_numbersOf : ByteArray := prog_1_method_74_code
def yX0_numbersOf : MethodName := ⟨RX0, "numbersOf", "(Ljava/lang/Object;I)I"⟩
def dkwX0_numbersOf_1 : List UInt8 := [153, 0, 10, 4, 21, 4, 120, 167, 0, 4, 3, 128, 62, 132, 4, 1, 167, 255, 223, 29, 172]
abbrev dktX0_numbersOf_1 : List UInt8 := dkwX0_numbersOf_1 ++ []
def dkwX0_numbersOf_0 : List UInt8 := [3, 62, 3, 54, 4, 21, 4, 16, 9, 163, 0, 32, 29, 42, 43, 28, 6, 21, 4, 182, 1, 225]
abbrev dktX0_numbersOf_0 : List UInt8 := dkwX0_numbersOf_0 ++ dktX0_numbersOf_1
theorem dksX0_numbersOf_0 : cX0_numbersOf.data.toList.drop 0 = dktX0_numbersOf_0 := by decide +kernel
theorem dksX0_numbersOf_1 : cX0_numbersOf.data.toList.drop 22 = dktX0_numbersOf_1 := dk_seg dksX0_numbersOf_0 22 rfl rfl
theorem dX0_numbersOf_0 : decode cX0_numbersOf 0 = .ok (.iconst 0, 1) := dk_3 (dk_at dksX0_numbersOf_0 0 rfl rfl)
theorem dX0_numbersOf_1 : decode cX0_numbersOf 1 = .ok (.istore_n 3, 1) := dk_62 (dk_at dksX0_numbersOf_0 1 rfl rfl)
theorem dX0_numbersOf_2 : decode cX0_numbersOf 2 = .ok (.iconst 0, 1) := dk_3 (dk_at dksX0_numbersOf_0 2 rfl rfl)
theorem dX0_numbersOf_3 : decode cX0_numbersOf 3 = .ok (.istore 4, 2) := dk_54 4 (dk_at dksX0_numbersOf_0 3 rfl rfl)
theorem dX0_numbersOf_5 : decode cX0_numbersOf 5 = .ok (.iload 4, 2) := dk_21 4 (dk_at dksX0_numbersOf_0 5 rfl rfl)
theorem dX0_numbersOf_7 : decode cX0_numbersOf 7 = .ok (.bipush 9, 2) := dk_16 9 (dk_at dksX0_numbersOf_0 7 rfl rfl)
theorem dX0_numbersOf_9 : decode cX0_numbersOf 9 = .ok (.if_icmp .gt 32, 3) := dk_163 0 32 (dk_at dksX0_numbersOf_0 9 rfl rfl)
theorem dX0_numbersOf_12 : decode cX0_numbersOf 12 = .ok (.iload_n 3, 1) := dk_29 (dk_at dksX0_numbersOf_0 12 rfl rfl)
theorem dX0_numbersOf_13 : decode cX0_numbersOf 13 = .ok (.aload_n 0, 1) := dk_42 (dk_at dksX0_numbersOf_0 13 rfl rfl)
theorem dX0_numbersOf_14 : decode cX0_numbersOf 14 = .ok (.aload_n 1, 1) := dk_43 (dk_at dksX0_numbersOf_0 14 rfl rfl)
theorem dX0_numbersOf_15 : decode cX0_numbersOf 15 = .ok (.iload_n 2, 1) := dk_28 (dk_at dksX0_numbersOf_0 15 rfl rfl)
theorem dX0_numbersOf_16 : decode cX0_numbersOf 16 = .ok (.iconst 3, 1) := dk_6 (dk_at dksX0_numbersOf_0 16 rfl rfl)
theorem dX0_numbersOf_17 : decode cX0_numbersOf 17 = .ok (.iload 4, 2) := dk_21 4 (dk_at dksX0_numbersOf_0 17 rfl rfl)
theorem dX0_numbersOf_19 : decode cX0_numbersOf 19 = .ok (.invokevirtual 481, 3) := dk_182 1 225 (dk_at dksX0_numbersOf_0 19 rfl rfl)
theorem dX0_numbersOf_22 : decode cX0_numbersOf 22 = .ok (.ifCond .eq 10, 3) := dk_153 0 10 (dk_at dksX0_numbersOf_1 0 rfl rfl)
theorem dX0_numbersOf_25 : decode cX0_numbersOf 25 = .ok (.iconst 1, 1) := dk_4 (dk_at dksX0_numbersOf_1 3 rfl rfl)
theorem dX0_numbersOf_26 : decode cX0_numbersOf 26 = .ok (.iload 4, 2) := dk_21 4 (dk_at dksX0_numbersOf_1 4 rfl rfl)
theorem dX0_numbersOf_28 : decode cX0_numbersOf 28 = .ok (.ishl, 1) := dk_120 (dk_at dksX0_numbersOf_1 6 rfl rfl)
theorem dX0_numbersOf_29 : decode cX0_numbersOf 29 = .ok (.goto 4, 3) := dk_167 0 4 (dk_at dksX0_numbersOf_1 7 rfl rfl)
theorem dX0_numbersOf_32 : decode cX0_numbersOf 32 = .ok (.iconst 0, 1) := dk_3 (dk_at dksX0_numbersOf_1 10 rfl rfl)
theorem dX0_numbersOf_33 : decode cX0_numbersOf 33 = .ok (.ior, 1) := dk_128 (dk_at dksX0_numbersOf_1 11 rfl rfl)
theorem dX0_numbersOf_34 : decode cX0_numbersOf 34 = .ok (.istore_n 3, 1) := dk_62 (dk_at dksX0_numbersOf_1 12 rfl rfl)
theorem dX0_numbersOf_35 : decode cX0_numbersOf 35 = .ok (.iinc 4 1, 3) := dk_132 4 1 (dk_at dksX0_numbersOf_1 13 rfl rfl)
theorem dX0_numbersOf_38 : decode cX0_numbersOf 38 = .ok (.goto (-33), 3) := dk_167 255 223 (dk_at dksX0_numbersOf_1 16 rfl rfl)
theorem dX0_numbersOf_41 : decode cX0_numbersOf 41 = .ok (.iload_n 3, 1) := dk_29 (dk_at dksX0_numbersOf_1 19 rfl rfl)
theorem dX0_numbersOf_42 : decode cX0_numbersOf 42 = .ok (.ireturn, 1) := dk_172 (dk_at dksX0_numbersOf_1 20 rfl rfl)
abbrev cX0_isSoBy : ByteArray := prog_1_method_73_code
def yX0_isSoBy : MethodName := ⟨RX0, "isSoBy", "(Ljava/lang/Object;III)Z"⟩
def dkwX0_isSoBy_2 : List UInt8 := [29, 28, 21, 5, 182, 0, 98, 25, 7, 191]
abbrev dktX0_isSoBy_2 : List UInt8 := dkwX0_isSoBy_2 ++ []
def dkwX0_isSoBy_1 : List UInt8 := [160, 0, 7, 4, 167, 0, 4, 3, 54, 6, 42, 29, 28, 21, 5, 182, 0, 98, 21, 6, 172, 58, 7, 42]
abbrev dktX0_isSoBy_1 : List UInt8 := dkwX0_isSoBy_1 ++ dktX0_isSoBy_2
def dkwX0_isSoBy_0 : List UInt8 := [42, 29, 28, 182, 0, 95, 54, 5, 42, 29, 28, 21, 4, 182, 0, 98, 42, 43, 182, 1, 218, 2]
abbrev dktX0_isSoBy_0 : List UInt8 := dkwX0_isSoBy_0 ++ dktX0_isSoBy_1
theorem dksX0_isSoBy_0 : cX0_isSoBy.data.toList.drop 0 = dktX0_isSoBy_0 := by decide +kernel
theorem dksX0_isSoBy_1 : cX0_isSoBy.data.toList.drop 22 = dktX0_isSoBy_1 := dk_seg dksX0_isSoBy_0 22 rfl rfl
theorem dksX0_isSoBy_2 : cX0_isSoBy.data.toList.drop 46 = dktX0_isSoBy_2 := dk_seg dksX0_isSoBy_1 24 rfl rfl
theorem dX0_isSoBy_0 : decode cX0_isSoBy 0 = .ok (.aload_n 0, 1) := dk_42 (dk_at dksX0_isSoBy_0 0 rfl rfl)
theorem dX0_isSoBy_1 : decode cX0_isSoBy 1 = .ok (.iload_n 3, 1) := dk_29 (dk_at dksX0_isSoBy_0 1 rfl rfl)
theorem dX0_isSoBy_2 : decode cX0_isSoBy 2 = .ok (.iload_n 2, 1) := dk_28 (dk_at dksX0_isSoBy_0 2 rfl rfl)
theorem dX0_isSoBy_3 : decode cX0_isSoBy 3 = .ok (.invokevirtual 95, 3) := dk_182 0 95 (dk_at dksX0_isSoBy_0 3 rfl rfl)
theorem dX0_isSoBy_6 : decode cX0_isSoBy 6 = .ok (.istore 5, 2) := dk_54 5 (dk_at dksX0_isSoBy_0 6 rfl rfl)
theorem dX0_isSoBy_8 : decode cX0_isSoBy 8 = .ok (.aload_n 0, 1) := dk_42 (dk_at dksX0_isSoBy_0 8 rfl rfl)
theorem dX0_isSoBy_9 : decode cX0_isSoBy 9 = .ok (.iload_n 3, 1) := dk_29 (dk_at dksX0_isSoBy_0 9 rfl rfl)
theorem dX0_isSoBy_10 : decode cX0_isSoBy 10 = .ok (.iload_n 2, 1) := dk_28 (dk_at dksX0_isSoBy_0 10 rfl rfl)
theorem dX0_isSoBy_11 : decode cX0_isSoBy 11 = .ok (.iload 4, 2) := dk_21 4 (dk_at dksX0_isSoBy_0 11 rfl rfl)
theorem dX0_isSoBy_13 : decode cX0_isSoBy 13 = .ok (.invokevirtual 98, 3) := dk_182 0 98 (dk_at dksX0_isSoBy_0 13 rfl rfl)
theorem dX0_isSoBy_16 : decode cX0_isSoBy 16 = .ok (.aload_n 0, 1) := dk_42 (dk_at dksX0_isSoBy_0 16 rfl rfl)
theorem dX0_isSoBy_17 : decode cX0_isSoBy 17 = .ok (.aload_n 1, 1) := dk_43 (dk_at dksX0_isSoBy_0 17 rfl rfl)
theorem dX0_isSoBy_18 : decode cX0_isSoBy 18 = .ok (.invokevirtual 474, 3) := dk_182 1 218 (dk_at dksX0_isSoBy_0 18 rfl rfl)
theorem dX0_isSoBy_21 : decode cX0_isSoBy 21 = .ok (.iconst (-1), 1) := dk_2 (dk_at dksX0_isSoBy_0 21 rfl rfl)
theorem dX0_isSoBy_22 : decode cX0_isSoBy 22 = .ok (.if_icmp .ne 7, 3) := dk_160 0 7 (dk_at dksX0_isSoBy_1 0 rfl rfl)
theorem dX0_isSoBy_25 : decode cX0_isSoBy 25 = .ok (.iconst 1, 1) := dk_4 (dk_at dksX0_isSoBy_1 3 rfl rfl)
theorem dX0_isSoBy_26 : decode cX0_isSoBy 26 = .ok (.goto 4, 3) := dk_167 0 4 (dk_at dksX0_isSoBy_1 4 rfl rfl)
theorem dX0_isSoBy_29 : decode cX0_isSoBy 29 = .ok (.iconst 0, 1) := dk_3 (dk_at dksX0_isSoBy_1 7 rfl rfl)
theorem dX0_isSoBy_30 : decode cX0_isSoBy 30 = .ok (.istore 6, 2) := dk_54 6 (dk_at dksX0_isSoBy_1 8 rfl rfl)
theorem dX0_isSoBy_32 : decode cX0_isSoBy 32 = .ok (.aload_n 0, 1) := dk_42 (dk_at dksX0_isSoBy_1 10 rfl rfl)
theorem dX0_isSoBy_33 : decode cX0_isSoBy 33 = .ok (.iload_n 3, 1) := dk_29 (dk_at dksX0_isSoBy_1 11 rfl rfl)
theorem dX0_isSoBy_34 : decode cX0_isSoBy 34 = .ok (.iload_n 2, 1) := dk_28 (dk_at dksX0_isSoBy_1 12 rfl rfl)
theorem dX0_isSoBy_35 : decode cX0_isSoBy 35 = .ok (.iload 5, 2) := dk_21 5 (dk_at dksX0_isSoBy_1 13 rfl rfl)
theorem dX0_isSoBy_37 : decode cX0_isSoBy 37 = .ok (.invokevirtual 98, 3) := dk_182 0 98 (dk_at dksX0_isSoBy_1 15 rfl rfl)
theorem dX0_isSoBy_40 : decode cX0_isSoBy 40 = .ok (.iload 6, 2) := dk_21 6 (dk_at dksX0_isSoBy_1 18 rfl rfl)
theorem dX0_isSoBy_42 : decode cX0_isSoBy 42 = .ok (.ireturn, 1) := dk_172 (dk_at dksX0_isSoBy_1 20 rfl rfl)
theorem dX0_isSoBy_43 : decode cX0_isSoBy 43 = .ok (.astore 7, 2) := dk_58 7 (dk_at dksX0_isSoBy_1 21 rfl rfl)
theorem dX0_isSoBy_45 : decode cX0_isSoBy 45 = .ok (.aload_n 0, 1) := dk_42 (dk_at dksX0_isSoBy_1 23 rfl rfl)
theorem dX0_isSoBy_46 : decode cX0_isSoBy 46 = .ok (.iload_n 3, 1) := dk_29 (dk_at dksX0_isSoBy_2 0 rfl rfl)
theorem dX0_isSoBy_47 : decode cX0_isSoBy 47 = .ok (.iload_n 2, 1) := dk_28 (dk_at dksX0_isSoBy_2 1 rfl rfl)
theorem dX0_isSoBy_48 : decode cX0_isSoBy 48 = .ok (.iload 5, 2) := dk_21 5 (dk_at dksX0_isSoBy_2 2 rfl rfl)
theorem dX0_isSoBy_50 : decode cX0_isSoBy 50 = .ok (.invokevirtual 98, 3) := dk_182 0 98 (dk_at dksX0_isSoBy_2 4 rfl rfl)
theorem dX0_isSoBy_53 : decode cX0_isSoBy 53 = .ok (.aload 7, 2) := dk_25 7 (dk_at dksX0_isSoBy_2 7 rfl rfl)
theorem dX0_isSoBy_55 : decode cX0_isSoBy 55 = .ok (.athrow, 1) := dk_191 (dk_at dksX0_isSoBy_2 9 rfl rfl)
abbrev cX0_manyBy : ByteArray := prog_1_method_75_code
def yX0_manyBy : MethodName := ⟨RX0, "manyBy", "(Ljava/lang/Object;IIZ)I"⟩
def dkwX0_manyBy_2 : List UInt8 := [153, 0, 7, 2, 167, 0, 5, 21, 5, 172]
abbrev dktX0_manyBy_2 : List UInt8 := dkwX0_manyBy_2 ++ []
def dkwX0_manyBy_1 : List UInt8 := [153, 0, 14, 21, 4, 153, 0, 6, 21, 6, 172, 132, 5, 1, 132, 6, 1, 167, 255, 223, 21, 4]
abbrev dktX0_manyBy_1 : List UInt8 := dkwX0_manyBy_1 ++ dktX0_manyBy_2
def dkwX0_manyBy_0 : List UInt8 := [3, 54, 5, 3, 54, 6, 21, 6, 16, 99, 163, 0, 32, 42, 43, 28, 29, 21, 6, 182, 1, 225]
abbrev dktX0_manyBy_0 : List UInt8 := dkwX0_manyBy_0 ++ dktX0_manyBy_1
theorem dksX0_manyBy_0 : cX0_manyBy.data.toList.drop 0 = dktX0_manyBy_0 := by decide +kernel
theorem dksX0_manyBy_1 : cX0_manyBy.data.toList.drop 22 = dktX0_manyBy_1 := dk_seg dksX0_manyBy_0 22 rfl rfl
theorem dksX0_manyBy_2 : cX0_manyBy.data.toList.drop 44 = dktX0_manyBy_2 := dk_seg dksX0_manyBy_1 22 rfl rfl
theorem dX0_manyBy_0 : decode cX0_manyBy 0 = .ok (.iconst 0, 1) := dk_3 (dk_at dksX0_manyBy_0 0 rfl rfl)
theorem dX0_manyBy_1 : decode cX0_manyBy 1 = .ok (.istore 5, 2) := dk_54 5 (dk_at dksX0_manyBy_0 1 rfl rfl)
theorem dX0_manyBy_3 : decode cX0_manyBy 3 = .ok (.iconst 0, 1) := dk_3 (dk_at dksX0_manyBy_0 3 rfl rfl)
theorem dX0_manyBy_4 : decode cX0_manyBy 4 = .ok (.istore 6, 2) := dk_54 6 (dk_at dksX0_manyBy_0 4 rfl rfl)
theorem dX0_manyBy_6 : decode cX0_manyBy 6 = .ok (.iload 6, 2) := dk_21 6 (dk_at dksX0_manyBy_0 6 rfl rfl)
theorem dX0_manyBy_8 : decode cX0_manyBy 8 = .ok (.bipush 99, 2) := dk_16 99 (dk_at dksX0_manyBy_0 8 rfl rfl)
theorem dX0_manyBy_10 : decode cX0_manyBy 10 = .ok (.if_icmp .gt 32, 3) := dk_163 0 32 (dk_at dksX0_manyBy_0 10 rfl rfl)
theorem dX0_manyBy_13 : decode cX0_manyBy 13 = .ok (.aload_n 0, 1) := dk_42 (dk_at dksX0_manyBy_0 13 rfl rfl)
theorem dX0_manyBy_14 : decode cX0_manyBy 14 = .ok (.aload_n 1, 1) := dk_43 (dk_at dksX0_manyBy_0 14 rfl rfl)
theorem dX0_manyBy_15 : decode cX0_manyBy 15 = .ok (.iload_n 2, 1) := dk_28 (dk_at dksX0_manyBy_0 15 rfl rfl)
theorem dX0_manyBy_16 : decode cX0_manyBy 16 = .ok (.iload_n 3, 1) := dk_29 (dk_at dksX0_manyBy_0 16 rfl rfl)
theorem dX0_manyBy_17 : decode cX0_manyBy 17 = .ok (.iload 6, 2) := dk_21 6 (dk_at dksX0_manyBy_0 17 rfl rfl)
theorem dX0_manyBy_19 : decode cX0_manyBy 19 = .ok (.invokevirtual 481, 3) := dk_182 1 225 (dk_at dksX0_manyBy_0 19 rfl rfl)
theorem dX0_manyBy_22 : decode cX0_manyBy 22 = .ok (.ifCond .eq 14, 3) := dk_153 0 14 (dk_at dksX0_manyBy_1 0 rfl rfl)
theorem dX0_manyBy_25 : decode cX0_manyBy 25 = .ok (.iload 4, 2) := dk_21 4 (dk_at dksX0_manyBy_1 3 rfl rfl)
theorem dX0_manyBy_27 : decode cX0_manyBy 27 = .ok (.ifCond .eq 6, 3) := dk_153 0 6 (dk_at dksX0_manyBy_1 5 rfl rfl)
theorem dX0_manyBy_30 : decode cX0_manyBy 30 = .ok (.iload 6, 2) := dk_21 6 (dk_at dksX0_manyBy_1 8 rfl rfl)
theorem dX0_manyBy_32 : decode cX0_manyBy 32 = .ok (.ireturn, 1) := dk_172 (dk_at dksX0_manyBy_1 10 rfl rfl)
theorem dX0_manyBy_33 : decode cX0_manyBy 33 = .ok (.iinc 5 1, 3) := dk_132 5 1 (dk_at dksX0_manyBy_1 11 rfl rfl)
theorem dX0_manyBy_36 : decode cX0_manyBy 36 = .ok (.iinc 6 1, 3) := dk_132 6 1 (dk_at dksX0_manyBy_1 14 rfl rfl)
theorem dX0_manyBy_39 : decode cX0_manyBy 39 = .ok (.goto (-33), 3) := dk_167 255 223 (dk_at dksX0_manyBy_1 17 rfl rfl)
theorem dX0_manyBy_42 : decode cX0_manyBy 42 = .ok (.iload 4, 2) := dk_21 4 (dk_at dksX0_manyBy_1 20 rfl rfl)
theorem dX0_manyBy_44 : decode cX0_manyBy 44 = .ok (.ifCond .eq 7, 3) := dk_153 0 7 (dk_at dksX0_manyBy_2 0 rfl rfl)
theorem dX0_manyBy_47 : decode cX0_manyBy 47 = .ok (.iconst (-1), 1) := dk_2 (dk_at dksX0_manyBy_2 3 rfl rfl)
theorem dX0_manyBy_48 : decode cX0_manyBy 48 = .ok (.goto 5, 3) := dk_167 0 5 (dk_at dksX0_manyBy_2 4 rfl rfl)
theorem dX0_manyBy_51 : decode cX0_manyBy 51 = .ok (.iload 5, 2) := dk_21 5 (dk_at dksX0_manyBy_2 7 rfl rfl)
theorem dX0_manyBy_53 : decode cX0_manyBy 53 = .ok (.ireturn, 1) := dk_172 (dk_at dksX0_manyBy_2 9 rfl rfl)
abbrev cX0_textsOf : ByteArray := prog_1_method_76_code
def yX0_textsOf : MethodName := ⟨RX0, "textsOf", "(Ljava/lang/Object;)I"⟩
def dkwX0_textsOf_3 : List UInt8 := [29, 172]
abbrev dktX0_textsOf_3 : List UInt8 := dkwX0_textsOf_3 ++ []
def dkwX0_textsOf_2 : List UInt8 := [132, 4, 1, 167, 255, 218, 42, 28, 181, 1, 83, 167, 0, 13, 58, 5, 42, 28, 181, 1, 83, 25, 5, 191]
abbrev dktX0_textsOf_2 : List UInt8 := dkwX0_textsOf_2 ++ dktX0_textsOf_3
def dkwX0_textsOf_1 : List UInt8 := [181, 1, 83, 29, 42, 43, 182, 1, 218, 2, 160, 0, 10, 4, 21, 4, 120, 167, 0, 4, 3, 128, 62]
abbrev dktX0_textsOf_1 : List UInt8 := dkwX0_textsOf_1 ++ dktX0_textsOf_2
def dkwX0_textsOf_0 : List UInt8 := [42, 180, 1, 83, 61, 3, 62, 3, 54, 4, 21, 4, 42, 180, 1, 3, 162, 0, 35, 42, 21, 4]
abbrev dktX0_textsOf_0 : List UInt8 := dkwX0_textsOf_0 ++ dktX0_textsOf_1
theorem dksX0_textsOf_0 : cX0_textsOf.data.toList.drop 0 = dktX0_textsOf_0 := by decide +kernel
theorem dksX0_textsOf_1 : cX0_textsOf.data.toList.drop 22 = dktX0_textsOf_1 := dk_seg dksX0_textsOf_0 22 rfl rfl
theorem dksX0_textsOf_2 : cX0_textsOf.data.toList.drop 45 = dktX0_textsOf_2 := dk_seg dksX0_textsOf_1 23 rfl rfl
theorem dksX0_textsOf_3 : cX0_textsOf.data.toList.drop 69 = dktX0_textsOf_3 := dk_seg dksX0_textsOf_2 24 rfl rfl
theorem dX0_textsOf_0 : decode cX0_textsOf 0 = .ok (.aload_n 0, 1) := dk_42 (dk_at dksX0_textsOf_0 0 rfl rfl)
theorem dX0_textsOf_1 : decode cX0_textsOf 1 = .ok (.getfield 339, 3) := dk_180 1 83 (dk_at dksX0_textsOf_0 1 rfl rfl)
theorem dX0_textsOf_4 : decode cX0_textsOf 4 = .ok (.istore_n 2, 1) := dk_61 (dk_at dksX0_textsOf_0 4 rfl rfl)
theorem dX0_textsOf_5 : decode cX0_textsOf 5 = .ok (.iconst 0, 1) := dk_3 (dk_at dksX0_textsOf_0 5 rfl rfl)
theorem dX0_textsOf_6 : decode cX0_textsOf 6 = .ok (.istore_n 3, 1) := dk_62 (dk_at dksX0_textsOf_0 6 rfl rfl)
theorem dX0_textsOf_7 : decode cX0_textsOf 7 = .ok (.iconst 0, 1) := dk_3 (dk_at dksX0_textsOf_0 7 rfl rfl)
theorem dX0_textsOf_8 : decode cX0_textsOf 8 = .ok (.istore 4, 2) := dk_54 4 (dk_at dksX0_textsOf_0 8 rfl rfl)
theorem dX0_textsOf_10 : decode cX0_textsOf 10 = .ok (.iload 4, 2) := dk_21 4 (dk_at dksX0_textsOf_0 10 rfl rfl)
theorem dX0_textsOf_12 : decode cX0_textsOf 12 = .ok (.aload_n 0, 1) := dk_42 (dk_at dksX0_textsOf_0 12 rfl rfl)
theorem dX0_textsOf_13 : decode cX0_textsOf 13 = .ok (.getfield 259, 3) := dk_180 1 3 (dk_at dksX0_textsOf_0 13 rfl rfl)
theorem dX0_textsOf_16 : decode cX0_textsOf 16 = .ok (.if_icmp .ge 35, 3) := dk_162 0 35 (dk_at dksX0_textsOf_0 16 rfl rfl)
theorem dX0_textsOf_19 : decode cX0_textsOf 19 = .ok (.aload_n 0, 1) := dk_42 (dk_at dksX0_textsOf_0 19 rfl rfl)
theorem dX0_textsOf_20 : decode cX0_textsOf 20 = .ok (.iload 4, 2) := dk_21 4 (dk_at dksX0_textsOf_0 20 rfl rfl)
theorem dX0_textsOf_22 : decode cX0_textsOf 22 = .ok (.putfield 339, 3) := dk_181 1 83 (dk_at dksX0_textsOf_1 0 rfl rfl)
theorem dX0_textsOf_25 : decode cX0_textsOf 25 = .ok (.iload_n 3, 1) := dk_29 (dk_at dksX0_textsOf_1 3 rfl rfl)
theorem dX0_textsOf_26 : decode cX0_textsOf 26 = .ok (.aload_n 0, 1) := dk_42 (dk_at dksX0_textsOf_1 4 rfl rfl)
theorem dX0_textsOf_27 : decode cX0_textsOf 27 = .ok (.aload_n 1, 1) := dk_43 (dk_at dksX0_textsOf_1 5 rfl rfl)
theorem dX0_textsOf_28 : decode cX0_textsOf 28 = .ok (.invokevirtual 474, 3) := dk_182 1 218 (dk_at dksX0_textsOf_1 6 rfl rfl)
theorem dX0_textsOf_31 : decode cX0_textsOf 31 = .ok (.iconst (-1), 1) := dk_2 (dk_at dksX0_textsOf_1 9 rfl rfl)
theorem dX0_textsOf_32 : decode cX0_textsOf 32 = .ok (.if_icmp .ne 10, 3) := dk_160 0 10 (dk_at dksX0_textsOf_1 10 rfl rfl)
theorem dX0_textsOf_35 : decode cX0_textsOf 35 = .ok (.iconst 1, 1) := dk_4 (dk_at dksX0_textsOf_1 13 rfl rfl)
theorem dX0_textsOf_36 : decode cX0_textsOf 36 = .ok (.iload 4, 2) := dk_21 4 (dk_at dksX0_textsOf_1 14 rfl rfl)
theorem dX0_textsOf_38 : decode cX0_textsOf 38 = .ok (.ishl, 1) := dk_120 (dk_at dksX0_textsOf_1 16 rfl rfl)
theorem dX0_textsOf_39 : decode cX0_textsOf 39 = .ok (.goto 4, 3) := dk_167 0 4 (dk_at dksX0_textsOf_1 17 rfl rfl)
theorem dX0_textsOf_42 : decode cX0_textsOf 42 = .ok (.iconst 0, 1) := dk_3 (dk_at dksX0_textsOf_1 20 rfl rfl)
theorem dX0_textsOf_43 : decode cX0_textsOf 43 = .ok (.ior, 1) := dk_128 (dk_at dksX0_textsOf_1 21 rfl rfl)
theorem dX0_textsOf_44 : decode cX0_textsOf 44 = .ok (.istore_n 3, 1) := dk_62 (dk_at dksX0_textsOf_1 22 rfl rfl)
theorem dX0_textsOf_45 : decode cX0_textsOf 45 = .ok (.iinc 4 1, 3) := dk_132 4 1 (dk_at dksX0_textsOf_2 0 rfl rfl)
theorem dX0_textsOf_48 : decode cX0_textsOf 48 = .ok (.goto (-38), 3) := dk_167 255 218 (dk_at dksX0_textsOf_2 3 rfl rfl)
theorem dX0_textsOf_51 : decode cX0_textsOf 51 = .ok (.aload_n 0, 1) := dk_42 (dk_at dksX0_textsOf_2 6 rfl rfl)
theorem dX0_textsOf_52 : decode cX0_textsOf 52 = .ok (.iload_n 2, 1) := dk_28 (dk_at dksX0_textsOf_2 7 rfl rfl)
theorem dX0_textsOf_53 : decode cX0_textsOf 53 = .ok (.putfield 339, 3) := dk_181 1 83 (dk_at dksX0_textsOf_2 8 rfl rfl)
theorem dX0_textsOf_56 : decode cX0_textsOf 56 = .ok (.goto 13, 3) := dk_167 0 13 (dk_at dksX0_textsOf_2 11 rfl rfl)
theorem dX0_textsOf_59 : decode cX0_textsOf 59 = .ok (.astore 5, 2) := dk_58 5 (dk_at dksX0_textsOf_2 14 rfl rfl)
theorem dX0_textsOf_61 : decode cX0_textsOf 61 = .ok (.aload_n 0, 1) := dk_42 (dk_at dksX0_textsOf_2 16 rfl rfl)
theorem dX0_textsOf_62 : decode cX0_textsOf 62 = .ok (.iload_n 2, 1) := dk_28 (dk_at dksX0_textsOf_2 17 rfl rfl)
theorem dX0_textsOf_63 : decode cX0_textsOf 63 = .ok (.putfield 339, 3) := dk_181 1 83 (dk_at dksX0_textsOf_2 18 rfl rfl)
theorem dX0_textsOf_66 : decode cX0_textsOf 66 = .ok (.aload 5, 2) := dk_25 5 (dk_at dksX0_textsOf_2 21 rfl rfl)
theorem dX0_textsOf_68 : decode cX0_textsOf 68 = .ok (.athrow, 1) := dk_191 (dk_at dksX0_textsOf_2 23 rfl rfl)
theorem dX0_textsOf_69 : decode cX0_textsOf 69 = .ok (.iload_n 3, 1) := dk_29 (dk_at dksX0_textsOf_3 0 rfl rfl)
theorem dX0_textsOf_70 : decode cX0_textsOf 70 = .ok (.ireturn, 1) := dk_172 (dk_at dksX0_textsOf_3 1 rfl rfl)
abbrev cX0_peopleOf : ByteArray := prog_1_method_77_code
def yX0_peopleOf : MethodName := ⟨RX0, "peopleOf", "(Ljava/lang/Object;)I"⟩
def dkwX0_peopleOf_2 : List UInt8 := [128, 61, 132, 3, 1, 167, 255, 207, 28, 172]
abbrev dktX0_peopleOf_2 : List UInt8 := dkwX0_peopleOf_2 ++ []
def dkwX0_peopleOf_1 : List UInt8 := [180, 0, 81, 153, 0, 7, 3, 167, 0, 4, 4, 182, 1, 225, 153, 0, 9, 4, 29, 120, 167, 0, 4, 3]
abbrev dktX0_peopleOf_1 : List UInt8 := dkwX0_peopleOf_1 ++ dktX0_peopleOf_2
def dkwX0_peopleOf_0 : List UInt8 := [3, 61, 3, 62, 29, 42, 180, 0, 10, 162, 0, 47, 28, 42, 43, 29, 16, 6, 42, 180, 0, 47, 29, 50]
abbrev dktX0_peopleOf_0 : List UInt8 := dkwX0_peopleOf_0 ++ dktX0_peopleOf_1
theorem dksX0_peopleOf_0 : cX0_peopleOf.data.toList.drop 0 = dktX0_peopleOf_0 := by decide +kernel
theorem dksX0_peopleOf_1 : cX0_peopleOf.data.toList.drop 24 = dktX0_peopleOf_1 := dk_seg dksX0_peopleOf_0 24 rfl rfl
theorem dksX0_peopleOf_2 : cX0_peopleOf.data.toList.drop 48 = dktX0_peopleOf_2 := dk_seg dksX0_peopleOf_1 24 rfl rfl
theorem dX0_peopleOf_0 : decode cX0_peopleOf 0 = .ok (.iconst 0, 1) := dk_3 (dk_at dksX0_peopleOf_0 0 rfl rfl)
theorem dX0_peopleOf_1 : decode cX0_peopleOf 1 = .ok (.istore_n 2, 1) := dk_61 (dk_at dksX0_peopleOf_0 1 rfl rfl)
theorem dX0_peopleOf_2 : decode cX0_peopleOf 2 = .ok (.iconst 0, 1) := dk_3 (dk_at dksX0_peopleOf_0 2 rfl rfl)
theorem dX0_peopleOf_3 : decode cX0_peopleOf 3 = .ok (.istore_n 3, 1) := dk_62 (dk_at dksX0_peopleOf_0 3 rfl rfl)
theorem dX0_peopleOf_4 : decode cX0_peopleOf 4 = .ok (.iload_n 3, 1) := dk_29 (dk_at dksX0_peopleOf_0 4 rfl rfl)
theorem dX0_peopleOf_5 : decode cX0_peopleOf 5 = .ok (.aload_n 0, 1) := dk_42 (dk_at dksX0_peopleOf_0 5 rfl rfl)
theorem dX0_peopleOf_6 : decode cX0_peopleOf 6 = .ok (.getfield 10, 3) := dk_180 0 10 (dk_at dksX0_peopleOf_0 6 rfl rfl)
theorem dX0_peopleOf_9 : decode cX0_peopleOf 9 = .ok (.if_icmp .ge 47, 3) := dk_162 0 47 (dk_at dksX0_peopleOf_0 9 rfl rfl)
theorem dX0_peopleOf_12 : decode cX0_peopleOf 12 = .ok (.iload_n 2, 1) := dk_28 (dk_at dksX0_peopleOf_0 12 rfl rfl)
theorem dX0_peopleOf_13 : decode cX0_peopleOf 13 = .ok (.aload_n 0, 1) := dk_42 (dk_at dksX0_peopleOf_0 13 rfl rfl)
theorem dX0_peopleOf_14 : decode cX0_peopleOf 14 = .ok (.aload_n 1, 1) := dk_43 (dk_at dksX0_peopleOf_0 14 rfl rfl)
theorem dX0_peopleOf_15 : decode cX0_peopleOf 15 = .ok (.iload_n 3, 1) := dk_29 (dk_at dksX0_peopleOf_0 15 rfl rfl)
theorem dX0_peopleOf_16 : decode cX0_peopleOf 16 = .ok (.bipush 6, 2) := dk_16 6 (dk_at dksX0_peopleOf_0 16 rfl rfl)
theorem dX0_peopleOf_18 : decode cX0_peopleOf 18 = .ok (.aload_n 0, 1) := dk_42 (dk_at dksX0_peopleOf_0 18 rfl rfl)
theorem dX0_peopleOf_19 : decode cX0_peopleOf 19 = .ok (.getfield 47, 3) := dk_180 0 47 (dk_at dksX0_peopleOf_0 19 rfl rfl)
theorem dX0_peopleOf_22 : decode cX0_peopleOf 22 = .ok (.iload_n 3, 1) := dk_29 (dk_at dksX0_peopleOf_0 22 rfl rfl)
theorem dX0_peopleOf_23 : decode cX0_peopleOf 23 = .ok (.aaload, 1) := dk_50 (dk_at dksX0_peopleOf_0 23 rfl rfl)
theorem dX0_peopleOf_24 : decode cX0_peopleOf 24 = .ok (.getfield 81, 3) := dk_180 0 81 (dk_at dksX0_peopleOf_1 0 rfl rfl)
theorem dX0_peopleOf_27 : decode cX0_peopleOf 27 = .ok (.ifCond .eq 7, 3) := dk_153 0 7 (dk_at dksX0_peopleOf_1 3 rfl rfl)
theorem dX0_peopleOf_30 : decode cX0_peopleOf 30 = .ok (.iconst 0, 1) := dk_3 (dk_at dksX0_peopleOf_1 6 rfl rfl)
theorem dX0_peopleOf_31 : decode cX0_peopleOf 31 = .ok (.goto 4, 3) := dk_167 0 4 (dk_at dksX0_peopleOf_1 7 rfl rfl)
theorem dX0_peopleOf_34 : decode cX0_peopleOf 34 = .ok (.iconst 1, 1) := dk_4 (dk_at dksX0_peopleOf_1 10 rfl rfl)
theorem dX0_peopleOf_35 : decode cX0_peopleOf 35 = .ok (.invokevirtual 481, 3) := dk_182 1 225 (dk_at dksX0_peopleOf_1 11 rfl rfl)
theorem dX0_peopleOf_38 : decode cX0_peopleOf 38 = .ok (.ifCond .eq 9, 3) := dk_153 0 9 (dk_at dksX0_peopleOf_1 14 rfl rfl)
theorem dX0_peopleOf_41 : decode cX0_peopleOf 41 = .ok (.iconst 1, 1) := dk_4 (dk_at dksX0_peopleOf_1 17 rfl rfl)
theorem dX0_peopleOf_42 : decode cX0_peopleOf 42 = .ok (.iload_n 3, 1) := dk_29 (dk_at dksX0_peopleOf_1 18 rfl rfl)
theorem dX0_peopleOf_43 : decode cX0_peopleOf 43 = .ok (.ishl, 1) := dk_120 (dk_at dksX0_peopleOf_1 19 rfl rfl)
theorem dX0_peopleOf_44 : decode cX0_peopleOf 44 = .ok (.goto 4, 3) := dk_167 0 4 (dk_at dksX0_peopleOf_1 20 rfl rfl)
theorem dX0_peopleOf_47 : decode cX0_peopleOf 47 = .ok (.iconst 0, 1) := dk_3 (dk_at dksX0_peopleOf_1 23 rfl rfl)
theorem dX0_peopleOf_48 : decode cX0_peopleOf 48 = .ok (.ior, 1) := dk_128 (dk_at dksX0_peopleOf_2 0 rfl rfl)
theorem dX0_peopleOf_49 : decode cX0_peopleOf 49 = .ok (.istore_n 2, 1) := dk_61 (dk_at dksX0_peopleOf_2 1 rfl rfl)
theorem dX0_peopleOf_50 : decode cX0_peopleOf 50 = .ok (.iinc 3 1, 3) := dk_132 3 1 (dk_at dksX0_peopleOf_2 2 rfl rfl)
theorem dX0_peopleOf_53 : decode cX0_peopleOf 53 = .ok (.goto (-49), 3) := dk_167 255 207 (dk_at dksX0_peopleOf_2 5 rfl rfl)
theorem dX0_peopleOf_56 : decode cX0_peopleOf 56 = .ok (.iload_n 2, 1) := dk_28 (dk_at dksX0_peopleOf_2 8 rfl rfl)
theorem dX0_peopleOf_57 : decode cX0_peopleOf 57 = .ok (.ireturn, 1) := dk_172 (dk_at dksX0_peopleOf_2 9 rfl rfl)
abbrev cX0_film : ByteArray := prog_1_method_79_code
def yX0_film : MethodName := ⟨RX0, "film", "(II)I"⟩
def dkwX0_film_3 : List UInt8 := [182, 1, 146, 25, 4, 191, 28, 172]
abbrev dktX0_film_3 : List UInt8 := dkwX0_film_3 ++ []
def dkwX0_film_2 : List UInt8 := [42, 180, 0, 66, 182, 2, 3, 87, 132, 3, 1, 167, 255, 233, 42, 182, 1, 146, 167, 0, 12, 58, 4, 42]
abbrev dktX0_film_2 : List UInt8 := dkwX0_film_2 ++ dktX0_film_3
def dkwX0_film_1 : List UInt8 := [3, 28, 182, 2, 0, 87, 42, 182, 1, 143, 3, 62, 29, 28, 162, 0, 24, 42, 182, 1, 134, 42, 27, 29]
abbrev dktX0_film_1 : List UInt8 := dkwX0_film_1 ++ dktX0_film_2
def dkwX0_film_0 : List UInt8 := [27, 184, 1, 229, 153, 0, 15, 28, 133, 9, 20, 1, 254, 184, 0, 16, 154, 0, 6, 16, 254, 172, 42, 27]
abbrev dktX0_film_0 : List UInt8 := dkwX0_film_0 ++ dktX0_film_1
theorem dksX0_film_0 : cX0_film.data.toList.drop 0 = dktX0_film_0 := by decide +kernel
theorem dksX0_film_1 : cX0_film.data.toList.drop 24 = dktX0_film_1 := dk_seg dksX0_film_0 24 rfl rfl
theorem dksX0_film_2 : cX0_film.data.toList.drop 48 = dktX0_film_2 := dk_seg dksX0_film_1 24 rfl rfl
theorem dksX0_film_3 : cX0_film.data.toList.drop 72 = dktX0_film_3 := dk_seg dksX0_film_2 24 rfl rfl
theorem dX0_film_0 : decode cX0_film 0 = .ok (.iload_n 1, 1) := dk_27 (dk_at dksX0_film_0 0 rfl rfl)
theorem dX0_film_1 : decode cX0_film 1 = .ok (.invokestatic 485, 3) := dk_184 1 229 (dk_at dksX0_film_0 1 rfl rfl)
theorem dX0_film_4 : decode cX0_film 4 = .ok (.ifCond .eq 15, 3) := dk_153 0 15 (dk_at dksX0_film_0 4 rfl rfl)
theorem dX0_film_7 : decode cX0_film 7 = .ok (.iload_n 2, 1) := dk_28 (dk_at dksX0_film_0 7 rfl rfl)
theorem dX0_film_8 : decode cX0_film 8 = .ok (.i2l, 1) := dk_133 (dk_at dksX0_film_0 8 rfl rfl)
theorem dX0_film_9 : decode cX0_film 9 = .ok (.lconst 0, 1) := dk_9 (dk_at dksX0_film_0 9 rfl rfl)
theorem dX0_film_10 : decode cX0_film 10 = .ok (.ldc2_w 510, 3) := dk_20 1 254 (dk_at dksX0_film_0 10 rfl rfl)
theorem dX0_film_13 : decode cX0_film 13 = .ok (.invokestatic 16, 3) := dk_184 0 16 (dk_at dksX0_film_0 13 rfl rfl)
theorem dX0_film_16 : decode cX0_film 16 = .ok (.ifCond .ne 6, 3) := dk_154 0 6 (dk_at dksX0_film_0 16 rfl rfl)
theorem dX0_film_19 : decode cX0_film 19 = .ok (.bipush (-2), 2) := dk_16 254 (dk_at dksX0_film_0 19 rfl rfl)
theorem dX0_film_21 : decode cX0_film 21 = .ok (.ireturn, 1) := dk_172 (dk_at dksX0_film_0 21 rfl rfl)
theorem dX0_film_22 : decode cX0_film 22 = .ok (.aload_n 0, 1) := dk_42 (dk_at dksX0_film_0 22 rfl rfl)
theorem dX0_film_23 : decode cX0_film 23 = .ok (.iload_n 1, 1) := dk_27 (dk_at dksX0_film_0 23 rfl rfl)
theorem dX0_film_24 : decode cX0_film 24 = .ok (.iconst 0, 1) := dk_3 (dk_at dksX0_film_1 0 rfl rfl)
theorem dX0_film_25 : decode cX0_film 25 = .ok (.iload_n 2, 1) := dk_28 (dk_at dksX0_film_1 1 rfl rfl)
theorem dX0_film_26 : decode cX0_film 26 = .ok (.invokevirtual 512, 3) := dk_182 2 0 (dk_at dksX0_film_1 2 rfl rfl)
theorem dX0_film_29 : decode cX0_film 29 = .ok (.pop, 1) := dk_87 (dk_at dksX0_film_1 5 rfl rfl)
theorem dX0_film_30 : decode cX0_film 30 = .ok (.aload_n 0, 1) := dk_42 (dk_at dksX0_film_1 6 rfl rfl)
theorem dX0_film_31 : decode cX0_film 31 = .ok (.invokevirtual 399, 3) := dk_182 1 143 (dk_at dksX0_film_1 7 rfl rfl)
theorem dX0_film_34 : decode cX0_film 34 = .ok (.iconst 0, 1) := dk_3 (dk_at dksX0_film_1 10 rfl rfl)
theorem dX0_film_35 : decode cX0_film 35 = .ok (.istore_n 3, 1) := dk_62 (dk_at dksX0_film_1 11 rfl rfl)
theorem dX0_film_36 : decode cX0_film 36 = .ok (.iload_n 3, 1) := dk_29 (dk_at dksX0_film_1 12 rfl rfl)
theorem dX0_film_37 : decode cX0_film 37 = .ok (.iload_n 2, 1) := dk_28 (dk_at dksX0_film_1 13 rfl rfl)
theorem dX0_film_38 : decode cX0_film 38 = .ok (.if_icmp .ge 24, 3) := dk_162 0 24 (dk_at dksX0_film_1 14 rfl rfl)
theorem dX0_film_41 : decode cX0_film 41 = .ok (.aload_n 0, 1) := dk_42 (dk_at dksX0_film_1 17 rfl rfl)
theorem dX0_film_42 : decode cX0_film 42 = .ok (.invokevirtual 390, 3) := dk_182 1 134 (dk_at dksX0_film_1 18 rfl rfl)
theorem dX0_film_45 : decode cX0_film 45 = .ok (.aload_n 0, 1) := dk_42 (dk_at dksX0_film_1 21 rfl rfl)
theorem dX0_film_46 : decode cX0_film 46 = .ok (.iload_n 1, 1) := dk_27 (dk_at dksX0_film_1 22 rfl rfl)
theorem dX0_film_47 : decode cX0_film 47 = .ok (.iload_n 3, 1) := dk_29 (dk_at dksX0_film_1 23 rfl rfl)
theorem dX0_film_48 : decode cX0_film 48 = .ok (.aload_n 0, 1) := dk_42 (dk_at dksX0_film_2 0 rfl rfl)
theorem dX0_film_49 : decode cX0_film 49 = .ok (.getfield 66, 3) := dk_180 0 66 (dk_at dksX0_film_2 1 rfl rfl)
theorem dX0_film_52 : decode cX0_film 52 = .ok (.invokevirtual 515, 3) := dk_182 2 3 (dk_at dksX0_film_2 4 rfl rfl)
theorem dX0_film_55 : decode cX0_film 55 = .ok (.pop, 1) := dk_87 (dk_at dksX0_film_2 7 rfl rfl)
theorem dX0_film_56 : decode cX0_film 56 = .ok (.iinc 3 1, 3) := dk_132 3 1 (dk_at dksX0_film_2 8 rfl rfl)
theorem dX0_film_59 : decode cX0_film 59 = .ok (.goto (-23), 3) := dk_167 255 233 (dk_at dksX0_film_2 11 rfl rfl)
theorem dX0_film_62 : decode cX0_film 62 = .ok (.aload_n 0, 1) := dk_42 (dk_at dksX0_film_2 14 rfl rfl)
theorem dX0_film_63 : decode cX0_film 63 = .ok (.invokevirtual 402, 3) := dk_182 1 146 (dk_at dksX0_film_2 15 rfl rfl)
theorem dX0_film_66 : decode cX0_film 66 = .ok (.goto 12, 3) := dk_167 0 12 (dk_at dksX0_film_2 18 rfl rfl)
theorem dX0_film_69 : decode cX0_film 69 = .ok (.astore 4, 2) := dk_58 4 (dk_at dksX0_film_2 21 rfl rfl)
theorem dX0_film_71 : decode cX0_film 71 = .ok (.aload_n 0, 1) := dk_42 (dk_at dksX0_film_2 23 rfl rfl)
theorem dX0_film_72 : decode cX0_film 72 = .ok (.invokevirtual 402, 3) := dk_182 1 146 (dk_at dksX0_film_3 0 rfl rfl)
theorem dX0_film_75 : decode cX0_film 75 = .ok (.aload 4, 2) := dk_25 4 (dk_at dksX0_film_3 3 rfl rfl)
theorem dX0_film_77 : decode cX0_film 77 = .ok (.athrow, 1) := dk_191 (dk_at dksX0_film_3 5 rfl rfl)
theorem dX0_film_78 : decode cX0_film 78 = .ok (.iload_n 2, 1) := dk_28 (dk_at dksX0_film_3 6 rfl rfl)
theorem dX0_film_79 : decode cX0_film 79 = .ok (.ireturn, 1) := dk_172 (dk_at dksX0_film_3 7 rfl rfl)
abbrev cX0_sheet : ByteArray := prog_1_method_89_code
def yX0_sheet : MethodName := ⟨RX0, "sheet", "(III)I"⟩
def dkwX0_sheet_3 : List UInt8 := [16, 242, 172]
abbrev dktX0_sheet_3 : List UInt8 := dkwX0_sheet_3 ++ []
def dkwX0_sheet_2 : List UInt8 := [181, 1, 234, 4, 172, 42, 180, 1, 70, 27, 50, 28, 29, 184, 2, 29, 181, 1, 234, 4, 172, 58, 4]
abbrev dktX0_sheet_2 : List UInt8 := dkwX0_sheet_2 ++ dktX0_sheet_3
def dkwX0_sheet_1 : List UInt8 := [159, 0, 12, 29, 16, 40, 164, 0, 6, 16, 254, 172, 28, 2, 160, 0, 15, 42, 180, 1, 70, 27, 50, 1]
abbrev dktX0_sheet_1 : List UInt8 := dkwX0_sheet_1 ++ dktX0_sheet_2
def dkwX0_sheet_0 : List UInt8 := [27, 184, 1, 229, 153, 0, 28, 28, 133, 20, 2, 25, 20, 2, 27, 184, 0, 16, 153, 0, 14, 28, 2]
abbrev dktX0_sheet_0 : List UInt8 := dkwX0_sheet_0 ++ dktX0_sheet_1
theorem dksX0_sheet_0 : cX0_sheet.data.toList.drop 0 = dktX0_sheet_0 := by decide +kernel
theorem dksX0_sheet_1 : cX0_sheet.data.toList.drop 23 = dktX0_sheet_1 := dk_seg dksX0_sheet_0 23 rfl rfl
theorem dksX0_sheet_2 : cX0_sheet.data.toList.drop 47 = dktX0_sheet_2 := dk_seg dksX0_sheet_1 24 rfl rfl
theorem dksX0_sheet_3 : cX0_sheet.data.toList.drop 70 = dktX0_sheet_3 := dk_seg dksX0_sheet_2 23 rfl rfl
theorem dX0_sheet_0 : decode cX0_sheet 0 = .ok (.iload_n 1, 1) := dk_27 (dk_at dksX0_sheet_0 0 rfl rfl)
theorem dX0_sheet_1 : decode cX0_sheet 1 = .ok (.invokestatic 485, 3) := dk_184 1 229 (dk_at dksX0_sheet_0 1 rfl rfl)
theorem dX0_sheet_4 : decode cX0_sheet 4 = .ok (.ifCond .eq 28, 3) := dk_153 0 28 (dk_at dksX0_sheet_0 4 rfl rfl)
theorem dX0_sheet_7 : decode cX0_sheet 7 = .ok (.iload_n 2, 1) := dk_28 (dk_at dksX0_sheet_0 7 rfl rfl)
theorem dX0_sheet_8 : decode cX0_sheet 8 = .ok (.i2l, 1) := dk_133 (dk_at dksX0_sheet_0 8 rfl rfl)
theorem dX0_sheet_9 : decode cX0_sheet 9 = .ok (.ldc2_w 537, 3) := dk_20 2 25 (dk_at dksX0_sheet_0 9 rfl rfl)
theorem dX0_sheet_12 : decode cX0_sheet 12 = .ok (.ldc2_w 539, 3) := dk_20 2 27 (dk_at dksX0_sheet_0 12 rfl rfl)
theorem dX0_sheet_15 : decode cX0_sheet 15 = .ok (.invokestatic 16, 3) := dk_184 0 16 (dk_at dksX0_sheet_0 15 rfl rfl)
theorem dX0_sheet_18 : decode cX0_sheet 18 = .ok (.ifCond .eq 14, 3) := dk_153 0 14 (dk_at dksX0_sheet_0 18 rfl rfl)
theorem dX0_sheet_21 : decode cX0_sheet 21 = .ok (.iload_n 2, 1) := dk_28 (dk_at dksX0_sheet_0 21 rfl rfl)
theorem dX0_sheet_22 : decode cX0_sheet 22 = .ok (.iconst (-1), 1) := dk_2 (dk_at dksX0_sheet_0 22 rfl rfl)
theorem dX0_sheet_23 : decode cX0_sheet 23 = .ok (.if_icmp .eq 12, 3) := dk_159 0 12 (dk_at dksX0_sheet_1 0 rfl rfl)
theorem dX0_sheet_26 : decode cX0_sheet 26 = .ok (.iload_n 3, 1) := dk_29 (dk_at dksX0_sheet_1 3 rfl rfl)
theorem dX0_sheet_27 : decode cX0_sheet 27 = .ok (.bipush 40, 2) := dk_16 40 (dk_at dksX0_sheet_1 4 rfl rfl)
theorem dX0_sheet_29 : decode cX0_sheet 29 = .ok (.if_icmp .le 6, 3) := dk_164 0 6 (dk_at dksX0_sheet_1 6 rfl rfl)
theorem dX0_sheet_32 : decode cX0_sheet 32 = .ok (.bipush (-2), 2) := dk_16 254 (dk_at dksX0_sheet_1 9 rfl rfl)
theorem dX0_sheet_34 : decode cX0_sheet 34 = .ok (.ireturn, 1) := dk_172 (dk_at dksX0_sheet_1 11 rfl rfl)
theorem dX0_sheet_35 : decode cX0_sheet 35 = .ok (.iload_n 2, 1) := dk_28 (dk_at dksX0_sheet_1 12 rfl rfl)
theorem dX0_sheet_36 : decode cX0_sheet 36 = .ok (.iconst (-1), 1) := dk_2 (dk_at dksX0_sheet_1 13 rfl rfl)
theorem dX0_sheet_37 : decode cX0_sheet 37 = .ok (.if_icmp .ne 15, 3) := dk_160 0 15 (dk_at dksX0_sheet_1 14 rfl rfl)
theorem dX0_sheet_40 : decode cX0_sheet 40 = .ok (.aload_n 0, 1) := dk_42 (dk_at dksX0_sheet_1 17 rfl rfl)
theorem dX0_sheet_41 : decode cX0_sheet 41 = .ok (.getfield 326, 3) := dk_180 1 70 (dk_at dksX0_sheet_1 18 rfl rfl)
theorem dX0_sheet_44 : decode cX0_sheet 44 = .ok (.iload_n 1, 1) := dk_27 (dk_at dksX0_sheet_1 21 rfl rfl)
theorem dX0_sheet_45 : decode cX0_sheet 45 = .ok (.aaload, 1) := dk_50 (dk_at dksX0_sheet_1 22 rfl rfl)
theorem dX0_sheet_46 : decode cX0_sheet 46 = .ok (.aconst_null, 1) := dk_1 (dk_at dksX0_sheet_1 23 rfl rfl)
theorem dX0_sheet_47 : decode cX0_sheet 47 = .ok (.putfield 490, 3) := dk_181 1 234 (dk_at dksX0_sheet_2 0 rfl rfl)
theorem dX0_sheet_50 : decode cX0_sheet 50 = .ok (.iconst 1, 1) := dk_4 (dk_at dksX0_sheet_2 3 rfl rfl)
theorem dX0_sheet_51 : decode cX0_sheet 51 = .ok (.ireturn, 1) := dk_172 (dk_at dksX0_sheet_2 4 rfl rfl)
theorem dX0_sheet_52 : decode cX0_sheet 52 = .ok (.aload_n 0, 1) := dk_42 (dk_at dksX0_sheet_2 5 rfl rfl)
theorem dX0_sheet_53 : decode cX0_sheet 53 = .ok (.getfield 326, 3) := dk_180 1 70 (dk_at dksX0_sheet_2 6 rfl rfl)
theorem dX0_sheet_56 : decode cX0_sheet 56 = .ok (.iload_n 1, 1) := dk_27 (dk_at dksX0_sheet_2 9 rfl rfl)
theorem dX0_sheet_57 : decode cX0_sheet 57 = .ok (.aaload, 1) := dk_50 (dk_at dksX0_sheet_2 10 rfl rfl)
theorem dX0_sheet_58 : decode cX0_sheet 58 = .ok (.iload_n 2, 1) := dk_28 (dk_at dksX0_sheet_2 11 rfl rfl)
theorem dX0_sheet_59 : decode cX0_sheet 59 = .ok (.iload_n 3, 1) := dk_29 (dk_at dksX0_sheet_2 12 rfl rfl)
theorem dX0_sheet_60 : decode cX0_sheet 60 = .ok (.invokestatic 541, 3) := dk_184 2 29 (dk_at dksX0_sheet_2 13 rfl rfl)
theorem dX0_sheet_63 : decode cX0_sheet 63 = .ok (.putfield 490, 3) := dk_181 1 234 (dk_at dksX0_sheet_2 16 rfl rfl)
theorem dX0_sheet_66 : decode cX0_sheet 66 = .ok (.iconst 1, 1) := dk_4 (dk_at dksX0_sheet_2 19 rfl rfl)
theorem dX0_sheet_67 : decode cX0_sheet 67 = .ok (.ireturn, 1) := dk_172 (dk_at dksX0_sheet_2 20 rfl rfl)
theorem dX0_sheet_68 : decode cX0_sheet 68 = .ok (.astore 4, 2) := dk_58 4 (dk_at dksX0_sheet_2 21 rfl rfl)
theorem dX0_sheet_70 : decode cX0_sheet 70 = .ok (.bipush (-14), 2) := dk_16 242 (dk_at dksX0_sheet_3 0 rfl rfl)
theorem dX0_sheet_72 : decode cX0_sheet 72 = .ok (.ireturn, 1) := dk_172 (dk_at dksX0_sheet_3 2 rfl rfl)
abbrev cX0_rowOf : ByteArray := prog_1_method_88_code
def yX0_rowOf : MethodName := ⟨RX0, "rowOf", "(II)Ljava/lang/Object;"⟩
def dkwX0_rowOf_2 : List UInt8 := [27, 188, 8, 176, 27, 188, 9, 176, 27, 188, 10, 176]
abbrev dktX0_rowOf_2 : List UInt8 := dkwX0_rowOf_2 ++ []
def dkwX0_rowOf_1 : List UInt8 := [171, 0, 0, 0, 0, 0, 35, 0, 0, 0, 2, 0, 0, 0, 0, 0, 0, 0, 27, 0, 0, 0, 1, 0, 0, 0, 31]
abbrev dktX0_rowOf_1 : List UInt8 := dkwX0_rowOf_1 ++ dktX0_rowOf_2
def dkwX0_rowOf_0 : List UInt8 := [26]
abbrev dktX0_rowOf_0 : List UInt8 := dkwX0_rowOf_0 ++ dktX0_rowOf_1
theorem dksX0_rowOf_0 : cX0_rowOf.data.toList.drop 0 = dktX0_rowOf_0 := by decide +kernel
theorem dksX0_rowOf_1 : cX0_rowOf.data.toList.drop 1 = dktX0_rowOf_1 := dk_seg dksX0_rowOf_0 1 rfl rfl
theorem dksX0_rowOf_2 : cX0_rowOf.data.toList.drop 28 = dktX0_rowOf_2 := dk_seg dksX0_rowOf_1 27 rfl rfl
theorem dX0_rowOf_0 : decode cX0_rowOf 0 = .ok (.iload_n 0, 1) := dk_26 (dk_at dksX0_rowOf_0 0 rfl rfl)
theorem dX0_rowOf_1 : decode cX0_rowOf 1 = .ok (.lookupswitch 35 #[(0, 27), (1, 31)], 27) := by decide +kernel
theorem dX0_rowOf_28 : decode cX0_rowOf 28 = .ok (.iload_n 1, 1) := dk_27 (dk_at dksX0_rowOf_2 0 rfl rfl)
theorem dX0_rowOf_29 : decode cX0_rowOf 29 = .ok (.newarray .byte, 2) := dk_188_8 (dk_at dksX0_rowOf_2 1 rfl rfl)
theorem dX0_rowOf_31 : decode cX0_rowOf 31 = .ok (.areturn, 1) := dk_176 (dk_at dksX0_rowOf_2 3 rfl rfl)
theorem dX0_rowOf_32 : decode cX0_rowOf 32 = .ok (.iload_n 1, 1) := dk_27 (dk_at dksX0_rowOf_2 4 rfl rfl)
theorem dX0_rowOf_33 : decode cX0_rowOf 33 = .ok (.newarray .short, 2) := dk_188_9 (dk_at dksX0_rowOf_2 5 rfl rfl)
theorem dX0_rowOf_35 : decode cX0_rowOf 35 = .ok (.areturn, 1) := dk_176 (dk_at dksX0_rowOf_2 7 rfl rfl)
theorem dX0_rowOf_36 : decode cX0_rowOf 36 = .ok (.iload_n 1, 1) := dk_27 (dk_at dksX0_rowOf_2 8 rfl rfl)
theorem dX0_rowOf_37 : decode cX0_rowOf 37 = .ok (.newarray .int, 2) := dk_188_10 (dk_at dksX0_rowOf_2 9 rfl rfl)
theorem dX0_rowOf_39 : decode cX0_rowOf 39 = .ok (.areturn, 1) := dk_176 (dk_at dksX0_rowOf_2 11 rfl rfl)
abbrev cX0_cell : ByteArray := prog_1_method_91_code
def yX0_cell : MethodName := ⟨RX0, "cell", "(III)I"⟩
def dkwX0_cell_1 : List UInt8 := [172, 58, 4, 16, 245, 172, 58, 4, 16, 244, 172]
abbrev dktX0_cell_1 : List UInt8 := dkwX0_cell_1 ++ []
def dkwX0_cell_0 : List UInt8 := [27, 184, 1, 229, 154, 0, 6, 16, 254, 172, 42, 180, 1, 70, 27, 50, 180, 1, 234, 28, 29, 184, 2, 42]
abbrev dktX0_cell_0 : List UInt8 := dkwX0_cell_0 ++ dktX0_cell_1
theorem dksX0_cell_0 : cX0_cell.data.toList.drop 0 = dktX0_cell_0 := by decide +kernel
theorem dksX0_cell_1 : cX0_cell.data.toList.drop 24 = dktX0_cell_1 := dk_seg dksX0_cell_0 24 rfl rfl
theorem dX0_cell_0 : decode cX0_cell 0 = .ok (.iload_n 1, 1) := dk_27 (dk_at dksX0_cell_0 0 rfl rfl)
theorem dX0_cell_1 : decode cX0_cell 1 = .ok (.invokestatic 485, 3) := dk_184 1 229 (dk_at dksX0_cell_0 1 rfl rfl)
theorem dX0_cell_4 : decode cX0_cell 4 = .ok (.ifCond .ne 6, 3) := dk_154 0 6 (dk_at dksX0_cell_0 4 rfl rfl)
theorem dX0_cell_7 : decode cX0_cell 7 = .ok (.bipush (-2), 2) := dk_16 254 (dk_at dksX0_cell_0 7 rfl rfl)
theorem dX0_cell_9 : decode cX0_cell 9 = .ok (.ireturn, 1) := dk_172 (dk_at dksX0_cell_0 9 rfl rfl)
theorem dX0_cell_10 : decode cX0_cell 10 = .ok (.aload_n 0, 1) := dk_42 (dk_at dksX0_cell_0 10 rfl rfl)
theorem dX0_cell_11 : decode cX0_cell 11 = .ok (.getfield 326, 3) := dk_180 1 70 (dk_at dksX0_cell_0 11 rfl rfl)
theorem dX0_cell_14 : decode cX0_cell 14 = .ok (.iload_n 1, 1) := dk_27 (dk_at dksX0_cell_0 14 rfl rfl)
theorem dX0_cell_15 : decode cX0_cell 15 = .ok (.aaload, 1) := dk_50 (dk_at dksX0_cell_0 15 rfl rfl)
theorem dX0_cell_16 : decode cX0_cell 16 = .ok (.getfield 490, 3) := dk_180 1 234 (dk_at dksX0_cell_0 16 rfl rfl)
theorem dX0_cell_19 : decode cX0_cell 19 = .ok (.iload_n 2, 1) := dk_28 (dk_at dksX0_cell_0 19 rfl rfl)
theorem dX0_cell_20 : decode cX0_cell 20 = .ok (.iload_n 3, 1) := dk_29 (dk_at dksX0_cell_0 20 rfl rfl)
theorem dX0_cell_21 : decode cX0_cell 21 = .ok (.invokestatic 554, 3) := dk_184 2 42 (dk_at dksX0_cell_0 21 rfl rfl)
theorem dX0_cell_24 : decode cX0_cell 24 = .ok (.ireturn, 1) := dk_172 (dk_at dksX0_cell_1 0 rfl rfl)
theorem dX0_cell_25 : decode cX0_cell 25 = .ok (.astore 4, 2) := dk_58 4 (dk_at dksX0_cell_1 1 rfl rfl)
theorem dX0_cell_27 : decode cX0_cell 27 = .ok (.bipush (-11), 2) := dk_16 245 (dk_at dksX0_cell_1 3 rfl rfl)
theorem dX0_cell_29 : decode cX0_cell 29 = .ok (.ireturn, 1) := dk_172 (dk_at dksX0_cell_1 5 rfl rfl)
theorem dX0_cell_30 : decode cX0_cell 30 = .ok (.astore 4, 2) := dk_58 4 (dk_at dksX0_cell_1 6 rfl rfl)
theorem dX0_cell_32 : decode cX0_cell 32 = .ok (.bipush (-12), 2) := dk_16 244 (dk_at dksX0_cell_1 8 rfl rfl)
theorem dX0_cell_34 : decode cX0_cell 34 = .ok (.ireturn, 1) := dk_172 (dk_at dksX0_cell_1 10 rfl rfl)
abbrev cX0_put : ByteArray := prog_1_method_90_code
def yX0_put : MethodName := ⟨RX0, "put", "(Ljava/lang/Object;II)I"⟩
def dkwX0_put_2 : List UInt8 := [28, 147, 86, 167, 0, 19, 27, 42, 192, 2, 41, 190, 184, 2, 36, 42, 192, 2, 41, 27, 28, 79, 4, 172]
abbrev dktX0_put_2 : List UInt8 := dkwX0_put_2 ++ []
def dkwX0_put_1 : List UInt8 := [167, 0, 46, 42, 193, 2, 39, 153, 0, 23, 27, 42, 192, 2, 39, 190, 184, 2, 36, 42, 192, 2, 39, 27]
abbrev dktX0_put_1 : List UInt8 := dkwX0_put_1 ++ dktX0_put_2
def dkwX0_put_0 : List UInt8 := [42, 193, 2, 35, 153, 0, 23, 27, 42, 192, 2, 35, 190, 184, 2, 36, 42, 192, 2, 35, 27, 28, 145, 84]
abbrev dktX0_put_0 : List UInt8 := dkwX0_put_0 ++ dktX0_put_1
theorem dksX0_put_0 : cX0_put.data.toList.drop 0 = dktX0_put_0 := by decide +kernel
theorem dksX0_put_1 : cX0_put.data.toList.drop 24 = dktX0_put_1 := dk_seg dksX0_put_0 24 rfl rfl
theorem dksX0_put_2 : cX0_put.data.toList.drop 48 = dktX0_put_2 := dk_seg dksX0_put_1 24 rfl rfl
theorem dX0_put_0 : decode cX0_put 0 = .ok (.aload_n 0, 1) := dk_42 (dk_at dksX0_put_0 0 rfl rfl)
theorem dX0_put_1 : decode cX0_put 1 = .ok (.instanceof 547, 3) := dk_193 2 35 (dk_at dksX0_put_0 1 rfl rfl)
theorem dX0_put_4 : decode cX0_put 4 = .ok (.ifCond .eq 23, 3) := dk_153 0 23 (dk_at dksX0_put_0 4 rfl rfl)
theorem dX0_put_7 : decode cX0_put 7 = .ok (.iload_n 1, 1) := dk_27 (dk_at dksX0_put_0 7 rfl rfl)
theorem dX0_put_8 : decode cX0_put 8 = .ok (.aload_n 0, 1) := dk_42 (dk_at dksX0_put_0 8 rfl rfl)
theorem dX0_put_9 : decode cX0_put 9 = .ok (.checkcast 547, 3) := dk_192 2 35 (dk_at dksX0_put_0 9 rfl rfl)
theorem dX0_put_12 : decode cX0_put 12 = .ok (.arraylength, 1) := dk_190 (dk_at dksX0_put_0 12 rfl rfl)
theorem dX0_put_13 : decode cX0_put 13 = .ok (.invokestatic 548, 3) := dk_184 2 36 (dk_at dksX0_put_0 13 rfl rfl)
theorem dX0_put_16 : decode cX0_put 16 = .ok (.aload_n 0, 1) := dk_42 (dk_at dksX0_put_0 16 rfl rfl)
theorem dX0_put_17 : decode cX0_put 17 = .ok (.checkcast 547, 3) := dk_192 2 35 (dk_at dksX0_put_0 17 rfl rfl)
theorem dX0_put_20 : decode cX0_put 20 = .ok (.iload_n 1, 1) := dk_27 (dk_at dksX0_put_0 20 rfl rfl)
theorem dX0_put_21 : decode cX0_put 21 = .ok (.iload_n 2, 1) := dk_28 (dk_at dksX0_put_0 21 rfl rfl)
theorem dX0_put_22 : decode cX0_put 22 = .ok (.i2b, 1) := dk_145 (dk_at dksX0_put_0 22 rfl rfl)
theorem dX0_put_23 : decode cX0_put 23 = .ok (.bastore, 1) := dk_84 (dk_at dksX0_put_0 23 rfl rfl)
theorem dX0_put_24 : decode cX0_put 24 = .ok (.goto 46, 3) := dk_167 0 46 (dk_at dksX0_put_1 0 rfl rfl)
theorem dX0_put_27 : decode cX0_put 27 = .ok (.aload_n 0, 1) := dk_42 (dk_at dksX0_put_1 3 rfl rfl)
theorem dX0_put_28 : decode cX0_put 28 = .ok (.instanceof 551, 3) := dk_193 2 39 (dk_at dksX0_put_1 4 rfl rfl)
theorem dX0_put_31 : decode cX0_put 31 = .ok (.ifCond .eq 23, 3) := dk_153 0 23 (dk_at dksX0_put_1 7 rfl rfl)
theorem dX0_put_34 : decode cX0_put 34 = .ok (.iload_n 1, 1) := dk_27 (dk_at dksX0_put_1 10 rfl rfl)
theorem dX0_put_35 : decode cX0_put 35 = .ok (.aload_n 0, 1) := dk_42 (dk_at dksX0_put_1 11 rfl rfl)
theorem dX0_put_36 : decode cX0_put 36 = .ok (.checkcast 551, 3) := dk_192 2 39 (dk_at dksX0_put_1 12 rfl rfl)
theorem dX0_put_39 : decode cX0_put 39 = .ok (.arraylength, 1) := dk_190 (dk_at dksX0_put_1 15 rfl rfl)
theorem dX0_put_40 : decode cX0_put 40 = .ok (.invokestatic 548, 3) := dk_184 2 36 (dk_at dksX0_put_1 16 rfl rfl)
theorem dX0_put_43 : decode cX0_put 43 = .ok (.aload_n 0, 1) := dk_42 (dk_at dksX0_put_1 19 rfl rfl)
theorem dX0_put_44 : decode cX0_put 44 = .ok (.checkcast 551, 3) := dk_192 2 39 (dk_at dksX0_put_1 20 rfl rfl)
theorem dX0_put_47 : decode cX0_put 47 = .ok (.iload_n 1, 1) := dk_27 (dk_at dksX0_put_1 23 rfl rfl)
theorem dX0_put_48 : decode cX0_put 48 = .ok (.iload_n 2, 1) := dk_28 (dk_at dksX0_put_2 0 rfl rfl)
theorem dX0_put_49 : decode cX0_put 49 = .ok (.i2s, 1) := dk_147 (dk_at dksX0_put_2 1 rfl rfl)
theorem dX0_put_50 : decode cX0_put 50 = .ok (.sastore, 1) := dk_86 (dk_at dksX0_put_2 2 rfl rfl)
theorem dX0_put_51 : decode cX0_put 51 = .ok (.goto 19, 3) := dk_167 0 19 (dk_at dksX0_put_2 3 rfl rfl)
theorem dX0_put_54 : decode cX0_put 54 = .ok (.iload_n 1, 1) := dk_27 (dk_at dksX0_put_2 6 rfl rfl)
theorem dX0_put_55 : decode cX0_put 55 = .ok (.aload_n 0, 1) := dk_42 (dk_at dksX0_put_2 7 rfl rfl)
theorem dX0_put_56 : decode cX0_put 56 = .ok (.checkcast 553, 3) := dk_192 2 41 (dk_at dksX0_put_2 8 rfl rfl)
theorem dX0_put_59 : decode cX0_put 59 = .ok (.arraylength, 1) := dk_190 (dk_at dksX0_put_2 11 rfl rfl)
theorem dX0_put_60 : decode cX0_put 60 = .ok (.invokestatic 548, 3) := dk_184 2 36 (dk_at dksX0_put_2 12 rfl rfl)
theorem dX0_put_63 : decode cX0_put 63 = .ok (.aload_n 0, 1) := dk_42 (dk_at dksX0_put_2 15 rfl rfl)
theorem dX0_put_64 : decode cX0_put 64 = .ok (.checkcast 553, 3) := dk_192 2 41 (dk_at dksX0_put_2 16 rfl rfl)
theorem dX0_put_67 : decode cX0_put 67 = .ok (.iload_n 1, 1) := dk_27 (dk_at dksX0_put_2 19 rfl rfl)
theorem dX0_put_68 : decode cX0_put 68 = .ok (.iload_n 2, 1) := dk_28 (dk_at dksX0_put_2 20 rfl rfl)
theorem dX0_put_69 : decode cX0_put 69 = .ok (.iastore, 1) := dk_79 (dk_at dksX0_put_2 21 rfl rfl)
theorem dX0_put_70 : decode cX0_put 70 = .ok (.iconst 1, 1) := dk_4 (dk_at dksX0_put_2 22 rfl rfl)
theorem dX0_put_71 : decode cX0_put 71 = .ok (.ireturn, 1) := dk_172 (dk_at dksX0_put_2 23 rfl rfl)
abbrev cX0_drawn : ByteArray := prog_1_method_81_code
def yX0_drawn : MethodName := ⟨RX0, "drawn", "(II)I"⟩
def dkwX0_drawn_0 : List UInt8 := [28, 133, 9, 20, 1, 192, 184, 0, 16, 153, 0, 12, 42, 27, 28, 182, 2, 7, 167, 0, 5, 16, 254, 172]
abbrev dktX0_drawn_0 : List UInt8 := dkwX0_drawn_0 ++ []
theorem dksX0_drawn_0 : cX0_drawn.data.toList.drop 0 = dktX0_drawn_0 := by decide +kernel
theorem dX0_drawn_0 : decode cX0_drawn 0 = .ok (.iload_n 2, 1) := dk_28 (dk_at dksX0_drawn_0 0 rfl rfl)
theorem dX0_drawn_1 : decode cX0_drawn 1 = .ok (.i2l, 1) := dk_133 (dk_at dksX0_drawn_0 1 rfl rfl)
theorem dX0_drawn_2 : decode cX0_drawn 2 = .ok (.lconst 0, 1) := dk_9 (dk_at dksX0_drawn_0 2 rfl rfl)
theorem dX0_drawn_3 : decode cX0_drawn 3 = .ok (.ldc2_w 448, 3) := dk_20 1 192 (dk_at dksX0_drawn_0 3 rfl rfl)
theorem dX0_drawn_6 : decode cX0_drawn 6 = .ok (.invokestatic 16, 3) := dk_184 0 16 (dk_at dksX0_drawn_0 6 rfl rfl)
theorem dX0_drawn_9 : decode cX0_drawn 9 = .ok (.ifCond .eq 12, 3) := dk_153 0 12 (dk_at dksX0_drawn_0 9 rfl rfl)
theorem dX0_drawn_12 : decode cX0_drawn 12 = .ok (.aload_n 0, 1) := dk_42 (dk_at dksX0_drawn_0 12 rfl rfl)
theorem dX0_drawn_13 : decode cX0_drawn 13 = .ok (.iload_n 1, 1) := dk_27 (dk_at dksX0_drawn_0 13 rfl rfl)
theorem dX0_drawn_14 : decode cX0_drawn 14 = .ok (.iload_n 2, 1) := dk_28 (dk_at dksX0_drawn_0 14 rfl rfl)
theorem dX0_drawn_15 : decode cX0_drawn 15 = .ok (.invokevirtual 519, 3) := dk_182 2 7 (dk_at dksX0_drawn_0 15 rfl rfl)
theorem dX0_drawn_18 : decode cX0_drawn 18 = .ok (.goto 5, 3) := dk_167 0 5 (dk_at dksX0_drawn_0 18 rfl rfl)
theorem dX0_drawn_21 : decode cX0_drawn 21 = .ok (.bipush (-2), 2) := dk_16 254 (dk_at dksX0_drawn_0 21 rfl rfl)
theorem dX0_drawn_23 : decode cX0_drawn 23 = .ok (.ireturn, 1) := dk_172 (dk_at dksX0_drawn_0 23 rfl rfl)
abbrev cX0_onDrawn : ByteArray := prog_1_method_80_code
def yX0_onDrawn : MethodName := ⟨RX0, "onDrawn", "(II)I"⟩
def dkwX0_onDrawn_4 : List UInt8 := [58, 6, 42, 182, 1, 146, 25, 6, 191]
abbrev dktX0_onDrawn_4 : List UInt8 := dkwX0_onDrawn_4 ++ []
def dkwX0_onDrawn_3 : List UInt8 := [42, 182, 1, 134, 132, 4, 1, 167, 255, 187, 42, 180, 0, 66, 54, 4, 42, 182, 1, 146, 21, 4, 172]
abbrev dktX0_onDrawn_3 : List UInt8 := dkwX0_onDrawn_3 ++ dktX0_onDrawn_4
def dkwX0_onDrawn_2 : List UInt8 := [21, 5, 50, 42, 180, 0, 47, 21, 5, 50, 180, 0, 81, 154, 0, 7, 4, 167, 0, 4, 3, 181, 0, 81]
abbrev dktX0_onDrawn_2 : List UInt8 := dkwX0_onDrawn_2 ++ dktX0_onDrawn_3
def dkwX0_onDrawn_1 : List UInt8 := [62, 29, 16, 9, 124, 16, 8, 112, 54, 5, 21, 5, 42, 180, 0, 10, 162, 0, 31, 42, 180, 0, 47]
abbrev dktX0_onDrawn_1 : List UInt8 := dkwX0_onDrawn_1 ++ dktX0_onDrawn_2
def dkwX0_onDrawn_0 : List UInt8 := [27, 62, 42, 182, 1, 143, 3, 54, 4, 21, 4, 28, 162, 0, 69, 29, 19, 2, 6, 104, 17, 48, 57, 96]
abbrev dktX0_onDrawn_0 : List UInt8 := dkwX0_onDrawn_0 ++ dktX0_onDrawn_1
theorem dksX0_onDrawn_0 : cX0_onDrawn.data.toList.drop 0 = dktX0_onDrawn_0 := by decide +kernel
theorem dksX0_onDrawn_1 : cX0_onDrawn.data.toList.drop 24 = dktX0_onDrawn_1 := dk_seg dksX0_onDrawn_0 24 rfl rfl
theorem dksX0_onDrawn_2 : cX0_onDrawn.data.toList.drop 47 = dktX0_onDrawn_2 := dk_seg dksX0_onDrawn_1 23 rfl rfl
theorem dksX0_onDrawn_3 : cX0_onDrawn.data.toList.drop 71 = dktX0_onDrawn_3 := dk_seg dksX0_onDrawn_2 24 rfl rfl
theorem dksX0_onDrawn_4 : cX0_onDrawn.data.toList.drop 94 = dktX0_onDrawn_4 := dk_seg dksX0_onDrawn_3 23 rfl rfl
theorem dX0_onDrawn_0 : decode cX0_onDrawn 0 = .ok (.iload_n 1, 1) := dk_27 (dk_at dksX0_onDrawn_0 0 rfl rfl)
theorem dX0_onDrawn_1 : decode cX0_onDrawn 1 = .ok (.istore_n 3, 1) := dk_62 (dk_at dksX0_onDrawn_0 1 rfl rfl)
theorem dX0_onDrawn_2 : decode cX0_onDrawn 2 = .ok (.aload_n 0, 1) := dk_42 (dk_at dksX0_onDrawn_0 2 rfl rfl)
theorem dX0_onDrawn_3 : decode cX0_onDrawn 3 = .ok (.invokevirtual 399, 3) := dk_182 1 143 (dk_at dksX0_onDrawn_0 3 rfl rfl)
theorem dX0_onDrawn_6 : decode cX0_onDrawn 6 = .ok (.iconst 0, 1) := dk_3 (dk_at dksX0_onDrawn_0 6 rfl rfl)
theorem dX0_onDrawn_7 : decode cX0_onDrawn 7 = .ok (.istore 4, 2) := dk_54 4 (dk_at dksX0_onDrawn_0 7 rfl rfl)
theorem dX0_onDrawn_9 : decode cX0_onDrawn 9 = .ok (.iload 4, 2) := dk_21 4 (dk_at dksX0_onDrawn_0 9 rfl rfl)
theorem dX0_onDrawn_11 : decode cX0_onDrawn 11 = .ok (.iload_n 2, 1) := dk_28 (dk_at dksX0_onDrawn_0 11 rfl rfl)
theorem dX0_onDrawn_12 : decode cX0_onDrawn 12 = .ok (.if_icmp .ge 69, 3) := dk_162 0 69 (dk_at dksX0_onDrawn_0 12 rfl rfl)
theorem dX0_onDrawn_15 : decode cX0_onDrawn 15 = .ok (.iload_n 3, 1) := dk_29 (dk_at dksX0_onDrawn_0 15 rfl rfl)
theorem dX0_onDrawn_16 : decode cX0_onDrawn 16 = .ok (.ldc_w 518, 3) := dk_19 2 6 (dk_at dksX0_onDrawn_0 16 rfl rfl)
theorem dX0_onDrawn_19 : decode cX0_onDrawn 19 = .ok (.imul, 1) := dk_104 (dk_at dksX0_onDrawn_0 19 rfl rfl)
theorem dX0_onDrawn_20 : decode cX0_onDrawn 20 = .ok (.sipush 12345, 3) := dk_17 48 57 (dk_at dksX0_onDrawn_0 20 rfl rfl)
theorem dX0_onDrawn_23 : decode cX0_onDrawn 23 = .ok (.iadd, 1) := dk_96 (dk_at dksX0_onDrawn_0 23 rfl rfl)
theorem dX0_onDrawn_24 : decode cX0_onDrawn 24 = .ok (.istore_n 3, 1) := dk_62 (dk_at dksX0_onDrawn_1 0 rfl rfl)
theorem dX0_onDrawn_25 : decode cX0_onDrawn 25 = .ok (.iload_n 3, 1) := dk_29 (dk_at dksX0_onDrawn_1 1 rfl rfl)
theorem dX0_onDrawn_26 : decode cX0_onDrawn 26 = .ok (.bipush 9, 2) := dk_16 9 (dk_at dksX0_onDrawn_1 2 rfl rfl)
theorem dX0_onDrawn_28 : decode cX0_onDrawn 28 = .ok (.iushr, 1) := dk_124 (dk_at dksX0_onDrawn_1 4 rfl rfl)
theorem dX0_onDrawn_29 : decode cX0_onDrawn 29 = .ok (.bipush 8, 2) := dk_16 8 (dk_at dksX0_onDrawn_1 5 rfl rfl)
theorem dX0_onDrawn_31 : decode cX0_onDrawn 31 = .ok (.irem, 1) := dk_112 (dk_at dksX0_onDrawn_1 7 rfl rfl)
theorem dX0_onDrawn_32 : decode cX0_onDrawn 32 = .ok (.istore 5, 2) := dk_54 5 (dk_at dksX0_onDrawn_1 8 rfl rfl)
theorem dX0_onDrawn_34 : decode cX0_onDrawn 34 = .ok (.iload 5, 2) := dk_21 5 (dk_at dksX0_onDrawn_1 10 rfl rfl)
theorem dX0_onDrawn_36 : decode cX0_onDrawn 36 = .ok (.aload_n 0, 1) := dk_42 (dk_at dksX0_onDrawn_1 12 rfl rfl)
theorem dX0_onDrawn_37 : decode cX0_onDrawn 37 = .ok (.getfield 10, 3) := dk_180 0 10 (dk_at dksX0_onDrawn_1 13 rfl rfl)
theorem dX0_onDrawn_40 : decode cX0_onDrawn 40 = .ok (.if_icmp .ge 31, 3) := dk_162 0 31 (dk_at dksX0_onDrawn_1 16 rfl rfl)
theorem dX0_onDrawn_43 : decode cX0_onDrawn 43 = .ok (.aload_n 0, 1) := dk_42 (dk_at dksX0_onDrawn_1 19 rfl rfl)
theorem dX0_onDrawn_44 : decode cX0_onDrawn 44 = .ok (.getfield 47, 3) := dk_180 0 47 (dk_at dksX0_onDrawn_1 20 rfl rfl)
theorem dX0_onDrawn_47 : decode cX0_onDrawn 47 = .ok (.iload 5, 2) := dk_21 5 (dk_at dksX0_onDrawn_2 0 rfl rfl)
theorem dX0_onDrawn_49 : decode cX0_onDrawn 49 = .ok (.aaload, 1) := dk_50 (dk_at dksX0_onDrawn_2 2 rfl rfl)
theorem dX0_onDrawn_50 : decode cX0_onDrawn 50 = .ok (.aload_n 0, 1) := dk_42 (dk_at dksX0_onDrawn_2 3 rfl rfl)
theorem dX0_onDrawn_51 : decode cX0_onDrawn 51 = .ok (.getfield 47, 3) := dk_180 0 47 (dk_at dksX0_onDrawn_2 4 rfl rfl)
theorem dX0_onDrawn_54 : decode cX0_onDrawn 54 = .ok (.iload 5, 2) := dk_21 5 (dk_at dksX0_onDrawn_2 7 rfl rfl)
theorem dX0_onDrawn_56 : decode cX0_onDrawn 56 = .ok (.aaload, 1) := dk_50 (dk_at dksX0_onDrawn_2 9 rfl rfl)
theorem dX0_onDrawn_57 : decode cX0_onDrawn 57 = .ok (.getfield 81, 3) := dk_180 0 81 (dk_at dksX0_onDrawn_2 10 rfl rfl)
theorem dX0_onDrawn_60 : decode cX0_onDrawn 60 = .ok (.ifCond .ne 7, 3) := dk_154 0 7 (dk_at dksX0_onDrawn_2 13 rfl rfl)
theorem dX0_onDrawn_63 : decode cX0_onDrawn 63 = .ok (.iconst 1, 1) := dk_4 (dk_at dksX0_onDrawn_2 16 rfl rfl)
theorem dX0_onDrawn_64 : decode cX0_onDrawn 64 = .ok (.goto 4, 3) := dk_167 0 4 (dk_at dksX0_onDrawn_2 17 rfl rfl)
theorem dX0_onDrawn_67 : decode cX0_onDrawn 67 = .ok (.iconst 0, 1) := dk_3 (dk_at dksX0_onDrawn_2 20 rfl rfl)
theorem dX0_onDrawn_68 : decode cX0_onDrawn 68 = .ok (.putfield 81, 3) := dk_181 0 81 (dk_at dksX0_onDrawn_2 21 rfl rfl)
theorem dX0_onDrawn_71 : decode cX0_onDrawn 71 = .ok (.aload_n 0, 1) := dk_42 (dk_at dksX0_onDrawn_3 0 rfl rfl)
theorem dX0_onDrawn_72 : decode cX0_onDrawn 72 = .ok (.invokevirtual 390, 3) := dk_182 1 134 (dk_at dksX0_onDrawn_3 1 rfl rfl)
theorem dX0_onDrawn_75 : decode cX0_onDrawn 75 = .ok (.iinc 4 1, 3) := dk_132 4 1 (dk_at dksX0_onDrawn_3 4 rfl rfl)
theorem dX0_onDrawn_78 : decode cX0_onDrawn 78 = .ok (.goto (-69), 3) := dk_167 255 187 (dk_at dksX0_onDrawn_3 7 rfl rfl)
theorem dX0_onDrawn_81 : decode cX0_onDrawn 81 = .ok (.aload_n 0, 1) := dk_42 (dk_at dksX0_onDrawn_3 10 rfl rfl)
theorem dX0_onDrawn_82 : decode cX0_onDrawn 82 = .ok (.getfield 66, 3) := dk_180 0 66 (dk_at dksX0_onDrawn_3 11 rfl rfl)
theorem dX0_onDrawn_85 : decode cX0_onDrawn 85 = .ok (.istore 4, 2) := dk_54 4 (dk_at dksX0_onDrawn_3 14 rfl rfl)
theorem dX0_onDrawn_87 : decode cX0_onDrawn 87 = .ok (.aload_n 0, 1) := dk_42 (dk_at dksX0_onDrawn_3 16 rfl rfl)
theorem dX0_onDrawn_88 : decode cX0_onDrawn 88 = .ok (.invokevirtual 402, 3) := dk_182 1 146 (dk_at dksX0_onDrawn_3 17 rfl rfl)
theorem dX0_onDrawn_91 : decode cX0_onDrawn 91 = .ok (.iload 4, 2) := dk_21 4 (dk_at dksX0_onDrawn_3 20 rfl rfl)
theorem dX0_onDrawn_93 : decode cX0_onDrawn 93 = .ok (.ireturn, 1) := dk_172 (dk_at dksX0_onDrawn_3 22 rfl rfl)
theorem dX0_onDrawn_94 : decode cX0_onDrawn 94 = .ok (.astore 6, 2) := dk_58 6 (dk_at dksX0_onDrawn_4 0 rfl rfl)
theorem dX0_onDrawn_96 : decode cX0_onDrawn 96 = .ok (.aload_n 0, 1) := dk_42 (dk_at dksX0_onDrawn_4 2 rfl rfl)
theorem dX0_onDrawn_97 : decode cX0_onDrawn 97 = .ok (.invokevirtual 402, 3) := dk_182 1 146 (dk_at dksX0_onDrawn_4 3 rfl rfl)
theorem dX0_onDrawn_100 : decode cX0_onDrawn 100 = .ok (.aload 6, 2) := dk_25 6 (dk_at dksX0_onDrawn_4 6 rfl rfl)
theorem dX0_onDrawn_102 : decode cX0_onDrawn 102 = .ok (.athrow, 1) := dk_191 (dk_at dksX0_onDrawn_4 8 rfl rfl)
abbrev cX0_chance : ByteArray := prog_1_method_83_code
def yX0_chance : MethodName := ⟨RX0, "chance", "(IIII)J"⟩
def dkwX0_chance_3 : List UInt8 := [97, 55, 5, 132, 7, 1, 167, 255, 223, 22, 5, 28, 133, 21, 4, 184, 2, 10, 173]
abbrev dktX0_chance_3 : List UInt8 := dkwX0_chance_3 ++ []
def dkwX0_chance_2 : List UInt8 := [162, 0, 33, 22, 5, 42, 27, 21, 7, 96, 16, 10, 182, 2, 7, 29, 161, 0, 7, 10, 167, 0, 4, 9]
abbrev dktX0_chance_2 : List UInt8 := dkwX0_chance_2 ++ dktX0_chance_3
def dkwX0_chance_1 : List UInt8 := [21, 4, 133, 9, 10, 184, 0, 16, 154, 0, 7, 20, 1, 128, 173, 9, 55, 5, 3, 54, 7, 21, 7, 28]
abbrev dktX0_chance_1 : List UInt8 := dkwX0_chance_1 ++ dktX0_chance_2
def dkwX0_chance_0 : List UInt8 := [28, 133, 10, 20, 1, 254, 184, 0, 16, 153, 0, 26, 29, 133, 9, 20, 0, 104, 184, 0, 16, 153, 0, 14]
abbrev dktX0_chance_0 : List UInt8 := dkwX0_chance_0 ++ dktX0_chance_1
theorem dksX0_chance_0 : cX0_chance.data.toList.drop 0 = dktX0_chance_0 := by decide +kernel
theorem dksX0_chance_1 : cX0_chance.data.toList.drop 24 = dktX0_chance_1 := dk_seg dksX0_chance_0 24 rfl rfl
theorem dksX0_chance_2 : cX0_chance.data.toList.drop 48 = dktX0_chance_2 := dk_seg dksX0_chance_1 24 rfl rfl
theorem dksX0_chance_3 : cX0_chance.data.toList.drop 72 = dktX0_chance_3 := dk_seg dksX0_chance_2 24 rfl rfl
theorem dX0_chance_0 : decode cX0_chance 0 = .ok (.iload_n 2, 1) := dk_28 (dk_at dksX0_chance_0 0 rfl rfl)
theorem dX0_chance_1 : decode cX0_chance 1 = .ok (.i2l, 1) := dk_133 (dk_at dksX0_chance_0 1 rfl rfl)
theorem dX0_chance_2 : decode cX0_chance 2 = .ok (.lconst 1, 1) := dk_10 (dk_at dksX0_chance_0 2 rfl rfl)
theorem dX0_chance_3 : decode cX0_chance 3 = .ok (.ldc2_w 510, 3) := dk_20 1 254 (dk_at dksX0_chance_0 3 rfl rfl)
theorem dX0_chance_6 : decode cX0_chance 6 = .ok (.invokestatic 16, 3) := dk_184 0 16 (dk_at dksX0_chance_0 6 rfl rfl)
theorem dX0_chance_9 : decode cX0_chance 9 = .ok (.ifCond .eq 26, 3) := dk_153 0 26 (dk_at dksX0_chance_0 9 rfl rfl)
theorem dX0_chance_12 : decode cX0_chance 12 = .ok (.iload_n 3, 1) := dk_29 (dk_at dksX0_chance_0 12 rfl rfl)
theorem dX0_chance_13 : decode cX0_chance 13 = .ok (.i2l, 1) := dk_133 (dk_at dksX0_chance_0 13 rfl rfl)
theorem dX0_chance_14 : decode cX0_chance 14 = .ok (.lconst 0, 1) := dk_9 (dk_at dksX0_chance_0 14 rfl rfl)
theorem dX0_chance_15 : decode cX0_chance 15 = .ok (.ldc2_w 104, 3) := dk_20 0 104 (dk_at dksX0_chance_0 15 rfl rfl)
theorem dX0_chance_18 : decode cX0_chance 18 = .ok (.invokestatic 16, 3) := dk_184 0 16 (dk_at dksX0_chance_0 18 rfl rfl)
theorem dX0_chance_21 : decode cX0_chance 21 = .ok (.ifCond .eq 14, 3) := dk_153 0 14 (dk_at dksX0_chance_0 21 rfl rfl)
theorem dX0_chance_24 : decode cX0_chance 24 = .ok (.iload 4, 2) := dk_21 4 (dk_at dksX0_chance_1 0 rfl rfl)
theorem dX0_chance_26 : decode cX0_chance 26 = .ok (.i2l, 1) := dk_133 (dk_at dksX0_chance_1 2 rfl rfl)
theorem dX0_chance_27 : decode cX0_chance 27 = .ok (.lconst 0, 1) := dk_9 (dk_at dksX0_chance_1 3 rfl rfl)
theorem dX0_chance_28 : decode cX0_chance 28 = .ok (.lconst 1, 1) := dk_10 (dk_at dksX0_chance_1 4 rfl rfl)
theorem dX0_chance_29 : decode cX0_chance 29 = .ok (.invokestatic 16, 3) := dk_184 0 16 (dk_at dksX0_chance_1 5 rfl rfl)
theorem dX0_chance_32 : decode cX0_chance 32 = .ok (.ifCond .ne 7, 3) := dk_154 0 7 (dk_at dksX0_chance_1 8 rfl rfl)
theorem dX0_chance_35 : decode cX0_chance 35 = .ok (.ldc2_w 384, 3) := dk_20 1 128 (dk_at dksX0_chance_1 11 rfl rfl)
theorem dX0_chance_38 : decode cX0_chance 38 = .ok (.lreturn, 1) := dk_173 (dk_at dksX0_chance_1 14 rfl rfl)
theorem dX0_chance_39 : decode cX0_chance 39 = .ok (.lconst 0, 1) := dk_9 (dk_at dksX0_chance_1 15 rfl rfl)
theorem dX0_chance_40 : decode cX0_chance 40 = .ok (.lstore 5, 2) := dk_55 5 (dk_at dksX0_chance_1 16 rfl rfl)
theorem dX0_chance_42 : decode cX0_chance 42 = .ok (.iconst 0, 1) := dk_3 (dk_at dksX0_chance_1 18 rfl rfl)
theorem dX0_chance_43 : decode cX0_chance 43 = .ok (.istore 7, 2) := dk_54 7 (dk_at dksX0_chance_1 19 rfl rfl)
theorem dX0_chance_45 : decode cX0_chance 45 = .ok (.iload 7, 2) := dk_21 7 (dk_at dksX0_chance_1 21 rfl rfl)
theorem dX0_chance_47 : decode cX0_chance 47 = .ok (.iload_n 2, 1) := dk_28 (dk_at dksX0_chance_1 23 rfl rfl)
theorem dX0_chance_48 : decode cX0_chance 48 = .ok (.if_icmp .ge 33, 3) := dk_162 0 33 (dk_at dksX0_chance_2 0 rfl rfl)
theorem dX0_chance_51 : decode cX0_chance 51 = .ok (.lload 5, 2) := dk_22 5 (dk_at dksX0_chance_2 3 rfl rfl)
theorem dX0_chance_53 : decode cX0_chance 53 = .ok (.aload_n 0, 1) := dk_42 (dk_at dksX0_chance_2 5 rfl rfl)
theorem dX0_chance_54 : decode cX0_chance 54 = .ok (.iload_n 1, 1) := dk_27 (dk_at dksX0_chance_2 6 rfl rfl)
theorem dX0_chance_55 : decode cX0_chance 55 = .ok (.iload 7, 2) := dk_21 7 (dk_at dksX0_chance_2 7 rfl rfl)
theorem dX0_chance_57 : decode cX0_chance 57 = .ok (.iadd, 1) := dk_96 (dk_at dksX0_chance_2 9 rfl rfl)
theorem dX0_chance_58 : decode cX0_chance 58 = .ok (.bipush 10, 2) := dk_16 10 (dk_at dksX0_chance_2 10 rfl rfl)
theorem dX0_chance_60 : decode cX0_chance 60 = .ok (.invokevirtual 519, 3) := dk_182 2 7 (dk_at dksX0_chance_2 12 rfl rfl)
theorem dX0_chance_63 : decode cX0_chance 63 = .ok (.iload_n 3, 1) := dk_29 (dk_at dksX0_chance_2 15 rfl rfl)
theorem dX0_chance_64 : decode cX0_chance 64 = .ok (.if_icmp .lt 7, 3) := dk_161 0 7 (dk_at dksX0_chance_2 16 rfl rfl)
theorem dX0_chance_67 : decode cX0_chance 67 = .ok (.lconst 1, 1) := dk_10 (dk_at dksX0_chance_2 19 rfl rfl)
theorem dX0_chance_68 : decode cX0_chance 68 = .ok (.goto 4, 3) := dk_167 0 4 (dk_at dksX0_chance_2 20 rfl rfl)
theorem dX0_chance_71 : decode cX0_chance 71 = .ok (.lconst 0, 1) := dk_9 (dk_at dksX0_chance_2 23 rfl rfl)
theorem dX0_chance_72 : decode cX0_chance 72 = .ok (.ladd, 1) := dk_97 (dk_at dksX0_chance_3 0 rfl rfl)
theorem dX0_chance_73 : decode cX0_chance 73 = .ok (.lstore 5, 2) := dk_55 5 (dk_at dksX0_chance_3 1 rfl rfl)
theorem dX0_chance_75 : decode cX0_chance 75 = .ok (.iinc 7 1, 3) := dk_132 7 1 (dk_at dksX0_chance_3 3 rfl rfl)
theorem dX0_chance_78 : decode cX0_chance 78 = .ok (.goto (-33), 3) := dk_167 255 223 (dk_at dksX0_chance_3 6 rfl rfl)
theorem dX0_chance_81 : decode cX0_chance 81 = .ok (.lload 5, 2) := dk_22 5 (dk_at dksX0_chance_3 9 rfl rfl)
theorem dX0_chance_83 : decode cX0_chance 83 = .ok (.iload_n 2, 1) := dk_28 (dk_at dksX0_chance_3 11 rfl rfl)
theorem dX0_chance_84 : decode cX0_chance 84 = .ok (.i2l, 1) := dk_133 (dk_at dksX0_chance_3 12 rfl rfl)
theorem dX0_chance_85 : decode cX0_chance 85 = .ok (.iload 4, 2) := dk_21 4 (dk_at dksX0_chance_3 13 rfl rfl)
theorem dX0_chance_87 : decode cX0_chance 87 = .ok (.invokestatic 522, 3) := dk_184 2 10 (dk_at dksX0_chance_3 15 rfl rfl)
theorem dX0_chance_90 : decode cX0_chance 90 = .ok (.lreturn, 1) := dk_173 (dk_at dksX0_chance_3 18 rfl rfl)
abbrev cX0_lowest : ByteArray := prog_1_method_82_code
def yX0_lowest : MethodName := ⟨RX0, "lowest", "(JJI)J"⟩
def dkwX0_lowest_1 : List UInt8 := [22, 9, 55, 7, 167, 255, 234, 21, 4, 154, 0, 7, 30, 167, 0, 4, 32, 22, 5, 109, 173]
abbrev dktX0_lowest_1 : List UInt8 := dkwX0_lowest_1 ++ []
def dkwX0_lowest_0 : List UInt8 := [30, 55, 5, 32, 55, 7, 22, 7, 9, 148, 153, 0, 21, 22, 5, 22, 7, 113, 55, 9, 22, 7, 55, 5]
abbrev dktX0_lowest_0 : List UInt8 := dkwX0_lowest_0 ++ dktX0_lowest_1
theorem dksX0_lowest_0 : cX0_lowest.data.toList.drop 0 = dktX0_lowest_0 := by decide +kernel
theorem dksX0_lowest_1 : cX0_lowest.data.toList.drop 24 = dktX0_lowest_1 := dk_seg dksX0_lowest_0 24 rfl rfl
theorem dX0_lowest_0 : decode cX0_lowest 0 = .ok (.lload_n 0, 1) := dk_30 (dk_at dksX0_lowest_0 0 rfl rfl)
theorem dX0_lowest_1 : decode cX0_lowest 1 = .ok (.lstore 5, 2) := dk_55 5 (dk_at dksX0_lowest_0 1 rfl rfl)
theorem dX0_lowest_3 : decode cX0_lowest 3 = .ok (.lload_n 2, 1) := dk_32 (dk_at dksX0_lowest_0 3 rfl rfl)
theorem dX0_lowest_4 : decode cX0_lowest 4 = .ok (.lstore 7, 2) := dk_55 7 (dk_at dksX0_lowest_0 4 rfl rfl)
theorem dX0_lowest_6 : decode cX0_lowest 6 = .ok (.lload 7, 2) := dk_22 7 (dk_at dksX0_lowest_0 6 rfl rfl)
theorem dX0_lowest_8 : decode cX0_lowest 8 = .ok (.lconst 0, 1) := dk_9 (dk_at dksX0_lowest_0 8 rfl rfl)
theorem dX0_lowest_9 : decode cX0_lowest 9 = .ok (.lcmp, 1) := dk_148 (dk_at dksX0_lowest_0 9 rfl rfl)
theorem dX0_lowest_10 : decode cX0_lowest 10 = .ok (.ifCond .eq 21, 3) := dk_153 0 21 (dk_at dksX0_lowest_0 10 rfl rfl)
theorem dX0_lowest_13 : decode cX0_lowest 13 = .ok (.lload 5, 2) := dk_22 5 (dk_at dksX0_lowest_0 13 rfl rfl)
theorem dX0_lowest_15 : decode cX0_lowest 15 = .ok (.lload 7, 2) := dk_22 7 (dk_at dksX0_lowest_0 15 rfl rfl)
theorem dX0_lowest_17 : decode cX0_lowest 17 = .ok (.lrem, 1) := dk_113 (dk_at dksX0_lowest_0 17 rfl rfl)
theorem dX0_lowest_18 : decode cX0_lowest 18 = .ok (.lstore 9, 2) := dk_55 9 (dk_at dksX0_lowest_0 18 rfl rfl)
theorem dX0_lowest_20 : decode cX0_lowest 20 = .ok (.lload 7, 2) := dk_22 7 (dk_at dksX0_lowest_0 20 rfl rfl)
theorem dX0_lowest_22 : decode cX0_lowest 22 = .ok (.lstore 5, 2) := dk_55 5 (dk_at dksX0_lowest_0 22 rfl rfl)
theorem dX0_lowest_24 : decode cX0_lowest 24 = .ok (.lload 9, 2) := dk_22 9 (dk_at dksX0_lowest_1 0 rfl rfl)
theorem dX0_lowest_26 : decode cX0_lowest 26 = .ok (.lstore 7, 2) := dk_55 7 (dk_at dksX0_lowest_1 2 rfl rfl)
theorem dX0_lowest_28 : decode cX0_lowest 28 = .ok (.goto (-22), 3) := dk_167 255 234 (dk_at dksX0_lowest_1 4 rfl rfl)
theorem dX0_lowest_31 : decode cX0_lowest 31 = .ok (.iload 4, 2) := dk_21 4 (dk_at dksX0_lowest_1 7 rfl rfl)
theorem dX0_lowest_33 : decode cX0_lowest 33 = .ok (.ifCond .ne 7, 3) := dk_154 0 7 (dk_at dksX0_lowest_1 9 rfl rfl)
theorem dX0_lowest_36 : decode cX0_lowest 36 = .ok (.lload_n 0, 1) := dk_30 (dk_at dksX0_lowest_1 12 rfl rfl)
theorem dX0_lowest_37 : decode cX0_lowest 37 = .ok (.goto 4, 3) := dk_167 0 4 (dk_at dksX0_lowest_1 13 rfl rfl)
theorem dX0_lowest_40 : decode cX0_lowest 40 = .ok (.lload_n 2, 1) := dk_32 (dk_at dksX0_lowest_1 16 rfl rfl)
theorem dX0_lowest_41 : decode cX0_lowest 41 = .ok (.lload 5, 2) := dk_22 5 (dk_at dksX0_lowest_1 17 rfl rfl)
theorem dX0_lowest_43 : decode cX0_lowest 43 = .ok (.ldiv, 1) := dk_109 (dk_at dksX0_lowest_1 19 rfl rfl)
theorem dX0_lowest_44 : decode cX0_lowest 44 = .ok (.lreturn, 1) := dk_173 (dk_at dksX0_lowest_1 20 rfl rfl)
abbrev cX0_image : ByteArray := prog_1_method_84_code
def yX0_image : MethodName := ⟨RX0, "image", "()I"⟩
def dkwX0_image_4 : List UInt8 := [42, 180, 1, 64, 6, 42, 180, 1, 83, 79, 42, 4, 181, 2, 20, 42, 180, 0, 10, 172]
abbrev dktX0_image_4 : List UInt8 := dkwX0_image_4 ++ []
def dkwX0_image_3 : List UInt8 := [180, 0, 10, 79, 42, 180, 1, 64, 4, 42, 180, 0, 66, 79, 42, 180, 1, 64, 5, 42, 180, 0, 69, 79]
abbrev dktX0_image_3 : List UInt8 := dkwX0_image_3 ++ dktX0_image_4
def dkwX0_image_2 : List UInt8 := [182, 0, 95, 79, 132, 2, 1, 167, 255, 232, 132, 1, 1, 167, 255, 216, 42, 180, 1, 64, 3, 42]
abbrev dktX0_image_2 : List UInt8 := dkwX0_image_2 ++ dktX0_image_3
def dkwX0_image_1 : List UInt8 := [162, 0, 38, 3, 61, 28, 7, 162, 0, 25, 42, 180, 1, 61, 28, 50, 27, 42, 6, 28, 96, 27]
abbrev dktX0_image_1 : List UInt8 := dkwX0_image_1 ++ dktX0_image_2
def dkwX0_image_0 : List UInt8 := [42, 180, 0, 62, 3, 42, 180, 1, 58, 3, 16, 10, 184, 2, 14, 3, 60, 27, 42, 180, 0, 10]
abbrev dktX0_image_0 : List UInt8 := dkwX0_image_0 ++ dktX0_image_1
theorem dksX0_image_0 : cX0_image.data.toList.drop 0 = dktX0_image_0 := by decide +kernel
theorem dksX0_image_1 : cX0_image.data.toList.drop 22 = dktX0_image_1 := dk_seg dksX0_image_0 22 rfl rfl
theorem dksX0_image_2 : cX0_image.data.toList.drop 44 = dktX0_image_2 := dk_seg dksX0_image_1 22 rfl rfl
theorem dksX0_image_3 : cX0_image.data.toList.drop 66 = dktX0_image_3 := dk_seg dksX0_image_2 22 rfl rfl
theorem dksX0_image_4 : cX0_image.data.toList.drop 90 = dktX0_image_4 := dk_seg dksX0_image_3 24 rfl rfl
theorem dX0_image_0 : decode cX0_image 0 = .ok (.aload_n 0, 1) := dk_42 (dk_at dksX0_image_0 0 rfl rfl)
theorem dX0_image_1 : decode cX0_image 1 = .ok (.getfield 62, 3) := dk_180 0 62 (dk_at dksX0_image_0 1 rfl rfl)
theorem dX0_image_4 : decode cX0_image 4 = .ok (.iconst 0, 1) := dk_3 (dk_at dksX0_image_0 4 rfl rfl)
theorem dX0_image_5 : decode cX0_image 5 = .ok (.aload_n 0, 1) := dk_42 (dk_at dksX0_image_0 5 rfl rfl)
theorem dX0_image_6 : decode cX0_image 6 = .ok (.getfield 314, 3) := dk_180 1 58 (dk_at dksX0_image_0 6 rfl rfl)
theorem dX0_image_9 : decode cX0_image 9 = .ok (.iconst 0, 1) := dk_3 (dk_at dksX0_image_0 9 rfl rfl)
theorem dX0_image_10 : decode cX0_image 10 = .ok (.bipush 10, 2) := dk_16 10 (dk_at dksX0_image_0 10 rfl rfl)
theorem dX0_image_12 : decode cX0_image 12 = .ok (.invokestatic 526, 3) := dk_184 2 14 (dk_at dksX0_image_0 12 rfl rfl)
theorem dX0_image_15 : decode cX0_image 15 = .ok (.iconst 0, 1) := dk_3 (dk_at dksX0_image_0 15 rfl rfl)
theorem dX0_image_16 : decode cX0_image 16 = .ok (.istore_n 1, 1) := dk_60 (dk_at dksX0_image_0 16 rfl rfl)
theorem dX0_image_17 : decode cX0_image 17 = .ok (.iload_n 1, 1) := dk_27 (dk_at dksX0_image_0 17 rfl rfl)
theorem dX0_image_18 : decode cX0_image 18 = .ok (.aload_n 0, 1) := dk_42 (dk_at dksX0_image_0 18 rfl rfl)
theorem dX0_image_19 : decode cX0_image 19 = .ok (.getfield 10, 3) := dk_180 0 10 (dk_at dksX0_image_0 19 rfl rfl)
theorem dX0_image_22 : decode cX0_image 22 = .ok (.if_icmp .ge 38, 3) := dk_162 0 38 (dk_at dksX0_image_1 0 rfl rfl)
theorem dX0_image_25 : decode cX0_image 25 = .ok (.iconst 0, 1) := dk_3 (dk_at dksX0_image_1 3 rfl rfl)
theorem dX0_image_26 : decode cX0_image 26 = .ok (.istore_n 2, 1) := dk_61 (dk_at dksX0_image_1 4 rfl rfl)
theorem dX0_image_27 : decode cX0_image 27 = .ok (.iload_n 2, 1) := dk_28 (dk_at dksX0_image_1 5 rfl rfl)
theorem dX0_image_28 : decode cX0_image 28 = .ok (.iconst 4, 1) := dk_7 (dk_at dksX0_image_1 6 rfl rfl)
theorem dX0_image_29 : decode cX0_image 29 = .ok (.if_icmp .ge 25, 3) := dk_162 0 25 (dk_at dksX0_image_1 7 rfl rfl)
theorem dX0_image_32 : decode cX0_image 32 = .ok (.aload_n 0, 1) := dk_42 (dk_at dksX0_image_1 10 rfl rfl)
theorem dX0_image_33 : decode cX0_image 33 = .ok (.getfield 317, 3) := dk_180 1 61 (dk_at dksX0_image_1 11 rfl rfl)
theorem dX0_image_36 : decode cX0_image 36 = .ok (.iload_n 2, 1) := dk_28 (dk_at dksX0_image_1 14 rfl rfl)
theorem dX0_image_37 : decode cX0_image 37 = .ok (.aaload, 1) := dk_50 (dk_at dksX0_image_1 15 rfl rfl)
theorem dX0_image_38 : decode cX0_image 38 = .ok (.iload_n 1, 1) := dk_27 (dk_at dksX0_image_1 16 rfl rfl)
theorem dX0_image_39 : decode cX0_image 39 = .ok (.aload_n 0, 1) := dk_42 (dk_at dksX0_image_1 17 rfl rfl)
theorem dX0_image_40 : decode cX0_image 40 = .ok (.iconst 3, 1) := dk_6 (dk_at dksX0_image_1 18 rfl rfl)
theorem dX0_image_41 : decode cX0_image 41 = .ok (.iload_n 2, 1) := dk_28 (dk_at dksX0_image_1 19 rfl rfl)
theorem dX0_image_42 : decode cX0_image 42 = .ok (.iadd, 1) := dk_96 (dk_at dksX0_image_1 20 rfl rfl)
theorem dX0_image_43 : decode cX0_image 43 = .ok (.iload_n 1, 1) := dk_27 (dk_at dksX0_image_1 21 rfl rfl)
theorem dX0_image_44 : decode cX0_image 44 = .ok (.invokevirtual 95, 3) := dk_182 0 95 (dk_at dksX0_image_2 0 rfl rfl)
theorem dX0_image_47 : decode cX0_image 47 = .ok (.iastore, 1) := dk_79 (dk_at dksX0_image_2 3 rfl rfl)
theorem dX0_image_48 : decode cX0_image 48 = .ok (.iinc 2 1, 3) := dk_132 2 1 (dk_at dksX0_image_2 4 rfl rfl)
theorem dX0_image_51 : decode cX0_image 51 = .ok (.goto (-24), 3) := dk_167 255 232 (dk_at dksX0_image_2 7 rfl rfl)
theorem dX0_image_54 : decode cX0_image 54 = .ok (.iinc 1 1, 3) := dk_132 1 1 (dk_at dksX0_image_2 10 rfl rfl)
theorem dX0_image_57 : decode cX0_image 57 = .ok (.goto (-40), 3) := dk_167 255 216 (dk_at dksX0_image_2 13 rfl rfl)
theorem dX0_image_60 : decode cX0_image 60 = .ok (.aload_n 0, 1) := dk_42 (dk_at dksX0_image_2 16 rfl rfl)
theorem dX0_image_61 : decode cX0_image 61 = .ok (.getfield 320, 3) := dk_180 1 64 (dk_at dksX0_image_2 17 rfl rfl)
theorem dX0_image_64 : decode cX0_image 64 = .ok (.iconst 0, 1) := dk_3 (dk_at dksX0_image_2 20 rfl rfl)
theorem dX0_image_65 : decode cX0_image 65 = .ok (.aload_n 0, 1) := dk_42 (dk_at dksX0_image_2 21 rfl rfl)
theorem dX0_image_66 : decode cX0_image 66 = .ok (.getfield 10, 3) := dk_180 0 10 (dk_at dksX0_image_3 0 rfl rfl)
theorem dX0_image_69 : decode cX0_image 69 = .ok (.iastore, 1) := dk_79 (dk_at dksX0_image_3 3 rfl rfl)
theorem dX0_image_70 : decode cX0_image 70 = .ok (.aload_n 0, 1) := dk_42 (dk_at dksX0_image_3 4 rfl rfl)
theorem dX0_image_71 : decode cX0_image 71 = .ok (.getfield 320, 3) := dk_180 1 64 (dk_at dksX0_image_3 5 rfl rfl)
theorem dX0_image_74 : decode cX0_image 74 = .ok (.iconst 1, 1) := dk_4 (dk_at dksX0_image_3 8 rfl rfl)
theorem dX0_image_75 : decode cX0_image 75 = .ok (.aload_n 0, 1) := dk_42 (dk_at dksX0_image_3 9 rfl rfl)
theorem dX0_image_76 : decode cX0_image 76 = .ok (.getfield 66, 3) := dk_180 0 66 (dk_at dksX0_image_3 10 rfl rfl)
theorem dX0_image_79 : decode cX0_image 79 = .ok (.iastore, 1) := dk_79 (dk_at dksX0_image_3 13 rfl rfl)
theorem dX0_image_80 : decode cX0_image 80 = .ok (.aload_n 0, 1) := dk_42 (dk_at dksX0_image_3 14 rfl rfl)
theorem dX0_image_81 : decode cX0_image 81 = .ok (.getfield 320, 3) := dk_180 1 64 (dk_at dksX0_image_3 15 rfl rfl)
theorem dX0_image_84 : decode cX0_image 84 = .ok (.iconst 2, 1) := dk_5 (dk_at dksX0_image_3 18 rfl rfl)
theorem dX0_image_85 : decode cX0_image 85 = .ok (.aload_n 0, 1) := dk_42 (dk_at dksX0_image_3 19 rfl rfl)
theorem dX0_image_86 : decode cX0_image 86 = .ok (.getfield 69, 3) := dk_180 0 69 (dk_at dksX0_image_3 20 rfl rfl)
theorem dX0_image_89 : decode cX0_image 89 = .ok (.iastore, 1) := dk_79 (dk_at dksX0_image_3 23 rfl rfl)
theorem dX0_image_90 : decode cX0_image 90 = .ok (.aload_n 0, 1) := dk_42 (dk_at dksX0_image_4 0 rfl rfl)
theorem dX0_image_91 : decode cX0_image 91 = .ok (.getfield 320, 3) := dk_180 1 64 (dk_at dksX0_image_4 1 rfl rfl)
theorem dX0_image_94 : decode cX0_image 94 = .ok (.iconst 3, 1) := dk_6 (dk_at dksX0_image_4 4 rfl rfl)
theorem dX0_image_95 : decode cX0_image 95 = .ok (.aload_n 0, 1) := dk_42 (dk_at dksX0_image_4 5 rfl rfl)
theorem dX0_image_96 : decode cX0_image 96 = .ok (.getfield 339, 3) := dk_180 1 83 (dk_at dksX0_image_4 6 rfl rfl)
theorem dX0_image_99 : decode cX0_image 99 = .ok (.iastore, 1) := dk_79 (dk_at dksX0_image_4 9 rfl rfl)
theorem dX0_image_100 : decode cX0_image 100 = .ok (.aload_n 0, 1) := dk_42 (dk_at dksX0_image_4 10 rfl rfl)
theorem dX0_image_101 : decode cX0_image 101 = .ok (.iconst 1, 1) := dk_4 (dk_at dksX0_image_4 11 rfl rfl)
theorem dX0_image_102 : decode cX0_image 102 = .ok (.putfield 532, 3) := dk_181 2 20 (dk_at dksX0_image_4 12 rfl rfl)
theorem dX0_image_105 : decode cX0_image 105 = .ok (.aload_n 0, 1) := dk_42 (dk_at dksX0_image_4 15 rfl rfl)
theorem dX0_image_106 : decode cX0_image 106 = .ok (.getfield 10, 3) := dk_180 0 10 (dk_at dksX0_image_4 16 rfl rfl)
theorem dX0_image_109 : decode cX0_image 109 = .ok (.ireturn, 1) := dk_172 (dk_at dksX0_image_4 19 rfl rfl)
abbrev cX0_back : ByteArray := prog_1_method_85_code
def yX0_back : MethodName := ⟨RX0, "back", "()I"⟩
def dkwX0_back_4 : List UInt8 := [27, 46, 182, 0, 98, 132, 2, 1, 167, 255, 232, 132, 1, 1, 167, 255, 216, 42, 180, 0, 10, 172]
abbrev dktX0_back_4 : List UInt8 := dkwX0_back_4 ++ []
def dkwX0_back_3 : List UInt8 := [180, 0, 10, 162, 0, 38, 3, 61, 28, 7, 162, 0, 25, 42, 6, 28, 96, 27, 42, 180, 1, 61, 28, 50]
abbrev dktX0_back_3 : List UInt8 := dkwX0_back_3 ++ dktX0_back_4
def dkwX0_back_2 : List UInt8 := [42, 180, 1, 64, 5, 46, 181, 0, 69, 42, 42, 180, 1, 64, 6, 46, 181, 1, 83, 3, 60, 27, 42]
abbrev dktX0_back_2 : List UInt8 := dkwX0_back_2 ++ dktX0_back_3
def dkwX0_back_1 : List UInt8 := [184, 2, 14, 42, 42, 180, 1, 64, 3, 46, 181, 0, 10, 42, 42, 180, 1, 64, 4, 46, 181, 0, 66, 42]
abbrev dktX0_back_1 : List UInt8 := dkwX0_back_1 ++ dktX0_back_2
def dkwX0_back_0 : List UInt8 := [42, 180, 2, 20, 154, 0, 6, 16, 253, 172, 42, 180, 1, 58, 3, 42, 180, 0, 62, 3, 16, 10]
abbrev dktX0_back_0 : List UInt8 := dkwX0_back_0 ++ dktX0_back_1
theorem dksX0_back_0 : cX0_back.data.toList.drop 0 = dktX0_back_0 := by decide +kernel
theorem dksX0_back_1 : cX0_back.data.toList.drop 22 = dktX0_back_1 := dk_seg dksX0_back_0 22 rfl rfl
theorem dksX0_back_2 : cX0_back.data.toList.drop 46 = dktX0_back_2 := dk_seg dksX0_back_1 24 rfl rfl
theorem dksX0_back_3 : cX0_back.data.toList.drop 69 = dktX0_back_3 := dk_seg dksX0_back_2 23 rfl rfl
theorem dksX0_back_4 : cX0_back.data.toList.drop 93 = dktX0_back_4 := dk_seg dksX0_back_3 24 rfl rfl
theorem dX0_back_0 : decode cX0_back 0 = .ok (.aload_n 0, 1) := dk_42 (dk_at dksX0_back_0 0 rfl rfl)
theorem dX0_back_1 : decode cX0_back 1 = .ok (.getfield 532, 3) := dk_180 2 20 (dk_at dksX0_back_0 1 rfl rfl)
theorem dX0_back_4 : decode cX0_back 4 = .ok (.ifCond .ne 6, 3) := dk_154 0 6 (dk_at dksX0_back_0 4 rfl rfl)
theorem dX0_back_7 : decode cX0_back 7 = .ok (.bipush (-3), 2) := dk_16 253 (dk_at dksX0_back_0 7 rfl rfl)
theorem dX0_back_9 : decode cX0_back 9 = .ok (.ireturn, 1) := dk_172 (dk_at dksX0_back_0 9 rfl rfl)
theorem dX0_back_10 : decode cX0_back 10 = .ok (.aload_n 0, 1) := dk_42 (dk_at dksX0_back_0 10 rfl rfl)
theorem dX0_back_11 : decode cX0_back 11 = .ok (.getfield 314, 3) := dk_180 1 58 (dk_at dksX0_back_0 11 rfl rfl)
theorem dX0_back_14 : decode cX0_back 14 = .ok (.iconst 0, 1) := dk_3 (dk_at dksX0_back_0 14 rfl rfl)
theorem dX0_back_15 : decode cX0_back 15 = .ok (.aload_n 0, 1) := dk_42 (dk_at dksX0_back_0 15 rfl rfl)
theorem dX0_back_16 : decode cX0_back 16 = .ok (.getfield 62, 3) := dk_180 0 62 (dk_at dksX0_back_0 16 rfl rfl)
theorem dX0_back_19 : decode cX0_back 19 = .ok (.iconst 0, 1) := dk_3 (dk_at dksX0_back_0 19 rfl rfl)
theorem dX0_back_20 : decode cX0_back 20 = .ok (.bipush 10, 2) := dk_16 10 (dk_at dksX0_back_0 20 rfl rfl)
theorem dX0_back_22 : decode cX0_back 22 = .ok (.invokestatic 526, 3) := dk_184 2 14 (dk_at dksX0_back_1 0 rfl rfl)
theorem dX0_back_25 : decode cX0_back 25 = .ok (.aload_n 0, 1) := dk_42 (dk_at dksX0_back_1 3 rfl rfl)
theorem dX0_back_26 : decode cX0_back 26 = .ok (.aload_n 0, 1) := dk_42 (dk_at dksX0_back_1 4 rfl rfl)
theorem dX0_back_27 : decode cX0_back 27 = .ok (.getfield 320, 3) := dk_180 1 64 (dk_at dksX0_back_1 5 rfl rfl)
theorem dX0_back_30 : decode cX0_back 30 = .ok (.iconst 0, 1) := dk_3 (dk_at dksX0_back_1 8 rfl rfl)
theorem dX0_back_31 : decode cX0_back 31 = .ok (.iaload, 1) := dk_46 (dk_at dksX0_back_1 9 rfl rfl)
theorem dX0_back_32 : decode cX0_back 32 = .ok (.putfield 10, 3) := dk_181 0 10 (dk_at dksX0_back_1 10 rfl rfl)
theorem dX0_back_35 : decode cX0_back 35 = .ok (.aload_n 0, 1) := dk_42 (dk_at dksX0_back_1 13 rfl rfl)
theorem dX0_back_36 : decode cX0_back 36 = .ok (.aload_n 0, 1) := dk_42 (dk_at dksX0_back_1 14 rfl rfl)
theorem dX0_back_37 : decode cX0_back 37 = .ok (.getfield 320, 3) := dk_180 1 64 (dk_at dksX0_back_1 15 rfl rfl)
theorem dX0_back_40 : decode cX0_back 40 = .ok (.iconst 1, 1) := dk_4 (dk_at dksX0_back_1 18 rfl rfl)
theorem dX0_back_41 : decode cX0_back 41 = .ok (.iaload, 1) := dk_46 (dk_at dksX0_back_1 19 rfl rfl)
theorem dX0_back_42 : decode cX0_back 42 = .ok (.putfield 66, 3) := dk_181 0 66 (dk_at dksX0_back_1 20 rfl rfl)
theorem dX0_back_45 : decode cX0_back 45 = .ok (.aload_n 0, 1) := dk_42 (dk_at dksX0_back_1 23 rfl rfl)
theorem dX0_back_46 : decode cX0_back 46 = .ok (.aload_n 0, 1) := dk_42 (dk_at dksX0_back_2 0 rfl rfl)
theorem dX0_back_47 : decode cX0_back 47 = .ok (.getfield 320, 3) := dk_180 1 64 (dk_at dksX0_back_2 1 rfl rfl)
theorem dX0_back_50 : decode cX0_back 50 = .ok (.iconst 2, 1) := dk_5 (dk_at dksX0_back_2 4 rfl rfl)
theorem dX0_back_51 : decode cX0_back 51 = .ok (.iaload, 1) := dk_46 (dk_at dksX0_back_2 5 rfl rfl)
theorem dX0_back_52 : decode cX0_back 52 = .ok (.putfield 69, 3) := dk_181 0 69 (dk_at dksX0_back_2 6 rfl rfl)
theorem dX0_back_55 : decode cX0_back 55 = .ok (.aload_n 0, 1) := dk_42 (dk_at dksX0_back_2 9 rfl rfl)
theorem dX0_back_56 : decode cX0_back 56 = .ok (.aload_n 0, 1) := dk_42 (dk_at dksX0_back_2 10 rfl rfl)
theorem dX0_back_57 : decode cX0_back 57 = .ok (.getfield 320, 3) := dk_180 1 64 (dk_at dksX0_back_2 11 rfl rfl)
theorem dX0_back_60 : decode cX0_back 60 = .ok (.iconst 3, 1) := dk_6 (dk_at dksX0_back_2 14 rfl rfl)
theorem dX0_back_61 : decode cX0_back 61 = .ok (.iaload, 1) := dk_46 (dk_at dksX0_back_2 15 rfl rfl)
theorem dX0_back_62 : decode cX0_back 62 = .ok (.putfield 339, 3) := dk_181 1 83 (dk_at dksX0_back_2 16 rfl rfl)
theorem dX0_back_65 : decode cX0_back 65 = .ok (.iconst 0, 1) := dk_3 (dk_at dksX0_back_2 19 rfl rfl)
theorem dX0_back_66 : decode cX0_back 66 = .ok (.istore_n 1, 1) := dk_60 (dk_at dksX0_back_2 20 rfl rfl)
theorem dX0_back_67 : decode cX0_back 67 = .ok (.iload_n 1, 1) := dk_27 (dk_at dksX0_back_2 21 rfl rfl)
theorem dX0_back_68 : decode cX0_back 68 = .ok (.aload_n 0, 1) := dk_42 (dk_at dksX0_back_2 22 rfl rfl)
theorem dX0_back_69 : decode cX0_back 69 = .ok (.getfield 10, 3) := dk_180 0 10 (dk_at dksX0_back_3 0 rfl rfl)
theorem dX0_back_72 : decode cX0_back 72 = .ok (.if_icmp .ge 38, 3) := dk_162 0 38 (dk_at dksX0_back_3 3 rfl rfl)
theorem dX0_back_75 : decode cX0_back 75 = .ok (.iconst 0, 1) := dk_3 (dk_at dksX0_back_3 6 rfl rfl)
theorem dX0_back_76 : decode cX0_back 76 = .ok (.istore_n 2, 1) := dk_61 (dk_at dksX0_back_3 7 rfl rfl)
theorem dX0_back_77 : decode cX0_back 77 = .ok (.iload_n 2, 1) := dk_28 (dk_at dksX0_back_3 8 rfl rfl)
theorem dX0_back_78 : decode cX0_back 78 = .ok (.iconst 4, 1) := dk_7 (dk_at dksX0_back_3 9 rfl rfl)
theorem dX0_back_79 : decode cX0_back 79 = .ok (.if_icmp .ge 25, 3) := dk_162 0 25 (dk_at dksX0_back_3 10 rfl rfl)
theorem dX0_back_82 : decode cX0_back 82 = .ok (.aload_n 0, 1) := dk_42 (dk_at dksX0_back_3 13 rfl rfl)
theorem dX0_back_83 : decode cX0_back 83 = .ok (.iconst 3, 1) := dk_6 (dk_at dksX0_back_3 14 rfl rfl)
theorem dX0_back_84 : decode cX0_back 84 = .ok (.iload_n 2, 1) := dk_28 (dk_at dksX0_back_3 15 rfl rfl)
theorem dX0_back_85 : decode cX0_back 85 = .ok (.iadd, 1) := dk_96 (dk_at dksX0_back_3 16 rfl rfl)
theorem dX0_back_86 : decode cX0_back 86 = .ok (.iload_n 1, 1) := dk_27 (dk_at dksX0_back_3 17 rfl rfl)
theorem dX0_back_87 : decode cX0_back 87 = .ok (.aload_n 0, 1) := dk_42 (dk_at dksX0_back_3 18 rfl rfl)
theorem dX0_back_88 : decode cX0_back 88 = .ok (.getfield 317, 3) := dk_180 1 61 (dk_at dksX0_back_3 19 rfl rfl)
theorem dX0_back_91 : decode cX0_back 91 = .ok (.iload_n 2, 1) := dk_28 (dk_at dksX0_back_3 22 rfl rfl)
theorem dX0_back_92 : decode cX0_back 92 = .ok (.aaload, 1) := dk_50 (dk_at dksX0_back_3 23 rfl rfl)
theorem dX0_back_93 : decode cX0_back 93 = .ok (.iload_n 1, 1) := dk_27 (dk_at dksX0_back_4 0 rfl rfl)
theorem dX0_back_94 : decode cX0_back 94 = .ok (.iaload, 1) := dk_46 (dk_at dksX0_back_4 1 rfl rfl)
theorem dX0_back_95 : decode cX0_back 95 = .ok (.invokevirtual 98, 3) := dk_182 0 98 (dk_at dksX0_back_4 2 rfl rfl)
theorem dX0_back_98 : decode cX0_back 98 = .ok (.iinc 2 1, 3) := dk_132 2 1 (dk_at dksX0_back_4 5 rfl rfl)
theorem dX0_back_101 : decode cX0_back 101 = .ok (.goto (-24), 3) := dk_167 255 232 (dk_at dksX0_back_4 8 rfl rfl)
theorem dX0_back_104 : decode cX0_back 104 = .ok (.iinc 1 1, 3) := dk_132 1 1 (dk_at dksX0_back_4 11 rfl rfl)
theorem dX0_back_107 : decode cX0_back 107 = .ok (.goto (-40), 3) := dk_167 255 216 (dk_at dksX0_back_4 14 rfl rfl)
theorem dX0_back_110 : decode cX0_back 110 = .ok (.aload_n 0, 1) := dk_42 (dk_at dksX0_back_4 17 rfl rfl)
theorem dX0_back_111 : decode cX0_back 111 = .ok (.getfield 10, 3) := dk_180 0 10 (dk_at dksX0_back_4 18 rfl rfl)
theorem dX0_back_114 : decode cX0_back 114 = .ok (.ireturn, 1) := dk_172 (dk_at dksX0_back_4 21 rfl rfl)
abbrev cX0_count : ByteArray := prog_1_method_86_code
def yX0_count : MethodName := ⟨RX0, "count", "(I)I"⟩
def dkwX0_count_3 : List UInt8 := [180, 0, 248, 172, 42, 180, 1, 83, 172, 16, 254, 172]
abbrev dktX0_count_3 : List UInt8 := dkwX0_count_3 ++ []
def dkwX0_count_2 : List UInt8 := [42, 180, 0, 10, 172, 42, 182, 1, 166, 184, 1, 169, 172, 42, 180, 0, 69, 172, 42, 180, 1, 3, 172, 42]
abbrev dktX0_count_2 : List UInt8 := dkwX0_count_2 ++ dktX0_count_3
def dkwX0_count_1 : List UInt8 := [170, 0, 0, 0, 0, 0, 72, 0, 0, 0, 0, 0, 0, 0, 5, 0, 0, 0, 39, 0, 0, 0, 44, 0, 0, 0, 52, 0, 0, 0, 57, 0, 0, 0, 62, 0, 0, 0, 67]
abbrev dktX0_count_1 : List UInt8 := dkwX0_count_1 ++ dktX0_count_2
def dkwX0_count_0 : List UInt8 := [27]
abbrev dktX0_count_0 : List UInt8 := dkwX0_count_0 ++ dktX0_count_1
theorem dksX0_count_0 : cX0_count.data.toList.drop 0 = dktX0_count_0 := by decide +kernel
theorem dksX0_count_1 : cX0_count.data.toList.drop 1 = dktX0_count_1 := dk_seg dksX0_count_0 1 rfl rfl
theorem dksX0_count_2 : cX0_count.data.toList.drop 40 = dktX0_count_2 := dk_seg dksX0_count_1 39 rfl rfl
theorem dksX0_count_3 : cX0_count.data.toList.drop 64 = dktX0_count_3 := dk_seg dksX0_count_2 24 rfl rfl
theorem dX0_count_0 : decode cX0_count 0 = .ok (.iload_n 1, 1) := dk_27 (dk_at dksX0_count_0 0 rfl rfl)
theorem dX0_count_1 : decode cX0_count 1 = .ok (.tableswitch 72 0 5 #[39, 44, 52, 57, 62, 67], 39) := by decide +kernel
theorem dX0_count_40 : decode cX0_count 40 = .ok (.aload_n 0, 1) := dk_42 (dk_at dksX0_count_2 0 rfl rfl)
theorem dX0_count_41 : decode cX0_count 41 = .ok (.getfield 10, 3) := dk_180 0 10 (dk_at dksX0_count_2 1 rfl rfl)
theorem dX0_count_44 : decode cX0_count 44 = .ok (.ireturn, 1) := dk_172 (dk_at dksX0_count_2 4 rfl rfl)
theorem dX0_count_45 : decode cX0_count 45 = .ok (.aload_n 0, 1) := dk_42 (dk_at dksX0_count_2 5 rfl rfl)
theorem dX0_count_46 : decode cX0_count 46 = .ok (.invokevirtual 422, 3) := dk_182 1 166 (dk_at dksX0_count_2 6 rfl rfl)
theorem dX0_count_49 : decode cX0_count 49 = .ok (.invokestatic 425, 3) := dk_184 1 169 (dk_at dksX0_count_2 9 rfl rfl)
theorem dX0_count_52 : decode cX0_count 52 = .ok (.ireturn, 1) := dk_172 (dk_at dksX0_count_2 12 rfl rfl)
theorem dX0_count_53 : decode cX0_count 53 = .ok (.aload_n 0, 1) := dk_42 (dk_at dksX0_count_2 13 rfl rfl)
theorem dX0_count_54 : decode cX0_count 54 = .ok (.getfield 69, 3) := dk_180 0 69 (dk_at dksX0_count_2 14 rfl rfl)
theorem dX0_count_57 : decode cX0_count 57 = .ok (.ireturn, 1) := dk_172 (dk_at dksX0_count_2 17 rfl rfl)
theorem dX0_count_58 : decode cX0_count 58 = .ok (.aload_n 0, 1) := dk_42 (dk_at dksX0_count_2 18 rfl rfl)
theorem dX0_count_59 : decode cX0_count 59 = .ok (.getfield 259, 3) := dk_180 1 3 (dk_at dksX0_count_2 19 rfl rfl)
theorem dX0_count_62 : decode cX0_count 62 = .ok (.ireturn, 1) := dk_172 (dk_at dksX0_count_2 22 rfl rfl)
theorem dX0_count_63 : decode cX0_count 63 = .ok (.aload_n 0, 1) := dk_42 (dk_at dksX0_count_2 23 rfl rfl)
theorem dX0_count_64 : decode cX0_count 64 = .ok (.getfield 248, 3) := dk_180 0 248 (dk_at dksX0_count_3 0 rfl rfl)
theorem dX0_count_67 : decode cX0_count 67 = .ok (.ireturn, 1) := dk_172 (dk_at dksX0_count_3 3 rfl rfl)
theorem dX0_count_68 : decode cX0_count 68 = .ok (.aload_n 0, 1) := dk_42 (dk_at dksX0_count_3 4 rfl rfl)
theorem dX0_count_69 : decode cX0_count 69 = .ok (.getfield 339, 3) := dk_180 1 83 (dk_at dksX0_count_3 5 rfl rfl)
theorem dX0_count_72 : decode cX0_count 72 = .ok (.ireturn, 1) := dk_172 (dk_at dksX0_count_3 8 rfl rfl)
theorem dX0_count_73 : decode cX0_count 73 = .ok (.bipush (-2), 2) := dk_16 254 (dk_at dksX0_count_3 9 rfl rfl)
theorem dX0_count_75 : decode cX0_count 75 = .ok (.ireturn, 1) := dk_172 (dk_at dksX0_count_3 11 rfl rfl)
abbrev cX0_copy : ByteArray := prog_1_method_96_code
def yX0_copy : MethodName := ⟨RX0, "copy", "(IIIII)I"⟩
def dkwX0_copy_6 : List UInt8 := [172, 25, 6, 28, 25, 7, 21, 4, 21, 5, 184, 2, 14, 21, 5, 172]
abbrev dktX0_copy_6 : List UInt8 := dkwX0_copy_6 ++ []
def dkwX0_copy_5 : List UInt8 := [163, 0, 22, 21, 5, 21, 8, 28, 100, 163, 0, 13, 21, 5, 21, 9, 21, 4, 100, 164, 0, 6, 16, 244]
abbrev dktX0_copy_5 : List UInt8 := dkwX0_copy_5 ++ dktX0_copy_6
def dkwX0_copy_4 : List UInt8 := [155, 0, 44, 28, 155, 0, 40, 21, 4, 155, 0, 35, 28, 21, 8, 163, 0, 29, 21, 4, 21, 9]
abbrev dktX0_copy_4 : List UInt8 := dkwX0_copy_4 ++ dktX0_copy_5
def dkwX0_copy_3 : List UInt8 := [25, 6, 184, 1, 202, 184, 1, 206, 54, 8, 25, 7, 25, 7, 184, 1, 202, 184, 1, 206, 54, 9, 21, 5]
abbrev dktX0_copy_3 : List UInt8 := dkwX0_copy_3 ++ dktX0_copy_4
def dkwX0_copy_2 : List UInt8 := [199, 0, 6, 16, 245, 172, 25, 6, 184, 1, 202, 25, 7, 184, 1, 202, 159, 0, 6, 16, 243, 172, 25, 6]
abbrev dktX0_copy_2 : List UInt8 := dkwX0_copy_2 ++ dktX0_copy_3
def dkwX0_copy_1 : List UInt8 := [180, 1, 234, 58, 6, 42, 180, 1, 70, 29, 50, 180, 1, 234, 58, 7, 25, 6, 198, 0, 8, 25, 7]
abbrev dktX0_copy_1 : List UInt8 := dkwX0_copy_1 ++ dktX0_copy_2
def dkwX0_copy_0 : List UInt8 := [27, 184, 1, 229, 153, 0, 10, 29, 184, 1, 229, 154, 0, 6, 16, 254, 172, 42, 180, 1, 70, 27, 50]
abbrev dktX0_copy_0 : List UInt8 := dkwX0_copy_0 ++ dktX0_copy_1
theorem dksX0_copy_0 : cX0_copy.data.toList.drop 0 = dktX0_copy_0 := by decide +kernel
theorem dksX0_copy_1 : cX0_copy.data.toList.drop 23 = dktX0_copy_1 := dk_seg dksX0_copy_0 23 rfl rfl
theorem dksX0_copy_2 : cX0_copy.data.toList.drop 46 = dktX0_copy_2 := dk_seg dksX0_copy_1 23 rfl rfl
theorem dksX0_copy_3 : cX0_copy.data.toList.drop 70 = dktX0_copy_3 := dk_seg dksX0_copy_2 24 rfl rfl
theorem dksX0_copy_4 : cX0_copy.data.toList.drop 94 = dktX0_copy_4 := dk_seg dksX0_copy_3 24 rfl rfl
theorem dksX0_copy_5 : cX0_copy.data.toList.drop 116 = dktX0_copy_5 := dk_seg dksX0_copy_4 22 rfl rfl
theorem dksX0_copy_6 : cX0_copy.data.toList.drop 140 = dktX0_copy_6 := dk_seg dksX0_copy_5 24 rfl rfl
theorem dX0_copy_0 : decode cX0_copy 0 = .ok (.iload_n 1, 1) := dk_27 (dk_at dksX0_copy_0 0 rfl rfl)
theorem dX0_copy_1 : decode cX0_copy 1 = .ok (.invokestatic 485, 3) := dk_184 1 229 (dk_at dksX0_copy_0 1 rfl rfl)
theorem dX0_copy_4 : decode cX0_copy 4 = .ok (.ifCond .eq 10, 3) := dk_153 0 10 (dk_at dksX0_copy_0 4 rfl rfl)
theorem dX0_copy_7 : decode cX0_copy 7 = .ok (.iload_n 3, 1) := dk_29 (dk_at dksX0_copy_0 7 rfl rfl)
theorem dX0_copy_8 : decode cX0_copy 8 = .ok (.invokestatic 485, 3) := dk_184 1 229 (dk_at dksX0_copy_0 8 rfl rfl)
theorem dX0_copy_11 : decode cX0_copy 11 = .ok (.ifCond .ne 6, 3) := dk_154 0 6 (dk_at dksX0_copy_0 11 rfl rfl)
theorem dX0_copy_14 : decode cX0_copy 14 = .ok (.bipush (-2), 2) := dk_16 254 (dk_at dksX0_copy_0 14 rfl rfl)
theorem dX0_copy_16 : decode cX0_copy 16 = .ok (.ireturn, 1) := dk_172 (dk_at dksX0_copy_0 16 rfl rfl)
theorem dX0_copy_17 : decode cX0_copy 17 = .ok (.aload_n 0, 1) := dk_42 (dk_at dksX0_copy_0 17 rfl rfl)
theorem dX0_copy_18 : decode cX0_copy 18 = .ok (.getfield 326, 3) := dk_180 1 70 (dk_at dksX0_copy_0 18 rfl rfl)
theorem dX0_copy_21 : decode cX0_copy 21 = .ok (.iload_n 1, 1) := dk_27 (dk_at dksX0_copy_0 21 rfl rfl)
theorem dX0_copy_22 : decode cX0_copy 22 = .ok (.aaload, 1) := dk_50 (dk_at dksX0_copy_0 22 rfl rfl)
theorem dX0_copy_23 : decode cX0_copy 23 = .ok (.getfield 490, 3) := dk_180 1 234 (dk_at dksX0_copy_1 0 rfl rfl)
theorem dX0_copy_26 : decode cX0_copy 26 = .ok (.astore 6, 2) := dk_58 6 (dk_at dksX0_copy_1 3 rfl rfl)
theorem dX0_copy_28 : decode cX0_copy 28 = .ok (.aload_n 0, 1) := dk_42 (dk_at dksX0_copy_1 5 rfl rfl)
theorem dX0_copy_29 : decode cX0_copy 29 = .ok (.getfield 326, 3) := dk_180 1 70 (dk_at dksX0_copy_1 6 rfl rfl)
theorem dX0_copy_32 : decode cX0_copy 32 = .ok (.iload_n 3, 1) := dk_29 (dk_at dksX0_copy_1 9 rfl rfl)
theorem dX0_copy_33 : decode cX0_copy 33 = .ok (.aaload, 1) := dk_50 (dk_at dksX0_copy_1 10 rfl rfl)
theorem dX0_copy_34 : decode cX0_copy 34 = .ok (.getfield 490, 3) := dk_180 1 234 (dk_at dksX0_copy_1 11 rfl rfl)
theorem dX0_copy_37 : decode cX0_copy 37 = .ok (.astore 7, 2) := dk_58 7 (dk_at dksX0_copy_1 14 rfl rfl)
theorem dX0_copy_39 : decode cX0_copy 39 = .ok (.aload 6, 2) := dk_25 6 (dk_at dksX0_copy_1 16 rfl rfl)
theorem dX0_copy_41 : decode cX0_copy 41 = .ok (.ifnull 8, 3) := dk_198 0 8 (dk_at dksX0_copy_1 18 rfl rfl)
theorem dX0_copy_44 : decode cX0_copy 44 = .ok (.aload 7, 2) := dk_25 7 (dk_at dksX0_copy_1 21 rfl rfl)
theorem dX0_copy_46 : decode cX0_copy 46 = .ok (.ifnonnull 6, 3) := dk_199 0 6 (dk_at dksX0_copy_2 0 rfl rfl)
theorem dX0_copy_49 : decode cX0_copy 49 = .ok (.bipush (-11), 2) := dk_16 245 (dk_at dksX0_copy_2 3 rfl rfl)
theorem dX0_copy_51 : decode cX0_copy 51 = .ok (.ireturn, 1) := dk_172 (dk_at dksX0_copy_2 5 rfl rfl)
theorem dX0_copy_52 : decode cX0_copy 52 = .ok (.aload 6, 2) := dk_25 6 (dk_at dksX0_copy_2 6 rfl rfl)
theorem dX0_copy_54 : decode cX0_copy 54 = .ok (.invokestatic 458, 3) := dk_184 1 202 (dk_at dksX0_copy_2 8 rfl rfl)
theorem dX0_copy_57 : decode cX0_copy 57 = .ok (.aload 7, 2) := dk_25 7 (dk_at dksX0_copy_2 11 rfl rfl)
theorem dX0_copy_59 : decode cX0_copy 59 = .ok (.invokestatic 458, 3) := dk_184 1 202 (dk_at dksX0_copy_2 13 rfl rfl)
theorem dX0_copy_62 : decode cX0_copy 62 = .ok (.if_icmp .eq 6, 3) := dk_159 0 6 (dk_at dksX0_copy_2 16 rfl rfl)
theorem dX0_copy_65 : decode cX0_copy 65 = .ok (.bipush (-13), 2) := dk_16 243 (dk_at dksX0_copy_2 19 rfl rfl)
theorem dX0_copy_67 : decode cX0_copy 67 = .ok (.ireturn, 1) := dk_172 (dk_at dksX0_copy_2 21 rfl rfl)
theorem dX0_copy_68 : decode cX0_copy 68 = .ok (.aload 6, 2) := dk_25 6 (dk_at dksX0_copy_2 22 rfl rfl)
theorem dX0_copy_70 : decode cX0_copy 70 = .ok (.aload 6, 2) := dk_25 6 (dk_at dksX0_copy_3 0 rfl rfl)
theorem dX0_copy_72 : decode cX0_copy 72 = .ok (.invokestatic 458, 3) := dk_184 1 202 (dk_at dksX0_copy_3 2 rfl rfl)
theorem dX0_copy_75 : decode cX0_copy 75 = .ok (.invokestatic 462, 3) := dk_184 1 206 (dk_at dksX0_copy_3 5 rfl rfl)
theorem dX0_copy_78 : decode cX0_copy 78 = .ok (.istore 8, 2) := dk_54 8 (dk_at dksX0_copy_3 8 rfl rfl)
theorem dX0_copy_80 : decode cX0_copy 80 = .ok (.aload 7, 2) := dk_25 7 (dk_at dksX0_copy_3 10 rfl rfl)
theorem dX0_copy_82 : decode cX0_copy 82 = .ok (.aload 7, 2) := dk_25 7 (dk_at dksX0_copy_3 12 rfl rfl)
theorem dX0_copy_84 : decode cX0_copy 84 = .ok (.invokestatic 458, 3) := dk_184 1 202 (dk_at dksX0_copy_3 14 rfl rfl)
theorem dX0_copy_87 : decode cX0_copy 87 = .ok (.invokestatic 462, 3) := dk_184 1 206 (dk_at dksX0_copy_3 17 rfl rfl)
theorem dX0_copy_90 : decode cX0_copy 90 = .ok (.istore 9, 2) := dk_54 9 (dk_at dksX0_copy_3 20 rfl rfl)
theorem dX0_copy_92 : decode cX0_copy 92 = .ok (.iload 5, 2) := dk_21 5 (dk_at dksX0_copy_3 22 rfl rfl)
theorem dX0_copy_94 : decode cX0_copy 94 = .ok (.ifCond .lt 44, 3) := dk_155 0 44 (dk_at dksX0_copy_4 0 rfl rfl)
theorem dX0_copy_97 : decode cX0_copy 97 = .ok (.iload_n 2, 1) := dk_28 (dk_at dksX0_copy_4 3 rfl rfl)
theorem dX0_copy_98 : decode cX0_copy 98 = .ok (.ifCond .lt 40, 3) := dk_155 0 40 (dk_at dksX0_copy_4 4 rfl rfl)
theorem dX0_copy_101 : decode cX0_copy 101 = .ok (.iload 4, 2) := dk_21 4 (dk_at dksX0_copy_4 7 rfl rfl)
theorem dX0_copy_103 : decode cX0_copy 103 = .ok (.ifCond .lt 35, 3) := dk_155 0 35 (dk_at dksX0_copy_4 9 rfl rfl)
theorem dX0_copy_106 : decode cX0_copy 106 = .ok (.iload_n 2, 1) := dk_28 (dk_at dksX0_copy_4 12 rfl rfl)
theorem dX0_copy_107 : decode cX0_copy 107 = .ok (.iload 8, 2) := dk_21 8 (dk_at dksX0_copy_4 13 rfl rfl)
theorem dX0_copy_109 : decode cX0_copy 109 = .ok (.if_icmp .gt 29, 3) := dk_163 0 29 (dk_at dksX0_copy_4 15 rfl rfl)
theorem dX0_copy_112 : decode cX0_copy 112 = .ok (.iload 4, 2) := dk_21 4 (dk_at dksX0_copy_4 18 rfl rfl)
theorem dX0_copy_114 : decode cX0_copy 114 = .ok (.iload 9, 2) := dk_21 9 (dk_at dksX0_copy_4 20 rfl rfl)
theorem dX0_copy_116 : decode cX0_copy 116 = .ok (.if_icmp .gt 22, 3) := dk_163 0 22 (dk_at dksX0_copy_5 0 rfl rfl)
theorem dX0_copy_119 : decode cX0_copy 119 = .ok (.iload 5, 2) := dk_21 5 (dk_at dksX0_copy_5 3 rfl rfl)
theorem dX0_copy_121 : decode cX0_copy 121 = .ok (.iload 8, 2) := dk_21 8 (dk_at dksX0_copy_5 5 rfl rfl)
theorem dX0_copy_123 : decode cX0_copy 123 = .ok (.iload_n 2, 1) := dk_28 (dk_at dksX0_copy_5 7 rfl rfl)
theorem dX0_copy_124 : decode cX0_copy 124 = .ok (.isub, 1) := dk_100 (dk_at dksX0_copy_5 8 rfl rfl)
theorem dX0_copy_125 : decode cX0_copy 125 = .ok (.if_icmp .gt 13, 3) := dk_163 0 13 (dk_at dksX0_copy_5 9 rfl rfl)
theorem dX0_copy_128 : decode cX0_copy 128 = .ok (.iload 5, 2) := dk_21 5 (dk_at dksX0_copy_5 12 rfl rfl)
theorem dX0_copy_130 : decode cX0_copy 130 = .ok (.iload 9, 2) := dk_21 9 (dk_at dksX0_copy_5 14 rfl rfl)
theorem dX0_copy_132 : decode cX0_copy 132 = .ok (.iload 4, 2) := dk_21 4 (dk_at dksX0_copy_5 16 rfl rfl)
theorem dX0_copy_134 : decode cX0_copy 134 = .ok (.isub, 1) := dk_100 (dk_at dksX0_copy_5 18 rfl rfl)
theorem dX0_copy_135 : decode cX0_copy 135 = .ok (.if_icmp .le 6, 3) := dk_164 0 6 (dk_at dksX0_copy_5 19 rfl rfl)
theorem dX0_copy_138 : decode cX0_copy 138 = .ok (.bipush (-12), 2) := dk_16 244 (dk_at dksX0_copy_5 22 rfl rfl)
theorem dX0_copy_140 : decode cX0_copy 140 = .ok (.ireturn, 1) := dk_172 (dk_at dksX0_copy_6 0 rfl rfl)
theorem dX0_copy_141 : decode cX0_copy 141 = .ok (.aload 6, 2) := dk_25 6 (dk_at dksX0_copy_6 1 rfl rfl)
theorem dX0_copy_143 : decode cX0_copy 143 = .ok (.iload_n 2, 1) := dk_28 (dk_at dksX0_copy_6 3 rfl rfl)
theorem dX0_copy_144 : decode cX0_copy 144 = .ok (.aload 7, 2) := dk_25 7 (dk_at dksX0_copy_6 4 rfl rfl)
theorem dX0_copy_146 : decode cX0_copy 146 = .ok (.iload 4, 2) := dk_21 4 (dk_at dksX0_copy_6 6 rfl rfl)
theorem dX0_copy_148 : decode cX0_copy 148 = .ok (.iload 5, 2) := dk_21 5 (dk_at dksX0_copy_6 8 rfl rfl)
theorem dX0_copy_150 : decode cX0_copy 150 = .ok (.invokestatic 526, 3) := dk_184 2 14 (dk_at dksX0_copy_6 10 rfl rfl)
theorem dX0_copy_153 : decode cX0_copy 153 = .ok (.iload 5, 2) := dk_21 5 (dk_at dksX0_copy_6 13 rfl rfl)
theorem dX0_copy_155 : decode cX0_copy 155 = .ok (.ireturn, 1) := dk_172 (dk_at dksX0_copy_6 15 rfl rfl)
abbrev cX0_court : ByteArray := prog_1_method_98_code
def yX0_court : MethodName := ⟨RX0, "court", "(IIII)I"⟩
def dkwX0_court_2 : List UInt8 := [21, 4, 182, 2, 53, 172, 58, 5, 16, 243, 172, 58, 5, 16, 245, 172, 58, 5, 16, 244, 172]
abbrev dktX0_court_2 : List UInt8 := dkwX0_court_2 ++ []
def dkwX0_court_1 : List UInt8 := [20, 0, 43, 184, 0, 16, 154, 0, 6, 16, 254, 172, 42, 42, 180, 1, 70, 27, 50, 180, 1, 234, 28, 29]
abbrev dktX0_court_1 : List UInt8 := dkwX0_court_1 ++ dktX0_court_2
def dkwX0_court_0 : List UInt8 := [27, 184, 1, 229, 153, 0, 28, 28, 133, 9, 20, 2, 27, 184, 0, 16, 153, 0, 16, 21, 4, 133, 9]
abbrev dktX0_court_0 : List UInt8 := dkwX0_court_0 ++ dktX0_court_1
theorem dksX0_court_0 : cX0_court.data.toList.drop 0 = dktX0_court_0 := by decide +kernel
theorem dksX0_court_1 : cX0_court.data.toList.drop 23 = dktX0_court_1 := dk_seg dksX0_court_0 23 rfl rfl
theorem dksX0_court_2 : cX0_court.data.toList.drop 47 = dktX0_court_2 := dk_seg dksX0_court_1 24 rfl rfl
theorem dX0_court_0 : decode cX0_court 0 = .ok (.iload_n 1, 1) := dk_27 (dk_at dksX0_court_0 0 rfl rfl)
theorem dX0_court_1 : decode cX0_court 1 = .ok (.invokestatic 485, 3) := dk_184 1 229 (dk_at dksX0_court_0 1 rfl rfl)
theorem dX0_court_4 : decode cX0_court 4 = .ok (.ifCond .eq 28, 3) := dk_153 0 28 (dk_at dksX0_court_0 4 rfl rfl)
theorem dX0_court_7 : decode cX0_court 7 = .ok (.iload_n 2, 1) := dk_28 (dk_at dksX0_court_0 7 rfl rfl)
theorem dX0_court_8 : decode cX0_court 8 = .ok (.i2l, 1) := dk_133 (dk_at dksX0_court_0 8 rfl rfl)
theorem dX0_court_9 : decode cX0_court 9 = .ok (.lconst 0, 1) := dk_9 (dk_at dksX0_court_0 9 rfl rfl)
theorem dX0_court_10 : decode cX0_court 10 = .ok (.ldc2_w 539, 3) := dk_20 2 27 (dk_at dksX0_court_0 10 rfl rfl)
theorem dX0_court_13 : decode cX0_court 13 = .ok (.invokestatic 16, 3) := dk_184 0 16 (dk_at dksX0_court_0 13 rfl rfl)
theorem dX0_court_16 : decode cX0_court 16 = .ok (.ifCond .eq 16, 3) := dk_153 0 16 (dk_at dksX0_court_0 16 rfl rfl)
theorem dX0_court_19 : decode cX0_court 19 = .ok (.iload 4, 2) := dk_21 4 (dk_at dksX0_court_0 19 rfl rfl)
theorem dX0_court_21 : decode cX0_court 21 = .ok (.i2l, 1) := dk_133 (dk_at dksX0_court_0 21 rfl rfl)
theorem dX0_court_22 : decode cX0_court 22 = .ok (.lconst 0, 1) := dk_9 (dk_at dksX0_court_0 22 rfl rfl)
theorem dX0_court_23 : decode cX0_court 23 = .ok (.ldc2_w 43, 3) := dk_20 0 43 (dk_at dksX0_court_1 0 rfl rfl)
theorem dX0_court_26 : decode cX0_court 26 = .ok (.invokestatic 16, 3) := dk_184 0 16 (dk_at dksX0_court_1 3 rfl rfl)
theorem dX0_court_29 : decode cX0_court 29 = .ok (.ifCond .ne 6, 3) := dk_154 0 6 (dk_at dksX0_court_1 6 rfl rfl)
theorem dX0_court_32 : decode cX0_court 32 = .ok (.bipush (-2), 2) := dk_16 254 (dk_at dksX0_court_1 9 rfl rfl)
theorem dX0_court_34 : decode cX0_court 34 = .ok (.ireturn, 1) := dk_172 (dk_at dksX0_court_1 11 rfl rfl)
theorem dX0_court_35 : decode cX0_court 35 = .ok (.aload_n 0, 1) := dk_42 (dk_at dksX0_court_1 12 rfl rfl)
theorem dX0_court_36 : decode cX0_court 36 = .ok (.aload_n 0, 1) := dk_42 (dk_at dksX0_court_1 13 rfl rfl)
theorem dX0_court_37 : decode cX0_court 37 = .ok (.getfield 326, 3) := dk_180 1 70 (dk_at dksX0_court_1 14 rfl rfl)
theorem dX0_court_40 : decode cX0_court 40 = .ok (.iload_n 1, 1) := dk_27 (dk_at dksX0_court_1 17 rfl rfl)
theorem dX0_court_41 : decode cX0_court 41 = .ok (.aaload, 1) := dk_50 (dk_at dksX0_court_1 18 rfl rfl)
theorem dX0_court_42 : decode cX0_court 42 = .ok (.getfield 490, 3) := dk_180 1 234 (dk_at dksX0_court_1 19 rfl rfl)
theorem dX0_court_45 : decode cX0_court 45 = .ok (.iload_n 2, 1) := dk_28 (dk_at dksX0_court_1 22 rfl rfl)
theorem dX0_court_46 : decode cX0_court 46 = .ok (.iload_n 3, 1) := dk_29 (dk_at dksX0_court_1 23 rfl rfl)
theorem dX0_court_47 : decode cX0_court 47 = .ok (.iload 4, 2) := dk_21 4 (dk_at dksX0_court_2 0 rfl rfl)
theorem dX0_court_49 : decode cX0_court 49 = .ok (.invokevirtual 565, 3) := dk_182 2 53 (dk_at dksX0_court_2 2 rfl rfl)
theorem dX0_court_52 : decode cX0_court 52 = .ok (.ireturn, 1) := dk_172 (dk_at dksX0_court_2 5 rfl rfl)
theorem dX0_court_53 : decode cX0_court 53 = .ok (.astore 5, 2) := dk_58 5 (dk_at dksX0_court_2 6 rfl rfl)
theorem dX0_court_55 : decode cX0_court 55 = .ok (.bipush (-13), 2) := dk_16 243 (dk_at dksX0_court_2 8 rfl rfl)
theorem dX0_court_57 : decode cX0_court 57 = .ok (.ireturn, 1) := dk_172 (dk_at dksX0_court_2 10 rfl rfl)
theorem dX0_court_58 : decode cX0_court 58 = .ok (.astore 5, 2) := dk_58 5 (dk_at dksX0_court_2 11 rfl rfl)
theorem dX0_court_60 : decode cX0_court 60 = .ok (.bipush (-11), 2) := dk_16 245 (dk_at dksX0_court_2 13 rfl rfl)
theorem dX0_court_62 : decode cX0_court 62 = .ok (.ireturn, 1) := dk_172 (dk_at dksX0_court_2 15 rfl rfl)
theorem dX0_court_63 : decode cX0_court 63 = .ok (.astore 5, 2) := dk_58 5 (dk_at dksX0_court_2 16 rfl rfl)
theorem dX0_court_65 : decode cX0_court 65 = .ok (.bipush (-12), 2) := dk_16 244 (dk_at dksX0_court_2 18 rfl rfl)
theorem dX0_court_67 : decode cX0_court 67 = .ok (.ireturn, 1) := dk_172 (dk_at dksX0_court_2 20 rfl rfl)
abbrev cX0_came : ByteArray := prog_1_method_97_code
def yX0_came : MethodName := ⟨RX0, "came", "(Ljava/lang/Object;III)I"⟩
def dkwX0_came_3 : List UInt8 := [155, 0, 7, 4, 167, 0, 4, 3, 96, 54, 6, 132, 7, 1, 167, 255, 184, 21, 6, 172]
abbrev dktX0_came_3 : List UInt8 := dkwX0_came_3 ++ []
def dkwX0_came_2 : List UInt8 := [21, 6, 42, 21, 8, 21, 9, 43, 28, 29, 6, 21, 7, 104, 96, 5, 96, 184, 1, 210, 182, 2, 50]
abbrev dktX0_came_2 : List UInt8 := dkwX0_came_2 ++ dktX0_came_3
def dkwX0_came_1 : List UInt8 := [21, 7, 104, 96, 184, 1, 210, 54, 8, 43, 28, 29, 6, 21, 7, 104, 96, 4, 96, 184, 1, 210, 54, 9]
abbrev dktX0_came_1 : List UInt8 := dkwX0_came_1 ++ dktX0_came_2
def dkwX0_came_0 : List UInt8 := [43, 28, 184, 1, 206, 54, 5, 3, 54, 6, 3, 54, 7, 21, 7, 21, 4, 162, 0, 71, 43, 28, 29, 6]
abbrev dktX0_came_0 : List UInt8 := dkwX0_came_0 ++ dktX0_came_1
theorem dksX0_came_0 : cX0_came.data.toList.drop 0 = dktX0_came_0 := by decide +kernel
theorem dksX0_came_1 : cX0_came.data.toList.drop 24 = dktX0_came_1 := dk_seg dksX0_came_0 24 rfl rfl
theorem dksX0_came_2 : cX0_came.data.toList.drop 48 = dktX0_came_2 := dk_seg dksX0_came_1 24 rfl rfl
theorem dksX0_came_3 : cX0_came.data.toList.drop 71 = dktX0_came_3 := dk_seg dksX0_came_2 23 rfl rfl
theorem dX0_came_0 : decode cX0_came 0 = .ok (.aload_n 1, 1) := dk_43 (dk_at dksX0_came_0 0 rfl rfl)
theorem dX0_came_1 : decode cX0_came 1 = .ok (.iload_n 2, 1) := dk_28 (dk_at dksX0_came_0 1 rfl rfl)
theorem dX0_came_2 : decode cX0_came 2 = .ok (.invokestatic 462, 3) := dk_184 1 206 (dk_at dksX0_came_0 2 rfl rfl)
theorem dX0_came_5 : decode cX0_came 5 = .ok (.istore 5, 2) := dk_54 5 (dk_at dksX0_came_0 5 rfl rfl)
theorem dX0_came_7 : decode cX0_came 7 = .ok (.iconst 0, 1) := dk_3 (dk_at dksX0_came_0 7 rfl rfl)
theorem dX0_came_8 : decode cX0_came 8 = .ok (.istore 6, 2) := dk_54 6 (dk_at dksX0_came_0 8 rfl rfl)
theorem dX0_came_10 : decode cX0_came 10 = .ok (.iconst 0, 1) := dk_3 (dk_at dksX0_came_0 10 rfl rfl)
theorem dX0_came_11 : decode cX0_came 11 = .ok (.istore 7, 2) := dk_54 7 (dk_at dksX0_came_0 11 rfl rfl)
theorem dX0_came_13 : decode cX0_came 13 = .ok (.iload 7, 2) := dk_21 7 (dk_at dksX0_came_0 13 rfl rfl)
theorem dX0_came_15 : decode cX0_came 15 = .ok (.iload 4, 2) := dk_21 4 (dk_at dksX0_came_0 15 rfl rfl)
theorem dX0_came_17 : decode cX0_came 17 = .ok (.if_icmp .ge 71, 3) := dk_162 0 71 (dk_at dksX0_came_0 17 rfl rfl)
theorem dX0_came_20 : decode cX0_came 20 = .ok (.aload_n 1, 1) := dk_43 (dk_at dksX0_came_0 20 rfl rfl)
theorem dX0_came_21 : decode cX0_came 21 = .ok (.iload_n 2, 1) := dk_28 (dk_at dksX0_came_0 21 rfl rfl)
theorem dX0_came_22 : decode cX0_came 22 = .ok (.iload_n 3, 1) := dk_29 (dk_at dksX0_came_0 22 rfl rfl)
theorem dX0_came_23 : decode cX0_came 23 = .ok (.iconst 3, 1) := dk_6 (dk_at dksX0_came_0 23 rfl rfl)
theorem dX0_came_24 : decode cX0_came 24 = .ok (.iload 7, 2) := dk_21 7 (dk_at dksX0_came_1 0 rfl rfl)
theorem dX0_came_26 : decode cX0_came 26 = .ok (.imul, 1) := dk_104 (dk_at dksX0_came_1 2 rfl rfl)
theorem dX0_came_27 : decode cX0_came 27 = .ok (.iadd, 1) := dk_96 (dk_at dksX0_came_1 3 rfl rfl)
theorem dX0_came_28 : decode cX0_came 28 = .ok (.invokestatic 466, 3) := dk_184 1 210 (dk_at dksX0_came_1 4 rfl rfl)
theorem dX0_came_31 : decode cX0_came 31 = .ok (.istore 8, 2) := dk_54 8 (dk_at dksX0_came_1 7 rfl rfl)
theorem dX0_came_33 : decode cX0_came 33 = .ok (.aload_n 1, 1) := dk_43 (dk_at dksX0_came_1 9 rfl rfl)
theorem dX0_came_34 : decode cX0_came 34 = .ok (.iload_n 2, 1) := dk_28 (dk_at dksX0_came_1 10 rfl rfl)
theorem dX0_came_35 : decode cX0_came 35 = .ok (.iload_n 3, 1) := dk_29 (dk_at dksX0_came_1 11 rfl rfl)
theorem dX0_came_36 : decode cX0_came 36 = .ok (.iconst 3, 1) := dk_6 (dk_at dksX0_came_1 12 rfl rfl)
theorem dX0_came_37 : decode cX0_came 37 = .ok (.iload 7, 2) := dk_21 7 (dk_at dksX0_came_1 13 rfl rfl)
theorem dX0_came_39 : decode cX0_came 39 = .ok (.imul, 1) := dk_104 (dk_at dksX0_came_1 15 rfl rfl)
theorem dX0_came_40 : decode cX0_came 40 = .ok (.iadd, 1) := dk_96 (dk_at dksX0_came_1 16 rfl rfl)
theorem dX0_came_41 : decode cX0_came 41 = .ok (.iconst 1, 1) := dk_4 (dk_at dksX0_came_1 17 rfl rfl)
theorem dX0_came_42 : decode cX0_came 42 = .ok (.iadd, 1) := dk_96 (dk_at dksX0_came_1 18 rfl rfl)
theorem dX0_came_43 : decode cX0_came 43 = .ok (.invokestatic 466, 3) := dk_184 1 210 (dk_at dksX0_came_1 19 rfl rfl)
theorem dX0_came_46 : decode cX0_came 46 = .ok (.istore 9, 2) := dk_54 9 (dk_at dksX0_came_1 22 rfl rfl)
theorem dX0_came_48 : decode cX0_came 48 = .ok (.iload 6, 2) := dk_21 6 (dk_at dksX0_came_2 0 rfl rfl)
theorem dX0_came_50 : decode cX0_came 50 = .ok (.aload_n 0, 1) := dk_42 (dk_at dksX0_came_2 2 rfl rfl)
theorem dX0_came_51 : decode cX0_came 51 = .ok (.iload 8, 2) := dk_21 8 (dk_at dksX0_came_2 3 rfl rfl)
theorem dX0_came_53 : decode cX0_came 53 = .ok (.iload 9, 2) := dk_21 9 (dk_at dksX0_came_2 5 rfl rfl)
theorem dX0_came_55 : decode cX0_came 55 = .ok (.aload_n 1, 1) := dk_43 (dk_at dksX0_came_2 7 rfl rfl)
theorem dX0_came_56 : decode cX0_came 56 = .ok (.iload_n 2, 1) := dk_28 (dk_at dksX0_came_2 8 rfl rfl)
theorem dX0_came_57 : decode cX0_came 57 = .ok (.iload_n 3, 1) := dk_29 (dk_at dksX0_came_2 9 rfl rfl)
theorem dX0_came_58 : decode cX0_came 58 = .ok (.iconst 3, 1) := dk_6 (dk_at dksX0_came_2 10 rfl rfl)
theorem dX0_came_59 : decode cX0_came 59 = .ok (.iload 7, 2) := dk_21 7 (dk_at dksX0_came_2 11 rfl rfl)
theorem dX0_came_61 : decode cX0_came 61 = .ok (.imul, 1) := dk_104 (dk_at dksX0_came_2 13 rfl rfl)
theorem dX0_came_62 : decode cX0_came 62 = .ok (.iadd, 1) := dk_96 (dk_at dksX0_came_2 14 rfl rfl)
theorem dX0_came_63 : decode cX0_came 63 = .ok (.iconst 2, 1) := dk_5 (dk_at dksX0_came_2 15 rfl rfl)
theorem dX0_came_64 : decode cX0_came 64 = .ok (.iadd, 1) := dk_96 (dk_at dksX0_came_2 16 rfl rfl)
theorem dX0_came_65 : decode cX0_came 65 = .ok (.invokestatic 466, 3) := dk_184 1 210 (dk_at dksX0_came_2 17 rfl rfl)
theorem dX0_came_68 : decode cX0_came 68 = .ok (.invokevirtual 562, 3) := dk_182 2 50 (dk_at dksX0_came_2 20 rfl rfl)
theorem dX0_came_71 : decode cX0_came 71 = .ok (.ifCond .lt 7, 3) := dk_155 0 7 (dk_at dksX0_came_3 0 rfl rfl)
theorem dX0_came_74 : decode cX0_came 74 = .ok (.iconst 1, 1) := dk_4 (dk_at dksX0_came_3 3 rfl rfl)
theorem dX0_came_75 : decode cX0_came 75 = .ok (.goto 4, 3) := dk_167 0 4 (dk_at dksX0_came_3 4 rfl rfl)
theorem dX0_came_78 : decode cX0_came 78 = .ok (.iconst 0, 1) := dk_3 (dk_at dksX0_came_3 7 rfl rfl)
theorem dX0_came_79 : decode cX0_came 79 = .ok (.iadd, 1) := dk_96 (dk_at dksX0_came_3 8 rfl rfl)
theorem dX0_came_80 : decode cX0_came 80 = .ok (.istore 6, 2) := dk_54 6 (dk_at dksX0_came_3 9 rfl rfl)
theorem dX0_came_82 : decode cX0_came 82 = .ok (.iinc 7 1, 3) := dk_132 7 1 (dk_at dksX0_came_3 11 rfl rfl)
theorem dX0_came_85 : decode cX0_came 85 = .ok (.goto (-72), 3) := dk_167 255 184 (dk_at dksX0_came_3 14 rfl rfl)
theorem dX0_came_88 : decode cX0_came 88 = .ok (.iload 6, 2) := dk_21 6 (dk_at dksX0_came_3 17 rfl rfl)
theorem dX0_came_90 : decode cX0_came 90 = .ok (.ireturn, 1) := dk_172 (dk_at dksX0_came_3 19 rfl rfl)
abbrev cX0_taken : ByteArray := prog_1_method_100_code
def yX0_taken : MethodName := ⟨RX0, "taken", "(II)I"⟩
def dkwX0_taken_2 : List UInt8 := [172]
abbrev dktX0_taken_2 : List UInt8 := dkwX0_taken_2 ++ []
def dkwX0_taken_1 : List UInt8 := [180, 0, 47, 27, 50, 167, 0, 4, 1, 28, 184, 2, 59, 180, 0, 72, 172, 78, 16, 245, 172, 78, 16, 243]
abbrev dktX0_taken_1 : List UInt8 := dkwX0_taken_1 ++ dktX0_taken_2
def dkwX0_taken_0 : List UInt8 := [28, 133, 9, 20, 0, 43, 184, 0, 16, 154, 0, 6, 16, 254, 172, 42, 27, 182, 0, 59, 153, 0, 12, 42]
abbrev dktX0_taken_0 : List UInt8 := dkwX0_taken_0 ++ dktX0_taken_1
theorem dksX0_taken_0 : cX0_taken.data.toList.drop 0 = dktX0_taken_0 := by decide +kernel
theorem dksX0_taken_1 : cX0_taken.data.toList.drop 24 = dktX0_taken_1 := dk_seg dksX0_taken_0 24 rfl rfl
theorem dksX0_taken_2 : cX0_taken.data.toList.drop 48 = dktX0_taken_2 := dk_seg dksX0_taken_1 24 rfl rfl
theorem dX0_taken_0 : decode cX0_taken 0 = .ok (.iload_n 2, 1) := dk_28 (dk_at dksX0_taken_0 0 rfl rfl)
theorem dX0_taken_1 : decode cX0_taken 1 = .ok (.i2l, 1) := dk_133 (dk_at dksX0_taken_0 1 rfl rfl)
theorem dX0_taken_2 : decode cX0_taken 2 = .ok (.lconst 0, 1) := dk_9 (dk_at dksX0_taken_0 2 rfl rfl)
theorem dX0_taken_3 : decode cX0_taken 3 = .ok (.ldc2_w 43, 3) := dk_20 0 43 (dk_at dksX0_taken_0 3 rfl rfl)
theorem dX0_taken_6 : decode cX0_taken 6 = .ok (.invokestatic 16, 3) := dk_184 0 16 (dk_at dksX0_taken_0 6 rfl rfl)
theorem dX0_taken_9 : decode cX0_taken 9 = .ok (.ifCond .ne 6, 3) := dk_154 0 6 (dk_at dksX0_taken_0 9 rfl rfl)
theorem dX0_taken_12 : decode cX0_taken 12 = .ok (.bipush (-2), 2) := dk_16 254 (dk_at dksX0_taken_0 12 rfl rfl)
theorem dX0_taken_14 : decode cX0_taken 14 = .ok (.ireturn, 1) := dk_172 (dk_at dksX0_taken_0 14 rfl rfl)
theorem dX0_taken_15 : decode cX0_taken 15 = .ok (.aload_n 0, 1) := dk_42 (dk_at dksX0_taken_0 15 rfl rfl)
theorem dX0_taken_16 : decode cX0_taken 16 = .ok (.iload_n 1, 1) := dk_27 (dk_at dksX0_taken_0 16 rfl rfl)
theorem dX0_taken_17 : decode cX0_taken 17 = .ok (.invokevirtual 59, 3) := dk_182 0 59 (dk_at dksX0_taken_0 17 rfl rfl)
theorem dX0_taken_20 : decode cX0_taken 20 = .ok (.ifCond .eq 12, 3) := dk_153 0 12 (dk_at dksX0_taken_0 20 rfl rfl)
theorem dX0_taken_23 : decode cX0_taken 23 = .ok (.aload_n 0, 1) := dk_42 (dk_at dksX0_taken_0 23 rfl rfl)
theorem dX0_taken_24 : decode cX0_taken 24 = .ok (.getfield 47, 3) := dk_180 0 47 (dk_at dksX0_taken_1 0 rfl rfl)
theorem dX0_taken_27 : decode cX0_taken 27 = .ok (.iload_n 1, 1) := dk_27 (dk_at dksX0_taken_1 3 rfl rfl)
theorem dX0_taken_28 : decode cX0_taken 28 = .ok (.aaload, 1) := dk_50 (dk_at dksX0_taken_1 4 rfl rfl)
theorem dX0_taken_29 : decode cX0_taken 29 = .ok (.goto 4, 3) := dk_167 0 4 (dk_at dksX0_taken_1 5 rfl rfl)
theorem dX0_taken_32 : decode cX0_taken 32 = .ok (.aconst_null, 1) := dk_1 (dk_at dksX0_taken_1 8 rfl rfl)
theorem dX0_taken_33 : decode cX0_taken 33 = .ok (.iload_n 2, 1) := dk_28 (dk_at dksX0_taken_1 9 rfl rfl)
theorem dX0_taken_34 : decode cX0_taken 34 = .ok (.invokestatic 571, 3) := dk_184 2 59 (dk_at dksX0_taken_1 10 rfl rfl)
theorem dX0_taken_37 : decode cX0_taken 37 = .ok (.getfield 72, 3) := dk_180 0 72 (dk_at dksX0_taken_1 13 rfl rfl)
theorem dX0_taken_40 : decode cX0_taken 40 = .ok (.ireturn, 1) := dk_172 (dk_at dksX0_taken_1 16 rfl rfl)
theorem dX0_taken_41 : decode cX0_taken 41 = .ok (.astore_n 3, 1) := dk_78 (dk_at dksX0_taken_1 17 rfl rfl)
theorem dX0_taken_42 : decode cX0_taken 42 = .ok (.bipush (-11), 2) := dk_16 245 (dk_at dksX0_taken_1 18 rfl rfl)
theorem dX0_taken_44 : decode cX0_taken 44 = .ok (.ireturn, 1) := dk_172 (dk_at dksX0_taken_1 20 rfl rfl)
theorem dX0_taken_45 : decode cX0_taken 45 = .ok (.astore_n 3, 1) := dk_78 (dk_at dksX0_taken_1 21 rfl rfl)
theorem dX0_taken_46 : decode cX0_taken 46 = .ok (.bipush (-13), 2) := dk_16 243 (dk_at dksX0_taken_1 22 rfl rfl)
theorem dX0_taken_48 : decode cX0_taken 48 = .ok (.ireturn, 1) := dk_172 (dk_at dksX0_taken_2 0 rfl rfl)
abbrev cX0_as : ByteArray := prog_1_method_99_code
def yX0_as : MethodName := ⟨RX0, "as", "(LNobodyCanLiftIt$Man;I)LNobodyCanLiftIt$Man;"⟩
def dkwX0_as_3 : List UInt8 := [176, 42, 176]
abbrev dktX0_as_3 : List UInt8 := dkwX0_as_3 ++ []
def dkwX0_as_2 : List UInt8 := [42, 192, 0, 22, 176, 42, 192, 0, 28, 176, 42, 192, 0, 31, 176, 42, 192, 0, 34, 176, 42, 192, 0, 37]
abbrev dktX0_as_2 : List UInt8 := dkwX0_as_2 ++ dktX0_as_3
def dkwX0_as_1 : List UInt8 := [170, 0, 0, 0, 0, 0, 60, 0, 0, 0, 1, 0, 0, 0, 5, 0, 0, 0, 35, 0, 0, 0, 40, 0, 0, 0, 45, 0, 0, 0, 50, 0, 0, 0, 55]
abbrev dktX0_as_1 : List UInt8 := dkwX0_as_1 ++ dktX0_as_2
def dkwX0_as_0 : List UInt8 := [27]
abbrev dktX0_as_0 : List UInt8 := dkwX0_as_0 ++ dktX0_as_1
theorem dksX0_as_0 : cX0_as.data.toList.drop 0 = dktX0_as_0 := by decide +kernel
theorem dksX0_as_1 : cX0_as.data.toList.drop 1 = dktX0_as_1 := dk_seg dksX0_as_0 1 rfl rfl
theorem dksX0_as_2 : cX0_as.data.toList.drop 36 = dktX0_as_2 := dk_seg dksX0_as_1 35 rfl rfl
theorem dksX0_as_3 : cX0_as.data.toList.drop 60 = dktX0_as_3 := dk_seg dksX0_as_2 24 rfl rfl
theorem dX0_as_0 : decode cX0_as 0 = .ok (.iload_n 1, 1) := dk_27 (dk_at dksX0_as_0 0 rfl rfl)
theorem dX0_as_1 : decode cX0_as 1 = .ok (.tableswitch 60 1 5 #[35, 40, 45, 50, 55], 35) := by decide +kernel
theorem dX0_as_36 : decode cX0_as 36 = .ok (.aload_n 0, 1) := dk_42 (dk_at dksX0_as_2 0 rfl rfl)
theorem dX0_as_37 : decode cX0_as 37 = .ok (.checkcast 22, 3) := dk_192 0 22 (dk_at dksX0_as_2 1 rfl rfl)
theorem dX0_as_40 : decode cX0_as 40 = .ok (.areturn, 1) := dk_176 (dk_at dksX0_as_2 4 rfl rfl)
theorem dX0_as_41 : decode cX0_as 41 = .ok (.aload_n 0, 1) := dk_42 (dk_at dksX0_as_2 5 rfl rfl)
theorem dX0_as_42 : decode cX0_as 42 = .ok (.checkcast 28, 3) := dk_192 0 28 (dk_at dksX0_as_2 6 rfl rfl)
theorem dX0_as_45 : decode cX0_as 45 = .ok (.areturn, 1) := dk_176 (dk_at dksX0_as_2 9 rfl rfl)
theorem dX0_as_46 : decode cX0_as 46 = .ok (.aload_n 0, 1) := dk_42 (dk_at dksX0_as_2 10 rfl rfl)
theorem dX0_as_47 : decode cX0_as 47 = .ok (.checkcast 31, 3) := dk_192 0 31 (dk_at dksX0_as_2 11 rfl rfl)
theorem dX0_as_50 : decode cX0_as 50 = .ok (.areturn, 1) := dk_176 (dk_at dksX0_as_2 14 rfl rfl)
theorem dX0_as_51 : decode cX0_as 51 = .ok (.aload_n 0, 1) := dk_42 (dk_at dksX0_as_2 15 rfl rfl)
theorem dX0_as_52 : decode cX0_as 52 = .ok (.checkcast 34, 3) := dk_192 0 34 (dk_at dksX0_as_2 16 rfl rfl)
theorem dX0_as_55 : decode cX0_as 55 = .ok (.areturn, 1) := dk_176 (dk_at dksX0_as_2 19 rfl rfl)
theorem dX0_as_56 : decode cX0_as 56 = .ok (.aload_n 0, 1) := dk_42 (dk_at dksX0_as_2 20 rfl rfl)
theorem dX0_as_57 : decode cX0_as 57 = .ok (.checkcast 37, 3) := dk_192 0 37 (dk_at dksX0_as_2 21 rfl rfl)
theorem dX0_as_60 : decode cX0_as 60 = .ok (.areturn, 1) := dk_176 (dk_at dksX0_as_3 0 rfl rfl)
theorem dX0_as_61 : decode cX0_as 61 = .ok (.aload_n 0, 1) := dk_42 (dk_at dksX0_as_3 1 rfl rfl)
theorem dX0_as_62 : decode cX0_as 62 = .ok (.areturn, 1) := dk_176 (dk_at dksX0_as_3 2 rfl rfl)
theorem q129 : (Jvm.Cond.initialized "NobodyCanLiftIt") ∈ lw_all := lw_g (lw_at lw_m1 1 rfl) rfl
theorem q163 : (Jvm.Cond.instanceMethod ({ cls := "NobodyCanLiftIt", name := "person", desc := "(III)I" } : Jvm.MethodName)) ∈ lw_all := lw_g (lw_at lw_m1 35 rfl) rfl
theorem q164 : (Jvm.Cond.selects "NobodyCanLiftIt" ({ cls := "NobodyCanLiftIt", name := "person", desc := "(III)I" } : Jvm.MethodName) ({ cls := "NobodyCanLiftIt", name := "person", desc := "(III)I" } : Jvm.MethodName)) ∈ lw_all := lw_g (lw_at lw_m1 36 rfl) rfl
theorem q165 : (Jvm.Cond.code ({ cls := "NobodyCanLiftIt", name := "person", desc := "(III)I" } : Jvm.MethodName) prog_1_method_7_code (4 : Nat) (Option.some Jvm.ClassFile.FieldType.int)) ∈ lw_all := lw_g (lw_at lw_m1 37 rfl) rfl
theorem q166 : (Jvm.Cond.constantLong "NobodyCanLiftIt" (43 : Nat) (5 : Int64)) ∈ lw_all := lw_g (lw_at lw_m1 38 rfl) rfl
theorem q167 : (Jvm.Cond.methodLink "NobodyCanLiftIt" (16 : Nat) ({ cls := "NobodyCanLiftIt", name := "in", desc := "(JJJ)Z" } : Jvm.MethodName)) ∈ lw_all := lw_g (lw_at lw_m1 39 rfl) rfl
theorem q168 : (Jvm.Cond.static ({ cls := "NobodyCanLiftIt", name := "in", desc := "(JJJ)Z" } : Jvm.MethodName)) ∈ lw_all := lw_g (lw_at lw_m1 40 rfl) rfl
theorem q169 : (Jvm.Cond.code ({ cls := "NobodyCanLiftIt", name := "in", desc := "(JJJ)Z" } : Jvm.MethodName) prog_1_method_1_code (6 : Nat) (Option.some Jvm.ClassFile.FieldType.boolean)) ∈ lw_all := lw_g (lw_at lw_m1 41 rfl) rfl
theorem q170 : (Jvm.Cond.constantLong "NobodyCanLiftIt" (20 : Nat) (9 : Int64)) ∈ lw_all := lw_g (lw_at lw_m1 42 rfl) rfl
theorem q171 : (Jvm.Cond.constantLong "NobodyCanLiftIt" (45 : Nat) (999 : Int64)) ∈ lw_all := lw_g (lw_at lw_m1 43 rfl) rfl
theorem q172 : (Jvm.Cond.methodLink "NobodyCanLiftIt" (51 : Nat) ({ cls := "NobodyCanLiftIt", name := "made", desc := "(III)LNobodyCanLiftIt$Man;" } : Jvm.MethodName)) ∈ lw_all := lw_g (lw_at lw_m1 44 rfl) rfl
theorem q173 : (Jvm.Cond.static ({ cls := "NobodyCanLiftIt", name := "made", desc := "(III)LNobodyCanLiftIt$Man;" } : Jvm.MethodName)) ∈ lw_all := lw_g (lw_at lw_m1 45 rfl) rfl
theorem q174 : (Jvm.Cond.code ({ cls := "NobodyCanLiftIt", name := "made", desc := "(III)LNobodyCanLiftIt$Man;" } : Jvm.MethodName) prog_1_method_6_code (3 : Nat) (Option.some (Jvm.ClassFile.FieldType.object "NobodyCanLiftIt$Man"))) ∈ lw_all := lw_g (lw_at lw_m1 46 rfl) rfl
theorem q175 : (Jvm.Cond.classLink "NobodyCanLiftIt" (22 : Nat) "NobodyCanLiftIt$King") ∈ lw_all := lw_g (lw_at lw_m1 47 rfl) rfl
theorem q177 : (Jvm.Cond.methodLink "NobodyCanLiftIt" (24 : Nat) ({ cls := "NobodyCanLiftIt$King", name := "<init>", desc := "(II)V" } : Jvm.MethodName)) ∈ lw_all := lw_g (lw_at lw_m1 49 rfl) rfl
theorem q192 : (Jvm.Cond.fieldLink "NobodyCanLiftIt" (72 : Nat) "NobodyCanLiftIt$Man" "number" "I") ∈ lw_all := lw_g (lw_at lw_m1 64 rfl) rfl
theorem q197 : (Jvm.Cond.fieldLink "NobodyCanLiftIt" (75 : Nat) "NobodyCanLiftIt$Man" "age" "I") ∈ lw_all := lw_g (lw_at lw_m1 69 rfl) rfl
theorem q204 : (Jvm.Cond.fieldLink "NobodyCanLiftIt" (78 : Nat) "NobodyCanLiftIt$Man" "ease" "I") ∈ lw_all := lw_g (lw_at lw_m1 76 rfl) rfl
theorem q206 : (Jvm.Cond.fieldLink "NobodyCanLiftIt" (81 : Nat) "NobodyCanLiftIt$Man" "here" "Z") ∈ lw_all := lw_g (lw_at lw_m1 78 rfl) rfl
theorem q216 : (Jvm.Cond.classLink "NobodyCanLiftIt" (28 : Nat) "NobodyCanLiftIt$Child") ∈ lw_all := lw_g (lw_at lw_m1 88 rfl) rfl
theorem q218 : (Jvm.Cond.methodLink "NobodyCanLiftIt" (30 : Nat) ({ cls := "NobodyCanLiftIt$Child", name := "<init>", desc := "(II)V" } : Jvm.MethodName)) ∈ lw_all := lw_g (lw_at lw_m1 90 rfl) rfl
theorem q227 : (Jvm.Cond.classLink "NobodyCanLiftIt" (31 : Nat) "NobodyCanLiftIt$Queen") ∈ lw_all := lw_g (lw_at lw_m1 99 rfl) rfl
theorem q229 : (Jvm.Cond.methodLink "NobodyCanLiftIt" (33 : Nat) ({ cls := "NobodyCanLiftIt$Queen", name := "<init>", desc := "(II)V" } : Jvm.MethodName)) ∈ lw_all := lw_g (lw_at lw_m1 101 rfl) rfl
theorem q238 : (Jvm.Cond.classLink "NobodyCanLiftIt" (34 : Nat) "NobodyCanLiftIt$Knitter") ∈ lw_all := lw_g (lw_at lw_m1 110 rfl) rfl
theorem q240 : (Jvm.Cond.methodLink "NobodyCanLiftIt" (36 : Nat) ({ cls := "NobodyCanLiftIt$Knitter", name := "<init>", desc := "(II)V" } : Jvm.MethodName)) ∈ lw_all := lw_g (lw_at lw_m1 112 rfl) rfl
theorem q249 : (Jvm.Cond.classLink "NobodyCanLiftIt" (37 : Nat) "NobodyCanLiftIt$Engineer") ∈ lw_all := lw_g (lw_at lw_m1 121 rfl) rfl
theorem q251 : (Jvm.Cond.methodLink "NobodyCanLiftIt" (39 : Nat) ({ cls := "NobodyCanLiftIt$Engineer", name := "<init>", desc := "(II)V" } : Jvm.MethodName)) ∈ lw_all := lw_g (lw_at lw_m1 123 rfl) rfl
theorem q260 : (Jvm.Cond.classLink "NobodyCanLiftIt" (40 : Nat) "NobodyCanLiftIt$Man") ∈ lw_all := lw_g (lw_at lw_m1 132 rfl) rfl
theorem q262 : (Jvm.Cond.methodLink "NobodyCanLiftIt" (42 : Nat) ({ cls := "NobodyCanLiftIt$Man", name := "<init>", desc := "(II)V" } : Jvm.MethodName)) ∈ lw_all := lw_g (lw_at lw_m1 134 rfl) rfl
theorem q269 : (Jvm.Cond.instanceMethod ({ cls := "NobodyCanLiftIt", name := "set", desc := "(III)I" } : Jvm.MethodName)) ∈ lw_all := lw_g (lw_at lw_m1 141 rfl) rfl
theorem q270 : (Jvm.Cond.selects "NobodyCanLiftIt" ({ cls := "NobodyCanLiftIt", name := "set", desc := "(III)I" } : Jvm.MethodName) ({ cls := "NobodyCanLiftIt", name := "set", desc := "(III)I" } : Jvm.MethodName)) ∈ lw_all := lw_g (lw_at lw_m1 142 rfl) rfl
theorem q271 : (Jvm.Cond.code ({ cls := "NobodyCanLiftIt", name := "set", desc := "(III)I" } : Jvm.MethodName) prog_1_method_12_code (5 : Nat) (Option.some Jvm.ClassFile.FieldType.int)) ∈ lw_all := lw_g (lw_at lw_m1 143 rfl) rfl
theorem q272 : (Jvm.Cond.constantLong "NobodyCanLiftIt" (85 : Nat) (6 : Int64)) ∈ lw_all := lw_g (lw_at lw_m1 144 rfl) rfl
theorem q273 : (Jvm.Cond.methodLink "NobodyCanLiftIt" (87 : Nat) ({ cls := "NobodyCanLiftIt", name := "isThere", desc := "(II)Z" } : Jvm.MethodName)) ∈ lw_all := lw_g (lw_at lw_m1 145 rfl) rfl
theorem q274 : (Jvm.Cond.privateMethod ({ cls := "NobodyCanLiftIt", name := "isThere", desc := "(II)Z" } : Jvm.MethodName)) ∈ lw_tbl := lw_at lw_m1 146 rfl
theorem q275 : (Jvm.Cond.instanceMethod ({ cls := "NobodyCanLiftIt", name := "isThere", desc := "(II)Z" } : Jvm.MethodName)) ∈ lw_all := lw_g (lw_at lw_m1 147 rfl) rfl
theorem q276 : (Jvm.Cond.instantiable "NobodyCanLiftIt" (32 : Nat)) ∈ lw_all := lw_g (lw_at lw_m1 148 rfl) rfl
theorem q277 : (Jvm.Cond.code ({ cls := "NobodyCanLiftIt", name := "isThere", desc := "(II)Z" } : Jvm.MethodName) prog_1_method_8_code (3 : Nat) (Option.some Jvm.ClassFile.FieldType.boolean)) ∈ lw_all := lw_g (lw_at lw_m1 149 rfl) rfl
theorem q278 : (Jvm.Cond.methodLink "NobodyCanLiftIt" (55 : Nat) ({ cls := "NobodyCanLiftIt", name := "isFloor", desc := "(I)Z" } : Jvm.MethodName)) ∈ lw_all := lw_g (lw_at lw_m1 150 rfl) rfl
theorem q279 : (Jvm.Cond.static ({ cls := "NobodyCanLiftIt", name := "isFloor", desc := "(I)Z" } : Jvm.MethodName)) ∈ lw_all := lw_g (lw_at lw_m1 151 rfl) rfl
theorem q280 : (Jvm.Cond.code ({ cls := "NobodyCanLiftIt", name := "isFloor", desc := "(I)Z" } : Jvm.MethodName) prog_1_method_5_code (1 : Nat) (Option.some Jvm.ClassFile.FieldType.boolean)) ∈ lw_all := lw_g (lw_at lw_m1 152 rfl) rfl
theorem q281 : (Jvm.Cond.methodLink "NobodyCanLiftIt" (59 : Nat) ({ cls := "NobodyCanLiftIt", name := "isOne", desc := "(I)Z" } : Jvm.MethodName)) ∈ lw_all := lw_g (lw_at lw_m1 153 rfl) rfl
theorem q282 : (Jvm.Cond.privateMethod ({ cls := "NobodyCanLiftIt", name := "isOne", desc := "(I)Z" } : Jvm.MethodName)) ∈ lw_tbl := lw_at lw_m1 154 rfl
theorem q283 : (Jvm.Cond.instanceMethod ({ cls := "NobodyCanLiftIt", name := "isOne", desc := "(I)Z" } : Jvm.MethodName)) ∈ lw_all := lw_g (lw_at lw_m1 155 rfl) rfl
theorem q284 : (Jvm.Cond.code ({ cls := "NobodyCanLiftIt", name := "isOne", desc := "(I)Z" } : Jvm.MethodName) prog_1_method_4_code (2 : Nat) (Option.some Jvm.ClassFile.FieldType.boolean)) ∈ lw_all := lw_g (lw_at lw_m1 156 rfl) rfl
theorem q285 : (Jvm.Cond.methodLink "NobodyCanLiftIt" (91 : Nat) ({ cls := "NobodyCanLiftIt", name := "mostOf", desc := "(I)I" } : Jvm.MethodName)) ∈ lw_all := lw_g (lw_at lw_m1 157 rfl) rfl
theorem q286 : (Jvm.Cond.static ({ cls := "NobodyCanLiftIt", name := "mostOf", desc := "(I)I" } : Jvm.MethodName)) ∈ lw_all := lw_g (lw_at lw_m1 158 rfl) rfl
theorem q287 : (Jvm.Cond.code ({ cls := "NobodyCanLiftIt", name := "mostOf", desc := "(I)I" } : Jvm.MethodName) prog_1_method_9_code (1 : Nat) (Option.some Jvm.ClassFile.FieldType.int)) ∈ lw_all := lw_g (lw_at lw_m1 159 rfl) rfl
theorem q288 : (Jvm.Cond.methodLink "NobodyCanLiftIt" (95 : Nat) ({ cls := "NobodyCanLiftIt", name := "heldBy", desc := "(II)I" } : Jvm.MethodName)) ∈ lw_all := lw_g (lw_at lw_m1 160 rfl) rfl
theorem q289 : (Jvm.Cond.privateMethod ({ cls := "NobodyCanLiftIt", name := "heldBy", desc := "(II)I" } : Jvm.MethodName)) ∈ lw_tbl := lw_at lw_m1 161 rfl
theorem q290 : (Jvm.Cond.instanceMethod ({ cls := "NobodyCanLiftIt", name := "heldBy", desc := "(II)I" } : Jvm.MethodName)) ∈ lw_all := lw_g (lw_at lw_m1 162 rfl) rfl
theorem q291 : (Jvm.Cond.code ({ cls := "NobodyCanLiftIt", name := "heldBy", desc := "(II)I" } : Jvm.MethodName) prog_1_method_10_code (3 : Nat) (Option.some Jvm.ClassFile.FieldType.int)) ∈ lw_all := lw_g (lw_at lw_m1 163 rfl) rfl
theorem q292 : (Jvm.Cond.methodLink "NobodyCanLiftIt" (98 : Nat) ({ cls := "NobodyCanLiftIt", name := "becomes", desc := "(III)V" } : Jvm.MethodName)) ∈ lw_all := lw_g (lw_at lw_m1 164 rfl) rfl
theorem q293 : (Jvm.Cond.privateMethod ({ cls := "NobodyCanLiftIt", name := "becomes", desc := "(III)V" } : Jvm.MethodName)) ∈ lw_tbl := lw_at lw_m1 165 rfl
theorem q294 : (Jvm.Cond.instanceMethod ({ cls := "NobodyCanLiftIt", name := "becomes", desc := "(III)V" } : Jvm.MethodName)) ∈ lw_all := lw_g (lw_at lw_m1 166 rfl) rfl
theorem q295 : (Jvm.Cond.code ({ cls := "NobodyCanLiftIt", name := "becomes", desc := "(III)V" } : Jvm.MethodName) prog_1_method_11_code (4 : Nat) (Option.none : Option Jvm.ClassFile.FieldType)) ∈ lw_all := lw_g (lw_at lw_m1 167 rfl) rfl
theorem q297 : (Jvm.Cond.instanceMethod ({ cls := "NobodyCanLiftIt", name := "told", desc := "(II)I" } : Jvm.MethodName)) ∈ lw_all := lw_g (lw_at lw_m1 169 rfl) rfl
theorem q298 : (Jvm.Cond.selects "NobodyCanLiftIt" ({ cls := "NobodyCanLiftIt", name := "told", desc := "(II)I" } : Jvm.MethodName) ({ cls := "NobodyCanLiftIt", name := "told", desc := "(II)I" } : Jvm.MethodName)) ∈ lw_all := lw_g (lw_at lw_m1 170 rfl) rfl
theorem q299 : (Jvm.Cond.code ({ cls := "NobodyCanLiftIt", name := "told", desc := "(II)I" } : Jvm.MethodName) prog_1_method_13_code (3 : Nat) (Option.some Jvm.ClassFile.FieldType.int)) ∈ lw_all := lw_g (lw_at lw_m1 171 rfl) rfl
theorem q300 : (Jvm.Cond.constantLong "NobodyCanLiftIt" (102 : Nat) (7 : Int64)) ∈ lw_all := lw_g (lw_at lw_m1 172 rfl) rfl
theorem q301 : (Jvm.Cond.constantLong "NobodyCanLiftIt" (104 : Nat) (10 : Int64)) ∈ lw_all := lw_g (lw_at lw_m1 173 rfl) rfl
theorem q302 : (Jvm.Cond.methodLink "NobodyCanLiftIt" (106 : Nat) ({ cls := "NobodyCanLiftIt$Man", name := "kind", desc := "()I" } : Jvm.MethodName)) ∈ lw_all := lw_g (lw_at lw_m1 174 rfl) rfl
theorem q327 : (Jvm.Cond.methodLink "NobodyCanLiftIt" (110 : Nat) ({ cls := "NobodyCanLiftIt", name := "strongOf", desc := "(I)I" } : Jvm.MethodName)) ∈ lw_all := lw_g (lw_at lw_m1 199 rfl) rfl
theorem q328 : (Jvm.Cond.privateMethod ({ cls := "NobodyCanLiftIt", name := "strongOf", desc := "(I)I" } : Jvm.MethodName)) ∈ lw_tbl := lw_at lw_m1 200 rfl
theorem q329 : (Jvm.Cond.instanceMethod ({ cls := "NobodyCanLiftIt", name := "strongOf", desc := "(I)I" } : Jvm.MethodName)) ∈ lw_all := lw_g (lw_at lw_m1 201 rfl) rfl
theorem q330 : (Jvm.Cond.code ({ cls := "NobodyCanLiftIt", name := "strongOf", desc := "(I)I" } : Jvm.MethodName) prog_1_method_43_code (2 : Nat) (Option.some Jvm.ClassFile.FieldType.int)) ∈ lw_all := lw_g (lw_at lw_m1 202 rfl) rfl
theorem q331 : (Jvm.Cond.methodLink "NobodyCanLiftIt" (352 : Nat) ({ cls := "NobodyCanLiftIt", name := "says", desc := "(II)I" } : Jvm.MethodName)) ∈ lw_all := lw_g (lw_at lw_m1 203 rfl) rfl
theorem q332 : (Jvm.Cond.privateMethod ({ cls := "NobodyCanLiftIt", name := "says", desc := "(II)I" } : Jvm.MethodName)) ∈ lw_tbl := lw_at lw_m1 204 rfl
theorem q333 : (Jvm.Cond.instanceMethod ({ cls := "NobodyCanLiftIt", name := "says", desc := "(II)I" } : Jvm.MethodName)) ∈ lw_all := lw_g (lw_at lw_m1 205 rfl) rfl
theorem q334 : (Jvm.Cond.code ({ cls := "NobodyCanLiftIt", name := "says", desc := "(II)I" } : Jvm.MethodName) prog_1_method_39_code (3 : Nat) (Option.some Jvm.ClassFile.FieldType.int)) ∈ lw_all := lw_g (lw_at lw_m1 206 rfl) rfl
theorem q335 : (Jvm.Cond.methodLink "NobodyCanLiftIt" (345 : Nat) ({ cls := "NobodyCanLiftIt$Node", name := "worth", desc := "()I" } : Jvm.MethodName)) ∈ lw_all := lw_g (lw_at lw_m1 207 rfl) rfl
theorem q342 : (Jvm.Cond.privateMethod ({ cls := "NobodyCanLiftIt", name := "others", desc := "(I)I" } : Jvm.MethodName)) ∈ lw_tbl := lw_at lw_m1 214 rfl
theorem q343 : (Jvm.Cond.instanceMethod ({ cls := "NobodyCanLiftIt", name := "others", desc := "(I)I" } : Jvm.MethodName)) ∈ lw_all := lw_g (lw_at lw_m1 215 rfl) rfl
theorem q344 : (Jvm.Cond.code ({ cls := "NobodyCanLiftIt", name := "others", desc := "(I)I" } : Jvm.MethodName) prog_1_method_38_code (4 : Nat) (Option.some Jvm.ClassFile.FieldType.int)) ∈ lw_all := lw_g (lw_at lw_m1 216 rfl) rfl
theorem q356 : (Jvm.Cond.methodLink "NobodyCanLiftIt" (348 : Nat) ({ cls := "NobodyCanLiftIt", name := "held", desc := "(III)I" } : Jvm.MethodName)) ∈ lw_all := lw_g (lw_at lw_m1 228 rfl) rfl
theorem q357 : (Jvm.Cond.static ({ cls := "NobodyCanLiftIt", name := "held", desc := "(III)I" } : Jvm.MethodName)) ∈ lw_all := lw_g (lw_at lw_m1 229 rfl) rfl
theorem q358 : (Jvm.Cond.code ({ cls := "NobodyCanLiftIt", name := "held", desc := "(III)I" } : Jvm.MethodName) prog_1_method_2_code (3 : Nat) (Option.some Jvm.ClassFile.FieldType.int)) ∈ lw_all := lw_g (lw_at lw_m1 230 rfl) rfl
theorem q359 : (Jvm.Cond.methodLink "NobodyCanLiftIt" (1 : Nat) ({ cls := "java/lang/Math", name := "min", desc := "(II)I" } : Jvm.MethodName)) ∈ lw_all := lw_g (lw_at lw_m1 231 rfl) rfl
theorem q362 : (Jvm.Cond.methodLink "NobodyCanLiftIt" (7 : Nat) ({ cls := "java/lang/Math", name := "max", desc := "(II)I" } : Jvm.MethodName)) ∈ lw_all := lw_g (lw_at lw_m1 234 rfl) rfl
theorem q365 : (Jvm.Cond.methodLink "NobodyCanLiftIt" (369 : Nat) ({ cls := "NobodyCanLiftIt", name := "loadNow", desc := "()I" } : Jvm.MethodName)) ∈ lw_all := lw_g (lw_at lw_m1 237 rfl) rfl
theorem q366 : (Jvm.Cond.privateMethod ({ cls := "NobodyCanLiftIt", name := "loadNow", desc := "()I" } : Jvm.MethodName)) ∈ lw_tbl := lw_at lw_m1 238 rfl
theorem q367 : (Jvm.Cond.instanceMethod ({ cls := "NobodyCanLiftIt", name := "loadNow", desc := "()I" } : Jvm.MethodName)) ∈ lw_all := lw_g (lw_at lw_m1 239 rfl) rfl
theorem q368 : (Jvm.Cond.code ({ cls := "NobodyCanLiftIt", name := "loadNow", desc := "()I" } : Jvm.MethodName) prog_1_method_42_code (1 : Nat) (Option.some Jvm.ClassFile.FieldType.int)) ∈ lw_all := lw_g (lw_at lw_m2 0 rfl) rfl
theorem q369 : (Jvm.Cond.methodLink "NobodyCanLiftIt" (372 : Nat) ({ cls := "NobodyCanLiftIt$Man", name := "strong", desc := "(II)I" } : Jvm.MethodName)) ∈ lw_all := lw_g (lw_at lw_m2 1 rfl) rfl
theorem q394 : (Jvm.Cond.methodLink "NobodyCanLiftIt" (113 : Nat) ({ cls := "NobodyCanLiftIt", name := "easedOf", desc := "(I)I" } : Jvm.MethodName)) ∈ lw_all := lw_g (lw_at lw_m2 26 rfl) rfl
theorem q395 : (Jvm.Cond.privateMethod ({ cls := "NobodyCanLiftIt", name := "easedOf", desc := "(I)I" } : Jvm.MethodName)) ∈ lw_tbl := lw_at lw_m2 27 rfl
theorem q396 : (Jvm.Cond.instanceMethod ({ cls := "NobodyCanLiftIt", name := "easedOf", desc := "(I)I" } : Jvm.MethodName)) ∈ lw_all := lw_g (lw_at lw_m2 28 rfl) rfl
theorem q397 : (Jvm.Cond.code ({ cls := "NobodyCanLiftIt", name := "easedOf", desc := "(I)I" } : Jvm.MethodName) prog_1_method_44_code (2 : Nat) (Option.some Jvm.ClassFile.FieldType.int)) ∈ lw_all := lw_g (lw_at lw_m2 29 rfl) rfl
theorem q398 : (Jvm.Cond.methodLink "NobodyCanLiftIt" (374 : Nat) ({ cls := "NobodyCanLiftIt$Man", name := "eased", desc := "(II)I" } : Jvm.MethodName)) ∈ lw_all := lw_g (lw_at lw_m2 30 rfl) rfl
theorem q421 : (Jvm.Cond.methodLink "NobodyCanLiftIt" (116 : Nat) ({ cls := "NobodyCanLiftIt", name := "canLift", desc := "(I)Z" } : Jvm.MethodName)) ∈ lw_all := lw_g (lw_at lw_m2 53 rfl) rfl
theorem q422 : (Jvm.Cond.privateMethod ({ cls := "NobodyCanLiftIt", name := "canLift", desc := "(I)Z" } : Jvm.MethodName)) ∈ lw_tbl := lw_at lw_m2 54 rfl
theorem q423 : (Jvm.Cond.instanceMethod ({ cls := "NobodyCanLiftIt", name := "canLift", desc := "(I)Z" } : Jvm.MethodName)) ∈ lw_all := lw_g (lw_at lw_m2 55 rfl) rfl
theorem q424 : (Jvm.Cond.code ({ cls := "NobodyCanLiftIt", name := "canLift", desc := "(I)Z" } : Jvm.MethodName) prog_1_method_45_code (2 : Nat) (Option.some Jvm.ClassFile.FieldType.boolean)) ∈ lw_all := lw_g (lw_at lw_m2 56 rfl) rfl
theorem q425 : (Jvm.Cond.methodLink "NobodyCanLiftIt" (377 : Nat) ({ cls := "NobodyCanLiftIt", name := "tellsWeight", desc := "()V" } : Jvm.MethodName)) ∈ lw_all := lw_g (lw_at lw_m2 57 rfl) rfl
theorem q426 : (Jvm.Cond.privateMethod ({ cls := "NobodyCanLiftIt", name := "tellsWeight", desc := "()V" } : Jvm.MethodName)) ∈ lw_tbl := lw_at lw_m2 58 rfl
theorem q427 : (Jvm.Cond.instanceMethod ({ cls := "NobodyCanLiftIt", name := "tellsWeight", desc := "()V" } : Jvm.MethodName)) ∈ lw_all := lw_g (lw_at lw_m2 59 rfl) rfl
theorem q428 : (Jvm.Cond.code ({ cls := "NobodyCanLiftIt", name := "tellsWeight", desc := "()V" } : Jvm.MethodName) prog_1_method_41_code (2 : Nat) (Option.none : Option Jvm.ClassFile.FieldType)) ∈ lw_all := lw_g (lw_at lw_m2 60 rfl) rfl
theorem q429 : (Jvm.Cond.methodLink "NobodyCanLiftIt" (358 : Nat) ({ cls := "NobodyCanLiftIt$Part", name := "is", desc := "(JJ)V" } : Jvm.MethodName)) ∈ lw_all := lw_g (lw_at lw_m2 61 rfl) rfl
theorem q441 : (Jvm.Cond.methodLink "NobodyCanLiftIt" (362 : Nat) ({ cls := "NobodyCanLiftIt", name := "tellsFelt", desc := "(I)V" } : Jvm.MethodName)) ∈ lw_all := lw_g (lw_at lw_m2 73 rfl) rfl
theorem q442 : (Jvm.Cond.privateMethod ({ cls := "NobodyCanLiftIt", name := "tellsFelt", desc := "(I)V" } : Jvm.MethodName)) ∈ lw_tbl := lw_at lw_m2 74 rfl
theorem q443 : (Jvm.Cond.instanceMethod ({ cls := "NobodyCanLiftIt", name := "tellsFelt", desc := "(I)V" } : Jvm.MethodName)) ∈ lw_all := lw_g (lw_at lw_m2 75 rfl) rfl
theorem q444 : (Jvm.Cond.code ({ cls := "NobodyCanLiftIt", name := "tellsFelt", desc := "(I)V" } : Jvm.MethodName) prog_1_method_40_code (2 : Nat) (Option.none : Option Jvm.ClassFile.FieldType)) ∈ lw_all := lw_g (lw_at lw_m2 76 rfl) rfl
theorem q445 : (Jvm.Cond.methodLink "NobodyCanLiftIt" (355 : Nat) ({ cls := "NobodyCanLiftIt$Man", name := "feels", desc := "(LNobodyCanLiftIt$Part;I)V" } : Jvm.MethodName)) ∈ lw_all := lw_g (lw_at lw_m2 77 rfl) rfl
theorem q488 : (Jvm.Cond.methodLink "NobodyCanLiftIt" (365 : Nat) ({ cls := "NobodyCanLiftIt$Part", name := "adds", desc := "(LNobodyCanLiftIt$Part;)V" } : Jvm.MethodName)) ∈ lw_all := lw_g (lw_at lw_m2 120 rfl) rfl
theorem q492 : (Jvm.Cond.methodLink "NobodyCanLiftIt" (380 : Nat) ({ cls := "NobodyCanLiftIt$Part", name := "against", desc := "(J)I" } : Jvm.MethodName)) ∈ lw_all := lw_g (lw_at lw_m2 124 rfl) rfl
theorem q500 : (Jvm.Cond.instanceMethod ({ cls := "NobodyCanLiftIt", name := "feed", desc := "(I)I" } : Jvm.MethodName)) ∈ lw_all := lw_g (lw_at lw_m2 132 rfl) rfl
theorem q501 : (Jvm.Cond.selects "NobodyCanLiftIt" ({ cls := "NobodyCanLiftIt", name := "feed", desc := "(I)I" } : Jvm.MethodName) ({ cls := "NobodyCanLiftIt", name := "feed", desc := "(I)I" } : Jvm.MethodName)) ∈ lw_all := lw_g (lw_at lw_m2 133 rfl) rfl
theorem q502 : (Jvm.Cond.code ({ cls := "NobodyCanLiftIt", name := "feed", desc := "(I)I" } : Jvm.MethodName) prog_1_method_33_code (2 : Nat) (Option.some Jvm.ClassFile.FieldType.int)) ∈ lw_all := lw_g (lw_at lw_m2 134 rfl) rfl
theorem q503 : (Jvm.Cond.constantLong "NobodyCanLiftIt" (265 : Nat) (255 : Int64)) ∈ lw_all := lw_g (lw_at lw_m2 135 rfl) rfl
theorem q505 : (Jvm.Cond.instanceMethod ({ cls := "NobodyCanLiftIt", name := "text", desc := "()I" } : Jvm.MethodName)) ∈ lw_all := lw_g (lw_at lw_m2 137 rfl) rfl
theorem q506 : (Jvm.Cond.selects "NobodyCanLiftIt" ({ cls := "NobodyCanLiftIt", name := "text", desc := "()I" } : Jvm.MethodName) ({ cls := "NobodyCanLiftIt", name := "text", desc := "()I" } : Jvm.MethodName)) ∈ lw_all := lw_g (lw_at lw_m2 138 rfl) rfl
theorem q507 : (Jvm.Cond.code ({ cls := "NobodyCanLiftIt", name := "text", desc := "()I" } : Jvm.MethodName) prog_1_method_34_code (1 : Nat) (Option.some Jvm.ClassFile.FieldType.int)) ∈ lw_all := lw_g (lw_at lw_m2 139 rfl) rfl
theorem q508 : (Jvm.Cond.methodLink "NobodyCanLiftIt" (262 : Nat) ({ cls := "NobodyCanLiftIt", name := "newText", desc := "()I" } : Jvm.MethodName)) ∈ lw_all := lw_g (lw_at lw_m2 140 rfl) rfl
theorem q509 : (Jvm.Cond.privateMethod ({ cls := "NobodyCanLiftIt", name := "newText", desc := "()I" } : Jvm.MethodName)) ∈ lw_tbl := lw_at lw_m2 141 rfl
theorem q510 : (Jvm.Cond.instanceMethod ({ cls := "NobodyCanLiftIt", name := "newText", desc := "()I" } : Jvm.MethodName)) ∈ lw_all := lw_g (lw_at lw_m2 142 rfl) rfl
theorem q511 : (Jvm.Cond.codeWith ({ cls := "NobodyCanLiftIt", name := "newText", desc := "()I" } : Jvm.MethodName) prog_1_method_31_code (3 : Nat) (Option.some Jvm.ClassFile.FieldType.int) [((28 : Nat), (83 : Nat), (86 : Nat), (253 : Nat))]) ∈ lw_all := lw_g (lw_at lw_m2 143 rfl) rfl
theorem q512 : (Jvm.Cond.classLink "NobodyCanLiftIt" (253 : Nat) "NobodyCanLiftIt$Faulty") ∈ lw_all := lw_g (lw_at lw_m2 144 rfl) rfl
theorem q513 : (Jvm.Cond.classLink "NobodyCanLiftIt" (251 : Nat) "NobodyCanLiftIt$Node") ∈ lw_all := lw_g (lw_at lw_m2 145 rfl) rfl
theorem q515 : (Jvm.Cond.methodLink "NobodyCanLiftIt" (190 : Nat) ({ cls := "NobodyCanLiftIt", name := "next", desc := "()V" } : Jvm.MethodName)) ∈ lw_all := lw_g (lw_at lw_m2 147 rfl) rfl
theorem q516 : (Jvm.Cond.privateMethod ({ cls := "NobodyCanLiftIt", name := "next", desc := "()V" } : Jvm.MethodName)) ∈ lw_tbl := lw_at lw_m2 148 rfl
theorem q517 : (Jvm.Cond.instanceMethod ({ cls := "NobodyCanLiftIt", name := "next", desc := "()V" } : Jvm.MethodName)) ∈ lw_all := lw_g (lw_at lw_m2 149 rfl) rfl
theorem q518 : (Jvm.Cond.code ({ cls := "NobodyCanLiftIt", name := "next", desc := "()V" } : Jvm.MethodName) prog_1_method_17_code (2 : Nat) (Option.none : Option Jvm.ClassFile.FieldType)) ∈ lw_all := lw_g (lw_at lw_m2 150 rfl) rfl
theorem q519 : (Jvm.Cond.methodLink "NobodyCanLiftIt" (137 : Nat) ({ cls := "NobodyCanLiftIt", name := "byteAt", desc := "(I)I" } : Jvm.MethodName)) ∈ lw_all := lw_g (lw_at lw_m2 151 rfl) rfl
theorem q520 : (Jvm.Cond.privateMethod ({ cls := "NobodyCanLiftIt", name := "byteAt", desc := "(I)I" } : Jvm.MethodName)) ∈ lw_tbl := lw_at lw_m2 152 rfl
theorem q521 : (Jvm.Cond.instanceMethod ({ cls := "NobodyCanLiftIt", name := "byteAt", desc := "(I)I" } : Jvm.MethodName)) ∈ lw_all := lw_g (lw_at lw_m2 153 rfl) rfl
theorem q522 : (Jvm.Cond.code ({ cls := "NobodyCanLiftIt", name := "byteAt", desc := "(I)I" } : Jvm.MethodName) prog_1_method_14_code (2 : Nat) (Option.some Jvm.ClassFile.FieldType.int)) ∈ lw_all := lw_g (lw_at lw_m2 154 rfl) rfl
theorem q523 : (Jvm.Cond.methodLink "NobodyCanLiftIt" (146 : Nat) ({ cls := "NobodyCanLiftIt", name := "isLetter", desc := "(I)Z" } : Jvm.MethodName)) ∈ lw_all := lw_g (lw_at lw_m2 155 rfl) rfl
theorem q524 : (Jvm.Cond.static ({ cls := "NobodyCanLiftIt", name := "isLetter", desc := "(I)Z" } : Jvm.MethodName)) ∈ lw_all := lw_g (lw_at lw_m2 156 rfl) rfl
theorem q525 : (Jvm.Cond.code ({ cls := "NobodyCanLiftIt", name := "isLetter", desc := "(I)Z" } : Jvm.MethodName) prog_1_method_15_code (1 : Nat) (Option.some Jvm.ClassFile.FieldType.boolean)) ∈ lw_all := lw_g (lw_at lw_m2 157 rfl) rfl
theorem q526 : (Jvm.Cond.constantLong "NobodyCanLiftIt" (126 : Nat) (97 : Int64)) ∈ lw_all := lw_g (lw_at lw_m2 158 rfl) rfl
theorem q527 : (Jvm.Cond.constantLong "NobodyCanLiftIt" (128 : Nat) (122 : Int64)) ∈ lw_all := lw_g (lw_at lw_m2 159 rfl) rfl
theorem q528 : (Jvm.Cond.methodLink "NobodyCanLiftIt" (149 : Nat) ({ cls := "NobodyCanLiftIt", name := "word", desc := "()V" } : Jvm.MethodName)) ∈ lw_all := lw_g (lw_at lw_m2 160 rfl) rfl
theorem q529 : (Jvm.Cond.privateMethod ({ cls := "NobodyCanLiftIt", name := "word", desc := "()V" } : Jvm.MethodName)) ∈ lw_tbl := lw_at lw_m2 161 rfl
theorem q530 : (Jvm.Cond.instanceMethod ({ cls := "NobodyCanLiftIt", name := "word", desc := "()V" } : Jvm.MethodName)) ∈ lw_all := lw_g (lw_at lw_m2 162 rfl) rfl
theorem q531 : (Jvm.Cond.code ({ cls := "NobodyCanLiftIt", name := "word", desc := "()V" } : Jvm.MethodName) prog_1_method_19_code (2 : Nat) (Option.none : Option Jvm.ClassFile.FieldType)) ∈ lw_all := lw_g (lw_at lw_m2 163 rfl) rfl
theorem q532 : (Jvm.Cond.methodLink "NobodyCanLiftIt" (183 : Nat) ({ cls := "NobodyCanLiftIt", name := "placeIn", desc := "([Ljava/lang/String;)I" } : Jvm.MethodName)) ∈ lw_all := lw_g (lw_at lw_m2 164 rfl) rfl
theorem q533 : (Jvm.Cond.privateMethod ({ cls := "NobodyCanLiftIt", name := "placeIn", desc := "([Ljava/lang/String;)I" } : Jvm.MethodName)) ∈ lw_tbl := lw_at lw_m2 165 rfl
theorem q534 : (Jvm.Cond.instanceMethod ({ cls := "NobodyCanLiftIt", name := "placeIn", desc := "([Ljava/lang/String;)I" } : Jvm.MethodName)) ∈ lw_all := lw_g (lw_at lw_m2 166 rfl) rfl
theorem q535 : (Jvm.Cond.code ({ cls := "NobodyCanLiftIt", name := "placeIn", desc := "([Ljava/lang/String;)I" } : Jvm.MethodName) prog_1_method_18_code (5 : Nat) (Option.some Jvm.ClassFile.FieldType.int)) ∈ lw_all := lw_g (lw_at lw_m2 167 rfl) rfl
theorem q536 : (Jvm.Cond.methodLink "NobodyCanLiftIt" (173 : Nat) ({ cls := "java/lang/String", name := "length", desc := "()I" } : Jvm.MethodName)) ∈ lw_all := lw_g (lw_at lw_m2 168 rfl) rfl
theorem q546 : (Jvm.Cond.methodLink "NobodyCanLiftIt" (175 : Nat) ({ cls := "java/lang/String", name := "charAt", desc := "(I)C" } : Jvm.MethodName)) ∈ lw_all := lw_g (lw_at lw_m2 178 rfl) rfl
theorem q584 : (Jvm.Cond.methodLink "NobodyCanLiftIt" (153 : Nat) ({ cls := "NobodyCanLiftIt", name := "isDigit", desc := "(I)Z" } : Jvm.MethodName)) ∈ lw_all := lw_g (lw_at lw_m2 216 rfl) rfl
theorem q585 : (Jvm.Cond.static ({ cls := "NobodyCanLiftIt", name := "isDigit", desc := "(I)Z" } : Jvm.MethodName)) ∈ lw_all := lw_g (lw_at lw_m2 217 rfl) rfl
theorem q586 : (Jvm.Cond.code ({ cls := "NobodyCanLiftIt", name := "isDigit", desc := "(I)Z" } : Jvm.MethodName) prog_1_method_16_code (1 : Nat) (Option.some Jvm.ClassFile.FieldType.boolean)) ∈ lw_all := lw_g (lw_at lw_m2 218 rfl) rfl
theorem q587 : (Jvm.Cond.constantLong "NobodyCanLiftIt" (130 : Nat) (48 : Int64)) ∈ lw_all := lw_g (lw_at lw_m2 219 rfl) rfl
theorem q588 : (Jvm.Cond.constantLong "NobodyCanLiftIt" (132 : Nat) (57 : Int64)) ∈ lw_all := lw_g (lw_at lw_m2 220 rfl) rfl
theorem q589 : (Jvm.Cond.methodLink "NobodyCanLiftIt" (156 : Nat) ({ cls := "NobodyCanLiftIt", name := "digits", desc := "()V" } : Jvm.MethodName)) ∈ lw_all := lw_g (lw_at lw_m2 221 rfl) rfl
theorem q590 : (Jvm.Cond.privateMethod ({ cls := "NobodyCanLiftIt", name := "digits", desc := "()V" } : Jvm.MethodName)) ∈ lw_tbl := lw_at lw_m2 222 rfl
theorem q591 : (Jvm.Cond.instanceMethod ({ cls := "NobodyCanLiftIt", name := "digits", desc := "()V" } : Jvm.MethodName)) ∈ lw_all := lw_g (lw_at lw_m2 223 rfl) rfl
theorem q592 : (Jvm.Cond.code ({ cls := "NobodyCanLiftIt", name := "digits", desc := "()V" } : Jvm.MethodName) prog_1_method_20_code (1 : Nat) (Option.none : Option Jvm.ClassFile.FieldType)) ∈ lw_all := lw_g (lw_at lw_m2 224 rfl) rfl
theorem q593 : (Jvm.Cond.stringRef "NobodyCanLiftIt" (162 : Nat) "();+-*<=") ∈ lw_tbl := lw_at lw_m2 225 rfl
theorem q594 : (Jvm.Cond.methodLink "NobodyCanLiftIt" (164 : Nat) ({ cls := "java/lang/String", name := "indexOf", desc := "(I)I" } : Jvm.MethodName)) ∈ lw_all := lw_g (lw_at lw_m2 226 rfl) rfl
theorem q649 : (Jvm.Cond.methodLink "NobodyCanLiftIt" (204 : Nat) ({ cls := "NobodyCanLiftIt", name := "isKey", desc := "(I)Z" } : Jvm.MethodName)) ∈ lw_all := lw_g (lw_at lw_m3 41 rfl) rfl
theorem q650 : (Jvm.Cond.privateMethod ({ cls := "NobodyCanLiftIt", name := "isKey", desc := "(I)Z" } : Jvm.MethodName)) ∈ lw_tbl := lw_at lw_m3 42 rfl
theorem q651 : (Jvm.Cond.instanceMethod ({ cls := "NobodyCanLiftIt", name := "isKey", desc := "(I)Z" } : Jvm.MethodName)) ∈ lw_all := lw_g (lw_at lw_m3 43 rfl) rfl
theorem q652 : (Jvm.Cond.code ({ cls := "NobodyCanLiftIt", name := "isKey", desc := "(I)Z" } : Jvm.MethodName) prog_1_method_22_code (2 : Nat) (Option.some Jvm.ClassFile.FieldType.boolean)) ∈ lw_all := lw_g (lw_at lw_m3 44 rfl) rfl
theorem q653 : (Jvm.Cond.methodLink "NobodyCanLiftIt" (196 : Nat) ({ cls := "NobodyCanLiftIt", name := "need", desc := "(Z)V" } : Jvm.MethodName)) ∈ lw_all := lw_g (lw_at lw_m3 45 rfl) rfl
theorem q654 : (Jvm.Cond.privateMethod ({ cls := "NobodyCanLiftIt", name := "need", desc := "(Z)V" } : Jvm.MethodName)) ∈ lw_tbl := lw_at lw_m3 46 rfl
theorem q655 : (Jvm.Cond.instanceMethod ({ cls := "NobodyCanLiftIt", name := "need", desc := "(Z)V" } : Jvm.MethodName)) ∈ lw_all := lw_g (lw_at lw_m3 47 rfl) rfl
theorem q656 : (Jvm.Cond.code ({ cls := "NobodyCanLiftIt", name := "need", desc := "(Z)V" } : Jvm.MethodName) prog_1_method_23_code (2 : Nat) (Option.none : Option Jvm.ClassFile.FieldType)) ∈ lw_all := lw_g (lw_at lw_m3 48 rfl) rfl
theorem q657 : (Jvm.Cond.methodLink "NobodyCanLiftIt" (245 : Nat) ({ cls := "NobodyCanLiftIt", name := "either", desc := "()LNobodyCanLiftIt$Node;" } : Jvm.MethodName)) ∈ lw_all := lw_g (lw_at lw_m3 49 rfl) rfl
theorem q658 : (Jvm.Cond.privateMethod ({ cls := "NobodyCanLiftIt", name := "either", desc := "()LNobodyCanLiftIt$Node;" } : Jvm.MethodName)) ∈ lw_tbl := lw_at lw_m3 50 rfl
theorem q659 : (Jvm.Cond.instanceMethod ({ cls := "NobodyCanLiftIt", name := "either", desc := "()LNobodyCanLiftIt$Node;" } : Jvm.MethodName)) ∈ lw_all := lw_g (lw_at lw_m3 51 rfl) rfl
theorem q660 : (Jvm.Cond.code ({ cls := "NobodyCanLiftIt", name := "either", desc := "()LNobodyCanLiftIt$Node;" } : Jvm.MethodName) prog_1_method_25_code (2 : Nat) (Option.some (Jvm.ClassFile.FieldType.object "NobodyCanLiftIt$Node"))) ∈ lw_all := lw_g (lw_at lw_m3 52 rfl) rfl
theorem q661 : (Jvm.Cond.methodLink "NobodyCanLiftIt" (200 : Nat) ({ cls := "NobodyCanLiftIt", name := "both", desc := "()LNobodyCanLiftIt$Node;" } : Jvm.MethodName)) ∈ lw_all := lw_g (lw_at lw_m3 53 rfl) rfl
theorem q662 : (Jvm.Cond.privateMethod ({ cls := "NobodyCanLiftIt", name := "both", desc := "()LNobodyCanLiftIt$Node;" } : Jvm.MethodName)) ∈ lw_tbl := lw_at lw_m3 54 rfl
theorem q663 : (Jvm.Cond.instanceMethod ({ cls := "NobodyCanLiftIt", name := "both", desc := "()LNobodyCanLiftIt$Node;" } : Jvm.MethodName)) ∈ lw_all := lw_g (lw_at lw_m3 55 rfl) rfl
theorem q664 : (Jvm.Cond.code ({ cls := "NobodyCanLiftIt", name := "both", desc := "()LNobodyCanLiftIt$Node;" } : Jvm.MethodName) prog_1_method_26_code (2 : Nat) (Option.some (Jvm.ClassFile.FieldType.object "NobodyCanLiftIt$Node"))) ∈ lw_all := lw_g (lw_at lw_m3 56 rfl) rfl
theorem q665 : (Jvm.Cond.methodLink "NobodyCanLiftIt" (212 : Nat) ({ cls := "NobodyCanLiftIt", name := "not", desc := "()LNobodyCanLiftIt$Node;" } : Jvm.MethodName)) ∈ lw_all := lw_g (lw_at lw_m3 57 rfl) rfl
theorem q666 : (Jvm.Cond.privateMethod ({ cls := "NobodyCanLiftIt", name := "not", desc := "()LNobodyCanLiftIt$Node;" } : Jvm.MethodName)) ∈ lw_tbl := lw_at lw_m3 58 rfl
theorem q667 : (Jvm.Cond.instanceMethod ({ cls := "NobodyCanLiftIt", name := "not", desc := "()LNobodyCanLiftIt$Node;" } : Jvm.MethodName)) ∈ lw_all := lw_g (lw_at lw_m3 59 rfl) rfl
theorem q668 : (Jvm.Cond.code ({ cls := "NobodyCanLiftIt", name := "not", desc := "()LNobodyCanLiftIt$Node;" } : Jvm.MethodName) prog_1_method_27_code (3 : Nat) (Option.some (Jvm.ClassFile.FieldType.object "NobodyCanLiftIt$Node"))) ∈ lw_all := lw_g (lw_at lw_m3 60 rfl) rfl
theorem q669 : (Jvm.Cond.methodLink "NobodyCanLiftIt" (215 : Nat) ({ cls := "NobodyCanLiftIt", name := "openOne", desc := "()V" } : Jvm.MethodName)) ∈ lw_all := lw_g (lw_at lw_m3 61 rfl) rfl
theorem q670 : (Jvm.Cond.privateMethod ({ cls := "NobodyCanLiftIt", name := "openOne", desc := "()V" } : Jvm.MethodName)) ∈ lw_tbl := lw_at lw_m3 62 rfl
theorem q671 : (Jvm.Cond.instanceMethod ({ cls := "NobodyCanLiftIt", name := "openOne", desc := "()V" } : Jvm.MethodName)) ∈ lw_all := lw_g (lw_at lw_m3 63 rfl) rfl
theorem q672 : (Jvm.Cond.code ({ cls := "NobodyCanLiftIt", name := "openOne", desc := "()V" } : Jvm.MethodName) prog_1_method_24_code (1 : Nat) (Option.none : Option Jvm.ClassFile.FieldType)) ∈ lw_all := lw_g (lw_at lw_m3 64 rfl) rfl
theorem q673 : (Jvm.Cond.classLink "NobodyCanLiftIt" (218 : Nat) "NobodyCanLiftIt$Turned") ∈ lw_all := lw_g (lw_at lw_m3 65 rfl) rfl
theorem q675 : (Jvm.Cond.methodLink "NobodyCanLiftIt" (220 : Nat) ({ cls := "NobodyCanLiftIt$Turned", name := "<init>", desc := "(LNobodyCanLiftIt$Node;Z)V" } : Jvm.MethodName)) ∈ lw_all := lw_g (lw_at lw_m3 67 rfl) rfl
theorem q690 : (Jvm.Cond.methodLink "NobodyCanLiftIt" (223 : Nat) ({ cls := "NobodyCanLiftIt", name := "plus", desc := "()LNobodyCanLiftIt$Node;" } : Jvm.MethodName)) ∈ lw_all := lw_g (lw_at lw_m3 82 rfl) rfl
theorem q691 : (Jvm.Cond.privateMethod ({ cls := "NobodyCanLiftIt", name := "plus", desc := "()LNobodyCanLiftIt$Node;" } : Jvm.MethodName)) ∈ lw_tbl := lw_at lw_m3 83 rfl
theorem q692 : (Jvm.Cond.instanceMethod ({ cls := "NobodyCanLiftIt", name := "plus", desc := "()LNobodyCanLiftIt$Node;" } : Jvm.MethodName)) ∈ lw_all := lw_g (lw_at lw_m3 84 rfl) rfl
theorem q693 : (Jvm.Cond.code ({ cls := "NobodyCanLiftIt", name := "plus", desc := "()LNobodyCanLiftIt$Node;" } : Jvm.MethodName) prog_1_method_28_code (3 : Nat) (Option.some (Jvm.ClassFile.FieldType.object "NobodyCanLiftIt$Node"))) ∈ lw_all := lw_g (lw_at lw_m3 85 rfl) rfl
theorem q694 : (Jvm.Cond.methodLink "NobodyCanLiftIt" (229 : Nat) ({ cls := "NobodyCanLiftIt", name := "times", desc := "()LNobodyCanLiftIt$Node;" } : Jvm.MethodName)) ∈ lw_all := lw_g (lw_at lw_m3 86 rfl) rfl
theorem q695 : (Jvm.Cond.privateMethod ({ cls := "NobodyCanLiftIt", name := "times", desc := "()LNobodyCanLiftIt$Node;" } : Jvm.MethodName)) ∈ lw_tbl := lw_at lw_m3 87 rfl
theorem q696 : (Jvm.Cond.instanceMethod ({ cls := "NobodyCanLiftIt", name := "times", desc := "()LNobodyCanLiftIt$Node;" } : Jvm.MethodName)) ∈ lw_all := lw_g (lw_at lw_m3 88 rfl) rfl
theorem q697 : (Jvm.Cond.code ({ cls := "NobodyCanLiftIt", name := "times", desc := "()LNobodyCanLiftIt$Node;" } : Jvm.MethodName) prog_1_method_29_code (2 : Nat) (Option.some (Jvm.ClassFile.FieldType.object "NobodyCanLiftIt$Node"))) ∈ lw_all := lw_g (lw_at lw_m3 89 rfl) rfl
theorem q698 : (Jvm.Cond.methodLink "NobodyCanLiftIt" (232 : Nat) ({ cls := "NobodyCanLiftIt", name := "one", desc := "()LNobodyCanLiftIt$Node;" } : Jvm.MethodName)) ∈ lw_all := lw_g (lw_at lw_m3 90 rfl) rfl
theorem q699 : (Jvm.Cond.privateMethod ({ cls := "NobodyCanLiftIt", name := "one", desc := "()LNobodyCanLiftIt$Node;" } : Jvm.MethodName)) ∈ lw_tbl := lw_at lw_m3 91 rfl
theorem q700 : (Jvm.Cond.instanceMethod ({ cls := "NobodyCanLiftIt", name := "one", desc := "()LNobodyCanLiftIt$Node;" } : Jvm.MethodName)) ∈ lw_all := lw_g (lw_at lw_m3 92 rfl) rfl
theorem q701 : (Jvm.Cond.code ({ cls := "NobodyCanLiftIt", name := "one", desc := "()LNobodyCanLiftIt$Node;" } : Jvm.MethodName) prog_1_method_30_code (3 : Nat) (Option.some (Jvm.ClassFile.FieldType.object "NobodyCanLiftIt$Node"))) ∈ lw_all := lw_g (lw_at lw_m3 93 rfl) rfl
theorem q702 : (Jvm.Cond.classLink "NobodyCanLiftIt" (235 : Nat) "NobodyCanLiftIt$Number") ∈ lw_all := lw_g (lw_at lw_m3 94 rfl) rfl
theorem q704 : (Jvm.Cond.methodLink "NobodyCanLiftIt" (237 : Nat) ({ cls := "NobodyCanLiftIt$Number", name := "<init>", desc := "(I)V" } : Jvm.MethodName)) ∈ lw_all := lw_g (lw_at lw_m3 96 rfl) rfl
theorem q712 : (Jvm.Cond.classLink "NobodyCanLiftIt" (240 : Nat) "NobodyCanLiftIt$Name") ∈ lw_all := lw_g (lw_at lw_m3 104 rfl) rfl
theorem q714 : (Jvm.Cond.methodLink "NobodyCanLiftIt" (242 : Nat) ({ cls := "NobodyCanLiftIt$Name", name := "<init>", desc := "(LNobodyCanLiftIt;I)V" } : Jvm.MethodName)) ∈ lw_all := lw_g (lw_at lw_m3 106 rfl) rfl
theorem q725 : (Jvm.Cond.methodLink "NobodyCanLiftIt" (226 : Nat) ({ cls := "NobodyCanLiftIt", name := "isSign", desc := "(I)Z" } : Jvm.MethodName)) ∈ lw_all := lw_g (lw_at lw_m3 117 rfl) rfl
theorem q726 : (Jvm.Cond.privateMethod ({ cls := "NobodyCanLiftIt", name := "isSign", desc := "(I)Z" } : Jvm.MethodName)) ∈ lw_tbl := lw_at lw_m3 118 rfl
theorem q727 : (Jvm.Cond.instanceMethod ({ cls := "NobodyCanLiftIt", name := "isSign", desc := "(I)Z" } : Jvm.MethodName)) ∈ lw_all := lw_g (lw_at lw_m3 119 rfl) rfl
theorem q728 : (Jvm.Cond.code ({ cls := "NobodyCanLiftIt", name := "isSign", desc := "(I)Z" } : Jvm.MethodName) prog_1_method_21_code (2 : Nat) (Option.some Jvm.ClassFile.FieldType.boolean)) ∈ lw_all := lw_g (lw_at lw_m3 120 rfl) rfl
theorem q729 : (Jvm.Cond.classLink "NobodyCanLiftIt" (207 : Nat) "NobodyCanLiftIt$Two") ∈ lw_all := lw_g (lw_at lw_m3 121 rfl) rfl
theorem q731 : (Jvm.Cond.methodLink "NobodyCanLiftIt" (209 : Nat) ({ cls := "NobodyCanLiftIt$Two", name := "<init>", desc := "(ILNobodyCanLiftIt$Node;LNobodyCanLiftIt$Node;)V" } : Jvm.MethodName)) ∈ lw_all := lw_g (lw_at lw_m3 123 rfl) rfl
theorem q747 : (Jvm.Cond.instanceMethod ({ cls := "NobodyCanLiftIt", name := "<init>", desc := "()V" } : Jvm.MethodName)) ∈ lw_all := lw_g (lw_at lw_m3 139 rfl) rfl
theorem q748 : (Jvm.Cond.code ({ cls := "NobodyCanLiftIt", name := "<init>", desc := "()V" } : Jvm.MethodName) prog_1_method_36_code (1 : Nat) (Option.none : Option Jvm.ClassFile.FieldType)) ∈ lw_all := lw_g (lw_at lw_m3 140 rfl) rfl
theorem q749 : (Jvm.Cond.methodLink "NobodyCanLiftIt" (267 : Nat) ({ cls := "java/lang/Object", name := "<init>", desc := "()V" } : Jvm.MethodName)) ∈ lw_all := lw_g (lw_at lw_m3 141 rfl) rfl
theorem q807 : (Jvm.Cond.methodLink "NobodyCanLiftIt" (271 : Nat) ({ cls := "NobodyCanLiftIt$Faulty", name := "<init>", desc := "()V" } : Jvm.MethodName)) ∈ lw_all := lw_g (lw_at lw_m3 199 rfl) rfl
theorem q833 : (Jvm.Cond.classLink "NobodyCanLiftIt" (272 : Nat) "[LNobodyCanLiftIt$Node;") ∈ lw_all := lw_g (lw_at lw_m3 225 rfl) rfl
theorem q835 : (Jvm.Cond.classLink "NobodyCanLiftIt" (165 : Nat) "java/lang/String") ∈ lw_all := lw_g (lw_at lw_m3 227 rfl) rfl
theorem q837 : (Jvm.Cond.stringRef "NobodyCanLiftIt" (274 : Nat) "feels") ∈ lw_tbl := lw_at lw_m3 229 rfl
theorem q838 : (Jvm.Cond.stringRef "NobodyCanLiftIt" (276 : Nat) "strong") ∈ lw_tbl := lw_at lw_m3 230 rfl
theorem q839 : (Jvm.Cond.stringRef "NobodyCanLiftIt" (278 : Nat) "eases") ∈ lw_tbl := lw_at lw_m3 231 rfl
theorem q840 : (Jvm.Cond.stringRef "NobodyCanLiftIt" (280 : Nat) "or") ∈ lw_tbl := lw_at lw_m3 232 rfl
theorem q841 : (Jvm.Cond.stringRef "NobodyCanLiftIt" (282 : Nat) "and") ∈ lw_tbl := lw_at lw_m3 233 rfl
theorem q842 : (Jvm.Cond.stringRef "NobodyCanLiftIt" (284 : Nat) "not") ∈ lw_tbl := lw_at lw_m3 234 rfl
theorem q843 : (Jvm.Cond.stringRef "NobodyCanLiftIt" (285 : Nat) "age") ∈ lw_tbl := lw_at lw_m3 235 rfl
theorem q844 : (Jvm.Cond.stringRef "NobodyCanLiftIt" (286 : Nat) "number") ∈ lw_tbl := lw_at lw_m3 236 rfl
theorem q845 : (Jvm.Cond.stringRef "NobodyCanLiftIt" (287 : Nat) "floor") ∈ lw_tbl := lw_at lw_m3 237 rfl
theorem q846 : (Jvm.Cond.stringRef "NobodyCanLiftIt" (289 : Nat) "year") ∈ lw_tbl := lw_at lw_m3 238 rfl
theorem q847 : (Jvm.Cond.stringRef "NobodyCanLiftIt" (290 : Nat) "ease") ∈ lw_tbl := lw_at lw_m3 239 rfl
theorem q848 : (Jvm.Cond.stringRef "NobodyCanLiftIt" (291 : Nat) "others") ∈ lw_tbl := lw_at lw_m4 0 rfl
theorem q849 : (Jvm.Cond.classLink "NobodyCanLiftIt" (293 : Nat) "NobodyCanLiftIt$Part") ∈ lw_all := lw_g (lw_at lw_m4 1 rfl) rfl
theorem q850 : (Jvm.Cond.methodLinkNest "NobodyCanLiftIt" (295 : Nat) ({ cls := "NobodyCanLiftIt$Part", name := "<init>", desc := "()V" } : Jvm.MethodName) "NobodyCanLiftIt") ∈ lw_tbl := lw_at lw_m4 2 rfl
theorem q861 : (Jvm.Cond.classLink "NobodyCanLiftIt" (309 : Nat) "[[I") ∈ lw_all := lw_g (lw_at lw_m4 13 rfl) rfl
theorem q863 : (Jvm.Cond.classLink "NobodyCanLiftIt" (323 : Nat) "NobodyCanLiftIt$Sheet") ∈ lw_all := lw_g (lw_at lw_m4 15 rfl) rfl
theorem q866 : (Jvm.Cond.methodLinkNest "NobodyCanLiftIt" (325 : Nat) ({ cls := "NobodyCanLiftIt$Sheet", name := "<init>", desc := "()V" } : Jvm.MethodName) "NobodyCanLiftIt") ∈ lw_tbl := lw_at lw_m4 18 rfl
theorem q870 : (Jvm.Cond.fieldLinkNest "NobodyCanLiftIt" (490 : Nat) "NobodyCanLiftIt$Sheet" "row" "Ljava/lang/Object;" "NobodyCanLiftIt") ∈ lw_tbl := lw_at lw_m4 22 rfl
theorem q874 : (Jvm.Cond.stringRef "NobodyCanLiftIt" (330 : Nat) "feels 10 ; strong age ; eases 1 ;") ∈ lw_tbl := lw_at lw_m4 26 rfl
theorem q875 : (Jvm.Cond.methodLink "NobodyCanLiftIt" (332 : Nat) ({ cls := "NobodyCanLiftIt", name := "firstText", desc := "(Ljava/lang/String;)V" } : Jvm.MethodName)) ∈ lw_all := lw_g (lw_at lw_m4 27 rfl) rfl
theorem q876 : (Jvm.Cond.privateMethod ({ cls := "NobodyCanLiftIt", name := "firstText", desc := "(Ljava/lang/String;)V" } : Jvm.MethodName)) ∈ lw_tbl := lw_at lw_m4 28 rfl
theorem q877 : (Jvm.Cond.instanceMethod ({ cls := "NobodyCanLiftIt", name := "firstText", desc := "(Ljava/lang/String;)V" } : Jvm.MethodName)) ∈ lw_all := lw_g (lw_at lw_m4 29 rfl) rfl
theorem q878 : (Jvm.Cond.code ({ cls := "NobodyCanLiftIt", name := "firstText", desc := "(Ljava/lang/String;)V" } : Jvm.MethodName) prog_1_method_32_code (3 : Nat) (Option.none : Option Jvm.ClassFile.FieldType)) ∈ lw_all := lw_g (lw_at lw_m4 30 rfl) rfl
theorem q880 : (Jvm.Cond.fieldLink "NobodyCanLiftIt" (47 : Nat) "NobodyCanLiftIt" "folk" "[LNobodyCanLiftIt$Man;") ∈ lw_all := lw_g (lw_at lw_m4 32 rfl) rfl
theorem q881 : (Jvm.Cond.fieldLink "NobodyCanLiftIt" (10 : Nat) "NobodyCanLiftIt" "many" "I") ∈ lw_all := lw_g (lw_at lw_m4 33 rfl) rfl
theorem q883 : (Jvm.Cond.fieldLink "NobodyCanLiftIt" (69 : Nat) "NobodyCanLiftIt" "year" "I") ∈ lw_all := lw_g (lw_at lw_m4 35 rfl) rfl
theorem q885 : (Jvm.Cond.fieldLink "NobodyCanLiftIt" (66 : Nat) "NobodyCanLiftIt" "on" "I") ∈ lw_all := lw_g (lw_at lw_m4 37 rfl) rfl
theorem q886 : (Jvm.Cond.fieldLink "NobodyCanLiftIt" (62 : Nat) "NobodyCanLiftIt" "loads" "[I") ∈ lw_all := lw_g (lw_at lw_m4 38 rfl) rfl
theorem q887 : (Jvm.Cond.fieldLink "NobodyCanLiftIt" (169 : Nat) "NobodyCanLiftIt" "faulty" "LNobodyCanLiftIt$Faulty;") ∈ lw_all := lw_g (lw_at lw_m4 39 rfl) rfl
theorem q889 : (Jvm.Cond.fieldLink "NobodyCanLiftIt" (342 : Nat) "NobodyCanLiftIt" "forOne" "I") ∈ lw_all := lw_g (lw_at lw_m4 41 rfl) rfl
theorem q890 : (Jvm.Cond.fieldLink "NobodyCanLiftIt" (255 : Nat) "NobodyCanLiftIt" "texts" "[[LNobodyCanLiftIt$Node;") ∈ lw_all := lw_g (lw_at lw_m4 42 rfl) rfl
theorem q891 : (Jvm.Cond.fieldLink "NobodyCanLiftIt" (259 : Nat) "NobodyCanLiftIt" "textMany" "I") ∈ lw_all := lw_g (lw_at lw_m4 43 rfl) rfl
theorem q892 : (Jvm.Cond.fieldLink "NobodyCanLiftIt" (179 : Nat) "NobodyCanLiftIt" "keys" "[Ljava/lang/String;") ∈ lw_all := lw_g (lw_at lw_m4 44 rfl) rfl
theorem q893 : (Jvm.Cond.fieldLink "NobodyCanLiftIt" (187 : Nat) "NobodyCanLiftIt" "names" "[Ljava/lang/String;") ∈ lw_all := lw_g (lw_at lw_m4 45 rfl) rfl
theorem q894 : (Jvm.Cond.fieldLink "NobodyCanLiftIt" (122 : Nat) "NobodyCanLiftIt" "tape" "[B") ∈ lw_all := lw_g (lw_at lw_m4 46 rfl) rfl
theorem q895 : (Jvm.Cond.fieldLink "NobodyCanLiftIt" (248 : Nat) "NobodyCanLiftIt" "taped" "I") ∈ lw_all := lw_g (lw_at lw_m4 47 rfl) rfl
theorem q896 : (Jvm.Cond.fieldLink "NobodyCanLiftIt" (119 : Nat) "NobodyCanLiftIt" "length" "I") ∈ lw_all := lw_g (lw_at lw_m4 48 rfl) rfl
theorem q897 : (Jvm.Cond.fieldLink "NobodyCanLiftIt" (134 : Nat) "NobodyCanLiftIt" "at" "I") ∈ lw_all := lw_g (lw_at lw_m4 49 rfl) rfl
theorem q898 : (Jvm.Cond.fieldLink "NobodyCanLiftIt" (140 : Nat) "NobodyCanLiftIt" "begin" "I") ∈ lw_all := lw_g (lw_at lw_m4 50 rfl) rfl
theorem q899 : (Jvm.Cond.fieldLink "NobodyCanLiftIt" (143 : Nat) "NobodyCanLiftIt" "token" "I") ∈ lw_all := lw_g (lw_at lw_m4 51 rfl) rfl
theorem q900 : (Jvm.Cond.fieldLink "NobodyCanLiftIt" (159 : Nat) "NobodyCanLiftIt" "value" "I") ∈ lw_all := lw_g (lw_at lw_m4 52 rfl) rfl
theorem q901 : (Jvm.Cond.fieldLink "NobodyCanLiftIt" (193 : Nat) "NobodyCanLiftIt" "opens" "I") ∈ lw_all := lw_g (lw_at lw_m4 53 rfl) rfl
theorem q902 : (Jvm.Cond.fieldLink "NobodyCanLiftIt" (339 : Nat) "NobodyCanLiftIt" "rule" "I") ∈ lw_all := lw_g (lw_at lw_m4 54 rfl) rfl
theorem q903 : (Jvm.Cond.fieldLink "NobodyCanLiftIt" (296 : Nat) "NobodyCanLiftIt" "felt" "LNobodyCanLiftIt$Part;") ∈ lw_all := lw_g (lw_at lw_m4 55 rfl) rfl
theorem q904 : (Jvm.Cond.fieldLink "NobodyCanLiftIt" (300 : Nat) "NobodyCanLiftIt" "whole" "LNobodyCanLiftIt$Part;") ∈ lw_all := lw_g (lw_at lw_m4 56 rfl) rfl
theorem q905 : (Jvm.Cond.fieldLink "NobodyCanLiftIt" (303 : Nat) "NobodyCanLiftIt" "lightest" "LNobodyCanLiftIt$Part;") ∈ lw_all := lw_g (lw_at lw_m4 57 rfl) rfl
theorem q906 : (Jvm.Cond.fieldLink "NobodyCanLiftIt" (306 : Nat) "NobodyCanLiftIt" "calm" "[I") ∈ lw_all := lw_g (lw_at lw_m4 58 rfl) rfl
theorem q907 : (Jvm.Cond.fieldLink "NobodyCanLiftIt" (311 : Nat) "NobodyCanLiftIt" "kept" "[[I") ∈ lw_all := lw_g (lw_at lw_m4 59 rfl) rfl
theorem q908 : (Jvm.Cond.fieldLink "NobodyCanLiftIt" (393 : Nat) "NobodyCanLiftIt" "keptOn" "I") ∈ lw_all := lw_g (lw_at lw_m4 60 rfl) rfl
theorem q909 : (Jvm.Cond.fieldLink "NobodyCanLiftIt" (396 : Nat) "NobodyCanLiftIt" "keptYear" "I") ∈ lw_all := lw_g (lw_at lw_m4 61 rfl) rfl
theorem q910 : (Jvm.Cond.fieldLink "NobodyCanLiftIt" (532 : Nat) "NobodyCanLiftIt" "hasImage" "Z") ∈ lw_all := lw_g (lw_at lw_m4 62 rfl) rfl
theorem q911 : (Jvm.Cond.fieldLink "NobodyCanLiftIt" (314 : Nat) "NobodyCanLiftIt" "imageLoads" "[I") ∈ lw_all := lw_g (lw_at lw_m4 63 rfl) rfl
theorem q912 : (Jvm.Cond.fieldLink "NobodyCanLiftIt" (317 : Nat) "NobodyCanLiftIt" "imageFolk" "[[I") ∈ lw_all := lw_g (lw_at lw_m4 64 rfl) rfl
theorem q913 : (Jvm.Cond.fieldLink "NobodyCanLiftIt" (320 : Nat) "NobodyCanLiftIt" "imageNumbers" "[I") ∈ lw_all := lw_g (lw_at lw_m4 65 rfl) rfl
theorem q914 : (Jvm.Cond.fieldLink "NobodyCanLiftIt" (326 : Nat) "NobodyCanLiftIt" "sheets" "[LNobodyCanLiftIt$Sheet;") ∈ lw_all := lw_g (lw_at lw_m4 66 rfl) rfl
theorem q915 : (Jvm.Cond.laysFinal "NobodyCanLiftIt" "NobodyCanLiftIt" "folk" "[LNobodyCanLiftIt$Man;") ∈ lw_all := lw_g (lw_at lw_m4 67 rfl) rfl
theorem q916 : (Jvm.Cond.soleField "NobodyCanLiftIt" "folk") ∈ lw_all := lw_g (lw_at lw_m4 68 rfl) rfl
theorem q917 : (Jvm.Cond.lays "NobodyCanLiftIt" "NobodyCanLiftIt" "many" "I") ∈ lw_all := lw_g (lw_at lw_m4 69 rfl) rfl
theorem q918 : (Jvm.Cond.soleField "NobodyCanLiftIt" "many") ∈ lw_all := lw_g (lw_at lw_m4 70 rfl) rfl
theorem q919 : (Jvm.Cond.lays "NobodyCanLiftIt" "NobodyCanLiftIt" "year" "I") ∈ lw_all := lw_g (lw_at lw_m4 71 rfl) rfl
theorem q920 : (Jvm.Cond.soleField "NobodyCanLiftIt" "year") ∈ lw_all := lw_g (lw_at lw_m4 72 rfl) rfl
theorem q921 : (Jvm.Cond.lays "NobodyCanLiftIt" "NobodyCanLiftIt" "on" "I") ∈ lw_all := lw_g (lw_at lw_m4 73 rfl) rfl
theorem q922 : (Jvm.Cond.soleField "NobodyCanLiftIt" "on") ∈ lw_all := lw_g (lw_at lw_m4 74 rfl) rfl
theorem q923 : (Jvm.Cond.laysFinal "NobodyCanLiftIt" "NobodyCanLiftIt" "loads" "[I") ∈ lw_all := lw_g (lw_at lw_m4 75 rfl) rfl
theorem q924 : (Jvm.Cond.soleField "NobodyCanLiftIt" "loads") ∈ lw_all := lw_g (lw_at lw_m4 76 rfl) rfl
theorem q925 : (Jvm.Cond.laysFinal "NobodyCanLiftIt" "NobodyCanLiftIt" "faulty" "LNobodyCanLiftIt$Faulty;") ∈ lw_all := lw_g (lw_at lw_m4 77 rfl) rfl
theorem q926 : (Jvm.Cond.soleField "NobodyCanLiftIt" "faulty") ∈ lw_all := lw_g (lw_at lw_m4 78 rfl) rfl
theorem q927 : (Jvm.Cond.lays "NobodyCanLiftIt" "NobodyCanLiftIt" "forOne" "I") ∈ lw_all := lw_g (lw_at lw_m4 79 rfl) rfl
theorem q928 : (Jvm.Cond.soleField "NobodyCanLiftIt" "forOne") ∈ lw_all := lw_g (lw_at lw_m4 80 rfl) rfl
theorem q929 : (Jvm.Cond.laysFinal "NobodyCanLiftIt" "NobodyCanLiftIt" "texts" "[[LNobodyCanLiftIt$Node;") ∈ lw_all := lw_g (lw_at lw_m4 81 rfl) rfl
theorem q930 : (Jvm.Cond.soleField "NobodyCanLiftIt" "texts") ∈ lw_all := lw_g (lw_at lw_m4 82 rfl) rfl
theorem q931 : (Jvm.Cond.lays "NobodyCanLiftIt" "NobodyCanLiftIt" "textMany" "I") ∈ lw_all := lw_g (lw_at lw_m4 83 rfl) rfl
theorem q932 : (Jvm.Cond.soleField "NobodyCanLiftIt" "textMany") ∈ lw_all := lw_g (lw_at lw_m4 84 rfl) rfl
theorem q933 : (Jvm.Cond.laysFinal "NobodyCanLiftIt" "NobodyCanLiftIt" "keys" "[Ljava/lang/String;") ∈ lw_all := lw_g (lw_at lw_m4 85 rfl) rfl
theorem q934 : (Jvm.Cond.soleField "NobodyCanLiftIt" "keys") ∈ lw_all := lw_g (lw_at lw_m4 86 rfl) rfl
theorem q935 : (Jvm.Cond.laysFinal "NobodyCanLiftIt" "NobodyCanLiftIt" "names" "[Ljava/lang/String;") ∈ lw_all := lw_g (lw_at lw_m4 87 rfl) rfl
theorem q936 : (Jvm.Cond.soleField "NobodyCanLiftIt" "names") ∈ lw_all := lw_g (lw_at lw_m4 88 rfl) rfl
theorem q937 : (Jvm.Cond.laysFinal "NobodyCanLiftIt" "NobodyCanLiftIt" "tape" "[B") ∈ lw_all := lw_g (lw_at lw_m4 89 rfl) rfl
theorem q938 : (Jvm.Cond.soleField "NobodyCanLiftIt" "tape") ∈ lw_all := lw_g (lw_at lw_m4 90 rfl) rfl
theorem q939 : (Jvm.Cond.lays "NobodyCanLiftIt" "NobodyCanLiftIt" "taped" "I") ∈ lw_all := lw_g (lw_at lw_m4 91 rfl) rfl
theorem q940 : (Jvm.Cond.soleField "NobodyCanLiftIt" "taped") ∈ lw_all := lw_g (lw_at lw_m4 92 rfl) rfl
theorem q941 : (Jvm.Cond.lays "NobodyCanLiftIt" "NobodyCanLiftIt" "length" "I") ∈ lw_all := lw_g (lw_at lw_m4 93 rfl) rfl
theorem q942 : (Jvm.Cond.soleField "NobodyCanLiftIt" "length") ∈ lw_all := lw_g (lw_at lw_m4 94 rfl) rfl
theorem q943 : (Jvm.Cond.lays "NobodyCanLiftIt" "NobodyCanLiftIt" "at" "I") ∈ lw_all := lw_g (lw_at lw_m4 95 rfl) rfl
theorem q944 : (Jvm.Cond.soleField "NobodyCanLiftIt" "at") ∈ lw_all := lw_g (lw_at lw_m4 96 rfl) rfl
theorem q945 : (Jvm.Cond.lays "NobodyCanLiftIt" "NobodyCanLiftIt" "begin" "I") ∈ lw_all := lw_g (lw_at lw_m4 97 rfl) rfl
theorem q946 : (Jvm.Cond.soleField "NobodyCanLiftIt" "begin") ∈ lw_all := lw_g (lw_at lw_m4 98 rfl) rfl
theorem q947 : (Jvm.Cond.lays "NobodyCanLiftIt" "NobodyCanLiftIt" "token" "I") ∈ lw_all := lw_g (lw_at lw_m4 99 rfl) rfl
theorem q948 : (Jvm.Cond.soleField "NobodyCanLiftIt" "token") ∈ lw_all := lw_g (lw_at lw_m4 100 rfl) rfl
theorem q949 : (Jvm.Cond.lays "NobodyCanLiftIt" "NobodyCanLiftIt" "value" "I") ∈ lw_all := lw_g (lw_at lw_m4 101 rfl) rfl
theorem q950 : (Jvm.Cond.soleField "NobodyCanLiftIt" "value") ∈ lw_all := lw_g (lw_at lw_m4 102 rfl) rfl
theorem q951 : (Jvm.Cond.lays "NobodyCanLiftIt" "NobodyCanLiftIt" "opens" "I") ∈ lw_all := lw_g (lw_at lw_m4 103 rfl) rfl
theorem q952 : (Jvm.Cond.soleField "NobodyCanLiftIt" "opens") ∈ lw_all := lw_g (lw_at lw_m4 104 rfl) rfl
theorem q953 : (Jvm.Cond.lays "NobodyCanLiftIt" "NobodyCanLiftIt" "rule" "I") ∈ lw_all := lw_g (lw_at lw_m4 105 rfl) rfl
theorem q954 : (Jvm.Cond.soleField "NobodyCanLiftIt" "rule") ∈ lw_all := lw_g (lw_at lw_m4 106 rfl) rfl
theorem q955 : (Jvm.Cond.laysFinal "NobodyCanLiftIt" "NobodyCanLiftIt" "felt" "LNobodyCanLiftIt$Part;") ∈ lw_all := lw_g (lw_at lw_m4 107 rfl) rfl
theorem q956 : (Jvm.Cond.soleField "NobodyCanLiftIt" "felt") ∈ lw_all := lw_g (lw_at lw_m4 108 rfl) rfl
theorem q957 : (Jvm.Cond.laysFinal "NobodyCanLiftIt" "NobodyCanLiftIt" "whole" "LNobodyCanLiftIt$Part;") ∈ lw_all := lw_g (lw_at lw_m4 109 rfl) rfl
theorem q958 : (Jvm.Cond.soleField "NobodyCanLiftIt" "whole") ∈ lw_all := lw_g (lw_at lw_m4 110 rfl) rfl
theorem q959 : (Jvm.Cond.laysFinal "NobodyCanLiftIt" "NobodyCanLiftIt" "lightest" "LNobodyCanLiftIt$Part;") ∈ lw_all := lw_g (lw_at lw_m4 111 rfl) rfl
theorem q960 : (Jvm.Cond.soleField "NobodyCanLiftIt" "lightest") ∈ lw_all := lw_g (lw_at lw_m4 112 rfl) rfl
theorem q961 : (Jvm.Cond.laysFinal "NobodyCanLiftIt" "NobodyCanLiftIt" "calm" "[I") ∈ lw_all := lw_g (lw_at lw_m4 113 rfl) rfl
theorem q962 : (Jvm.Cond.soleField "NobodyCanLiftIt" "calm") ∈ lw_all := lw_g (lw_at lw_m4 114 rfl) rfl
theorem q963 : (Jvm.Cond.laysFinal "NobodyCanLiftIt" "NobodyCanLiftIt" "kept" "[[I") ∈ lw_all := lw_g (lw_at lw_m4 115 rfl) rfl
theorem q964 : (Jvm.Cond.soleField "NobodyCanLiftIt" "kept") ∈ lw_all := lw_g (lw_at lw_m4 116 rfl) rfl
theorem q965 : (Jvm.Cond.lays "NobodyCanLiftIt" "NobodyCanLiftIt" "keptOn" "I") ∈ lw_all := lw_g (lw_at lw_m4 117 rfl) rfl
theorem q966 : (Jvm.Cond.soleField "NobodyCanLiftIt" "keptOn") ∈ lw_all := lw_g (lw_at lw_m4 118 rfl) rfl
theorem q967 : (Jvm.Cond.lays "NobodyCanLiftIt" "NobodyCanLiftIt" "keptYear" "I") ∈ lw_all := lw_g (lw_at lw_m4 119 rfl) rfl
theorem q968 : (Jvm.Cond.soleField "NobodyCanLiftIt" "keptYear") ∈ lw_all := lw_g (lw_at lw_m4 120 rfl) rfl
theorem q969 : (Jvm.Cond.lays "NobodyCanLiftIt" "NobodyCanLiftIt" "hasImage" "Z") ∈ lw_all := lw_g (lw_at lw_m4 121 rfl) rfl
theorem q970 : (Jvm.Cond.soleField "NobodyCanLiftIt" "hasImage") ∈ lw_all := lw_g (lw_at lw_m4 122 rfl) rfl
theorem q971 : (Jvm.Cond.laysFinal "NobodyCanLiftIt" "NobodyCanLiftIt" "imageLoads" "[I") ∈ lw_all := lw_g (lw_at lw_m4 123 rfl) rfl
theorem q972 : (Jvm.Cond.soleField "NobodyCanLiftIt" "imageLoads") ∈ lw_all := lw_g (lw_at lw_m4 124 rfl) rfl
theorem q973 : (Jvm.Cond.laysFinal "NobodyCanLiftIt" "NobodyCanLiftIt" "imageFolk" "[[I") ∈ lw_all := lw_g (lw_at lw_m4 125 rfl) rfl
theorem q974 : (Jvm.Cond.soleField "NobodyCanLiftIt" "imageFolk") ∈ lw_all := lw_g (lw_at lw_m4 126 rfl) rfl
theorem q975 : (Jvm.Cond.laysFinal "NobodyCanLiftIt" "NobodyCanLiftIt" "imageNumbers" "[I") ∈ lw_all := lw_g (lw_at lw_m4 127 rfl) rfl
theorem q976 : (Jvm.Cond.soleField "NobodyCanLiftIt" "imageNumbers") ∈ lw_all := lw_g (lw_at lw_m4 128 rfl) rfl
theorem q977 : (Jvm.Cond.laysFinal "NobodyCanLiftIt" "NobodyCanLiftIt" "sheets" "[LNobodyCanLiftIt$Sheet;") ∈ lw_all := lw_g (lw_at lw_m4 129 rfl) rfl
theorem q978 : (Jvm.Cond.soleField "NobodyCanLiftIt" "sheets") ∈ lw_all := lw_g (lw_at lw_m4 130 rfl) rfl
theorem q979 : (Jvm.Cond.superclass "NobodyCanLiftIt" "java/lang/Object") ∈ lw_all := lw_g (lw_at lw_m4 131 rfl) rfl
theorem q981 : (Jvm.Cond.instanceMethod ({ cls := "NobodyCanLiftIt", name := "force", desc := "(I)I" } : Jvm.MethodName)) ∈ lw_all := lw_g (lw_at lw_m4 133 rfl) rfl
theorem q982 : (Jvm.Cond.selects "NobodyCanLiftIt" ({ cls := "NobodyCanLiftIt", name := "force", desc := "(I)I" } : Jvm.MethodName) ({ cls := "NobodyCanLiftIt", name := "force", desc := "(I)I" } : Jvm.MethodName)) ∈ lw_all := lw_g (lw_at lw_m4 134 rfl) rfl
theorem q983 : (Jvm.Cond.code ({ cls := "NobodyCanLiftIt", name := "force", desc := "(I)I" } : Jvm.MethodName) prog_1_method_37_code (3 : Nat) (Option.some Jvm.ClassFile.FieldType.int)) ∈ lw_all := lw_g (lw_at lw_m4 135 rfl) rfl
theorem q984 : (Jvm.Cond.methodLink "NobodyCanLiftIt" (336 : Nat) ({ cls := "NobodyCanLiftIt", name := "isText", desc := "(I)Z" } : Jvm.MethodName)) ∈ lw_all := lw_g (lw_at lw_m4 136 rfl) rfl
theorem q985 : (Jvm.Cond.privateMethod ({ cls := "NobodyCanLiftIt", name := "isText", desc := "(I)Z" } : Jvm.MethodName)) ∈ lw_tbl := lw_at lw_m4 137 rfl
theorem q986 : (Jvm.Cond.instanceMethod ({ cls := "NobodyCanLiftIt", name := "isText", desc := "(I)Z" } : Jvm.MethodName)) ∈ lw_all := lw_g (lw_at lw_m4 138 rfl) rfl
theorem q987 : (Jvm.Cond.code ({ cls := "NobodyCanLiftIt", name := "isText", desc := "(I)Z" } : Jvm.MethodName) prog_1_method_35_code (2 : Nat) (Option.some Jvm.ClassFile.FieldType.boolean)) ∈ lw_all := lw_g (lw_at lw_m4 139 rfl) rfl
theorem q989 : (Jvm.Cond.instanceMethod ({ cls := "NobodyCanLiftIt", name := "feels", desc := "(II)J" } : Jvm.MethodName)) ∈ lw_all := lw_g (lw_at lw_m4 141 rfl) rfl
theorem q990 : (Jvm.Cond.selects "NobodyCanLiftIt" ({ cls := "NobodyCanLiftIt", name := "feels", desc := "(II)J" } : Jvm.MethodName) ({ cls := "NobodyCanLiftIt", name := "feels", desc := "(II)J" } : Jvm.MethodName)) ∈ lw_all := lw_g (lw_at lw_m4 142 rfl) rfl
theorem q991 : (Jvm.Cond.code ({ cls := "NobodyCanLiftIt", name := "feels", desc := "(II)J" } : Jvm.MethodName) prog_1_method_46_code (3 : Nat) (Option.some Jvm.ClassFile.FieldType.long)) ∈ lw_all := lw_g (lw_at lw_m4 143 rfl) rfl
theorem q992 : (Jvm.Cond.constantLong "NobodyCanLiftIt" (384 : Nat) (-4611686018427387904 : Int64)) ∈ lw_all := lw_g (lw_at lw_m4 144 rfl) rfl
theorem q993 : (Jvm.Cond.methodLink "NobodyCanLiftIt" (386 : Nat) ({ cls := "NobodyCanLiftIt$Part", name := "told", desc := "(I)J" } : Jvm.MethodName)) ∈ lw_all := lw_g (lw_at lw_m4 145 rfl) rfl
theorem q998 : (Jvm.Cond.instanceMethod ({ cls := "NobodyCanLiftIt", name := "weight", desc := "(I)J" } : Jvm.MethodName)) ∈ lw_all := lw_g (lw_at lw_m4 150 rfl) rfl
theorem q999 : (Jvm.Cond.selects "NobodyCanLiftIt" ({ cls := "NobodyCanLiftIt", name := "weight", desc := "(I)J" } : Jvm.MethodName) ({ cls := "NobodyCanLiftIt", name := "weight", desc := "(I)J" } : Jvm.MethodName)) ∈ lw_all := lw_g (lw_at lw_m4 151 rfl) rfl
theorem q1000 : (Jvm.Cond.code ({ cls := "NobodyCanLiftIt", name := "weight", desc := "(I)J" } : Jvm.MethodName) prog_1_method_47_code (2 : Nat) (Option.some Jvm.ClassFile.FieldType.long)) ∈ lw_all := lw_g (lw_at lw_m4 152 rfl) rfl
theorem q1002 : (Jvm.Cond.instanceMethod ({ cls := "NobodyCanLiftIt", name := "year", desc := "()I" } : Jvm.MethodName)) ∈ lw_all := lw_g (lw_at lw_m4 154 rfl) rfl
theorem q1003 : (Jvm.Cond.selects "NobodyCanLiftIt" ({ cls := "NobodyCanLiftIt", name := "year", desc := "()I" } : Jvm.MethodName) ({ cls := "NobodyCanLiftIt", name := "year", desc := "()I" } : Jvm.MethodName)) ∈ lw_all := lw_g (lw_at lw_m4 155 rfl) rfl
theorem q1004 : (Jvm.Cond.code ({ cls := "NobodyCanLiftIt", name := "year", desc := "()I" } : Jvm.MethodName) prog_1_method_49_code (1 : Nat) (Option.some Jvm.ClassFile.FieldType.int)) ∈ lw_all := lw_g (lw_at lw_m4 156 rfl) rfl
theorem q1005 : (Jvm.Cond.methodLink "NobodyCanLiftIt" (390 : Nat) ({ cls := "NobodyCanLiftIt", name := "passes", desc := "()V" } : Jvm.MethodName)) ∈ lw_all := lw_g (lw_at lw_m4 157 rfl) rfl
theorem q1006 : (Jvm.Cond.privateMethod ({ cls := "NobodyCanLiftIt", name := "passes", desc := "()V" } : Jvm.MethodName)) ∈ lw_tbl := lw_at lw_m4 158 rfl
theorem q1007 : (Jvm.Cond.instanceMethod ({ cls := "NobodyCanLiftIt", name := "passes", desc := "()V" } : Jvm.MethodName)) ∈ lw_all := lw_g (lw_at lw_m4 159 rfl) rfl
theorem q1008 : (Jvm.Cond.code ({ cls := "NobodyCanLiftIt", name := "passes", desc := "()V" } : Jvm.MethodName) prog_1_method_48_code (3 : Nat) (Option.none : Option Jvm.ClassFile.FieldType)) ∈ lw_all := lw_g (lw_at lw_m4 160 rfl) rfl
theorem q1010 : (Jvm.Cond.instanceMethod ({ cls := "NobodyCanLiftIt", name := "lift", desc := "(I)I" } : Jvm.MethodName)) ∈ lw_all := lw_g (lw_at lw_m4 162 rfl) rfl
theorem q1011 : (Jvm.Cond.selects "NobodyCanLiftIt" ({ cls := "NobodyCanLiftIt", name := "lift", desc := "(I)I" } : Jvm.MethodName) ({ cls := "NobodyCanLiftIt", name := "lift", desc := "(I)I" } : Jvm.MethodName)) ∈ lw_all := lw_g (lw_at lw_m4 163 rfl) rfl
theorem q1012 : (Jvm.Cond.code ({ cls := "NobodyCanLiftIt", name := "lift", desc := "(I)I" } : Jvm.MethodName) prog_1_method_50_code (3 : Nat) (Option.some Jvm.ClassFile.FieldType.int)) ∈ lw_all := lw_g (lw_at lw_m4 164 rfl) rfl
theorem q1014 : (Jvm.Cond.instanceMethod ({ cls := "NobodyCanLiftIt", name := "run", desc := "(III)I" } : Jvm.MethodName)) ∈ lw_all := lw_g (lw_at lw_m4 166 rfl) rfl
theorem q1015 : (Jvm.Cond.selects "NobodyCanLiftIt" ({ cls := "NobodyCanLiftIt", name := "run", desc := "(III)I" } : Jvm.MethodName) ({ cls := "NobodyCanLiftIt", name := "run", desc := "(III)I" } : Jvm.MethodName)) ∈ lw_all := lw_g (lw_at lw_m4 167 rfl) rfl
theorem q1016 : (Jvm.Cond.code ({ cls := "NobodyCanLiftIt", name := "run", desc := "(III)I" } : Jvm.MethodName) prog_1_method_55_code (4 : Nat) (Option.some Jvm.ClassFile.FieldType.int)) ∈ lw_all := lw_g (lw_at lw_m4 168 rfl) rfl
theorem q1017 : (Jvm.Cond.constantLong "NobodyCanLiftIt" (405 : Nat) (60 : Int64)) ∈ lw_all := lw_g (lw_at lw_m4 169 rfl) rfl
theorem q1018 : (Jvm.Cond.methodLink "NobodyCanLiftIt" (407 : Nat) ({ cls := "NobodyCanLiftIt", name := "onBehind", desc := "(I)I" } : Jvm.MethodName)) ∈ lw_all := lw_g (lw_at lw_m4 170 rfl) rfl
theorem q1019 : (Jvm.Cond.privateMethod ({ cls := "NobodyCanLiftIt", name := "onBehind", desc := "(I)I" } : Jvm.MethodName)) ∈ lw_tbl := lw_at lw_m4 171 rfl
theorem q1020 : (Jvm.Cond.instanceMethod ({ cls := "NobodyCanLiftIt", name := "onBehind", desc := "(I)I" } : Jvm.MethodName)) ∈ lw_all := lw_g (lw_at lw_m4 172 rfl) rfl
theorem q1021 : (Jvm.Cond.codeWith ({ cls := "NobodyCanLiftIt", name := "onBehind", desc := "(I)I" } : Jvm.MethodName) prog_1_method_53_code (4 : Nat) (Option.some Jvm.ClassFile.FieldType.int) [((4 : Nat), (26 : Nat), (32 : Nat), (0 : Nat))]) ∈ lw_all := lw_g (lw_at lw_m4 173 rfl) rfl
theorem q1022 : (Jvm.Cond.methodLink "NobodyCanLiftIt" (399 : Nat) ({ cls := "NobodyCanLiftIt", name := "keeps", desc := "()V" } : Jvm.MethodName)) ∈ lw_all := lw_g (lw_at lw_m4 174 rfl) rfl
theorem q1023 : (Jvm.Cond.privateMethod ({ cls := "NobodyCanLiftIt", name := "keeps", desc := "()V" } : Jvm.MethodName)) ∈ lw_tbl := lw_at lw_m4 175 rfl
theorem q1024 : (Jvm.Cond.instanceMethod ({ cls := "NobodyCanLiftIt", name := "keeps", desc := "()V" } : Jvm.MethodName)) ∈ lw_all := lw_g (lw_at lw_m4 176 rfl) rfl
theorem q1025 : (Jvm.Cond.code ({ cls := "NobodyCanLiftIt", name := "keeps", desc := "()V" } : Jvm.MethodName) prog_1_method_51_code (3 : Nat) (Option.none : Option Jvm.ClassFile.FieldType)) ∈ lw_all := lw_g (lw_at lw_m4 177 rfl) rfl
theorem q1026 : (Jvm.Cond.methodLink "NobodyCanLiftIt" (402 : Nat) ({ cls := "NobodyCanLiftIt", name := "laysBack", desc := "()V" } : Jvm.MethodName)) ∈ lw_all := lw_g (lw_at lw_m4 178 rfl) rfl
theorem q1027 : (Jvm.Cond.privateMethod ({ cls := "NobodyCanLiftIt", name := "laysBack", desc := "()V" } : Jvm.MethodName)) ∈ lw_tbl := lw_at lw_m4 179 rfl
theorem q1028 : (Jvm.Cond.instanceMethod ({ cls := "NobodyCanLiftIt", name := "laysBack", desc := "()V" } : Jvm.MethodName)) ∈ lw_all := lw_g (lw_at lw_m4 180 rfl) rfl
theorem q1029 : (Jvm.Cond.code ({ cls := "NobodyCanLiftIt", name := "laysBack", desc := "()V" } : Jvm.MethodName) prog_1_method_52_code (3 : Nat) (Option.none : Option Jvm.ClassFile.FieldType)) ∈ lw_all := lw_g (lw_at lw_m4 181 rfl) rfl
theorem q1030 : (Jvm.Cond.methodLink "NobodyCanLiftIt" (410 : Nat) ({ cls := "NobodyCanLiftIt", name := "easeBehind", desc := "(II)I" } : Jvm.MethodName)) ∈ lw_all := lw_g (lw_at lw_m4 182 rfl) rfl
theorem q1031 : (Jvm.Cond.privateMethod ({ cls := "NobodyCanLiftIt", name := "easeBehind", desc := "(II)I" } : Jvm.MethodName)) ∈ lw_tbl := lw_at lw_m4 183 rfl
theorem q1032 : (Jvm.Cond.instanceMethod ({ cls := "NobodyCanLiftIt", name := "easeBehind", desc := "(II)I" } : Jvm.MethodName)) ∈ lw_all := lw_g (lw_at lw_m4 184 rfl) rfl
theorem q1033 : (Jvm.Cond.codeWith ({ cls := "NobodyCanLiftIt", name := "easeBehind", desc := "(II)I" } : Jvm.MethodName) prog_1_method_54_code (5 : Nat) (Option.some Jvm.ClassFile.FieldType.int) [((4 : Nat), (31 : Nat), (37 : Nat), (0 : Nat)), ((37 : Nat), (39 : Nat), (37 : Nat), (0 : Nat))]) ∈ lw_all := lw_g (lw_at lw_m4 185 rfl) rfl
theorem q1035 : (Jvm.Cond.instanceMethod ({ cls := "NobodyCanLiftIt", name := "heavy", desc := "(II)J" } : Jvm.MethodName)) ∈ lw_all := lw_g (lw_at lw_m4 187 rfl) rfl
theorem q1036 : (Jvm.Cond.selects "NobodyCanLiftIt" ({ cls := "NobodyCanLiftIt", name := "heavy", desc := "(II)J" } : Jvm.MethodName) ({ cls := "NobodyCanLiftIt", name := "heavy", desc := "(II)J" } : Jvm.MethodName)) ∈ lw_all := lw_g (lw_at lw_m4 188 rfl) rfl
theorem q1037 : (Jvm.Cond.codeWith ({ cls := "NobodyCanLiftIt", name := "heavy", desc := "(II)J" } : Jvm.MethodName) prog_1_method_56_code (6 : Nat) (Option.some Jvm.ClassFile.FieldType.long) [((30 : Nat), (60 : Nat), (66 : Nat), (0 : Nat)), ((66 : Nat), (68 : Nat), (66 : Nat), (0 : Nat))]) ∈ lw_all := lw_g (lw_at lw_m4 189 rfl) rfl
theorem q1039 : (Jvm.Cond.instanceMethod ({ cls := "NobodyCanLiftIt", name := "when", desc := "(II)I" } : Jvm.MethodName)) ∈ lw_all := lw_g (lw_at lw_m4 191 rfl) rfl
theorem q1040 : (Jvm.Cond.selects "NobodyCanLiftIt" ({ cls := "NobodyCanLiftIt", name := "when", desc := "(II)I" } : Jvm.MethodName) ({ cls := "NobodyCanLiftIt", name := "when", desc := "(II)I" } : Jvm.MethodName)) ∈ lw_all := lw_g (lw_at lw_m4 192 rfl) rfl
theorem q1041 : (Jvm.Cond.code ({ cls := "NobodyCanLiftIt", name := "when", desc := "(II)I" } : Jvm.MethodName) prog_1_method_59_code (4 : Nat) (Option.some Jvm.ClassFile.FieldType.int)) ∈ lw_all := lw_g (lw_at lw_m4 193 rfl) rfl
theorem q1042 : (Jvm.Cond.methodLink "NobodyCanLiftIt" (416 : Nat) ({ cls := "NobodyCanLiftIt", name := "firstTime", desc := "(II)I" } : Jvm.MethodName)) ∈ lw_all := lw_g (lw_at lw_m4 194 rfl) rfl
theorem q1043 : (Jvm.Cond.privateMethod ({ cls := "NobodyCanLiftIt", name := "firstTime", desc := "(II)I" } : Jvm.MethodName)) ∈ lw_tbl := lw_at lw_m4 195 rfl
theorem q1044 : (Jvm.Cond.instanceMethod ({ cls := "NobodyCanLiftIt", name := "firstTime", desc := "(II)I" } : Jvm.MethodName)) ∈ lw_all := lw_g (lw_at lw_m4 196 rfl) rfl
theorem q1045 : (Jvm.Cond.codeWith ({ cls := "NobodyCanLiftIt", name := "firstTime", desc := "(II)I" } : Jvm.MethodName) prog_1_method_58_code (6 : Nat) (Option.some Jvm.ClassFile.FieldType.int) [((4 : Nat), (24 : Nat), (49 : Nat), (0 : Nat)), ((31 : Nat), (43 : Nat), (49 : Nat), (0 : Nat)), ((49 : Nat), (51 : Nat), (49 : Nat), (0 : Nat))]) ∈ lw_all := lw_g (lw_at lw_m4 197 rfl) rfl
theorem q1046 : (Jvm.Cond.methodLink "NobodyCanLiftIt" (413 : Nat) ({ cls := "NobodyCanLiftIt", name := "isNow", desc := "(II)Z" } : Jvm.MethodName)) ∈ lw_all := lw_g (lw_at lw_m4 198 rfl) rfl
theorem q1047 : (Jvm.Cond.privateMethod ({ cls := "NobodyCanLiftIt", name := "isNow", desc := "(II)Z" } : Jvm.MethodName)) ∈ lw_tbl := lw_at lw_m4 199 rfl
theorem q1048 : (Jvm.Cond.instanceMethod ({ cls := "NobodyCanLiftIt", name := "isNow", desc := "(II)Z" } : Jvm.MethodName)) ∈ lw_all := lw_g (lw_at lw_m4 200 rfl) rfl
theorem q1049 : (Jvm.Cond.code ({ cls := "NobodyCanLiftIt", name := "isNow", desc := "(II)Z" } : Jvm.MethodName) prog_1_method_57_code (3 : Nat) (Option.some Jvm.ClassFile.FieldType.boolean)) ∈ lw_all := lw_g (lw_at lw_m4 201 rfl) rfl
theorem q1051 : (Jvm.Cond.instanceMethod ({ cls := "NobodyCanLiftIt", name := "best", desc := "(I)I" } : Jvm.MethodName)) ∈ lw_all := lw_g (lw_at lw_m4 203 rfl) rfl
theorem q1052 : (Jvm.Cond.selects "NobodyCanLiftIt" ({ cls := "NobodyCanLiftIt", name := "best", desc := "(I)I" } : Jvm.MethodName) ({ cls := "NobodyCanLiftIt", name := "best", desc := "(I)I" } : Jvm.MethodName)) ∈ lw_all := lw_g (lw_at lw_m4 204 rfl) rfl
theorem q1053 : (Jvm.Cond.code ({ cls := "NobodyCanLiftIt", name := "best", desc := "(I)I" } : Jvm.MethodName) prog_1_method_65_code (3 : Nat) (Option.some Jvm.ClassFile.FieldType.int)) ∈ lw_all := lw_g (lw_at lw_m4 205 rfl) rfl
theorem q1054 : (Jvm.Cond.methodLink "NobodyCanLiftIt" (442 : Nat) ({ cls := "NobodyCanLiftIt", name := "leave", desc := "()I" } : Jvm.MethodName)) ∈ lw_all := lw_g (lw_at lw_m4 206 rfl) rfl
theorem q1055 : (Jvm.Cond.privateMethod ({ cls := "NobodyCanLiftIt", name := "leave", desc := "()I" } : Jvm.MethodName)) ∈ lw_tbl := lw_at lw_m4 207 rfl
theorem q1056 : (Jvm.Cond.instanceMethod ({ cls := "NobodyCanLiftIt", name := "leave", desc := "()I" } : Jvm.MethodName)) ∈ lw_all := lw_g (lw_at lw_m4 208 rfl) rfl
theorem q1057 : (Jvm.Cond.codeWith ({ cls := "NobodyCanLiftIt", name := "leave", desc := "()I" } : Jvm.MethodName) prog_1_method_63_code (6 : Nat) (Option.some Jvm.ClassFile.FieldType.int) [((7 : Nat), (86 : Nat), (94 : Nat), (0 : Nat)), ((94 : Nat), (96 : Nat), (94 : Nat), (0 : Nat))]) ∈ lw_all := lw_g (lw_at lw_m4 209 rfl) rfl
theorem q1058 : (Jvm.Cond.methodLink "NobodyCanLiftIt" (422 : Nat) ({ cls := "NobodyCanLiftIt", name := "hereSet", desc := "()I" } : Jvm.MethodName)) ∈ lw_all := lw_g (lw_at lw_m4 210 rfl) rfl
theorem q1059 : (Jvm.Cond.privateMethod ({ cls := "NobodyCanLiftIt", name := "hereSet", desc := "()I" } : Jvm.MethodName)) ∈ lw_tbl := lw_at lw_m4 211 rfl
theorem q1060 : (Jvm.Cond.instanceMethod ({ cls := "NobodyCanLiftIt", name := "hereSet", desc := "()I" } : Jvm.MethodName)) ∈ lw_all := lw_g (lw_at lw_m4 212 rfl) rfl
theorem q1061 : (Jvm.Cond.code ({ cls := "NobodyCanLiftIt", name := "hereSet", desc := "()I" } : Jvm.MethodName) prog_1_method_60_code (3 : Nat) (Option.some Jvm.ClassFile.FieldType.int)) ∈ lw_all := lw_g (lw_at lw_m4 213 rfl) rfl
theorem q1062 : (Jvm.Cond.methodLink "NobodyCanLiftIt" (425 : Nat) ({ cls := "java/lang/Integer", name := "bitCount", desc := "(I)I" } : Jvm.MethodName)) ∈ lw_all := lw_g (lw_at lw_m4 214 rfl) rfl
theorem q1068 : (Jvm.Cond.methodLink "NobodyCanLiftIt" (430 : Nat) ({ cls := "NobodyCanLiftIt", name := "comes", desc := "(I)V" } : Jvm.MethodName)) ∈ lw_all := lw_g (lw_at lw_m4 220 rfl) rfl
theorem q1069 : (Jvm.Cond.privateMethod ({ cls := "NobodyCanLiftIt", name := "comes", desc := "(I)V" } : Jvm.MethodName)) ∈ lw_tbl := lw_at lw_m4 221 rfl
theorem q1070 : (Jvm.Cond.instanceMethod ({ cls := "NobodyCanLiftIt", name := "comes", desc := "(I)V" } : Jvm.MethodName)) ∈ lw_all := lw_g (lw_at lw_m4 222 rfl) rfl
theorem q1071 : (Jvm.Cond.code ({ cls := "NobodyCanLiftIt", name := "comes", desc := "(I)V" } : Jvm.MethodName) prog_1_method_61_code (3 : Nat) (Option.none : Option Jvm.ClassFile.FieldType)) ∈ lw_all := lw_g (lw_at lw_m4 223 rfl) rfl
theorem q1072 : (Jvm.Cond.methodLink "NobodyCanLiftIt" (419 : Nat) ({ cls := "NobodyCanLiftIt", name := "isIn", desc := "(II)Z" } : Jvm.MethodName)) ∈ lw_all := lw_g (lw_at lw_m4 224 rfl) rfl
theorem q1073 : (Jvm.Cond.static ({ cls := "NobodyCanLiftIt", name := "isIn", desc := "(II)Z" } : Jvm.MethodName)) ∈ lw_all := lw_g (lw_at lw_m4 225 rfl) rfl
theorem q1074 : (Jvm.Cond.code ({ cls := "NobodyCanLiftIt", name := "isIn", desc := "(II)Z" } : Jvm.MethodName) prog_1_method_3_code (2 : Nat) (Option.some Jvm.ClassFile.FieldType.boolean)) ∈ lw_all := lw_g (lw_at lw_m4 226 rfl) rfl
theorem q1075 : (Jvm.Cond.methodLink "NobodyCanLiftIt" (433 : Nat) ({ cls := "NobodyCanLiftIt", name := "anybodyLifts", desc := "()Z" } : Jvm.MethodName)) ∈ lw_all := lw_g (lw_at lw_m4 227 rfl) rfl
theorem q1076 : (Jvm.Cond.privateMethod ({ cls := "NobodyCanLiftIt", name := "anybodyLifts", desc := "()Z" } : Jvm.MethodName)) ∈ lw_tbl := lw_at lw_m4 228 rfl
theorem q1077 : (Jvm.Cond.instanceMethod ({ cls := "NobodyCanLiftIt", name := "anybodyLifts", desc := "()Z" } : Jvm.MethodName)) ∈ lw_all := lw_g (lw_at lw_m4 229 rfl) rfl
theorem q1078 : (Jvm.Cond.code ({ cls := "NobodyCanLiftIt", name := "anybodyLifts", desc := "()Z" } : Jvm.MethodName) prog_1_method_62_code (2 : Nat) (Option.some Jvm.ClassFile.FieldType.boolean)) ∈ lw_all := lw_g (lw_at lw_m4 230 rfl) rfl
theorem q1079 : (Jvm.Cond.methodLink "NobodyCanLiftIt" (445 : Nat) ({ cls := "NobodyCanLiftIt", name := "lightestOf", desc := "()I" } : Jvm.MethodName)) ∈ lw_all := lw_g (lw_at lw_m4 231 rfl) rfl
theorem q1080 : (Jvm.Cond.privateMethod ({ cls := "NobodyCanLiftIt", name := "lightestOf", desc := "()I" } : Jvm.MethodName)) ∈ lw_tbl := lw_at lw_m4 232 rfl
theorem q1081 : (Jvm.Cond.instanceMethod ({ cls := "NobodyCanLiftIt", name := "lightestOf", desc := "()I" } : Jvm.MethodName)) ∈ lw_all := lw_g (lw_at lw_m4 233 rfl) rfl
theorem q1082 : (Jvm.Cond.codeWith ({ cls := "NobodyCanLiftIt", name := "lightestOf", desc := "()I" } : Jvm.MethodName) prog_1_method_64_code (5 : Nat) (Option.some Jvm.ClassFile.FieldType.int) [((7 : Nat), (81 : Nat), (89 : Nat), (0 : Nat)), ((89 : Nat), (91 : Nat), (89 : Nat), (0 : Nat))]) ∈ lw_all := lw_g (lw_at lw_m4 234 rfl) rfl
theorem q1083 : (Jvm.Cond.methodLink "NobodyCanLiftIt" (437 : Nat) ({ cls := "NobodyCanLiftIt$Part", name := "against", desc := "(LNobodyCanLiftIt$Part;)I" } : Jvm.MethodName)) ∈ lw_all := lw_g (lw_at lw_m4 235 rfl) rfl
theorem q1087 : (Jvm.Cond.methodLink "NobodyCanLiftIt" (440 : Nat) ({ cls := "NobodyCanLiftIt$Part", name := "becomes", desc := "(LNobodyCanLiftIt$Part;)V" } : Jvm.MethodName)) ∈ lw_all := lw_g (lw_at lw_m4 239 rfl) rfl
theorem q1092 : (Jvm.Cond.instanceMethod ({ cls := "NobodyCanLiftIt", name := "prop", desc := "(III)I" } : Jvm.MethodName)) ∈ lw_all := lw_g (lw_at lw_m5 4 rfl) rfl
theorem q1093 : (Jvm.Cond.selects "NobodyCanLiftIt" ({ cls := "NobodyCanLiftIt", name := "prop", desc := "(III)I" } : Jvm.MethodName) ({ cls := "NobodyCanLiftIt", name := "prop", desc := "(III)I" } : Jvm.MethodName)) ∈ lw_all := lw_g (lw_at lw_m5 5 rfl) rfl
theorem q1094 : (Jvm.Cond.code ({ cls := "NobodyCanLiftIt", name := "prop", desc := "(III)I" } : Jvm.MethodName) prog_1_method_67_code (8 : Nat) (Option.some Jvm.ClassFile.FieldType.int)) ∈ lw_all := lw_g (lw_at lw_m5 6 rfl) rfl
theorem q1095 : (Jvm.Cond.constantLong "NobodyCanLiftIt" (448 : Nat) (40 : Int64)) ∈ lw_all := lw_g (lw_at lw_m5 7 rfl) rfl
theorem q1096 : (Jvm.Cond.constantLong "NobodyCanLiftIt" (450 : Nat) (99 : Int64)) ∈ lw_all := lw_g (lw_at lw_m5 8 rfl) rfl
theorem q1097 : (Jvm.Cond.methodLink "NobodyCanLiftIt" (452 : Nat) ({ cls := "NobodyCanLiftIt", name := "onPropping", desc := "(III)I" } : Jvm.MethodName)) ∈ lw_all := lw_g (lw_at lw_m5 9 rfl) rfl
theorem q1098 : (Jvm.Cond.privateMethod ({ cls := "NobodyCanLiftIt", name := "onPropping", desc := "(III)I" } : Jvm.MethodName)) ∈ lw_tbl := lw_at lw_m5 10 rfl
theorem q1099 : (Jvm.Cond.instanceMethod ({ cls := "NobodyCanLiftIt", name := "onPropping", desc := "(III)I" } : Jvm.MethodName)) ∈ lw_all := lw_g (lw_at lw_m5 11 rfl) rfl
theorem q1100 : (Jvm.Cond.codeWith ({ cls := "NobodyCanLiftIt", name := "onPropping", desc := "(III)I" } : Jvm.MethodName) prog_1_method_66_code (7 : Nat) (Option.some Jvm.ClassFile.FieldType.int) [((8 : Nat), (31 : Nat), (42 : Nat), (0 : Nat)), ((42 : Nat), (44 : Nat), (42 : Nat), (0 : Nat))]) ∈ lw_all := lw_g (lw_at lw_m5 12 rfl) rfl
theorem q1102 : (Jvm.Cond.instanceMethod ({ cls := "NobodyCanLiftIt", name := "sit", desc := "(II)I" } : Jvm.MethodName)) ∈ lw_all := lw_g (lw_at lw_m5 14 rfl) rfl
theorem q1103 : (Jvm.Cond.selects "NobodyCanLiftIt" ({ cls := "NobodyCanLiftIt", name := "sit", desc := "(II)I" } : Jvm.MethodName) ({ cls := "NobodyCanLiftIt", name := "sit", desc := "(II)I" } : Jvm.MethodName)) ∈ lw_all := lw_g (lw_at lw_m5 15 rfl) rfl
theorem q1104 : (Jvm.Cond.code ({ cls := "NobodyCanLiftIt", name := "sit", desc := "(II)I" } : Jvm.MethodName) prog_1_method_69_code (8 : Nat) (Option.some Jvm.ClassFile.FieldType.int)) ∈ lw_all := lw_g (lw_at lw_m5 16 rfl) rfl
theorem q1105 : (Jvm.Cond.methodLink "NobodyCanLiftIt" (455 : Nat) ({ cls := "NobodyCanLiftIt", name := "onSitting", desc := "(II)I" } : Jvm.MethodName)) ∈ lw_all := lw_g (lw_at lw_m5 17 rfl) rfl
theorem q1106 : (Jvm.Cond.privateMethod ({ cls := "NobodyCanLiftIt", name := "onSitting", desc := "(II)I" } : Jvm.MethodName)) ∈ lw_tbl := lw_at lw_m5 18 rfl
theorem q1107 : (Jvm.Cond.instanceMethod ({ cls := "NobodyCanLiftIt", name := "onSitting", desc := "(II)I" } : Jvm.MethodName)) ∈ lw_all := lw_g (lw_at lw_m5 19 rfl) rfl
theorem q1108 : (Jvm.Cond.codeWith ({ cls := "NobodyCanLiftIt", name := "onSitting", desc := "(II)I" } : Jvm.MethodName) prog_1_method_68_code (5 : Nat) (Option.some Jvm.ClassFile.FieldType.int) [((10 : Nat), (16 : Nat), (28 : Nat), (0 : Nat)), ((28 : Nat), (30 : Nat), (28 : Nat), (0 : Nat))]) ∈ lw_all := lw_g (lw_at lw_m5 20 rfl) rfl
theorem q1110 : (Jvm.Cond.instanceMethod ({ cls := "NobodyCanLiftIt", name := "tells", desc := "(III)I" } : Jvm.MethodName)) ∈ lw_all := lw_g (lw_at lw_m5 22 rfl) rfl
theorem q1111 : (Jvm.Cond.selects "NobodyCanLiftIt" ({ cls := "NobodyCanLiftIt", name := "tells", desc := "(III)I" } : Jvm.MethodName) ({ cls := "NobodyCanLiftIt", name := "tells", desc := "(III)I" } : Jvm.MethodName)) ∈ lw_all := lw_g (lw_at lw_m5 23 rfl) rfl
theorem q1112 : (Jvm.Cond.code ({ cls := "NobodyCanLiftIt", name := "tells", desc := "(III)I" } : Jvm.MethodName) prog_1_method_78_code (5 : Nat) (Option.some Jvm.ClassFile.FieldType.int)) ∈ lw_all := lw_g (lw_at lw_m5 24 rfl) rfl
theorem q1113 : (Jvm.Cond.methodLink "NobodyCanLiftIt" (485 : Nat) ({ cls := "NobodyCanLiftIt", name := "isSheet", desc := "(I)Z" } : Jvm.MethodName)) ∈ lw_all := lw_g (lw_at lw_m5 25 rfl) rfl
theorem q1114 : (Jvm.Cond.static ({ cls := "NobodyCanLiftIt", name := "isSheet", desc := "(I)Z" } : Jvm.MethodName)) ∈ lw_all := lw_g (lw_at lw_m5 26 rfl) rfl
theorem q1115 : (Jvm.Cond.code ({ cls := "NobodyCanLiftIt", name := "isSheet", desc := "(I)Z" } : Jvm.MethodName) prog_1_method_87_code (1 : Nat) (Option.some Jvm.ClassFile.FieldType.boolean)) ∈ lw_all := lw_g (lw_at lw_m5 27 rfl) rfl
theorem q1116 : (Jvm.Cond.constantLong "NobodyCanLiftIt" (535 : Nat) (3 : Int64)) ∈ lw_all := lw_g (lw_at lw_m5 28 rfl) rfl
theorem q1117 : (Jvm.Cond.constantLong "NobodyCanLiftIt" (488 : Nat) (8 : Int64)) ∈ lw_all := lw_g (lw_at lw_m5 29 rfl) rfl
theorem q1118 : (Jvm.Cond.methodLink "NobodyCanLiftIt" (458 : Nat) ({ cls := "NobodyCanLiftIt", name := "sortOf", desc := "(Ljava/lang/Object;)I" } : Jvm.MethodName)) ∈ lw_all := lw_g (lw_at lw_m5 30 rfl) rfl
theorem q1119 : (Jvm.Cond.static ({ cls := "NobodyCanLiftIt", name := "sortOf", desc := "(Ljava/lang/Object;)I" } : Jvm.MethodName)) ∈ lw_all := lw_g (lw_at lw_m5 31 rfl) rfl
theorem q1120 : (Jvm.Cond.code ({ cls := "NobodyCanLiftIt", name := "sortOf", desc := "(Ljava/lang/Object;)I" } : Jvm.MethodName) prog_1_method_95_code (1 : Nat) (Option.some Jvm.ClassFile.FieldType.int)) ∈ lw_all := lw_g (lw_at lw_m5 32 rfl) rfl
theorem q1121 : (Jvm.Cond.classLink "NobodyCanLiftIt" (547 : Nat) "[B") ∈ lw_all := lw_g (lw_at lw_m5 33 rfl) rfl
theorem q1122 : (Jvm.Cond.classLink "NobodyCanLiftIt" (551 : Nat) "[S") ∈ lw_all := lw_g (lw_at lw_m5 34 rfl) rfl
theorem q1123 : (Jvm.Cond.methodLink "NobodyCanLiftIt" (462 : Nat) ({ cls := "NobodyCanLiftIt", name := "lengthOf", desc := "(Ljava/lang/Object;I)I" } : Jvm.MethodName)) ∈ lw_all := lw_g (lw_at lw_m5 35 rfl) rfl
theorem q1124 : (Jvm.Cond.static ({ cls := "NobodyCanLiftIt", name := "lengthOf", desc := "(Ljava/lang/Object;I)I" } : Jvm.MethodName)) ∈ lw_all := lw_g (lw_at lw_m5 36 rfl) rfl
theorem q1125 : (Jvm.Cond.code ({ cls := "NobodyCanLiftIt", name := "lengthOf", desc := "(Ljava/lang/Object;I)I" } : Jvm.MethodName) prog_1_method_93_code (2 : Nat) (Option.some Jvm.ClassFile.FieldType.int)) ∈ lw_all := lw_g (lw_at lw_m5 37 rfl) rfl
theorem q1126 : (Jvm.Cond.classLink "NobodyCanLiftIt" (553 : Nat) "[I") ∈ lw_all := lw_g (lw_at lw_m5 38 rfl) rfl
theorem q1127 : (Jvm.Cond.methodLink "NobodyCanLiftIt" (474 : Nat) ({ cls := "NobodyCanLiftIt", name := "unlike", desc := "(Ljava/lang/Object;)I" } : Jvm.MethodName)) ∈ lw_all := lw_g (lw_at lw_m5 39 rfl) rfl
theorem q1128 : (Jvm.Cond.privateMethod ({ cls := "NobodyCanLiftIt", name := "unlike", desc := "(Ljava/lang/Object;)I" } : Jvm.MethodName)) ∈ lw_tbl := lw_at lw_m5 40 rfl
theorem q1129 : (Jvm.Cond.instanceMethod ({ cls := "NobodyCanLiftIt", name := "unlike", desc := "(Ljava/lang/Object;)I" } : Jvm.MethodName)) ∈ lw_all := lw_g (lw_at lw_m5 41 rfl) rfl
theorem q1130 : (Jvm.Cond.codeWith ({ cls := "NobodyCanLiftIt", name := "unlike", desc := "(Ljava/lang/Object;)I" } : Jvm.MethodName) prog_1_method_70_code (5 : Nat) (Option.some Jvm.ClassFile.FieldType.int) [((4 : Nat), (40 : Nat), (60 : Nat), (0 : Nat)), ((46 : Nat), (54 : Nat), (60 : Nat), (0 : Nat)), ((60 : Nat), (62 : Nat), (60 : Nat), (0 : Nat))]) ∈ lw_all := lw_g (lw_at lw_m5 42 rfl) rfl
theorem q1131 : (Jvm.Cond.methodLink "NobodyCanLiftIt" (466 : Nat) ({ cls := "NobodyCanLiftIt", name := "item", desc := "(Ljava/lang/Object;II)I" } : Jvm.MethodName)) ∈ lw_all := lw_g (lw_at lw_m5 43 rfl) rfl
theorem q1132 : (Jvm.Cond.static ({ cls := "NobodyCanLiftIt", name := "item", desc := "(Ljava/lang/Object;II)I" } : Jvm.MethodName)) ∈ lw_all := lw_g (lw_at lw_m5 44 rfl) rfl
theorem q1133 : (Jvm.Cond.code ({ cls := "NobodyCanLiftIt", name := "item", desc := "(Ljava/lang/Object;II)I" } : Jvm.MethodName) prog_1_method_92_code (3 : Nat) (Option.some Jvm.ClassFile.FieldType.int)) ∈ lw_all := lw_g (lw_at lw_m5 45 rfl) rfl
theorem q1134 : (Jvm.Cond.methodLink "NobodyCanLiftIt" (548 : Nat) ({ cls := "NobodyCanLiftIt", name := "asksPlace", desc := "(II)V" } : Jvm.MethodName)) ∈ lw_all := lw_g (lw_at lw_m5 46 rfl) rfl
theorem q1135 : (Jvm.Cond.static ({ cls := "NobodyCanLiftIt", name := "asksPlace", desc := "(II)V" } : Jvm.MethodName)) ∈ lw_all := lw_g (lw_at lw_m5 47 rfl) rfl
theorem q1136 : (Jvm.Cond.code ({ cls := "NobodyCanLiftIt", name := "asksPlace", desc := "(II)V" } : Jvm.MethodName) prog_1_method_94_code (2 : Nat) (Option.none : Option Jvm.ClassFile.FieldType)) ∈ lw_all := lw_g (lw_at lw_m5 48 rfl) rfl
theorem q1137 : (Jvm.Cond.classLink "NobodyCanLiftIt" (559 : Nat) "java/lang/IndexOutOfBoundsException") ∈ lw_all := lw_g (lw_at lw_m5 49 rfl) rfl
theorem q1146 : (Jvm.Cond.methodLink "NobodyCanLiftIt" (561 : Nat) ({ cls := "java/lang/IndexOutOfBoundsException", name := "<init>", desc := "()V" } : Jvm.MethodName)) ∈ lw_all := lw_g (lw_at lw_m5 58 rfl) rfl
theorem q1158 : (Jvm.Cond.methodLink "NobodyCanLiftIt" (494 : Nat) ({ cls := "NobodyCanLiftIt", name := "kindsOf", desc := "(Ljava/lang/Object;I)I" } : Jvm.MethodName)) ∈ lw_all := lw_g (lw_at lw_m5 70 rfl) rfl
theorem q1159 : (Jvm.Cond.privateMethod ({ cls := "NobodyCanLiftIt", name := "kindsOf", desc := "(Ljava/lang/Object;I)I" } : Jvm.MethodName)) ∈ lw_tbl := lw_at lw_m5 71 rfl
theorem q1160 : (Jvm.Cond.instanceMethod ({ cls := "NobodyCanLiftIt", name := "kindsOf", desc := "(Ljava/lang/Object;I)I" } : Jvm.MethodName)) ∈ lw_all := lw_g (lw_at lw_m5 72 rfl) rfl
theorem q1161 : (Jvm.Cond.code ({ cls := "NobodyCanLiftIt", name := "kindsOf", desc := "(Ljava/lang/Object;I)I" } : Jvm.MethodName) prog_1_method_72_code (5 : Nat) (Option.some Jvm.ClassFile.FieldType.int)) ∈ lw_all := lw_g (lw_at lw_m5 73 rfl) rfl
theorem q1162 : (Jvm.Cond.methodLink "NobodyCanLiftIt" (477 : Nat) ({ cls := "NobodyCanLiftIt", name := "isSoAs", desc := "(Ljava/lang/Object;II)Z" } : Jvm.MethodName)) ∈ lw_all := lw_g (lw_at lw_m5 74 rfl) rfl
theorem q1163 : (Jvm.Cond.privateMethod ({ cls := "NobodyCanLiftIt", name := "isSoAs", desc := "(Ljava/lang/Object;II)Z" } : Jvm.MethodName)) ∈ lw_tbl := lw_at lw_m5 75 rfl
theorem q1164 : (Jvm.Cond.instanceMethod ({ cls := "NobodyCanLiftIt", name := "isSoAs", desc := "(Ljava/lang/Object;II)Z" } : Jvm.MethodName)) ∈ lw_all := lw_g (lw_at lw_m5 76 rfl) rfl
theorem q1165 : (Jvm.Cond.codeWith ({ cls := "NobodyCanLiftIt", name := "isSoAs", desc := "(Ljava/lang/Object;II)Z" } : Jvm.MethodName) prog_1_method_71_code (7 : Nat) (Option.some Jvm.ClassFile.FieldType.boolean) [((8 : Nat), (49 : Nat), (60 : Nat), (0 : Nat)), ((60 : Nat), (62 : Nat), (60 : Nat), (0 : Nat))]) ∈ lw_all := lw_g (lw_at lw_m5 77 rfl) rfl
theorem q1166 : (Jvm.Cond.methodLink "NobodyCanLiftIt" (470 : Nat) ({ cls := "NobodyCanLiftIt$Man", name := "like", desc := "(LNobodyCanLiftIt$Man;)LNobodyCanLiftIt$Man;" } : Jvm.MethodName)) ∈ lw_all := lw_g (lw_at lw_m5 78 rfl) rfl
theorem q1176 : (Jvm.Cond.methodLink "NobodyCanLiftIt" (497 : Nat) ({ cls := "NobodyCanLiftIt", name := "numbersOf", desc := "(Ljava/lang/Object;I)I" } : Jvm.MethodName)) ∈ lw_all := lw_g (lw_at lw_m5 88 rfl) rfl
theorem q1177 : (Jvm.Cond.privateMethod ({ cls := "NobodyCanLiftIt", name := "numbersOf", desc := "(Ljava/lang/Object;I)I" } : Jvm.MethodName)) ∈ lw_tbl := lw_at lw_m5 89 rfl
theorem q1178 : (Jvm.Cond.instanceMethod ({ cls := "NobodyCanLiftIt", name := "numbersOf", desc := "(Ljava/lang/Object;I)I" } : Jvm.MethodName)) ∈ lw_all := lw_g (lw_at lw_m5 90 rfl) rfl
theorem q1179 : (Jvm.Cond.code ({ cls := "NobodyCanLiftIt", name := "numbersOf", desc := "(Ljava/lang/Object;I)I" } : Jvm.MethodName) prog_1_method_74_code (5 : Nat) (Option.some Jvm.ClassFile.FieldType.int)) ∈ lw_all := lw_g (lw_at lw_m5 91 rfl) rfl
theorem q1180 : (Jvm.Cond.methodLink "NobodyCanLiftIt" (481 : Nat) ({ cls := "NobodyCanLiftIt", name := "isSoBy", desc := "(Ljava/lang/Object;III)Z" } : Jvm.MethodName)) ∈ lw_all := lw_g (lw_at lw_m5 92 rfl) rfl
theorem q1181 : (Jvm.Cond.privateMethod ({ cls := "NobodyCanLiftIt", name := "isSoBy", desc := "(Ljava/lang/Object;III)Z" } : Jvm.MethodName)) ∈ lw_tbl := lw_at lw_m5 93 rfl
theorem q1182 : (Jvm.Cond.instanceMethod ({ cls := "NobodyCanLiftIt", name := "isSoBy", desc := "(Ljava/lang/Object;III)Z" } : Jvm.MethodName)) ∈ lw_all := lw_g (lw_at lw_m5 94 rfl) rfl
theorem q1183 : (Jvm.Cond.codeWith ({ cls := "NobodyCanLiftIt", name := "isSoBy", desc := "(Ljava/lang/Object;III)Z" } : Jvm.MethodName) prog_1_method_73_code (8 : Nat) (Option.some Jvm.ClassFile.FieldType.boolean) [((8 : Nat), (32 : Nat), (43 : Nat), (0 : Nat)), ((43 : Nat), (45 : Nat), (43 : Nat), (0 : Nat))]) ∈ lw_all := lw_g (lw_at lw_m5 95 rfl) rfl
theorem q1184 : (Jvm.Cond.methodLink "NobodyCanLiftIt" (500 : Nat) ({ cls := "NobodyCanLiftIt", name := "manyBy", desc := "(Ljava/lang/Object;IIZ)I" } : Jvm.MethodName)) ∈ lw_all := lw_g (lw_at lw_m5 96 rfl) rfl
theorem q1185 : (Jvm.Cond.privateMethod ({ cls := "NobodyCanLiftIt", name := "manyBy", desc := "(Ljava/lang/Object;IIZ)I" } : Jvm.MethodName)) ∈ lw_tbl := lw_at lw_m5 97 rfl
theorem q1186 : (Jvm.Cond.instanceMethod ({ cls := "NobodyCanLiftIt", name := "manyBy", desc := "(Ljava/lang/Object;IIZ)I" } : Jvm.MethodName)) ∈ lw_all := lw_g (lw_at lw_m5 98 rfl) rfl
theorem q1187 : (Jvm.Cond.code ({ cls := "NobodyCanLiftIt", name := "manyBy", desc := "(Ljava/lang/Object;IIZ)I" } : Jvm.MethodName) prog_1_method_75_code (7 : Nat) (Option.some Jvm.ClassFile.FieldType.int)) ∈ lw_all := lw_g (lw_at lw_m5 99 rfl) rfl
theorem q1188 : (Jvm.Cond.methodLink "NobodyCanLiftIt" (504 : Nat) ({ cls := "NobodyCanLiftIt", name := "textsOf", desc := "(Ljava/lang/Object;)I" } : Jvm.MethodName)) ∈ lw_all := lw_g (lw_at lw_m5 100 rfl) rfl
theorem q1189 : (Jvm.Cond.privateMethod ({ cls := "NobodyCanLiftIt", name := "textsOf", desc := "(Ljava/lang/Object;)I" } : Jvm.MethodName)) ∈ lw_tbl := lw_at lw_m5 101 rfl
theorem q1190 : (Jvm.Cond.instanceMethod ({ cls := "NobodyCanLiftIt", name := "textsOf", desc := "(Ljava/lang/Object;)I" } : Jvm.MethodName)) ∈ lw_all := lw_g (lw_at lw_m5 102 rfl) rfl
theorem q1191 : (Jvm.Cond.codeWith ({ cls := "NobodyCanLiftIt", name := "textsOf", desc := "(Ljava/lang/Object;)I" } : Jvm.MethodName) prog_1_method_76_code (6 : Nat) (Option.some Jvm.ClassFile.FieldType.int) [((7 : Nat), (51 : Nat), (59 : Nat), (0 : Nat)), ((59 : Nat), (61 : Nat), (59 : Nat), (0 : Nat))]) ∈ lw_all := lw_g (lw_at lw_m5 103 rfl) rfl
theorem q1192 : (Jvm.Cond.methodLink "NobodyCanLiftIt" (507 : Nat) ({ cls := "NobodyCanLiftIt", name := "peopleOf", desc := "(Ljava/lang/Object;)I" } : Jvm.MethodName)) ∈ lw_all := lw_g (lw_at lw_m5 104 rfl) rfl
theorem q1193 : (Jvm.Cond.privateMethod ({ cls := "NobodyCanLiftIt", name := "peopleOf", desc := "(Ljava/lang/Object;)I" } : Jvm.MethodName)) ∈ lw_tbl := lw_at lw_m5 105 rfl
theorem q1194 : (Jvm.Cond.instanceMethod ({ cls := "NobodyCanLiftIt", name := "peopleOf", desc := "(Ljava/lang/Object;)I" } : Jvm.MethodName)) ∈ lw_all := lw_g (lw_at lw_m5 106 rfl) rfl
theorem q1195 : (Jvm.Cond.code ({ cls := "NobodyCanLiftIt", name := "peopleOf", desc := "(Ljava/lang/Object;)I" } : Jvm.MethodName) prog_1_method_77_code (4 : Nat) (Option.some Jvm.ClassFile.FieldType.int)) ∈ lw_all := lw_g (lw_at lw_m5 107 rfl) rfl
theorem q1197 : (Jvm.Cond.instanceMethod ({ cls := "NobodyCanLiftIt", name := "film", desc := "(II)I" } : Jvm.MethodName)) ∈ lw_all := lw_g (lw_at lw_m5 109 rfl) rfl
theorem q1198 : (Jvm.Cond.selects "NobodyCanLiftIt" ({ cls := "NobodyCanLiftIt", name := "film", desc := "(II)I" } : Jvm.MethodName) ({ cls := "NobodyCanLiftIt", name := "film", desc := "(II)I" } : Jvm.MethodName)) ∈ lw_all := lw_g (lw_at lw_m5 110 rfl) rfl
theorem q1199 : (Jvm.Cond.codeWith ({ cls := "NobodyCanLiftIt", name := "film", desc := "(II)I" } : Jvm.MethodName) prog_1_method_79_code (5 : Nat) (Option.some Jvm.ClassFile.FieldType.int) [((34 : Nat), (62 : Nat), (69 : Nat), (0 : Nat)), ((69 : Nat), (71 : Nat), (69 : Nat), (0 : Nat))]) ∈ lw_all := lw_g (lw_at lw_m5 111 rfl) rfl
theorem q1200 : (Jvm.Cond.constantLong "NobodyCanLiftIt" (510 : Nat) (20 : Int64)) ∈ lw_all := lw_g (lw_at lw_m5 112 rfl) rfl
theorem q1201 : (Jvm.Cond.methodLink "NobodyCanLiftIt" (512 : Nat) ({ cls := "NobodyCanLiftIt", name := "sheet", desc := "(III)I" } : Jvm.MethodName)) ∈ lw_all := lw_g (lw_at lw_m5 113 rfl) rfl
theorem q1202 : (Jvm.Cond.instanceMethod ({ cls := "NobodyCanLiftIt", name := "sheet", desc := "(III)I" } : Jvm.MethodName)) ∈ lw_all := lw_g (lw_at lw_m5 114 rfl) rfl
theorem q1203 : (Jvm.Cond.selects "NobodyCanLiftIt" ({ cls := "NobodyCanLiftIt", name := "sheet", desc := "(III)I" } : Jvm.MethodName) ({ cls := "NobodyCanLiftIt", name := "sheet", desc := "(III)I" } : Jvm.MethodName)) ∈ lw_all := lw_g (lw_at lw_m5 115 rfl) rfl
theorem q1204 : (Jvm.Cond.codeWith ({ cls := "NobodyCanLiftIt", name := "sheet", desc := "(III)I" } : Jvm.MethodName) prog_1_method_89_code (5 : Nat) (Option.some Jvm.ClassFile.FieldType.int) [((52 : Nat), (67 : Nat), (68 : Nat), (545 : Nat))]) ∈ lw_all := lw_g (lw_at lw_m5 116 rfl) rfl
theorem q1205 : (Jvm.Cond.classLink "NobodyCanLiftIt" (545 : Nat) "java/lang/NegativeArraySizeException") ∈ lw_all := lw_g (lw_at lw_m5 117 rfl) rfl
theorem q1232 : (Jvm.Cond.constantLong "NobodyCanLiftIt" (537 : Nat) (-1 : Int64)) ∈ lw_all := lw_g (lw_at lw_m5 144 rfl) rfl
theorem q1233 : (Jvm.Cond.constantLong "NobodyCanLiftIt" (539 : Nat) (2 : Int64)) ∈ lw_all := lw_g (lw_at lw_m5 145 rfl) rfl
theorem q1234 : (Jvm.Cond.methodLink "NobodyCanLiftIt" (541 : Nat) ({ cls := "NobodyCanLiftIt", name := "rowOf", desc := "(II)Ljava/lang/Object;" } : Jvm.MethodName)) ∈ lw_all := lw_g (lw_at lw_m5 146 rfl) rfl
theorem q1235 : (Jvm.Cond.static ({ cls := "NobodyCanLiftIt", name := "rowOf", desc := "(II)Ljava/lang/Object;" } : Jvm.MethodName)) ∈ lw_all := lw_g (lw_at lw_m5 147 rfl) rfl
theorem q1236 : (Jvm.Cond.code ({ cls := "NobodyCanLiftIt", name := "rowOf", desc := "(II)Ljava/lang/Object;" } : Jvm.MethodName) prog_1_method_88_code (2 : Nat) (Option.some (Jvm.ClassFile.FieldType.object "java/lang/Object"))) ∈ lw_all := lw_g (lw_at lw_m5 148 rfl) rfl
theorem q1237 : (Jvm.Cond.methodLink "NobodyCanLiftIt" (515 : Nat) ({ cls := "NobodyCanLiftIt", name := "cell", desc := "(III)I" } : Jvm.MethodName)) ∈ lw_all := lw_g (lw_at lw_m5 149 rfl) rfl
theorem q1238 : (Jvm.Cond.instanceMethod ({ cls := "NobodyCanLiftIt", name := "cell", desc := "(III)I" } : Jvm.MethodName)) ∈ lw_all := lw_g (lw_at lw_m5 150 rfl) rfl
theorem q1239 : (Jvm.Cond.selects "NobodyCanLiftIt" ({ cls := "NobodyCanLiftIt", name := "cell", desc := "(III)I" } : Jvm.MethodName) ({ cls := "NobodyCanLiftIt", name := "cell", desc := "(III)I" } : Jvm.MethodName)) ∈ lw_all := lw_g (lw_at lw_m5 151 rfl) rfl
theorem q1240 : (Jvm.Cond.codeWith ({ cls := "NobodyCanLiftIt", name := "cell", desc := "(III)I" } : Jvm.MethodName) prog_1_method_91_code (5 : Nat) (Option.some Jvm.ClassFile.FieldType.int) [((10 : Nat), (24 : Nat), (25 : Nat), (557 : Nat)), ((10 : Nat), (24 : Nat), (30 : Nat), (559 : Nat))]) ∈ lw_all := lw_g (lw_at lw_m5 152 rfl) rfl
theorem q1241 : (Jvm.Cond.classLink "NobodyCanLiftIt" (557 : Nat) "java/lang/NullPointerException") ∈ lw_all := lw_g (lw_at lw_m5 153 rfl) rfl
theorem q1278 : (Jvm.Cond.methodLink "NobodyCanLiftIt" (554 : Nat) ({ cls := "NobodyCanLiftIt", name := "put", desc := "(Ljava/lang/Object;II)I" } : Jvm.MethodName)) ∈ lw_all := lw_g (lw_at lw_m5 190 rfl) rfl
theorem q1279 : (Jvm.Cond.static ({ cls := "NobodyCanLiftIt", name := "put", desc := "(Ljava/lang/Object;II)I" } : Jvm.MethodName)) ∈ lw_all := lw_g (lw_at lw_m5 191 rfl) rfl
theorem q1280 : (Jvm.Cond.code ({ cls := "NobodyCanLiftIt", name := "put", desc := "(Ljava/lang/Object;II)I" } : Jvm.MethodName) prog_1_method_90_code (3 : Nat) (Option.some Jvm.ClassFile.FieldType.int)) ∈ lw_all := lw_g (lw_at lw_m5 192 rfl) rfl
theorem q1283 : (Jvm.Cond.instanceMethod ({ cls := "NobodyCanLiftIt", name := "drawn", desc := "(II)I" } : Jvm.MethodName)) ∈ lw_all := lw_g (lw_at lw_m5 195 rfl) rfl
theorem q1284 : (Jvm.Cond.selects "NobodyCanLiftIt" ({ cls := "NobodyCanLiftIt", name := "drawn", desc := "(II)I" } : Jvm.MethodName) ({ cls := "NobodyCanLiftIt", name := "drawn", desc := "(II)I" } : Jvm.MethodName)) ∈ lw_all := lw_g (lw_at lw_m5 196 rfl) rfl
theorem q1285 : (Jvm.Cond.code ({ cls := "NobodyCanLiftIt", name := "drawn", desc := "(II)I" } : Jvm.MethodName) prog_1_method_81_code (3 : Nat) (Option.some Jvm.ClassFile.FieldType.int)) ∈ lw_all := lw_g (lw_at lw_m5 197 rfl) rfl
theorem q1286 : (Jvm.Cond.methodLink "NobodyCanLiftIt" (519 : Nat) ({ cls := "NobodyCanLiftIt", name := "onDrawn", desc := "(II)I" } : Jvm.MethodName)) ∈ lw_all := lw_g (lw_at lw_m5 198 rfl) rfl
theorem q1287 : (Jvm.Cond.privateMethod ({ cls := "NobodyCanLiftIt", name := "onDrawn", desc := "(II)I" } : Jvm.MethodName)) ∈ lw_tbl := lw_at lw_m5 199 rfl
theorem q1288 : (Jvm.Cond.instanceMethod ({ cls := "NobodyCanLiftIt", name := "onDrawn", desc := "(II)I" } : Jvm.MethodName)) ∈ lw_all := lw_g (lw_at lw_m5 200 rfl) rfl
theorem q1289 : (Jvm.Cond.codeWith ({ cls := "NobodyCanLiftIt", name := "onDrawn", desc := "(II)I" } : Jvm.MethodName) prog_1_method_80_code (7 : Nat) (Option.some Jvm.ClassFile.FieldType.int) [((6 : Nat), (87 : Nat), (94 : Nat), (0 : Nat)), ((94 : Nat), (96 : Nat), (94 : Nat), (0 : Nat))]) ∈ lw_all := lw_g (lw_at lw_m5 201 rfl) rfl
theorem q1290 : (Jvm.Cond.constant "NobodyCanLiftIt" (518 : Nat) (1103515245 : Int32)) ∈ lw_all := lw_g (lw_at lw_m5 202 rfl) rfl
theorem q1292 : (Jvm.Cond.instanceMethod ({ cls := "NobodyCanLiftIt", name := "chance", desc := "(IIII)J" } : Jvm.MethodName)) ∈ lw_all := lw_g (lw_at lw_m5 204 rfl) rfl
theorem q1293 : (Jvm.Cond.selects "NobodyCanLiftIt" ({ cls := "NobodyCanLiftIt", name := "chance", desc := "(IIII)J" } : Jvm.MethodName) ({ cls := "NobodyCanLiftIt", name := "chance", desc := "(IIII)J" } : Jvm.MethodName)) ∈ lw_all := lw_g (lw_at lw_m5 205 rfl) rfl
theorem q1294 : (Jvm.Cond.code ({ cls := "NobodyCanLiftIt", name := "chance", desc := "(IIII)J" } : Jvm.MethodName) prog_1_method_83_code (8 : Nat) (Option.some Jvm.ClassFile.FieldType.long)) ∈ lw_all := lw_g (lw_at lw_m5 206 rfl) rfl
theorem q1295 : (Jvm.Cond.methodLink "NobodyCanLiftIt" (522 : Nat) ({ cls := "NobodyCanLiftIt", name := "lowest", desc := "(JJI)J" } : Jvm.MethodName)) ∈ lw_all := lw_g (lw_at lw_m5 207 rfl) rfl
theorem q1296 : (Jvm.Cond.static ({ cls := "NobodyCanLiftIt", name := "lowest", desc := "(JJI)J" } : Jvm.MethodName)) ∈ lw_all := lw_g (lw_at lw_m5 208 rfl) rfl
theorem q1297 : (Jvm.Cond.code ({ cls := "NobodyCanLiftIt", name := "lowest", desc := "(JJI)J" } : Jvm.MethodName) prog_1_method_82_code (11 : Nat) (Option.some Jvm.ClassFile.FieldType.long)) ∈ lw_all := lw_g (lw_at lw_m5 209 rfl) rfl
theorem q1299 : (Jvm.Cond.instanceMethod ({ cls := "NobodyCanLiftIt", name := "image", desc := "()I" } : Jvm.MethodName)) ∈ lw_all := lw_g (lw_at lw_m5 211 rfl) rfl
theorem q1300 : (Jvm.Cond.selects "NobodyCanLiftIt" ({ cls := "NobodyCanLiftIt", name := "image", desc := "()I" } : Jvm.MethodName) ({ cls := "NobodyCanLiftIt", name := "image", desc := "()I" } : Jvm.MethodName)) ∈ lw_all := lw_g (lw_at lw_m5 212 rfl) rfl
theorem q1301 : (Jvm.Cond.code ({ cls := "NobodyCanLiftIt", name := "image", desc := "()I" } : Jvm.MethodName) prog_1_method_84_code (3 : Nat) (Option.some Jvm.ClassFile.FieldType.int)) ∈ lw_all := lw_g (lw_at lw_m5 213 rfl) rfl
theorem q1302 : (Jvm.Cond.methodLink "NobodyCanLiftIt" (526 : Nat) ({ cls := "java/lang/System", name := "arraycopy", desc := "(Ljava/lang/Object;ILjava/lang/Object;II)V" } : Jvm.MethodName)) ∈ lw_all := lw_g (lw_at lw_m5 214 rfl) rfl
theorem q1306 : (Jvm.Cond.instanceMethod ({ cls := "NobodyCanLiftIt", name := "back", desc := "()I" } : Jvm.MethodName)) ∈ lw_all := lw_g (lw_at lw_m5 218 rfl) rfl
theorem q1307 : (Jvm.Cond.selects "NobodyCanLiftIt" ({ cls := "NobodyCanLiftIt", name := "back", desc := "()I" } : Jvm.MethodName) ({ cls := "NobodyCanLiftIt", name := "back", desc := "()I" } : Jvm.MethodName)) ∈ lw_all := lw_g (lw_at lw_m5 219 rfl) rfl
theorem q1308 : (Jvm.Cond.code ({ cls := "NobodyCanLiftIt", name := "back", desc := "()I" } : Jvm.MethodName) prog_1_method_85_code (3 : Nat) (Option.some Jvm.ClassFile.FieldType.int)) ∈ lw_all := lw_g (lw_at lw_m5 220 rfl) rfl
theorem q1310 : (Jvm.Cond.instanceMethod ({ cls := "NobodyCanLiftIt", name := "count", desc := "(I)I" } : Jvm.MethodName)) ∈ lw_all := lw_g (lw_at lw_m5 222 rfl) rfl
theorem q1311 : (Jvm.Cond.selects "NobodyCanLiftIt" ({ cls := "NobodyCanLiftIt", name := "count", desc := "(I)I" } : Jvm.MethodName) ({ cls := "NobodyCanLiftIt", name := "count", desc := "(I)I" } : Jvm.MethodName)) ∈ lw_all := lw_g (lw_at lw_m5 223 rfl) rfl
theorem q1312 : (Jvm.Cond.code ({ cls := "NobodyCanLiftIt", name := "count", desc := "(I)I" } : Jvm.MethodName) prog_1_method_86_code (2 : Nat) (Option.some Jvm.ClassFile.FieldType.int)) ∈ lw_all := lw_g (lw_at lw_m5 224 rfl) rfl
theorem q1316 : (Jvm.Cond.instanceMethod ({ cls := "NobodyCanLiftIt", name := "copy", desc := "(IIIII)I" } : Jvm.MethodName)) ∈ lw_all := lw_g (lw_at lw_m5 228 rfl) rfl
theorem q1317 : (Jvm.Cond.selects "NobodyCanLiftIt" ({ cls := "NobodyCanLiftIt", name := "copy", desc := "(IIIII)I" } : Jvm.MethodName) ({ cls := "NobodyCanLiftIt", name := "copy", desc := "(IIIII)I" } : Jvm.MethodName)) ∈ lw_all := lw_g (lw_at lw_m5 229 rfl) rfl
theorem q1318 : (Jvm.Cond.code ({ cls := "NobodyCanLiftIt", name := "copy", desc := "(IIIII)I" } : Jvm.MethodName) prog_1_method_96_code (10 : Nat) (Option.some Jvm.ClassFile.FieldType.int)) ∈ lw_all := lw_g (lw_at lw_m5 230 rfl) rfl
theorem q1320 : (Jvm.Cond.instanceMethod ({ cls := "NobodyCanLiftIt", name := "court", desc := "(IIII)I" } : Jvm.MethodName)) ∈ lw_all := lw_g (lw_at lw_m5 232 rfl) rfl
theorem q1321 : (Jvm.Cond.selects "NobodyCanLiftIt" ({ cls := "NobodyCanLiftIt", name := "court", desc := "(IIII)I" } : Jvm.MethodName) ({ cls := "NobodyCanLiftIt", name := "court", desc := "(IIII)I" } : Jvm.MethodName)) ∈ lw_all := lw_g (lw_at lw_m5 233 rfl) rfl
theorem q1322 : (Jvm.Cond.codeWith ({ cls := "NobodyCanLiftIt", name := "court", desc := "(IIII)I" } : Jvm.MethodName) prog_1_method_98_code (6 : Nat) (Option.some Jvm.ClassFile.FieldType.int) [((35 : Nat), (52 : Nat), (53 : Nat), (569 : Nat)), ((35 : Nat), (52 : Nat), (58 : Nat), (557 : Nat)), ((35 : Nat), (52 : Nat), (63 : Nat), (559 : Nat))]) ∈ lw_all := lw_g (lw_at lw_m5 234 rfl) rfl
theorem q1323 : (Jvm.Cond.classLink "NobodyCanLiftIt" (569 : Nat) "java/lang/ClassCastException") ∈ lw_all := lw_g (lw_at lw_m5 235 rfl) rfl
theorem q1337 : (Jvm.Cond.methodLink "NobodyCanLiftIt" (565 : Nat) ({ cls := "NobodyCanLiftIt", name := "came", desc := "(Ljava/lang/Object;III)I" } : Jvm.MethodName)) ∈ lw_all := lw_g (lw_at lw_m6 9 rfl) rfl
theorem q1338 : (Jvm.Cond.privateMethod ({ cls := "NobodyCanLiftIt", name := "came", desc := "(Ljava/lang/Object;III)I" } : Jvm.MethodName)) ∈ lw_tbl := lw_at lw_m6 10 rfl
theorem q1339 : (Jvm.Cond.instanceMethod ({ cls := "NobodyCanLiftIt", name := "came", desc := "(Ljava/lang/Object;III)I" } : Jvm.MethodName)) ∈ lw_all := lw_g (lw_at lw_m6 11 rfl) rfl
theorem q1340 : (Jvm.Cond.code ({ cls := "NobodyCanLiftIt", name := "came", desc := "(Ljava/lang/Object;III)I" } : Jvm.MethodName) prog_1_method_97_code (10 : Nat) (Option.some Jvm.ClassFile.FieldType.int)) ∈ lw_all := lw_g (lw_at lw_m6 12 rfl) rfl
theorem q1341 : (Jvm.Cond.methodLink "NobodyCanLiftIt" (562 : Nat) ({ cls := "NobodyCanLiftIt", name := "person", desc := "(III)I" } : Jvm.MethodName)) ∈ lw_all := lw_g (lw_at lw_m6 13 rfl) rfl
theorem q1343 : (Jvm.Cond.instanceMethod ({ cls := "NobodyCanLiftIt", name := "taken", desc := "(II)I" } : Jvm.MethodName)) ∈ lw_all := lw_g (lw_at lw_m6 15 rfl) rfl
theorem q1344 : (Jvm.Cond.selects "NobodyCanLiftIt" ({ cls := "NobodyCanLiftIt", name := "taken", desc := "(II)I" } : Jvm.MethodName) ({ cls := "NobodyCanLiftIt", name := "taken", desc := "(II)I" } : Jvm.MethodName)) ∈ lw_all := lw_g (lw_at lw_m6 16 rfl) rfl
theorem q1345 : (Jvm.Cond.codeWith ({ cls := "NobodyCanLiftIt", name := "taken", desc := "(II)I" } : Jvm.MethodName) prog_1_method_100_code (4 : Nat) (Option.some Jvm.ClassFile.FieldType.int) [((15 : Nat), (40 : Nat), (41 : Nat), (557 : Nat)), ((15 : Nat), (40 : Nat), (45 : Nat), (569 : Nat))]) ∈ lw_all := lw_g (lw_at lw_m6 17 rfl) rfl
theorem q1346 : (Jvm.Cond.methodLink "NobodyCanLiftIt" (571 : Nat) ({ cls := "NobodyCanLiftIt", name := "as", desc := "(LNobodyCanLiftIt$Man;I)LNobodyCanLiftIt$Man;" } : Jvm.MethodName)) ∈ lw_all := lw_g (lw_at lw_m6 18 rfl) rfl
theorem q1347 : (Jvm.Cond.static ({ cls := "NobodyCanLiftIt", name := "as", desc := "(LNobodyCanLiftIt$Man;I)LNobodyCanLiftIt$Man;" } : Jvm.MethodName)) ∈ lw_all := lw_g (lw_at lw_m6 19 rfl) rfl
theorem q1348 : (Jvm.Cond.code ({ cls := "NobodyCanLiftIt", name := "as", desc := "(LNobodyCanLiftIt$Man;I)LNobodyCanLiftIt$Man;" } : Jvm.MethodName) prog_1_method_99_code (2 : Nat) (Option.some (Jvm.ClassFile.FieldType.object "NobodyCanLiftIt$Man"))) ∈ lw_all := lw_g (lw_at lw_m6 20 rfl) rfl
theorem in_X0 : ∀ w ∈ wsX00, w ∈ lw_all := lw_in wsX00 [915, 917, 919, 921, 923, 925, 927, 929, 931, 933, 935, 937, 939, 941, 943, 945, 947, 949, 951, 953, 955, 957, 959, 961, 963, 965, 967, 969, 971, 973, 975, 977] (by decide +kernel) (by decide +kernel)
