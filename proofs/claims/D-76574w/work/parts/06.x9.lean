/-! NobodyCanLiftItModel -/
set_option maxRecDepth 100000
def RX9 : String := "NobodyCanLiftItModel"
def TX9 : u_T := fun k => match k with
  | 0 => ("NobodyCanLiftItModel", "thrown", "I", false)
  | 1 => ("NobodyCanLiftItModel", "texts", "[I", true)
  | 2 => ("NobodyCanLiftItModel", "textSize", "[I", true)
  | 3 => ("NobodyCanLiftItModel", "textCount", "I", false)
  | 4 => ("NobodyCanLiftItModel", "rule", "I", false)
  | 5 => ("NobodyCanLiftItModel", "tape", "[I", true)
  | 6 => ("NobodyCanLiftItModel", "taped", "I", false)
  | 7 => ("NobodyCanLiftItModel", "loads", "[I", true)
  | 8 => ("NobodyCanLiftItModel", "floorNow", "I", false)
  | 9 => ("NobodyCanLiftItModel", "yearNow", "I", false)
  | 10 => ("NobodyCanLiftItModel", "rows", "[I", true)
  | 11 => ("NobodyCanLiftItModel", "many", "I", false)
  | 12 => ("NobodyCanLiftItModel", "ofAge", "I", false)
  | 13 => ("NobodyCanLiftItModel", "ofNumber", "I", false)
  | 14 => ("NobodyCanLiftItModel", "ofFloor", "I", false)
  | 15 => ("NobodyCanLiftItModel", "ofYear", "I", false)
  | 16 => ("NobodyCanLiftItModel", "ofEase", "I", false)
  | 17 => ("NobodyCanLiftItModel", "ofOthers", "I", false)
  | 18 => ("NobodyCanLiftItModel", "from", "I", false)
  | 19 => ("NobodyCanLiftItModel", "size", "I", false)
  | 20 => ("NobodyCanLiftItModel", "here", "I", false)
  | 21 => ("NobodyCanLiftItModel", "token", "I", false)
  | 22 => ("NobodyCanLiftItModel", "tokenAt", "I", false)
  | 23 => ("NobodyCanLiftItModel", "tokenWorth", "J", false)
  | 24 => ("NobodyCanLiftItModel", "open", "I", false)
  | 25 => ("NobodyCanLiftItModel", "bad", "Z", false)
  | 26 => ("NobodyCanLiftItModel", "fault", "I", false)
  | 27 => ("NobodyCanLiftItModel", "eased", "[I", true)
  | 28 => ("NobodyCanLiftItModel", "was", "[I", true)
  | 29 => ("NobodyCanLiftItModel", "loadsKept", "[I", true)
  | 30 => ("NobodyCanLiftItModel", "rowsKept", "[I", true)
  | 31 => ("NobodyCanLiftItModel", "manyKept", "I", false)
  | 32 => ("NobodyCanLiftItModel", "floorKept", "I", false)
  | 33 => ("NobodyCanLiftItModel", "yearKept", "I", false)
  | 34 => ("NobodyCanLiftItModel", "ruleKept", "I", false)
  | 35 => ("NobodyCanLiftItModel", "isThere", "[Z", true)
  | 36 => ("NobodyCanLiftItModel", "sorts", "[I", true)
  | 37 => ("NobodyCanLiftItModel", "sheetSize", "[I", true)
  | _ => ("NobodyCanLiftItModel", "items", "[I", true)
def tyX9 : Nat → FieldType := fun k => match k with
  | 0 => .int
  | 1 => .array .int
  | 2 => .array .int
  | 3 => .int
  | 4 => .int
  | 5 => .array .int
  | 6 => .int
  | 7 => .array .int
  | 8 => .int
  | 9 => .int
  | 10 => .array .int
  | 11 => .int
  | 12 => .int
  | 13 => .int
  | 14 => .int
  | 15 => .int
  | 16 => .int
  | 17 => .int
  | 18 => .int
  | 19 => .int
  | 20 => .int
  | 21 => .int
  | 22 => .int
  | 23 => .long
  | 24 => .int
  | 25 => .boolean
  | 26 => .int
  | 27 => .array .int
  | 28 => .array .int
  | 29 => .array .int
  | 30 => .array .int
  | 31 => .int
  | 32 => .int
  | 33 => .int
  | 34 => .int
  | 35 => .array .boolean
  | 36 => .array .int
  | 37 => .array .int
  | _ => .array .int
abbrev wsX90 : List Cond := u_ws RX9 TX9 39
set_option maxRecDepth 100000 in
theorem nmX9 : ∀ a, a < 39 → ∀ b, b < 39 → a ≠ b → (TX9 a).2.1 ≠ (TX9 b).2.1 := by decide +kernel
set_option maxRecDepth 100000 in
theorem tyX9_ok : ∀ k, k < 39 → parseFieldDescriptor (TX9 k).2.2.1 = some (tyX9 k) := by decide +kernel
abbrev cX9_init : ByteArray := prog_17_method_4_code
def yX9_init : MethodName := ⟨RX9, "<init>", "()V"⟩
def dkwX9_init_10 : List UInt8 := [16, 32, 16, 32, 16, 32, 182, 0, 57, 42, 180, 0, 17, 3, 16, 40, 79, 42, 4, 181, 0, 61, 177]
abbrev dktX9_init_10 : List UInt8 := dkwX9_init_10 ++ []
def dkwX9_init_9 : List UInt8 := [16, 115, 16, 32, 16, 49, 16, 32, 182, 0, 57, 42, 16, 32, 16, 59, 16, 32, 16, 32, 16, 32, 16, 32]
abbrev dktX9_init_9 : List UInt8 := dkwX9_init_9 ++ dktX9_init_10
def dkwX9_init_8 : List UInt8 := [16, 103, 16, 101, 16, 32, 16, 59, 16, 32, 182, 0, 57, 42, 16, 24, 16, 101, 16, 97, 16, 115, 16, 101]
abbrev dktX9_init_8 : List UInt8 := dkwX9_init_8 ++ dktX9_init_9
def dkwX9_init_7 : List UInt8 := [16, 32, 16, 115, 16, 116, 16, 114, 16, 111, 16, 110, 182, 0, 57, 42, 16, 16, 16, 103, 16, 32, 16, 97]
abbrev dktX9_init_7 : List UInt8 := dkwX9_init_7 ++ dktX9_init_8
def dkwX9_init_6 : List UInt8 := [16, 101, 16, 101, 16, 108, 16, 115, 16, 32, 16, 49, 16, 48, 182, 0, 57, 42, 16, 8, 16, 32, 16, 59]
abbrev dktX9_init_6 : List UInt8 := dkwX9_init_6 ++ dktX9_init_7
def dkwX9_init_5 : List UInt8 := [162, 0, 20, 42, 180, 0, 23, 27, 8, 27, 4, 96, 104, 79, 132, 1, 1, 167, 255, 236, 42, 3, 16, 102]
abbrev dktX9_init_5 : List UInt8 := dkwX9_init_5 ++ dktX9_init_6
def dkwX9_init_4 : List UInt8 := [181, 0, 48, 42, 7, 188, 10, 181, 0, 51, 42, 17, 0, 160, 188, 10, 181, 0, 54, 3, 60, 27, 16, 10]
abbrev dktX9_init_4 : List UInt8 := dkwX9_init_4 ++ dktX9_init_5
def dkwX9_init_3 : List UInt8 := [16, 25, 188, 10, 181, 0, 38, 42, 2, 181, 0, 41, 42, 7, 188, 4, 181, 0, 44, 42, 7, 188, 10]
abbrev dktX9_init_3 : List UInt8 := dkwX9_init_3 ++ dktX9_init_4
def dkwX9_init_2 : List UInt8 := [42, 8, 188, 10, 181, 0, 29, 42, 16, 27, 188, 10, 181, 0, 32, 42, 16, 11, 188, 10, 181, 0, 35, 42]
abbrev dktX9_init_2 : List UInt8 := dkwX9_init_2 ++ dktX9_init_3
def dkwX9_init_1 : List UInt8 := [17, 0, 160, 188, 10, 181, 0, 20, 42, 16, 11, 188, 10, 181, 0, 23, 42, 16, 25, 188, 10, 181, 0, 26]
abbrev dktX9_init_1 : List UInt8 := dkwX9_init_1 ++ dktX9_init_2
def dkwX9_init_0 : List UInt8 := [42, 183, 0, 7, 42, 17, 3, 192, 188, 10, 181, 0, 13, 42, 16, 6, 188, 10, 181, 0, 17, 42]
abbrev dktX9_init_0 : List UInt8 := dkwX9_init_0 ++ dktX9_init_1
theorem dksX9_init_0 : cX9_init.data.toList.drop 0 = dktX9_init_0 := by decide +kernel
theorem dksX9_init_1 : cX9_init.data.toList.drop 22 = dktX9_init_1 := dk_seg dksX9_init_0 22 rfl rfl
theorem dksX9_init_2 : cX9_init.data.toList.drop 46 = dktX9_init_2 := dk_seg dksX9_init_1 24 rfl rfl
theorem dksX9_init_3 : cX9_init.data.toList.drop 70 = dktX9_init_3 := dk_seg dksX9_init_2 24 rfl rfl
theorem dksX9_init_4 : cX9_init.data.toList.drop 93 = dktX9_init_4 := dk_seg dksX9_init_3 23 rfl rfl
theorem dksX9_init_5 : cX9_init.data.toList.drop 117 = dktX9_init_5 := dk_seg dksX9_init_4 24 rfl rfl
theorem dksX9_init_6 : cX9_init.data.toList.drop 141 = dktX9_init_6 := dk_seg dksX9_init_5 24 rfl rfl
theorem dksX9_init_7 : cX9_init.data.toList.drop 165 = dktX9_init_7 := dk_seg dksX9_init_6 24 rfl rfl
theorem dksX9_init_8 : cX9_init.data.toList.drop 189 = dktX9_init_8 := dk_seg dksX9_init_7 24 rfl rfl
theorem dksX9_init_9 : cX9_init.data.toList.drop 213 = dktX9_init_9 := dk_seg dksX9_init_8 24 rfl rfl
theorem dksX9_init_10 : cX9_init.data.toList.drop 237 = dktX9_init_10 := dk_seg dksX9_init_9 24 rfl rfl
theorem dX9_init_0 : decode cX9_init 0 = .ok (.aload_n 0, 1) := dk_42 (dk_at dksX9_init_0 0 rfl rfl)
theorem dX9_init_1 : decode cX9_init 1 = .ok (.invokespecial 7, 3) := dk_183 0 7 (dk_at dksX9_init_0 1 rfl rfl)
theorem dX9_init_4 : decode cX9_init 4 = .ok (.aload_n 0, 1) := dk_42 (dk_at dksX9_init_0 4 rfl rfl)
theorem dX9_init_5 : decode cX9_init 5 = .ok (.sipush 960, 3) := dk_17 3 192 (dk_at dksX9_init_0 5 rfl rfl)
theorem dX9_init_8 : decode cX9_init 8 = .ok (.newarray .int, 2) := dk_188_10 (dk_at dksX9_init_0 8 rfl rfl)
theorem dX9_init_10 : decode cX9_init 10 = .ok (.putfield 13, 3) := dk_181 0 13 (dk_at dksX9_init_0 10 rfl rfl)
theorem dX9_init_13 : decode cX9_init 13 = .ok (.aload_n 0, 1) := dk_42 (dk_at dksX9_init_0 13 rfl rfl)
theorem dX9_init_14 : decode cX9_init 14 = .ok (.bipush 6, 2) := dk_16 6 (dk_at dksX9_init_0 14 rfl rfl)
theorem dX9_init_16 : decode cX9_init 16 = .ok (.newarray .int, 2) := dk_188_10 (dk_at dksX9_init_0 16 rfl rfl)
theorem dX9_init_18 : decode cX9_init 18 = .ok (.putfield 17, 3) := dk_181 0 17 (dk_at dksX9_init_0 18 rfl rfl)
theorem dX9_init_21 : decode cX9_init 21 = .ok (.aload_n 0, 1) := dk_42 (dk_at dksX9_init_0 21 rfl rfl)
theorem dX9_init_22 : decode cX9_init 22 = .ok (.sipush 160, 3) := dk_17 0 160 (dk_at dksX9_init_1 0 rfl rfl)
theorem dX9_init_25 : decode cX9_init 25 = .ok (.newarray .int, 2) := dk_188_10 (dk_at dksX9_init_1 3 rfl rfl)
theorem dX9_init_27 : decode cX9_init 27 = .ok (.putfield 20, 3) := dk_181 0 20 (dk_at dksX9_init_1 5 rfl rfl)
theorem dX9_init_30 : decode cX9_init 30 = .ok (.aload_n 0, 1) := dk_42 (dk_at dksX9_init_1 8 rfl rfl)
theorem dX9_init_31 : decode cX9_init 31 = .ok (.bipush 11, 2) := dk_16 11 (dk_at dksX9_init_1 9 rfl rfl)
theorem dX9_init_33 : decode cX9_init 33 = .ok (.newarray .int, 2) := dk_188_10 (dk_at dksX9_init_1 11 rfl rfl)
theorem dX9_init_35 : decode cX9_init 35 = .ok (.putfield 23, 3) := dk_181 0 23 (dk_at dksX9_init_1 13 rfl rfl)
theorem dX9_init_38 : decode cX9_init 38 = .ok (.aload_n 0, 1) := dk_42 (dk_at dksX9_init_1 16 rfl rfl)
theorem dX9_init_39 : decode cX9_init 39 = .ok (.bipush 25, 2) := dk_16 25 (dk_at dksX9_init_1 17 rfl rfl)
theorem dX9_init_41 : decode cX9_init 41 = .ok (.newarray .int, 2) := dk_188_10 (dk_at dksX9_init_1 19 rfl rfl)
theorem dX9_init_43 : decode cX9_init 43 = .ok (.putfield 26, 3) := dk_181 0 26 (dk_at dksX9_init_1 21 rfl rfl)
theorem dX9_init_46 : decode cX9_init 46 = .ok (.aload_n 0, 1) := dk_42 (dk_at dksX9_init_2 0 rfl rfl)
theorem dX9_init_47 : decode cX9_init 47 = .ok (.iconst 5, 1) := dk_8 (dk_at dksX9_init_2 1 rfl rfl)
theorem dX9_init_48 : decode cX9_init 48 = .ok (.newarray .int, 2) := dk_188_10 (dk_at dksX9_init_2 2 rfl rfl)
theorem dX9_init_50 : decode cX9_init 50 = .ok (.putfield 29, 3) := dk_181 0 29 (dk_at dksX9_init_2 4 rfl rfl)
theorem dX9_init_53 : decode cX9_init 53 = .ok (.aload_n 0, 1) := dk_42 (dk_at dksX9_init_2 7 rfl rfl)
theorem dX9_init_54 : decode cX9_init 54 = .ok (.bipush 27, 2) := dk_16 27 (dk_at dksX9_init_2 8 rfl rfl)
theorem dX9_init_56 : decode cX9_init 56 = .ok (.newarray .int, 2) := dk_188_10 (dk_at dksX9_init_2 10 rfl rfl)
theorem dX9_init_58 : decode cX9_init 58 = .ok (.putfield 32, 3) := dk_181 0 32 (dk_at dksX9_init_2 12 rfl rfl)
theorem dX9_init_61 : decode cX9_init 61 = .ok (.aload_n 0, 1) := dk_42 (dk_at dksX9_init_2 15 rfl rfl)
theorem dX9_init_62 : decode cX9_init 62 = .ok (.bipush 11, 2) := dk_16 11 (dk_at dksX9_init_2 16 rfl rfl)
theorem dX9_init_64 : decode cX9_init 64 = .ok (.newarray .int, 2) := dk_188_10 (dk_at dksX9_init_2 18 rfl rfl)
theorem dX9_init_66 : decode cX9_init 66 = .ok (.putfield 35, 3) := dk_181 0 35 (dk_at dksX9_init_2 20 rfl rfl)
theorem dX9_init_69 : decode cX9_init 69 = .ok (.aload_n 0, 1) := dk_42 (dk_at dksX9_init_2 23 rfl rfl)
theorem dX9_init_70 : decode cX9_init 70 = .ok (.bipush 25, 2) := dk_16 25 (dk_at dksX9_init_3 0 rfl rfl)
theorem dX9_init_72 : decode cX9_init 72 = .ok (.newarray .int, 2) := dk_188_10 (dk_at dksX9_init_3 2 rfl rfl)
theorem dX9_init_74 : decode cX9_init 74 = .ok (.putfield 38, 3) := dk_181 0 38 (dk_at dksX9_init_3 4 rfl rfl)
theorem dX9_init_77 : decode cX9_init 77 = .ok (.aload_n 0, 1) := dk_42 (dk_at dksX9_init_3 7 rfl rfl)
theorem dX9_init_78 : decode cX9_init 78 = .ok (.iconst (-1), 1) := dk_2 (dk_at dksX9_init_3 8 rfl rfl)
theorem dX9_init_79 : decode cX9_init 79 = .ok (.putfield 41, 3) := dk_181 0 41 (dk_at dksX9_init_3 9 rfl rfl)
theorem dX9_init_82 : decode cX9_init 82 = .ok (.aload_n 0, 1) := dk_42 (dk_at dksX9_init_3 12 rfl rfl)
theorem dX9_init_83 : decode cX9_init 83 = .ok (.iconst 4, 1) := dk_7 (dk_at dksX9_init_3 13 rfl rfl)
theorem dX9_init_84 : decode cX9_init 84 = .ok (.newarray .boolean, 2) := dk_188_4 (dk_at dksX9_init_3 14 rfl rfl)
theorem dX9_init_86 : decode cX9_init 86 = .ok (.putfield 44, 3) := dk_181 0 44 (dk_at dksX9_init_3 16 rfl rfl)
theorem dX9_init_89 : decode cX9_init 89 = .ok (.aload_n 0, 1) := dk_42 (dk_at dksX9_init_3 19 rfl rfl)
theorem dX9_init_90 : decode cX9_init 90 = .ok (.iconst 4, 1) := dk_7 (dk_at dksX9_init_3 20 rfl rfl)
theorem dX9_init_91 : decode cX9_init 91 = .ok (.newarray .int, 2) := dk_188_10 (dk_at dksX9_init_3 21 rfl rfl)
theorem dX9_init_93 : decode cX9_init 93 = .ok (.putfield 48, 3) := dk_181 0 48 (dk_at dksX9_init_4 0 rfl rfl)
theorem dX9_init_96 : decode cX9_init 96 = .ok (.aload_n 0, 1) := dk_42 (dk_at dksX9_init_4 3 rfl rfl)
theorem dX9_init_97 : decode cX9_init 97 = .ok (.iconst 4, 1) := dk_7 (dk_at dksX9_init_4 4 rfl rfl)
theorem dX9_init_98 : decode cX9_init 98 = .ok (.newarray .int, 2) := dk_188_10 (dk_at dksX9_init_4 5 rfl rfl)
theorem dX9_init_100 : decode cX9_init 100 = .ok (.putfield 51, 3) := dk_181 0 51 (dk_at dksX9_init_4 7 rfl rfl)
theorem dX9_init_103 : decode cX9_init 103 = .ok (.aload_n 0, 1) := dk_42 (dk_at dksX9_init_4 10 rfl rfl)
theorem dX9_init_104 : decode cX9_init 104 = .ok (.sipush 160, 3) := dk_17 0 160 (dk_at dksX9_init_4 11 rfl rfl)
theorem dX9_init_107 : decode cX9_init 107 = .ok (.newarray .int, 2) := dk_188_10 (dk_at dksX9_init_4 14 rfl rfl)
theorem dX9_init_109 : decode cX9_init 109 = .ok (.putfield 54, 3) := dk_181 0 54 (dk_at dksX9_init_4 16 rfl rfl)
theorem dX9_init_112 : decode cX9_init 112 = .ok (.iconst 0, 1) := dk_3 (dk_at dksX9_init_4 19 rfl rfl)
theorem dX9_init_113 : decode cX9_init 113 = .ok (.istore_n 1, 1) := dk_60 (dk_at dksX9_init_4 20 rfl rfl)
theorem dX9_init_114 : decode cX9_init 114 = .ok (.iload_n 1, 1) := dk_27 (dk_at dksX9_init_4 21 rfl rfl)
theorem dX9_init_115 : decode cX9_init 115 = .ok (.bipush 10, 2) := dk_16 10 (dk_at dksX9_init_4 22 rfl rfl)
theorem dX9_init_117 : decode cX9_init 117 = .ok (.if_icmp .ge 20, 3) := dk_162 0 20 (dk_at dksX9_init_5 0 rfl rfl)
theorem dX9_init_120 : decode cX9_init 120 = .ok (.aload_n 0, 1) := dk_42 (dk_at dksX9_init_5 3 rfl rfl)
theorem dX9_init_121 : decode cX9_init 121 = .ok (.getfield 23, 3) := dk_180 0 23 (dk_at dksX9_init_5 4 rfl rfl)
theorem dX9_init_124 : decode cX9_init 124 = .ok (.iload_n 1, 1) := dk_27 (dk_at dksX9_init_5 7 rfl rfl)
theorem dX9_init_125 : decode cX9_init 125 = .ok (.iconst 5, 1) := dk_8 (dk_at dksX9_init_5 8 rfl rfl)
theorem dX9_init_126 : decode cX9_init 126 = .ok (.iload_n 1, 1) := dk_27 (dk_at dksX9_init_5 9 rfl rfl)
theorem dX9_init_127 : decode cX9_init 127 = .ok (.iconst 1, 1) := dk_4 (dk_at dksX9_init_5 10 rfl rfl)
theorem dX9_init_128 : decode cX9_init 128 = .ok (.iadd, 1) := dk_96 (dk_at dksX9_init_5 11 rfl rfl)
theorem dX9_init_129 : decode cX9_init 129 = .ok (.imul, 1) := dk_104 (dk_at dksX9_init_5 12 rfl rfl)
theorem dX9_init_130 : decode cX9_init 130 = .ok (.iastore, 1) := dk_79 (dk_at dksX9_init_5 13 rfl rfl)
theorem dX9_init_131 : decode cX9_init 131 = .ok (.iinc 1 1, 3) := dk_132 1 1 (dk_at dksX9_init_5 14 rfl rfl)
theorem dX9_init_134 : decode cX9_init 134 = .ok (.goto (-20), 3) := dk_167 255 236 (dk_at dksX9_init_5 17 rfl rfl)
theorem dX9_init_137 : decode cX9_init 137 = .ok (.aload_n 0, 1) := dk_42 (dk_at dksX9_init_5 20 rfl rfl)
theorem dX9_init_138 : decode cX9_init 138 = .ok (.iconst 0, 1) := dk_3 (dk_at dksX9_init_5 21 rfl rfl)
theorem dX9_init_139 : decode cX9_init 139 = .ok (.bipush 102, 2) := dk_16 102 (dk_at dksX9_init_5 22 rfl rfl)
theorem dX9_init_141 : decode cX9_init 141 = .ok (.bipush 101, 2) := dk_16 101 (dk_at dksX9_init_6 0 rfl rfl)
theorem dX9_init_143 : decode cX9_init 143 = .ok (.bipush 101, 2) := dk_16 101 (dk_at dksX9_init_6 2 rfl rfl)
theorem dX9_init_145 : decode cX9_init 145 = .ok (.bipush 108, 2) := dk_16 108 (dk_at dksX9_init_6 4 rfl rfl)
theorem dX9_init_147 : decode cX9_init 147 = .ok (.bipush 115, 2) := dk_16 115 (dk_at dksX9_init_6 6 rfl rfl)
theorem dX9_init_149 : decode cX9_init 149 = .ok (.bipush 32, 2) := dk_16 32 (dk_at dksX9_init_6 8 rfl rfl)
theorem dX9_init_151 : decode cX9_init 151 = .ok (.bipush 49, 2) := dk_16 49 (dk_at dksX9_init_6 10 rfl rfl)
theorem dX9_init_153 : decode cX9_init 153 = .ok (.bipush 48, 2) := dk_16 48 (dk_at dksX9_init_6 12 rfl rfl)
theorem dX9_init_155 : decode cX9_init 155 = .ok (.invokevirtual 57, 3) := dk_182 0 57 (dk_at dksX9_init_6 14 rfl rfl)
theorem dX9_init_158 : decode cX9_init 158 = .ok (.aload_n 0, 1) := dk_42 (dk_at dksX9_init_6 17 rfl rfl)
theorem dX9_init_159 : decode cX9_init 159 = .ok (.bipush 8, 2) := dk_16 8 (dk_at dksX9_init_6 18 rfl rfl)
theorem dX9_init_161 : decode cX9_init 161 = .ok (.bipush 32, 2) := dk_16 32 (dk_at dksX9_init_6 20 rfl rfl)
theorem dX9_init_163 : decode cX9_init 163 = .ok (.bipush 59, 2) := dk_16 59 (dk_at dksX9_init_6 22 rfl rfl)
theorem dX9_init_165 : decode cX9_init 165 = .ok (.bipush 32, 2) := dk_16 32 (dk_at dksX9_init_7 0 rfl rfl)
theorem dX9_init_167 : decode cX9_init 167 = .ok (.bipush 115, 2) := dk_16 115 (dk_at dksX9_init_7 2 rfl rfl)
theorem dX9_init_169 : decode cX9_init 169 = .ok (.bipush 116, 2) := dk_16 116 (dk_at dksX9_init_7 4 rfl rfl)
theorem dX9_init_171 : decode cX9_init 171 = .ok (.bipush 114, 2) := dk_16 114 (dk_at dksX9_init_7 6 rfl rfl)
theorem dX9_init_173 : decode cX9_init 173 = .ok (.bipush 111, 2) := dk_16 111 (dk_at dksX9_init_7 8 rfl rfl)
theorem dX9_init_175 : decode cX9_init 175 = .ok (.bipush 110, 2) := dk_16 110 (dk_at dksX9_init_7 10 rfl rfl)
theorem dX9_init_177 : decode cX9_init 177 = .ok (.invokevirtual 57, 3) := dk_182 0 57 (dk_at dksX9_init_7 12 rfl rfl)
theorem dX9_init_180 : decode cX9_init 180 = .ok (.aload_n 0, 1) := dk_42 (dk_at dksX9_init_7 15 rfl rfl)
theorem dX9_init_181 : decode cX9_init 181 = .ok (.bipush 16, 2) := dk_16 16 (dk_at dksX9_init_7 16 rfl rfl)
theorem dX9_init_183 : decode cX9_init 183 = .ok (.bipush 103, 2) := dk_16 103 (dk_at dksX9_init_7 18 rfl rfl)
theorem dX9_init_185 : decode cX9_init 185 = .ok (.bipush 32, 2) := dk_16 32 (dk_at dksX9_init_7 20 rfl rfl)
theorem dX9_init_187 : decode cX9_init 187 = .ok (.bipush 97, 2) := dk_16 97 (dk_at dksX9_init_7 22 rfl rfl)
theorem dX9_init_189 : decode cX9_init 189 = .ok (.bipush 103, 2) := dk_16 103 (dk_at dksX9_init_8 0 rfl rfl)
theorem dX9_init_191 : decode cX9_init 191 = .ok (.bipush 101, 2) := dk_16 101 (dk_at dksX9_init_8 2 rfl rfl)
theorem dX9_init_193 : decode cX9_init 193 = .ok (.bipush 32, 2) := dk_16 32 (dk_at dksX9_init_8 4 rfl rfl)
theorem dX9_init_195 : decode cX9_init 195 = .ok (.bipush 59, 2) := dk_16 59 (dk_at dksX9_init_8 6 rfl rfl)
theorem dX9_init_197 : decode cX9_init 197 = .ok (.bipush 32, 2) := dk_16 32 (dk_at dksX9_init_8 8 rfl rfl)
theorem dX9_init_199 : decode cX9_init 199 = .ok (.invokevirtual 57, 3) := dk_182 0 57 (dk_at dksX9_init_8 10 rfl rfl)
theorem dX9_init_202 : decode cX9_init 202 = .ok (.aload_n 0, 1) := dk_42 (dk_at dksX9_init_8 13 rfl rfl)
theorem dX9_init_203 : decode cX9_init 203 = .ok (.bipush 24, 2) := dk_16 24 (dk_at dksX9_init_8 14 rfl rfl)
theorem dX9_init_205 : decode cX9_init 205 = .ok (.bipush 101, 2) := dk_16 101 (dk_at dksX9_init_8 16 rfl rfl)
theorem dX9_init_207 : decode cX9_init 207 = .ok (.bipush 97, 2) := dk_16 97 (dk_at dksX9_init_8 18 rfl rfl)
theorem dX9_init_209 : decode cX9_init 209 = .ok (.bipush 115, 2) := dk_16 115 (dk_at dksX9_init_8 20 rfl rfl)
theorem dX9_init_211 : decode cX9_init 211 = .ok (.bipush 101, 2) := dk_16 101 (dk_at dksX9_init_8 22 rfl rfl)
theorem dX9_init_213 : decode cX9_init 213 = .ok (.bipush 115, 2) := dk_16 115 (dk_at dksX9_init_9 0 rfl rfl)
theorem dX9_init_215 : decode cX9_init 215 = .ok (.bipush 32, 2) := dk_16 32 (dk_at dksX9_init_9 2 rfl rfl)
theorem dX9_init_217 : decode cX9_init 217 = .ok (.bipush 49, 2) := dk_16 49 (dk_at dksX9_init_9 4 rfl rfl)
theorem dX9_init_219 : decode cX9_init 219 = .ok (.bipush 32, 2) := dk_16 32 (dk_at dksX9_init_9 6 rfl rfl)
theorem dX9_init_221 : decode cX9_init 221 = .ok (.invokevirtual 57, 3) := dk_182 0 57 (dk_at dksX9_init_9 8 rfl rfl)
theorem dX9_init_224 : decode cX9_init 224 = .ok (.aload_n 0, 1) := dk_42 (dk_at dksX9_init_9 11 rfl rfl)
theorem dX9_init_225 : decode cX9_init 225 = .ok (.bipush 32, 2) := dk_16 32 (dk_at dksX9_init_9 12 rfl rfl)
theorem dX9_init_227 : decode cX9_init 227 = .ok (.bipush 59, 2) := dk_16 59 (dk_at dksX9_init_9 14 rfl rfl)
theorem dX9_init_229 : decode cX9_init 229 = .ok (.bipush 32, 2) := dk_16 32 (dk_at dksX9_init_9 16 rfl rfl)
theorem dX9_init_231 : decode cX9_init 231 = .ok (.bipush 32, 2) := dk_16 32 (dk_at dksX9_init_9 18 rfl rfl)
theorem dX9_init_233 : decode cX9_init 233 = .ok (.bipush 32, 2) := dk_16 32 (dk_at dksX9_init_9 20 rfl rfl)
theorem dX9_init_235 : decode cX9_init 235 = .ok (.bipush 32, 2) := dk_16 32 (dk_at dksX9_init_9 22 rfl rfl)
theorem dX9_init_237 : decode cX9_init 237 = .ok (.bipush 32, 2) := dk_16 32 (dk_at dksX9_init_10 0 rfl rfl)
theorem dX9_init_239 : decode cX9_init 239 = .ok (.bipush 32, 2) := dk_16 32 (dk_at dksX9_init_10 2 rfl rfl)
theorem dX9_init_241 : decode cX9_init 241 = .ok (.bipush 32, 2) := dk_16 32 (dk_at dksX9_init_10 4 rfl rfl)
theorem dX9_init_243 : decode cX9_init 243 = .ok (.invokevirtual 57, 3) := dk_182 0 57 (dk_at dksX9_init_10 6 rfl rfl)
theorem dX9_init_246 : decode cX9_init 246 = .ok (.aload_n 0, 1) := dk_42 (dk_at dksX9_init_10 9 rfl rfl)
theorem dX9_init_247 : decode cX9_init 247 = .ok (.getfield 17, 3) := dk_180 0 17 (dk_at dksX9_init_10 10 rfl rfl)
theorem dX9_init_250 : decode cX9_init 250 = .ok (.iconst 0, 1) := dk_3 (dk_at dksX9_init_10 13 rfl rfl)
theorem dX9_init_251 : decode cX9_init 251 = .ok (.bipush 40, 2) := dk_16 40 (dk_at dksX9_init_10 14 rfl rfl)
theorem dX9_init_253 : decode cX9_init 253 = .ok (.iastore, 1) := dk_79 (dk_at dksX9_init_10 16 rfl rfl)
theorem dX9_init_254 : decode cX9_init 254 = .ok (.aload_n 0, 1) := dk_42 (dk_at dksX9_init_10 17 rfl rfl)
theorem dX9_init_255 : decode cX9_init 255 = .ok (.iconst 1, 1) := dk_4 (dk_at dksX9_init_10 18 rfl rfl)
theorem dX9_init_256 : decode cX9_init 256 = .ok (.putfield 61, 3) := dk_181 0 61 (dk_at dksX9_init_10 19 rfl rfl)
theorem dX9_init_259 : decode cX9_init 259 = .ok (.return_, 1) := dk_177 (dk_at dksX9_init_10 22 rfl rfl)
abbrev cX9_spell : ByteArray := prog_17_method_5_code
def yX9_spell : MethodName := ⟨RX9, "spell", "(IIIIIIIII)V"⟩
def dkwX9_spell_3 : List UInt8 := [27, 16, 7, 96, 21, 9, 79, 177]
abbrev dktX9_spell_3 : List UInt8 := dkwX9_spell_3 ++ []
def dkwX9_spell_2 : List UInt8 := [180, 0, 13, 27, 8, 96, 21, 7, 79, 42, 180, 0, 13, 27, 16, 6, 96, 21, 8, 79, 42, 180, 0, 13]
abbrev dktX9_spell_2 : List UInt8 := dkwX9_spell_2 ++ dktX9_spell_3
def dkwX9_spell_1 : List UInt8 := [21, 4, 79, 42, 180, 0, 13, 27, 6, 96, 21, 5, 79, 42, 180, 0, 13, 27, 7, 96, 21, 6, 79, 42]
abbrev dktX9_spell_1 : List UInt8 := dkwX9_spell_1 ++ dktX9_spell_2
def dkwX9_spell_0 : List UInt8 := [42, 180, 0, 13, 27, 28, 79, 42, 180, 0, 13, 27, 4, 96, 29, 79, 42, 180, 0, 13, 27, 5, 96]
abbrev dktX9_spell_0 : List UInt8 := dkwX9_spell_0 ++ dktX9_spell_1
theorem dksX9_spell_0 : cX9_spell.data.toList.drop 0 = dktX9_spell_0 := by decide +kernel
theorem dksX9_spell_1 : cX9_spell.data.toList.drop 23 = dktX9_spell_1 := dk_seg dksX9_spell_0 23 rfl rfl
theorem dksX9_spell_2 : cX9_spell.data.toList.drop 47 = dktX9_spell_2 := dk_seg dksX9_spell_1 24 rfl rfl
theorem dksX9_spell_3 : cX9_spell.data.toList.drop 71 = dktX9_spell_3 := dk_seg dksX9_spell_2 24 rfl rfl
theorem dX9_spell_0 : decode cX9_spell 0 = .ok (.aload_n 0, 1) := dk_42 (dk_at dksX9_spell_0 0 rfl rfl)
theorem dX9_spell_1 : decode cX9_spell 1 = .ok (.getfield 13, 3) := dk_180 0 13 (dk_at dksX9_spell_0 1 rfl rfl)
theorem dX9_spell_4 : decode cX9_spell 4 = .ok (.iload_n 1, 1) := dk_27 (dk_at dksX9_spell_0 4 rfl rfl)
theorem dX9_spell_5 : decode cX9_spell 5 = .ok (.iload_n 2, 1) := dk_28 (dk_at dksX9_spell_0 5 rfl rfl)
theorem dX9_spell_6 : decode cX9_spell 6 = .ok (.iastore, 1) := dk_79 (dk_at dksX9_spell_0 6 rfl rfl)
theorem dX9_spell_7 : decode cX9_spell 7 = .ok (.aload_n 0, 1) := dk_42 (dk_at dksX9_spell_0 7 rfl rfl)
theorem dX9_spell_8 : decode cX9_spell 8 = .ok (.getfield 13, 3) := dk_180 0 13 (dk_at dksX9_spell_0 8 rfl rfl)
theorem dX9_spell_11 : decode cX9_spell 11 = .ok (.iload_n 1, 1) := dk_27 (dk_at dksX9_spell_0 11 rfl rfl)
theorem dX9_spell_12 : decode cX9_spell 12 = .ok (.iconst 1, 1) := dk_4 (dk_at dksX9_spell_0 12 rfl rfl)
theorem dX9_spell_13 : decode cX9_spell 13 = .ok (.iadd, 1) := dk_96 (dk_at dksX9_spell_0 13 rfl rfl)
theorem dX9_spell_14 : decode cX9_spell 14 = .ok (.iload_n 3, 1) := dk_29 (dk_at dksX9_spell_0 14 rfl rfl)
theorem dX9_spell_15 : decode cX9_spell 15 = .ok (.iastore, 1) := dk_79 (dk_at dksX9_spell_0 15 rfl rfl)
theorem dX9_spell_16 : decode cX9_spell 16 = .ok (.aload_n 0, 1) := dk_42 (dk_at dksX9_spell_0 16 rfl rfl)
theorem dX9_spell_17 : decode cX9_spell 17 = .ok (.getfield 13, 3) := dk_180 0 13 (dk_at dksX9_spell_0 17 rfl rfl)
theorem dX9_spell_20 : decode cX9_spell 20 = .ok (.iload_n 1, 1) := dk_27 (dk_at dksX9_spell_0 20 rfl rfl)
theorem dX9_spell_21 : decode cX9_spell 21 = .ok (.iconst 2, 1) := dk_5 (dk_at dksX9_spell_0 21 rfl rfl)
theorem dX9_spell_22 : decode cX9_spell 22 = .ok (.iadd, 1) := dk_96 (dk_at dksX9_spell_0 22 rfl rfl)
theorem dX9_spell_23 : decode cX9_spell 23 = .ok (.iload 4, 2) := dk_21 4 (dk_at dksX9_spell_1 0 rfl rfl)
theorem dX9_spell_25 : decode cX9_spell 25 = .ok (.iastore, 1) := dk_79 (dk_at dksX9_spell_1 2 rfl rfl)
theorem dX9_spell_26 : decode cX9_spell 26 = .ok (.aload_n 0, 1) := dk_42 (dk_at dksX9_spell_1 3 rfl rfl)
theorem dX9_spell_27 : decode cX9_spell 27 = .ok (.getfield 13, 3) := dk_180 0 13 (dk_at dksX9_spell_1 4 rfl rfl)
theorem dX9_spell_30 : decode cX9_spell 30 = .ok (.iload_n 1, 1) := dk_27 (dk_at dksX9_spell_1 7 rfl rfl)
theorem dX9_spell_31 : decode cX9_spell 31 = .ok (.iconst 3, 1) := dk_6 (dk_at dksX9_spell_1 8 rfl rfl)
theorem dX9_spell_32 : decode cX9_spell 32 = .ok (.iadd, 1) := dk_96 (dk_at dksX9_spell_1 9 rfl rfl)
theorem dX9_spell_33 : decode cX9_spell 33 = .ok (.iload 5, 2) := dk_21 5 (dk_at dksX9_spell_1 10 rfl rfl)
theorem dX9_spell_35 : decode cX9_spell 35 = .ok (.iastore, 1) := dk_79 (dk_at dksX9_spell_1 12 rfl rfl)
theorem dX9_spell_36 : decode cX9_spell 36 = .ok (.aload_n 0, 1) := dk_42 (dk_at dksX9_spell_1 13 rfl rfl)
theorem dX9_spell_37 : decode cX9_spell 37 = .ok (.getfield 13, 3) := dk_180 0 13 (dk_at dksX9_spell_1 14 rfl rfl)
theorem dX9_spell_40 : decode cX9_spell 40 = .ok (.iload_n 1, 1) := dk_27 (dk_at dksX9_spell_1 17 rfl rfl)
theorem dX9_spell_41 : decode cX9_spell 41 = .ok (.iconst 4, 1) := dk_7 (dk_at dksX9_spell_1 18 rfl rfl)
theorem dX9_spell_42 : decode cX9_spell 42 = .ok (.iadd, 1) := dk_96 (dk_at dksX9_spell_1 19 rfl rfl)
theorem dX9_spell_43 : decode cX9_spell 43 = .ok (.iload 6, 2) := dk_21 6 (dk_at dksX9_spell_1 20 rfl rfl)
theorem dX9_spell_45 : decode cX9_spell 45 = .ok (.iastore, 1) := dk_79 (dk_at dksX9_spell_1 22 rfl rfl)
theorem dX9_spell_46 : decode cX9_spell 46 = .ok (.aload_n 0, 1) := dk_42 (dk_at dksX9_spell_1 23 rfl rfl)
theorem dX9_spell_47 : decode cX9_spell 47 = .ok (.getfield 13, 3) := dk_180 0 13 (dk_at dksX9_spell_2 0 rfl rfl)
theorem dX9_spell_50 : decode cX9_spell 50 = .ok (.iload_n 1, 1) := dk_27 (dk_at dksX9_spell_2 3 rfl rfl)
theorem dX9_spell_51 : decode cX9_spell 51 = .ok (.iconst 5, 1) := dk_8 (dk_at dksX9_spell_2 4 rfl rfl)
theorem dX9_spell_52 : decode cX9_spell 52 = .ok (.iadd, 1) := dk_96 (dk_at dksX9_spell_2 5 rfl rfl)
theorem dX9_spell_53 : decode cX9_spell 53 = .ok (.iload 7, 2) := dk_21 7 (dk_at dksX9_spell_2 6 rfl rfl)
theorem dX9_spell_55 : decode cX9_spell 55 = .ok (.iastore, 1) := dk_79 (dk_at dksX9_spell_2 8 rfl rfl)
theorem dX9_spell_56 : decode cX9_spell 56 = .ok (.aload_n 0, 1) := dk_42 (dk_at dksX9_spell_2 9 rfl rfl)
theorem dX9_spell_57 : decode cX9_spell 57 = .ok (.getfield 13, 3) := dk_180 0 13 (dk_at dksX9_spell_2 10 rfl rfl)
theorem dX9_spell_60 : decode cX9_spell 60 = .ok (.iload_n 1, 1) := dk_27 (dk_at dksX9_spell_2 13 rfl rfl)
theorem dX9_spell_61 : decode cX9_spell 61 = .ok (.bipush 6, 2) := dk_16 6 (dk_at dksX9_spell_2 14 rfl rfl)
theorem dX9_spell_63 : decode cX9_spell 63 = .ok (.iadd, 1) := dk_96 (dk_at dksX9_spell_2 16 rfl rfl)
theorem dX9_spell_64 : decode cX9_spell 64 = .ok (.iload 8, 2) := dk_21 8 (dk_at dksX9_spell_2 17 rfl rfl)
theorem dX9_spell_66 : decode cX9_spell 66 = .ok (.iastore, 1) := dk_79 (dk_at dksX9_spell_2 19 rfl rfl)
theorem dX9_spell_67 : decode cX9_spell 67 = .ok (.aload_n 0, 1) := dk_42 (dk_at dksX9_spell_2 20 rfl rfl)
theorem dX9_spell_68 : decode cX9_spell 68 = .ok (.getfield 13, 3) := dk_180 0 13 (dk_at dksX9_spell_2 21 rfl rfl)
theorem dX9_spell_71 : decode cX9_spell 71 = .ok (.iload_n 1, 1) := dk_27 (dk_at dksX9_spell_3 0 rfl rfl)
theorem dX9_spell_72 : decode cX9_spell 72 = .ok (.bipush 7, 2) := dk_16 7 (dk_at dksX9_spell_3 1 rfl rfl)
theorem dX9_spell_74 : decode cX9_spell 74 = .ok (.iadd, 1) := dk_96 (dk_at dksX9_spell_3 3 rfl rfl)
theorem dX9_spell_75 : decode cX9_spell 75 = .ok (.iload 9, 2) := dk_21 9 (dk_at dksX9_spell_3 4 rfl rfl)
theorem dX9_spell_77 : decode cX9_spell 77 = .ok (.iastore, 1) := dk_79 (dk_at dksX9_spell_3 6 rfl rfl)
theorem dX9_spell_78 : decode cX9_spell 78 = .ok (.return_, 1) := dk_177 (dk_at dksX9_spell_3 7 rfl rfl)
abbrev cX9_set : ByteArray := prog_17_method_9_code
def yX9_set : MethodName := ⟨RX9, "set", "(III)I"⟩
def dkwX9_set_2 : List UInt8 := [28, 29, 182, 0, 91, 21, 4, 172]
abbrev dktX9_set_2 : List UInt8 := dkwX9_set_2 ++ []
def dkwX9_set_1 : List UInt8 := [27, 184, 0, 83, 133, 184, 0, 67, 154, 0, 6, 16, 254, 172, 42, 28, 27, 182, 0, 87, 54, 4, 42, 27]
abbrev dktX9_set_1 : List UInt8 := dkwX9_set_1 ++ dktX9_set_2
def dkwX9_set_0 : List UInt8 := [27, 133, 9, 20, 0, 77, 184, 0, 67, 153, 0, 26, 42, 27, 28, 182, 0, 79, 153, 0, 17, 29, 133, 9]
abbrev dktX9_set_0 : List UInt8 := dkwX9_set_0 ++ dktX9_set_1
theorem dksX9_set_0 : cX9_set.data.toList.drop 0 = dktX9_set_0 := by decide +kernel
theorem dksX9_set_1 : cX9_set.data.toList.drop 24 = dktX9_set_1 := dk_seg dksX9_set_0 24 rfl rfl
theorem dksX9_set_2 : cX9_set.data.toList.drop 48 = dktX9_set_2 := dk_seg dksX9_set_1 24 rfl rfl
theorem dX9_set_0 : decode cX9_set 0 = .ok (.iload_n 1, 1) := dk_27 (dk_at dksX9_set_0 0 rfl rfl)
theorem dX9_set_1 : decode cX9_set 1 = .ok (.i2l, 1) := dk_133 (dk_at dksX9_set_0 1 rfl rfl)
theorem dX9_set_2 : decode cX9_set 2 = .ok (.lconst 0, 1) := dk_9 (dk_at dksX9_set_0 2 rfl rfl)
theorem dX9_set_3 : decode cX9_set 3 = .ok (.ldc2_w 77, 3) := dk_20 0 77 (dk_at dksX9_set_0 3 rfl rfl)
theorem dX9_set_6 : decode cX9_set 6 = .ok (.invokestatic 67, 3) := dk_184 0 67 (dk_at dksX9_set_0 6 rfl rfl)
theorem dX9_set_9 : decode cX9_set 9 = .ok (.ifCond .eq 26, 3) := dk_153 0 26 (dk_at dksX9_set_0 9 rfl rfl)
theorem dX9_set_12 : decode cX9_set 12 = .ok (.aload_n 0, 1) := dk_42 (dk_at dksX9_set_0 12 rfl rfl)
theorem dX9_set_13 : decode cX9_set 13 = .ok (.iload_n 1, 1) := dk_27 (dk_at dksX9_set_0 13 rfl rfl)
theorem dX9_set_14 : decode cX9_set 14 = .ok (.iload_n 2, 1) := dk_28 (dk_at dksX9_set_0 14 rfl rfl)
theorem dX9_set_15 : decode cX9_set 15 = .ok (.invokevirtual 79, 3) := dk_182 0 79 (dk_at dksX9_set_0 15 rfl rfl)
theorem dX9_set_18 : decode cX9_set 18 = .ok (.ifCond .eq 17, 3) := dk_153 0 17 (dk_at dksX9_set_0 18 rfl rfl)
theorem dX9_set_21 : decode cX9_set 21 = .ok (.iload_n 3, 1) := dk_29 (dk_at dksX9_set_0 21 rfl rfl)
theorem dX9_set_22 : decode cX9_set 22 = .ok (.i2l, 1) := dk_133 (dk_at dksX9_set_0 22 rfl rfl)
theorem dX9_set_23 : decode cX9_set 23 = .ok (.lconst 0, 1) := dk_9 (dk_at dksX9_set_0 23 rfl rfl)
theorem dX9_set_24 : decode cX9_set 24 = .ok (.iload_n 1, 1) := dk_27 (dk_at dksX9_set_1 0 rfl rfl)
theorem dX9_set_25 : decode cX9_set 25 = .ok (.invokestatic 83, 3) := dk_184 0 83 (dk_at dksX9_set_1 1 rfl rfl)
theorem dX9_set_28 : decode cX9_set 28 = .ok (.i2l, 1) := dk_133 (dk_at dksX9_set_1 4 rfl rfl)
theorem dX9_set_29 : decode cX9_set 29 = .ok (.invokestatic 67, 3) := dk_184 0 67 (dk_at dksX9_set_1 5 rfl rfl)
theorem dX9_set_32 : decode cX9_set 32 = .ok (.ifCond .ne 6, 3) := dk_154 0 6 (dk_at dksX9_set_1 8 rfl rfl)
theorem dX9_set_35 : decode cX9_set 35 = .ok (.bipush (-2), 2) := dk_16 254 (dk_at dksX9_set_1 11 rfl rfl)
theorem dX9_set_37 : decode cX9_set 37 = .ok (.ireturn, 1) := dk_172 (dk_at dksX9_set_1 13 rfl rfl)
theorem dX9_set_38 : decode cX9_set 38 = .ok (.aload_n 0, 1) := dk_42 (dk_at dksX9_set_1 14 rfl rfl)
theorem dX9_set_39 : decode cX9_set 39 = .ok (.iload_n 2, 1) := dk_28 (dk_at dksX9_set_1 15 rfl rfl)
theorem dX9_set_40 : decode cX9_set 40 = .ok (.iload_n 1, 1) := dk_27 (dk_at dksX9_set_1 16 rfl rfl)
theorem dX9_set_41 : decode cX9_set 41 = .ok (.invokevirtual 87, 3) := dk_182 0 87 (dk_at dksX9_set_1 17 rfl rfl)
theorem dX9_set_44 : decode cX9_set 44 = .ok (.istore 4, 2) := dk_54 4 (dk_at dksX9_set_1 20 rfl rfl)
theorem dX9_set_46 : decode cX9_set 46 = .ok (.aload_n 0, 1) := dk_42 (dk_at dksX9_set_1 22 rfl rfl)
theorem dX9_set_47 : decode cX9_set 47 = .ok (.iload_n 1, 1) := dk_27 (dk_at dksX9_set_1 23 rfl rfl)
theorem dX9_set_48 : decode cX9_set 48 = .ok (.iload_n 2, 1) := dk_28 (dk_at dksX9_set_2 0 rfl rfl)
theorem dX9_set_49 : decode cX9_set 49 = .ok (.iload_n 3, 1) := dk_29 (dk_at dksX9_set_2 1 rfl rfl)
theorem dX9_set_50 : decode cX9_set 50 = .ok (.invokevirtual 91, 3) := dk_182 0 91 (dk_at dksX9_set_2 2 rfl rfl)
theorem dX9_set_53 : decode cX9_set 53 = .ok (.iload 4, 2) := dk_21 4 (dk_at dksX9_set_2 5 rfl rfl)
theorem dX9_set_55 : decode cX9_set 55 = .ok (.ireturn, 1) := dk_172 (dk_at dksX9_set_2 7 rfl rfl)
abbrev cX9_in : ByteArray := prog_17_method_2_code
def yX9_in : MethodName := ⟨RX9, "in", "(JJJ)Z"⟩
def dkwX9_in_0 : List UInt8 := [30, 32, 148, 155, 0, 14, 30, 22, 4, 148, 157, 0, 7, 4, 167, 0, 4, 3, 172]
abbrev dktX9_in_0 : List UInt8 := dkwX9_in_0 ++ []
theorem dksX9_in_0 : cX9_in.data.toList.drop 0 = dktX9_in_0 := by decide +kernel
theorem dX9_in_0 : decode cX9_in 0 = .ok (.lload_n 0, 1) := dk_30 (dk_at dksX9_in_0 0 rfl rfl)
theorem dX9_in_1 : decode cX9_in 1 = .ok (.lload_n 2, 1) := dk_32 (dk_at dksX9_in_0 1 rfl rfl)
theorem dX9_in_2 : decode cX9_in 2 = .ok (.lcmp, 1) := dk_148 (dk_at dksX9_in_0 2 rfl rfl)
theorem dX9_in_3 : decode cX9_in 3 = .ok (.ifCond .lt 14, 3) := dk_155 0 14 (dk_at dksX9_in_0 3 rfl rfl)
theorem dX9_in_6 : decode cX9_in 6 = .ok (.lload_n 0, 1) := dk_30 (dk_at dksX9_in_0 6 rfl rfl)
theorem dX9_in_7 : decode cX9_in 7 = .ok (.lload 4, 2) := dk_22 4 (dk_at dksX9_in_0 7 rfl rfl)
theorem dX9_in_9 : decode cX9_in 9 = .ok (.lcmp, 1) := dk_148 (dk_at dksX9_in_0 9 rfl rfl)
theorem dX9_in_10 : decode cX9_in 10 = .ok (.ifCond .gt 7, 3) := dk_157 0 7 (dk_at dksX9_in_0 10 rfl rfl)
theorem dX9_in_13 : decode cX9_in 13 = .ok (.iconst 1, 1) := dk_4 (dk_at dksX9_in_0 13 rfl rfl)
theorem dX9_in_14 : decode cX9_in 14 = .ok (.goto 4, 3) := dk_167 0 4 (dk_at dksX9_in_0 14 rfl rfl)
theorem dX9_in_17 : decode cX9_in 17 = .ok (.iconst 0, 1) := dk_3 (dk_at dksX9_in_0 17 rfl rfl)
theorem dX9_in_18 : decode cX9_in 18 = .ok (.ireturn, 1) := dk_172 (dk_at dksX9_in_0 18 rfl rfl)
abbrev cX9_isOf : ByteArray := prog_17_method_7_code
def yX9_isOf : MethodName := ⟨RX9, "isOf", "(II)Z"⟩
def dkwX9_isOf_1 : List UInt8 := [153, 0, 18, 167, 0, 11, 42, 28, 182, 0, 73, 153, 0, 7, 4, 167, 0, 4, 3, 172]
abbrev dktX9_isOf_1 : List UInt8 := dkwX9_isOf_1 ++ []
def dkwX9_isOf_0 : List UInt8 := [27, 4, 159, 0, 35, 27, 5, 159, 0, 30, 27, 154, 0, 18, 28, 133, 9, 20, 0, 71, 184, 0, 67]
abbrev dktX9_isOf_0 : List UInt8 := dkwX9_isOf_0 ++ dktX9_isOf_1
theorem dksX9_isOf_0 : cX9_isOf.data.toList.drop 0 = dktX9_isOf_0 := by decide +kernel
theorem dksX9_isOf_1 : cX9_isOf.data.toList.drop 23 = dktX9_isOf_1 := dk_seg dksX9_isOf_0 23 rfl rfl
theorem dX9_isOf_0 : decode cX9_isOf 0 = .ok (.iload_n 1, 1) := dk_27 (dk_at dksX9_isOf_0 0 rfl rfl)
theorem dX9_isOf_1 : decode cX9_isOf 1 = .ok (.iconst 1, 1) := dk_4 (dk_at dksX9_isOf_0 1 rfl rfl)
theorem dX9_isOf_2 : decode cX9_isOf 2 = .ok (.if_icmp .eq 35, 3) := dk_159 0 35 (dk_at dksX9_isOf_0 2 rfl rfl)
theorem dX9_isOf_5 : decode cX9_isOf 5 = .ok (.iload_n 1, 1) := dk_27 (dk_at dksX9_isOf_0 5 rfl rfl)
theorem dX9_isOf_6 : decode cX9_isOf 6 = .ok (.iconst 2, 1) := dk_5 (dk_at dksX9_isOf_0 6 rfl rfl)
theorem dX9_isOf_7 : decode cX9_isOf 7 = .ok (.if_icmp .eq 30, 3) := dk_159 0 30 (dk_at dksX9_isOf_0 7 rfl rfl)
theorem dX9_isOf_10 : decode cX9_isOf 10 = .ok (.iload_n 1, 1) := dk_27 (dk_at dksX9_isOf_0 10 rfl rfl)
theorem dX9_isOf_11 : decode cX9_isOf 11 = .ok (.ifCond .ne 18, 3) := dk_154 0 18 (dk_at dksX9_isOf_0 11 rfl rfl)
theorem dX9_isOf_14 : decode cX9_isOf 14 = .ok (.iload_n 2, 1) := dk_28 (dk_at dksX9_isOf_0 14 rfl rfl)
theorem dX9_isOf_15 : decode cX9_isOf 15 = .ok (.i2l, 1) := dk_133 (dk_at dksX9_isOf_0 15 rfl rfl)
theorem dX9_isOf_16 : decode cX9_isOf 16 = .ok (.lconst 0, 1) := dk_9 (dk_at dksX9_isOf_0 16 rfl rfl)
theorem dX9_isOf_17 : decode cX9_isOf 17 = .ok (.ldc2_w 71, 3) := dk_20 0 71 (dk_at dksX9_isOf_0 17 rfl rfl)
theorem dX9_isOf_20 : decode cX9_isOf 20 = .ok (.invokestatic 67, 3) := dk_184 0 67 (dk_at dksX9_isOf_0 20 rfl rfl)
theorem dX9_isOf_23 : decode cX9_isOf 23 = .ok (.ifCond .eq 18, 3) := dk_153 0 18 (dk_at dksX9_isOf_1 0 rfl rfl)
theorem dX9_isOf_26 : decode cX9_isOf 26 = .ok (.goto 11, 3) := dk_167 0 11 (dk_at dksX9_isOf_1 3 rfl rfl)
theorem dX9_isOf_29 : decode cX9_isOf 29 = .ok (.aload_n 0, 1) := dk_42 (dk_at dksX9_isOf_1 6 rfl rfl)
theorem dX9_isOf_30 : decode cX9_isOf 30 = .ok (.iload_n 2, 1) := dk_28 (dk_at dksX9_isOf_1 7 rfl rfl)
theorem dX9_isOf_31 : decode cX9_isOf 31 = .ok (.invokevirtual 73, 3) := dk_182 0 73 (dk_at dksX9_isOf_1 8 rfl rfl)
theorem dX9_isOf_34 : decode cX9_isOf 34 = .ok (.ifCond .eq 7, 3) := dk_153 0 7 (dk_at dksX9_isOf_1 11 rfl rfl)
theorem dX9_isOf_37 : decode cX9_isOf 37 = .ok (.iconst 1, 1) := dk_4 (dk_at dksX9_isOf_1 14 rfl rfl)
theorem dX9_isOf_38 : decode cX9_isOf 38 = .ok (.goto 4, 3) := dk_167 0 4 (dk_at dksX9_isOf_1 15 rfl rfl)
theorem dX9_isOf_41 : decode cX9_isOf 41 = .ok (.iconst 0, 1) := dk_3 (dk_at dksX9_isOf_1 18 rfl rfl)
theorem dX9_isOf_42 : decode cX9_isOf 42 = .ok (.ireturn, 1) := dk_172 (dk_at dksX9_isOf_1 19 rfl rfl)
abbrev cX9_isOne : ByteArray := prog_17_method_6_code
def yX9_isOne : MethodName := ⟨RX9, "isOne", "(I)Z"⟩
def dkwX9_isOne_0 : List UInt8 := [27, 133, 9, 42, 180, 0, 64, 4, 100, 133, 184, 0, 67, 172]
abbrev dktX9_isOne_0 : List UInt8 := dkwX9_isOne_0 ++ []
theorem dksX9_isOne_0 : cX9_isOne.data.toList.drop 0 = dktX9_isOne_0 := by decide +kernel
theorem dX9_isOne_0 : decode cX9_isOne 0 = .ok (.iload_n 1, 1) := dk_27 (dk_at dksX9_isOne_0 0 rfl rfl)
theorem dX9_isOne_1 : decode cX9_isOne 1 = .ok (.i2l, 1) := dk_133 (dk_at dksX9_isOne_0 1 rfl rfl)
theorem dX9_isOne_2 : decode cX9_isOne 2 = .ok (.lconst 0, 1) := dk_9 (dk_at dksX9_isOne_0 2 rfl rfl)
theorem dX9_isOne_3 : decode cX9_isOne 3 = .ok (.aload_n 0, 1) := dk_42 (dk_at dksX9_isOne_0 3 rfl rfl)
theorem dX9_isOne_4 : decode cX9_isOne 4 = .ok (.getfield 64, 3) := dk_180 0 64 (dk_at dksX9_isOne_0 4 rfl rfl)
theorem dX9_isOne_7 : decode cX9_isOne 7 = .ok (.iconst 1, 1) := dk_4 (dk_at dksX9_isOne_0 7 rfl rfl)
theorem dX9_isOne_8 : decode cX9_isOne 8 = .ok (.isub, 1) := dk_100 (dk_at dksX9_isOne_0 8 rfl rfl)
theorem dX9_isOne_9 : decode cX9_isOne 9 = .ok (.i2l, 1) := dk_133 (dk_at dksX9_isOne_0 9 rfl rfl)
theorem dX9_isOne_10 : decode cX9_isOne 10 = .ok (.invokestatic 67, 3) := dk_184 0 67 (dk_at dksX9_isOne_0 10 rfl rfl)
theorem dX9_isOne_13 : decode cX9_isOne 13 = .ok (.ireturn, 1) := dk_172 (dk_at dksX9_isOne_0 13 rfl rfl)
abbrev cX9_mostOf : ByteArray := prog_17_method_8_code
def yX9_mostOf : MethodName := ⟨RX9, "mostOf", "(I)I"⟩
def dkwX9_mostOf_1 : List UInt8 := [160, 0, 8, 16, 99, 167, 0, 16, 26, 16, 6, 160, 0, 7, 4, 167, 0, 6, 17, 3, 231, 172]
abbrev dktX9_mostOf_1 : List UInt8 := dkwX9_mostOf_1 ++ []
def dkwX9_mostOf_0 : List UInt8 := [26, 4, 160, 0, 8, 16, 10, 167, 0, 36, 26, 6, 160, 0, 8, 16, 9, 167, 0, 26, 26, 8]
abbrev dktX9_mostOf_0 : List UInt8 := dkwX9_mostOf_0 ++ dktX9_mostOf_1
theorem dksX9_mostOf_0 : cX9_mostOf.data.toList.drop 0 = dktX9_mostOf_0 := by decide +kernel
theorem dksX9_mostOf_1 : cX9_mostOf.data.toList.drop 22 = dktX9_mostOf_1 := dk_seg dksX9_mostOf_0 22 rfl rfl
theorem dX9_mostOf_0 : decode cX9_mostOf 0 = .ok (.iload_n 0, 1) := dk_26 (dk_at dksX9_mostOf_0 0 rfl rfl)
theorem dX9_mostOf_1 : decode cX9_mostOf 1 = .ok (.iconst 1, 1) := dk_4 (dk_at dksX9_mostOf_0 1 rfl rfl)
theorem dX9_mostOf_2 : decode cX9_mostOf 2 = .ok (.if_icmp .ne 8, 3) := dk_160 0 8 (dk_at dksX9_mostOf_0 2 rfl rfl)
theorem dX9_mostOf_5 : decode cX9_mostOf 5 = .ok (.bipush 10, 2) := dk_16 10 (dk_at dksX9_mostOf_0 5 rfl rfl)
theorem dX9_mostOf_7 : decode cX9_mostOf 7 = .ok (.goto 36, 3) := dk_167 0 36 (dk_at dksX9_mostOf_0 7 rfl rfl)
theorem dX9_mostOf_10 : decode cX9_mostOf 10 = .ok (.iload_n 0, 1) := dk_26 (dk_at dksX9_mostOf_0 10 rfl rfl)
theorem dX9_mostOf_11 : decode cX9_mostOf 11 = .ok (.iconst 3, 1) := dk_6 (dk_at dksX9_mostOf_0 11 rfl rfl)
theorem dX9_mostOf_12 : decode cX9_mostOf 12 = .ok (.if_icmp .ne 8, 3) := dk_160 0 8 (dk_at dksX9_mostOf_0 12 rfl rfl)
theorem dX9_mostOf_15 : decode cX9_mostOf 15 = .ok (.bipush 9, 2) := dk_16 9 (dk_at dksX9_mostOf_0 15 rfl rfl)
theorem dX9_mostOf_17 : decode cX9_mostOf 17 = .ok (.goto 26, 3) := dk_167 0 26 (dk_at dksX9_mostOf_0 17 rfl rfl)
theorem dX9_mostOf_20 : decode cX9_mostOf 20 = .ok (.iload_n 0, 1) := dk_26 (dk_at dksX9_mostOf_0 20 rfl rfl)
theorem dX9_mostOf_21 : decode cX9_mostOf 21 = .ok (.iconst 5, 1) := dk_8 (dk_at dksX9_mostOf_0 21 rfl rfl)
theorem dX9_mostOf_22 : decode cX9_mostOf 22 = .ok (.if_icmp .ne 8, 3) := dk_160 0 8 (dk_at dksX9_mostOf_1 0 rfl rfl)
theorem dX9_mostOf_25 : decode cX9_mostOf 25 = .ok (.bipush 99, 2) := dk_16 99 (dk_at dksX9_mostOf_1 3 rfl rfl)
theorem dX9_mostOf_27 : decode cX9_mostOf 27 = .ok (.goto 16, 3) := dk_167 0 16 (dk_at dksX9_mostOf_1 5 rfl rfl)
theorem dX9_mostOf_30 : decode cX9_mostOf 30 = .ok (.iload_n 0, 1) := dk_26 (dk_at dksX9_mostOf_1 8 rfl rfl)
theorem dX9_mostOf_31 : decode cX9_mostOf 31 = .ok (.bipush 6, 2) := dk_16 6 (dk_at dksX9_mostOf_1 9 rfl rfl)
theorem dX9_mostOf_33 : decode cX9_mostOf 33 = .ok (.if_icmp .ne 7, 3) := dk_160 0 7 (dk_at dksX9_mostOf_1 11 rfl rfl)
theorem dX9_mostOf_36 : decode cX9_mostOf 36 = .ok (.iconst 1, 1) := dk_4 (dk_at dksX9_mostOf_1 14 rfl rfl)
theorem dX9_mostOf_37 : decode cX9_mostOf 37 = .ok (.goto 6, 3) := dk_167 0 6 (dk_at dksX9_mostOf_1 15 rfl rfl)
theorem dX9_mostOf_40 : decode cX9_mostOf 40 = .ok (.sipush 999, 3) := dk_17 3 231 (dk_at dksX9_mostOf_1 18 rfl rfl)
theorem dX9_mostOf_43 : decode cX9_mostOf 43 = .ok (.ireturn, 1) := dk_172 (dk_at dksX9_mostOf_1 21 rfl rfl)
abbrev cX9_told : ByteArray := prog_17_method_12_code
def yX9_told : MethodName := ⟨RX9, "told", "(II)I"⟩
def dkwX9_told_5 : List UInt8 := [172]
abbrev dktX9_told_5 : List UInt8 := dkwX9_told_5 ++ []
def dkwX9_told_4 : List UInt8 := [160, 0, 11, 42, 27, 182, 0, 113, 167, 0, 16, 42, 27, 182, 0, 116, 153, 0, 7, 4, 167, 0, 4, 3]
abbrev dktX9_told_4 : List UInt8 := dkwX9_told_4 ++ dktX9_told_5
def dkwX9_told_3 : List UInt8 := [28, 96, 6, 100, 46, 172, 28, 16, 8, 160, 0, 11, 42, 27, 182, 0, 110, 167, 0, 30, 28, 16, 9]
abbrev dktX9_told_3 : List UInt8 := dkwX9_told_3 ++ dktX9_told_4
def dkwX9_told_2 : List UInt8 := [180, 0, 95, 167, 0, 7, 42, 180, 0, 98, 172, 28, 16, 8, 162, 0, 16, 42, 180, 0, 26, 8, 27, 104]
abbrev dktX9_told_2 : List UInt8 := dkwX9_told_2 ++ dktX9_told_3
def dkwX9_told_1 : List UInt8 := [28, 6, 162, 0, 33, 28, 154, 0, 12, 42, 180, 0, 23, 27, 46, 167, 0, 19, 28, 4, 160, 0, 10, 42]
abbrev dktX9_told_1 : List UInt8 := dkwX9_told_1 ++ dktX9_told_2
def dkwX9_told_0 : List UInt8 := [28, 133, 9, 20, 0, 108, 184, 0, 67, 153, 0, 12, 42, 28, 27, 182, 0, 79, 154, 0, 6, 16, 254, 172]
abbrev dktX9_told_0 : List UInt8 := dkwX9_told_0 ++ dktX9_told_1
theorem dksX9_told_0 : cX9_told.data.toList.drop 0 = dktX9_told_0 := by decide +kernel
theorem dksX9_told_1 : cX9_told.data.toList.drop 24 = dktX9_told_1 := dk_seg dksX9_told_0 24 rfl rfl
theorem dksX9_told_2 : cX9_told.data.toList.drop 48 = dktX9_told_2 := dk_seg dksX9_told_1 24 rfl rfl
theorem dksX9_told_3 : cX9_told.data.toList.drop 72 = dktX9_told_3 := dk_seg dksX9_told_2 24 rfl rfl
theorem dksX9_told_4 : cX9_told.data.toList.drop 95 = dktX9_told_4 := dk_seg dksX9_told_3 23 rfl rfl
theorem dksX9_told_5 : cX9_told.data.toList.drop 119 = dktX9_told_5 := dk_seg dksX9_told_4 24 rfl rfl
theorem dX9_told_0 : decode cX9_told 0 = .ok (.iload_n 2, 1) := dk_28 (dk_at dksX9_told_0 0 rfl rfl)
theorem dX9_told_1 : decode cX9_told 1 = .ok (.i2l, 1) := dk_133 (dk_at dksX9_told_0 1 rfl rfl)
theorem dX9_told_2 : decode cX9_told 2 = .ok (.lconst 0, 1) := dk_9 (dk_at dksX9_told_0 2 rfl rfl)
theorem dX9_told_3 : decode cX9_told 3 = .ok (.ldc2_w 108, 3) := dk_20 0 108 (dk_at dksX9_told_0 3 rfl rfl)
theorem dX9_told_6 : decode cX9_told 6 = .ok (.invokestatic 67, 3) := dk_184 0 67 (dk_at dksX9_told_0 6 rfl rfl)
theorem dX9_told_9 : decode cX9_told 9 = .ok (.ifCond .eq 12, 3) := dk_153 0 12 (dk_at dksX9_told_0 9 rfl rfl)
theorem dX9_told_12 : decode cX9_told 12 = .ok (.aload_n 0, 1) := dk_42 (dk_at dksX9_told_0 12 rfl rfl)
theorem dX9_told_13 : decode cX9_told 13 = .ok (.iload_n 2, 1) := dk_28 (dk_at dksX9_told_0 13 rfl rfl)
theorem dX9_told_14 : decode cX9_told 14 = .ok (.iload_n 1, 1) := dk_27 (dk_at dksX9_told_0 14 rfl rfl)
theorem dX9_told_15 : decode cX9_told 15 = .ok (.invokevirtual 79, 3) := dk_182 0 79 (dk_at dksX9_told_0 15 rfl rfl)
theorem dX9_told_18 : decode cX9_told 18 = .ok (.ifCond .ne 6, 3) := dk_154 0 6 (dk_at dksX9_told_0 18 rfl rfl)
theorem dX9_told_21 : decode cX9_told 21 = .ok (.bipush (-2), 2) := dk_16 254 (dk_at dksX9_told_0 21 rfl rfl)
theorem dX9_told_23 : decode cX9_told 23 = .ok (.ireturn, 1) := dk_172 (dk_at dksX9_told_0 23 rfl rfl)
theorem dX9_told_24 : decode cX9_told 24 = .ok (.iload_n 2, 1) := dk_28 (dk_at dksX9_told_1 0 rfl rfl)
theorem dX9_told_25 : decode cX9_told 25 = .ok (.iconst 3, 1) := dk_6 (dk_at dksX9_told_1 1 rfl rfl)
theorem dX9_told_26 : decode cX9_told 26 = .ok (.if_icmp .ge 33, 3) := dk_162 0 33 (dk_at dksX9_told_1 2 rfl rfl)
theorem dX9_told_29 : decode cX9_told 29 = .ok (.iload_n 2, 1) := dk_28 (dk_at dksX9_told_1 5 rfl rfl)
theorem dX9_told_30 : decode cX9_told 30 = .ok (.ifCond .ne 12, 3) := dk_154 0 12 (dk_at dksX9_told_1 6 rfl rfl)
theorem dX9_told_33 : decode cX9_told 33 = .ok (.aload_n 0, 1) := dk_42 (dk_at dksX9_told_1 9 rfl rfl)
theorem dX9_told_34 : decode cX9_told 34 = .ok (.getfield 23, 3) := dk_180 0 23 (dk_at dksX9_told_1 10 rfl rfl)
theorem dX9_told_37 : decode cX9_told 37 = .ok (.iload_n 1, 1) := dk_27 (dk_at dksX9_told_1 13 rfl rfl)
theorem dX9_told_38 : decode cX9_told 38 = .ok (.iaload, 1) := dk_46 (dk_at dksX9_told_1 14 rfl rfl)
theorem dX9_told_39 : decode cX9_told 39 = .ok (.goto 19, 3) := dk_167 0 19 (dk_at dksX9_told_1 15 rfl rfl)
theorem dX9_told_42 : decode cX9_told 42 = .ok (.iload_n 2, 1) := dk_28 (dk_at dksX9_told_1 18 rfl rfl)
theorem dX9_told_43 : decode cX9_told 43 = .ok (.iconst 1, 1) := dk_4 (dk_at dksX9_told_1 19 rfl rfl)
theorem dX9_told_44 : decode cX9_told 44 = .ok (.if_icmp .ne 10, 3) := dk_160 0 10 (dk_at dksX9_told_1 20 rfl rfl)
theorem dX9_told_47 : decode cX9_told 47 = .ok (.aload_n 0, 1) := dk_42 (dk_at dksX9_told_1 23 rfl rfl)
theorem dX9_told_48 : decode cX9_told 48 = .ok (.getfield 95, 3) := dk_180 0 95 (dk_at dksX9_told_2 0 rfl rfl)
theorem dX9_told_51 : decode cX9_told 51 = .ok (.goto 7, 3) := dk_167 0 7 (dk_at dksX9_told_2 3 rfl rfl)
theorem dX9_told_54 : decode cX9_told 54 = .ok (.aload_n 0, 1) := dk_42 (dk_at dksX9_told_2 6 rfl rfl)
theorem dX9_told_55 : decode cX9_told 55 = .ok (.getfield 98, 3) := dk_180 0 98 (dk_at dksX9_told_2 7 rfl rfl)
theorem dX9_told_58 : decode cX9_told 58 = .ok (.ireturn, 1) := dk_172 (dk_at dksX9_told_2 10 rfl rfl)
theorem dX9_told_59 : decode cX9_told 59 = .ok (.iload_n 2, 1) := dk_28 (dk_at dksX9_told_2 11 rfl rfl)
theorem dX9_told_60 : decode cX9_told 60 = .ok (.bipush 8, 2) := dk_16 8 (dk_at dksX9_told_2 12 rfl rfl)
theorem dX9_told_62 : decode cX9_told 62 = .ok (.if_icmp .ge 16, 3) := dk_162 0 16 (dk_at dksX9_told_2 14 rfl rfl)
theorem dX9_told_65 : decode cX9_told 65 = .ok (.aload_n 0, 1) := dk_42 (dk_at dksX9_told_2 17 rfl rfl)
theorem dX9_told_66 : decode cX9_told 66 = .ok (.getfield 26, 3) := dk_180 0 26 (dk_at dksX9_told_2 18 rfl rfl)
theorem dX9_told_69 : decode cX9_told 69 = .ok (.iconst 5, 1) := dk_8 (dk_at dksX9_told_2 21 rfl rfl)
theorem dX9_told_70 : decode cX9_told 70 = .ok (.iload_n 1, 1) := dk_27 (dk_at dksX9_told_2 22 rfl rfl)
theorem dX9_told_71 : decode cX9_told 71 = .ok (.imul, 1) := dk_104 (dk_at dksX9_told_2 23 rfl rfl)
theorem dX9_told_72 : decode cX9_told 72 = .ok (.iload_n 2, 1) := dk_28 (dk_at dksX9_told_3 0 rfl rfl)
theorem dX9_told_73 : decode cX9_told 73 = .ok (.iadd, 1) := dk_96 (dk_at dksX9_told_3 1 rfl rfl)
theorem dX9_told_74 : decode cX9_told 74 = .ok (.iconst 3, 1) := dk_6 (dk_at dksX9_told_3 2 rfl rfl)
theorem dX9_told_75 : decode cX9_told 75 = .ok (.isub, 1) := dk_100 (dk_at dksX9_told_3 3 rfl rfl)
theorem dX9_told_76 : decode cX9_told 76 = .ok (.iaload, 1) := dk_46 (dk_at dksX9_told_3 4 rfl rfl)
theorem dX9_told_77 : decode cX9_told 77 = .ok (.ireturn, 1) := dk_172 (dk_at dksX9_told_3 5 rfl rfl)
theorem dX9_told_78 : decode cX9_told 78 = .ok (.iload_n 2, 1) := dk_28 (dk_at dksX9_told_3 6 rfl rfl)
theorem dX9_told_79 : decode cX9_told 79 = .ok (.bipush 8, 2) := dk_16 8 (dk_at dksX9_told_3 7 rfl rfl)
theorem dX9_told_81 : decode cX9_told 81 = .ok (.if_icmp .ne 11, 3) := dk_160 0 11 (dk_at dksX9_told_3 9 rfl rfl)
theorem dX9_told_84 : decode cX9_told 84 = .ok (.aload_n 0, 1) := dk_42 (dk_at dksX9_told_3 12 rfl rfl)
theorem dX9_told_85 : decode cX9_told 85 = .ok (.iload_n 1, 1) := dk_27 (dk_at dksX9_told_3 13 rfl rfl)
theorem dX9_told_86 : decode cX9_told 86 = .ok (.invokevirtual 110, 3) := dk_182 0 110 (dk_at dksX9_told_3 14 rfl rfl)
theorem dX9_told_89 : decode cX9_told 89 = .ok (.goto 30, 3) := dk_167 0 30 (dk_at dksX9_told_3 17 rfl rfl)
theorem dX9_told_92 : decode cX9_told 92 = .ok (.iload_n 2, 1) := dk_28 (dk_at dksX9_told_3 20 rfl rfl)
theorem dX9_told_93 : decode cX9_told 93 = .ok (.bipush 9, 2) := dk_16 9 (dk_at dksX9_told_3 21 rfl rfl)
theorem dX9_told_95 : decode cX9_told 95 = .ok (.if_icmp .ne 11, 3) := dk_160 0 11 (dk_at dksX9_told_4 0 rfl rfl)
theorem dX9_told_98 : decode cX9_told 98 = .ok (.aload_n 0, 1) := dk_42 (dk_at dksX9_told_4 3 rfl rfl)
theorem dX9_told_99 : decode cX9_told 99 = .ok (.iload_n 1, 1) := dk_27 (dk_at dksX9_told_4 4 rfl rfl)
theorem dX9_told_100 : decode cX9_told 100 = .ok (.invokevirtual 113, 3) := dk_182 0 113 (dk_at dksX9_told_4 5 rfl rfl)
theorem dX9_told_103 : decode cX9_told 103 = .ok (.goto 16, 3) := dk_167 0 16 (dk_at dksX9_told_4 8 rfl rfl)
theorem dX9_told_106 : decode cX9_told 106 = .ok (.aload_n 0, 1) := dk_42 (dk_at dksX9_told_4 11 rfl rfl)
theorem dX9_told_107 : decode cX9_told 107 = .ok (.iload_n 1, 1) := dk_27 (dk_at dksX9_told_4 12 rfl rfl)
theorem dX9_told_108 : decode cX9_told 108 = .ok (.invokevirtual 116, 3) := dk_182 0 116 (dk_at dksX9_told_4 13 rfl rfl)
theorem dX9_told_111 : decode cX9_told 111 = .ok (.ifCond .eq 7, 3) := dk_153 0 7 (dk_at dksX9_told_4 16 rfl rfl)
theorem dX9_told_114 : decode cX9_told 114 = .ok (.iconst 1, 1) := dk_4 (dk_at dksX9_told_4 19 rfl rfl)
theorem dX9_told_115 : decode cX9_told 115 = .ok (.goto 4, 3) := dk_167 0 4 (dk_at dksX9_told_4 20 rfl rfl)
theorem dX9_told_118 : decode cX9_told 118 = .ok (.iconst 0, 1) := dk_3 (dk_at dksX9_told_4 23 rfl rfl)
theorem dX9_told_119 : decode cX9_told 119 = .ok (.ireturn, 1) := dk_172 (dk_at dksX9_told_5 0 rfl rfl)
abbrev cX9_strongOf : ByteArray := prog_17_method_71_code
def yX9_strongOf : MethodName := ⟨RX9, "strongOf", "(I)I"⟩
def dkwX9_strongOf_5 : List UInt8 := [180, 0, 23, 42, 180, 0, 95, 46, 96, 172]
abbrev dktX9_strongOf_5 : List UInt8 := dkwX9_strongOf_5 ++ []
def dkwX9_strongOf_4 : List UInt8 := [28, 7, 160, 0, 19, 21, 5, 42, 180, 0, 26, 8, 27, 104, 5, 96, 46, 96, 167, 0, 14, 29, 42]
abbrev dktX9_strongOf_4 : List UInt8 := dkwX9_strongOf_4 ++ dktX9_strongOf_5
def dkwX9_strongOf_3 : List UInt8 := [167, 0, 5, 21, 4, 172, 28, 154, 0, 7, 29, 167, 0, 45, 28, 5, 160, 0, 8, 21, 5, 167, 0, 35]
abbrev dktX9_strongOf_3 : List UInt8 := dkwX9_strongOf_3 ++ dktX9_strongOf_4
def dkwX9_strongOf_2 : List UInt8 := [160, 0, 25, 42, 180, 0, 26, 8, 27, 104, 5, 96, 46, 16, 49, 164, 0, 10, 5, 21, 4, 104]
abbrev dktX9_strongOf_2 : List UInt8 := dkwX9_strongOf_2 ++ dktX9_strongOf_3
def dkwX9_strongOf_1 : List UInt8 := [27, 104, 46, 96, 54, 4, 29, 16, 10, 108, 54, 5, 28, 4, 159, 0, 8, 28, 6, 160, 0, 33, 28, 6]
abbrev dktX9_strongOf_1 : List UInt8 := dkwX9_strongOf_1 ++ dktX9_strongOf_2
def dkwX9_strongOf_0 : List UInt8 := [42, 180, 0, 26, 8, 27, 104, 7, 96, 46, 61, 42, 4, 27, 182, 1, 76, 62, 29, 42, 180, 0, 26, 8]
abbrev dktX9_strongOf_0 : List UInt8 := dkwX9_strongOf_0 ++ dktX9_strongOf_1
theorem dksX9_strongOf_0 : cX9_strongOf.data.toList.drop 0 = dktX9_strongOf_0 := by decide +kernel
theorem dksX9_strongOf_1 : cX9_strongOf.data.toList.drop 24 = dktX9_strongOf_1 := dk_seg dksX9_strongOf_0 24 rfl rfl
theorem dksX9_strongOf_2 : cX9_strongOf.data.toList.drop 48 = dktX9_strongOf_2 := dk_seg dksX9_strongOf_1 24 rfl rfl
theorem dksX9_strongOf_3 : cX9_strongOf.data.toList.drop 70 = dktX9_strongOf_3 := dk_seg dksX9_strongOf_2 22 rfl rfl
theorem dksX9_strongOf_4 : cX9_strongOf.data.toList.drop 94 = dktX9_strongOf_4 := dk_seg dksX9_strongOf_3 24 rfl rfl
theorem dksX9_strongOf_5 : cX9_strongOf.data.toList.drop 117 = dktX9_strongOf_5 := dk_seg dksX9_strongOf_4 23 rfl rfl
theorem dX9_strongOf_0 : decode cX9_strongOf 0 = .ok (.aload_n 0, 1) := dk_42 (dk_at dksX9_strongOf_0 0 rfl rfl)
theorem dX9_strongOf_1 : decode cX9_strongOf 1 = .ok (.getfield 26, 3) := dk_180 0 26 (dk_at dksX9_strongOf_0 1 rfl rfl)
theorem dX9_strongOf_4 : decode cX9_strongOf 4 = .ok (.iconst 5, 1) := dk_8 (dk_at dksX9_strongOf_0 4 rfl rfl)
theorem dX9_strongOf_5 : decode cX9_strongOf 5 = .ok (.iload_n 1, 1) := dk_27 (dk_at dksX9_strongOf_0 5 rfl rfl)
theorem dX9_strongOf_6 : decode cX9_strongOf 6 = .ok (.imul, 1) := dk_104 (dk_at dksX9_strongOf_0 6 rfl rfl)
theorem dX9_strongOf_7 : decode cX9_strongOf 7 = .ok (.iconst 4, 1) := dk_7 (dk_at dksX9_strongOf_0 7 rfl rfl)
theorem dX9_strongOf_8 : decode cX9_strongOf 8 = .ok (.iadd, 1) := dk_96 (dk_at dksX9_strongOf_0 8 rfl rfl)
theorem dX9_strongOf_9 : decode cX9_strongOf 9 = .ok (.iaload, 1) := dk_46 (dk_at dksX9_strongOf_0 9 rfl rfl)
theorem dX9_strongOf_10 : decode cX9_strongOf 10 = .ok (.istore_n 2, 1) := dk_61 (dk_at dksX9_strongOf_0 10 rfl rfl)
theorem dX9_strongOf_11 : decode cX9_strongOf 11 = .ok (.aload_n 0, 1) := dk_42 (dk_at dksX9_strongOf_0 11 rfl rfl)
theorem dX9_strongOf_12 : decode cX9_strongOf 12 = .ok (.iconst 1, 1) := dk_4 (dk_at dksX9_strongOf_0 12 rfl rfl)
theorem dX9_strongOf_13 : decode cX9_strongOf 13 = .ok (.iload_n 1, 1) := dk_27 (dk_at dksX9_strongOf_0 13 rfl rfl)
theorem dX9_strongOf_14 : decode cX9_strongOf 14 = .ok (.invokevirtual 332, 3) := dk_182 1 76 (dk_at dksX9_strongOf_0 14 rfl rfl)
theorem dX9_strongOf_17 : decode cX9_strongOf 17 = .ok (.istore_n 3, 1) := dk_62 (dk_at dksX9_strongOf_0 17 rfl rfl)
theorem dX9_strongOf_18 : decode cX9_strongOf 18 = .ok (.iload_n 3, 1) := dk_29 (dk_at dksX9_strongOf_0 18 rfl rfl)
theorem dX9_strongOf_19 : decode cX9_strongOf 19 = .ok (.aload_n 0, 1) := dk_42 (dk_at dksX9_strongOf_0 19 rfl rfl)
theorem dX9_strongOf_20 : decode cX9_strongOf 20 = .ok (.getfield 26, 3) := dk_180 0 26 (dk_at dksX9_strongOf_0 20 rfl rfl)
theorem dX9_strongOf_23 : decode cX9_strongOf 23 = .ok (.iconst 5, 1) := dk_8 (dk_at dksX9_strongOf_0 23 rfl rfl)
theorem dX9_strongOf_24 : decode cX9_strongOf 24 = .ok (.iload_n 1, 1) := dk_27 (dk_at dksX9_strongOf_1 0 rfl rfl)
theorem dX9_strongOf_25 : decode cX9_strongOf 25 = .ok (.imul, 1) := dk_104 (dk_at dksX9_strongOf_1 1 rfl rfl)
theorem dX9_strongOf_26 : decode cX9_strongOf 26 = .ok (.iaload, 1) := dk_46 (dk_at dksX9_strongOf_1 2 rfl rfl)
theorem dX9_strongOf_27 : decode cX9_strongOf 27 = .ok (.iadd, 1) := dk_96 (dk_at dksX9_strongOf_1 3 rfl rfl)
theorem dX9_strongOf_28 : decode cX9_strongOf 28 = .ok (.istore 4, 2) := dk_54 4 (dk_at dksX9_strongOf_1 4 rfl rfl)
theorem dX9_strongOf_30 : decode cX9_strongOf 30 = .ok (.iload_n 3, 1) := dk_29 (dk_at dksX9_strongOf_1 6 rfl rfl)
theorem dX9_strongOf_31 : decode cX9_strongOf 31 = .ok (.bipush 10, 2) := dk_16 10 (dk_at dksX9_strongOf_1 7 rfl rfl)
theorem dX9_strongOf_33 : decode cX9_strongOf 33 = .ok (.idiv, 1) := dk_108 (dk_at dksX9_strongOf_1 9 rfl rfl)
theorem dX9_strongOf_34 : decode cX9_strongOf 34 = .ok (.istore 5, 2) := dk_54 5 (dk_at dksX9_strongOf_1 10 rfl rfl)
theorem dX9_strongOf_36 : decode cX9_strongOf 36 = .ok (.iload_n 2, 1) := dk_28 (dk_at dksX9_strongOf_1 12 rfl rfl)
theorem dX9_strongOf_37 : decode cX9_strongOf 37 = .ok (.iconst 1, 1) := dk_4 (dk_at dksX9_strongOf_1 13 rfl rfl)
theorem dX9_strongOf_38 : decode cX9_strongOf 38 = .ok (.if_icmp .eq 8, 3) := dk_159 0 8 (dk_at dksX9_strongOf_1 14 rfl rfl)
theorem dX9_strongOf_41 : decode cX9_strongOf 41 = .ok (.iload_n 2, 1) := dk_28 (dk_at dksX9_strongOf_1 17 rfl rfl)
theorem dX9_strongOf_42 : decode cX9_strongOf 42 = .ok (.iconst 3, 1) := dk_6 (dk_at dksX9_strongOf_1 18 rfl rfl)
theorem dX9_strongOf_43 : decode cX9_strongOf 43 = .ok (.if_icmp .ne 33, 3) := dk_160 0 33 (dk_at dksX9_strongOf_1 19 rfl rfl)
theorem dX9_strongOf_46 : decode cX9_strongOf 46 = .ok (.iload_n 2, 1) := dk_28 (dk_at dksX9_strongOf_1 22 rfl rfl)
theorem dX9_strongOf_47 : decode cX9_strongOf 47 = .ok (.iconst 3, 1) := dk_6 (dk_at dksX9_strongOf_1 23 rfl rfl)
theorem dX9_strongOf_48 : decode cX9_strongOf 48 = .ok (.if_icmp .ne 25, 3) := dk_160 0 25 (dk_at dksX9_strongOf_2 0 rfl rfl)
theorem dX9_strongOf_51 : decode cX9_strongOf 51 = .ok (.aload_n 0, 1) := dk_42 (dk_at dksX9_strongOf_2 3 rfl rfl)
theorem dX9_strongOf_52 : decode cX9_strongOf 52 = .ok (.getfield 26, 3) := dk_180 0 26 (dk_at dksX9_strongOf_2 4 rfl rfl)
theorem dX9_strongOf_55 : decode cX9_strongOf 55 = .ok (.iconst 5, 1) := dk_8 (dk_at dksX9_strongOf_2 7 rfl rfl)
theorem dX9_strongOf_56 : decode cX9_strongOf 56 = .ok (.iload_n 1, 1) := dk_27 (dk_at dksX9_strongOf_2 8 rfl rfl)
theorem dX9_strongOf_57 : decode cX9_strongOf 57 = .ok (.imul, 1) := dk_104 (dk_at dksX9_strongOf_2 9 rfl rfl)
theorem dX9_strongOf_58 : decode cX9_strongOf 58 = .ok (.iconst 2, 1) := dk_5 (dk_at dksX9_strongOf_2 10 rfl rfl)
theorem dX9_strongOf_59 : decode cX9_strongOf 59 = .ok (.iadd, 1) := dk_96 (dk_at dksX9_strongOf_2 11 rfl rfl)
theorem dX9_strongOf_60 : decode cX9_strongOf 60 = .ok (.iaload, 1) := dk_46 (dk_at dksX9_strongOf_2 12 rfl rfl)
theorem dX9_strongOf_61 : decode cX9_strongOf 61 = .ok (.bipush 49, 2) := dk_16 49 (dk_at dksX9_strongOf_2 13 rfl rfl)
theorem dX9_strongOf_63 : decode cX9_strongOf 63 = .ok (.if_icmp .le 10, 3) := dk_164 0 10 (dk_at dksX9_strongOf_2 15 rfl rfl)
theorem dX9_strongOf_66 : decode cX9_strongOf 66 = .ok (.iconst 2, 1) := dk_5 (dk_at dksX9_strongOf_2 18 rfl rfl)
theorem dX9_strongOf_67 : decode cX9_strongOf 67 = .ok (.iload 4, 2) := dk_21 4 (dk_at dksX9_strongOf_2 19 rfl rfl)
theorem dX9_strongOf_69 : decode cX9_strongOf 69 = .ok (.imul, 1) := dk_104 (dk_at dksX9_strongOf_2 21 rfl rfl)
theorem dX9_strongOf_70 : decode cX9_strongOf 70 = .ok (.goto 5, 3) := dk_167 0 5 (dk_at dksX9_strongOf_3 0 rfl rfl)
theorem dX9_strongOf_73 : decode cX9_strongOf 73 = .ok (.iload 4, 2) := dk_21 4 (dk_at dksX9_strongOf_3 3 rfl rfl)
theorem dX9_strongOf_75 : decode cX9_strongOf 75 = .ok (.ireturn, 1) := dk_172 (dk_at dksX9_strongOf_3 5 rfl rfl)
theorem dX9_strongOf_76 : decode cX9_strongOf 76 = .ok (.iload_n 2, 1) := dk_28 (dk_at dksX9_strongOf_3 6 rfl rfl)
theorem dX9_strongOf_77 : decode cX9_strongOf 77 = .ok (.ifCond .ne 7, 3) := dk_154 0 7 (dk_at dksX9_strongOf_3 7 rfl rfl)
theorem dX9_strongOf_80 : decode cX9_strongOf 80 = .ok (.iload_n 3, 1) := dk_29 (dk_at dksX9_strongOf_3 10 rfl rfl)
theorem dX9_strongOf_81 : decode cX9_strongOf 81 = .ok (.goto 45, 3) := dk_167 0 45 (dk_at dksX9_strongOf_3 11 rfl rfl)
theorem dX9_strongOf_84 : decode cX9_strongOf 84 = .ok (.iload_n 2, 1) := dk_28 (dk_at dksX9_strongOf_3 14 rfl rfl)
theorem dX9_strongOf_85 : decode cX9_strongOf 85 = .ok (.iconst 2, 1) := dk_5 (dk_at dksX9_strongOf_3 15 rfl rfl)
theorem dX9_strongOf_86 : decode cX9_strongOf 86 = .ok (.if_icmp .ne 8, 3) := dk_160 0 8 (dk_at dksX9_strongOf_3 16 rfl rfl)
theorem dX9_strongOf_89 : decode cX9_strongOf 89 = .ok (.iload 5, 2) := dk_21 5 (dk_at dksX9_strongOf_3 19 rfl rfl)
theorem dX9_strongOf_91 : decode cX9_strongOf 91 = .ok (.goto 35, 3) := dk_167 0 35 (dk_at dksX9_strongOf_3 21 rfl rfl)
theorem dX9_strongOf_94 : decode cX9_strongOf 94 = .ok (.iload_n 2, 1) := dk_28 (dk_at dksX9_strongOf_4 0 rfl rfl)
theorem dX9_strongOf_95 : decode cX9_strongOf 95 = .ok (.iconst 4, 1) := dk_7 (dk_at dksX9_strongOf_4 1 rfl rfl)
theorem dX9_strongOf_96 : decode cX9_strongOf 96 = .ok (.if_icmp .ne 19, 3) := dk_160 0 19 (dk_at dksX9_strongOf_4 2 rfl rfl)
theorem dX9_strongOf_99 : decode cX9_strongOf 99 = .ok (.iload 5, 2) := dk_21 5 (dk_at dksX9_strongOf_4 5 rfl rfl)
theorem dX9_strongOf_101 : decode cX9_strongOf 101 = .ok (.aload_n 0, 1) := dk_42 (dk_at dksX9_strongOf_4 7 rfl rfl)
theorem dX9_strongOf_102 : decode cX9_strongOf 102 = .ok (.getfield 26, 3) := dk_180 0 26 (dk_at dksX9_strongOf_4 8 rfl rfl)
theorem dX9_strongOf_105 : decode cX9_strongOf 105 = .ok (.iconst 5, 1) := dk_8 (dk_at dksX9_strongOf_4 11 rfl rfl)
theorem dX9_strongOf_106 : decode cX9_strongOf 106 = .ok (.iload_n 1, 1) := dk_27 (dk_at dksX9_strongOf_4 12 rfl rfl)
theorem dX9_strongOf_107 : decode cX9_strongOf 107 = .ok (.imul, 1) := dk_104 (dk_at dksX9_strongOf_4 13 rfl rfl)
theorem dX9_strongOf_108 : decode cX9_strongOf 108 = .ok (.iconst 2, 1) := dk_5 (dk_at dksX9_strongOf_4 14 rfl rfl)
theorem dX9_strongOf_109 : decode cX9_strongOf 109 = .ok (.iadd, 1) := dk_96 (dk_at dksX9_strongOf_4 15 rfl rfl)
theorem dX9_strongOf_110 : decode cX9_strongOf 110 = .ok (.iaload, 1) := dk_46 (dk_at dksX9_strongOf_4 16 rfl rfl)
theorem dX9_strongOf_111 : decode cX9_strongOf 111 = .ok (.iadd, 1) := dk_96 (dk_at dksX9_strongOf_4 17 rfl rfl)
theorem dX9_strongOf_112 : decode cX9_strongOf 112 = .ok (.goto 14, 3) := dk_167 0 14 (dk_at dksX9_strongOf_4 18 rfl rfl)
theorem dX9_strongOf_115 : decode cX9_strongOf 115 = .ok (.iload_n 3, 1) := dk_29 (dk_at dksX9_strongOf_4 21 rfl rfl)
theorem dX9_strongOf_116 : decode cX9_strongOf 116 = .ok (.aload_n 0, 1) := dk_42 (dk_at dksX9_strongOf_4 22 rfl rfl)
theorem dX9_strongOf_117 : decode cX9_strongOf 117 = .ok (.getfield 23, 3) := dk_180 0 23 (dk_at dksX9_strongOf_5 0 rfl rfl)
theorem dX9_strongOf_120 : decode cX9_strongOf 120 = .ok (.aload_n 0, 1) := dk_42 (dk_at dksX9_strongOf_5 3 rfl rfl)
theorem dX9_strongOf_121 : decode cX9_strongOf 121 = .ok (.getfield 95, 3) := dk_180 0 95 (dk_at dksX9_strongOf_5 4 rfl rfl)
theorem dX9_strongOf_124 : decode cX9_strongOf 124 = .ok (.iaload, 1) := dk_46 (dk_at dksX9_strongOf_5 7 rfl rfl)
theorem dX9_strongOf_125 : decode cX9_strongOf 125 = .ok (.iadd, 1) := dk_96 (dk_at dksX9_strongOf_5 8 rfl rfl)
theorem dX9_strongOf_126 : decode cX9_strongOf 126 = .ok (.ireturn, 1) := dk_172 (dk_at dksX9_strongOf_5 9 rfl rfl)
abbrev cX9_says : ByteArray := prog_17_method_65_code
def yX9_says : MethodName := ⟨RX9, "says", "(II)I"⟩
def dkwX9_says_3 : List UInt8 := [100, 181, 0, 192, 42, 42, 180, 0, 101, 27, 182, 1, 66, 3, 16, 99, 184, 1, 72, 172]
abbrev dktX9_says_3 : List UInt8 := dkwX9_says_3 ++ []
def dkwX9_says_2 : List UInt8 := [8, 28, 104, 5, 96, 46, 181, 0, 189, 42, 42, 182, 1, 69, 42, 180, 0, 26, 8, 28, 104, 6, 96, 46]
abbrev dktX9_says_2 : List UInt8 := dkwX9_says_2 ++ dktX9_says_3
def dkwX9_says_1 : List UInt8 := [181, 0, 180, 42, 42, 180, 0, 95, 181, 0, 183, 42, 42, 180, 0, 98, 181, 0, 186, 42, 42, 180, 0, 26]
abbrev dktX9_says_1 : List UInt8 := dkwX9_says_1 ++ dktX9_says_2
def dkwX9_says_0 : List UInt8 := [42, 42, 180, 0, 26, 8, 28, 104, 4, 96, 46, 181, 0, 177, 42, 42, 180, 0, 26, 8, 28, 104, 46]
abbrev dktX9_says_0 : List UInt8 := dkwX9_says_0 ++ dktX9_says_1
theorem dksX9_says_0 : cX9_says.data.toList.drop 0 = dktX9_says_0 := by decide +kernel
theorem dksX9_says_1 : cX9_says.data.toList.drop 23 = dktX9_says_1 := dk_seg dksX9_says_0 23 rfl rfl
theorem dksX9_says_2 : cX9_says.data.toList.drop 47 = dktX9_says_2 := dk_seg dksX9_says_1 24 rfl rfl
theorem dksX9_says_3 : cX9_says.data.toList.drop 71 = dktX9_says_3 := dk_seg dksX9_says_2 24 rfl rfl
theorem dX9_says_0 : decode cX9_says 0 = .ok (.aload_n 0, 1) := dk_42 (dk_at dksX9_says_0 0 rfl rfl)
theorem dX9_says_1 : decode cX9_says 1 = .ok (.aload_n 0, 1) := dk_42 (dk_at dksX9_says_0 1 rfl rfl)
theorem dX9_says_2 : decode cX9_says 2 = .ok (.getfield 26, 3) := dk_180 0 26 (dk_at dksX9_says_0 2 rfl rfl)
theorem dX9_says_5 : decode cX9_says 5 = .ok (.iconst 5, 1) := dk_8 (dk_at dksX9_says_0 5 rfl rfl)
theorem dX9_says_6 : decode cX9_says 6 = .ok (.iload_n 2, 1) := dk_28 (dk_at dksX9_says_0 6 rfl rfl)
theorem dX9_says_7 : decode cX9_says 7 = .ok (.imul, 1) := dk_104 (dk_at dksX9_says_0 7 rfl rfl)
theorem dX9_says_8 : decode cX9_says 8 = .ok (.iconst 1, 1) := dk_4 (dk_at dksX9_says_0 8 rfl rfl)
theorem dX9_says_9 : decode cX9_says 9 = .ok (.iadd, 1) := dk_96 (dk_at dksX9_says_0 9 rfl rfl)
theorem dX9_says_10 : decode cX9_says 10 = .ok (.iaload, 1) := dk_46 (dk_at dksX9_says_0 10 rfl rfl)
theorem dX9_says_11 : decode cX9_says 11 = .ok (.putfield 177, 3) := dk_181 0 177 (dk_at dksX9_says_0 11 rfl rfl)
theorem dX9_says_14 : decode cX9_says 14 = .ok (.aload_n 0, 1) := dk_42 (dk_at dksX9_says_0 14 rfl rfl)
theorem dX9_says_15 : decode cX9_says 15 = .ok (.aload_n 0, 1) := dk_42 (dk_at dksX9_says_0 15 rfl rfl)
theorem dX9_says_16 : decode cX9_says 16 = .ok (.getfield 26, 3) := dk_180 0 26 (dk_at dksX9_says_0 16 rfl rfl)
theorem dX9_says_19 : decode cX9_says 19 = .ok (.iconst 5, 1) := dk_8 (dk_at dksX9_says_0 19 rfl rfl)
theorem dX9_says_20 : decode cX9_says 20 = .ok (.iload_n 2, 1) := dk_28 (dk_at dksX9_says_0 20 rfl rfl)
theorem dX9_says_21 : decode cX9_says 21 = .ok (.imul, 1) := dk_104 (dk_at dksX9_says_0 21 rfl rfl)
theorem dX9_says_22 : decode cX9_says 22 = .ok (.iaload, 1) := dk_46 (dk_at dksX9_says_0 22 rfl rfl)
theorem dX9_says_23 : decode cX9_says 23 = .ok (.putfield 180, 3) := dk_181 0 180 (dk_at dksX9_says_1 0 rfl rfl)
theorem dX9_says_26 : decode cX9_says 26 = .ok (.aload_n 0, 1) := dk_42 (dk_at dksX9_says_1 3 rfl rfl)
theorem dX9_says_27 : decode cX9_says 27 = .ok (.aload_n 0, 1) := dk_42 (dk_at dksX9_says_1 4 rfl rfl)
theorem dX9_says_28 : decode cX9_says 28 = .ok (.getfield 95, 3) := dk_180 0 95 (dk_at dksX9_says_1 5 rfl rfl)
theorem dX9_says_31 : decode cX9_says 31 = .ok (.putfield 183, 3) := dk_181 0 183 (dk_at dksX9_says_1 8 rfl rfl)
theorem dX9_says_34 : decode cX9_says 34 = .ok (.aload_n 0, 1) := dk_42 (dk_at dksX9_says_1 11 rfl rfl)
theorem dX9_says_35 : decode cX9_says 35 = .ok (.aload_n 0, 1) := dk_42 (dk_at dksX9_says_1 12 rfl rfl)
theorem dX9_says_36 : decode cX9_says 36 = .ok (.getfield 98, 3) := dk_180 0 98 (dk_at dksX9_says_1 13 rfl rfl)
theorem dX9_says_39 : decode cX9_says 39 = .ok (.putfield 186, 3) := dk_181 0 186 (dk_at dksX9_says_1 16 rfl rfl)
theorem dX9_says_42 : decode cX9_says 42 = .ok (.aload_n 0, 1) := dk_42 (dk_at dksX9_says_1 19 rfl rfl)
theorem dX9_says_43 : decode cX9_says 43 = .ok (.aload_n 0, 1) := dk_42 (dk_at dksX9_says_1 20 rfl rfl)
theorem dX9_says_44 : decode cX9_says 44 = .ok (.getfield 26, 3) := dk_180 0 26 (dk_at dksX9_says_1 21 rfl rfl)
theorem dX9_says_47 : decode cX9_says 47 = .ok (.iconst 5, 1) := dk_8 (dk_at dksX9_says_2 0 rfl rfl)
theorem dX9_says_48 : decode cX9_says 48 = .ok (.iload_n 2, 1) := dk_28 (dk_at dksX9_says_2 1 rfl rfl)
theorem dX9_says_49 : decode cX9_says 49 = .ok (.imul, 1) := dk_104 (dk_at dksX9_says_2 2 rfl rfl)
theorem dX9_says_50 : decode cX9_says 50 = .ok (.iconst 2, 1) := dk_5 (dk_at dksX9_says_2 3 rfl rfl)
theorem dX9_says_51 : decode cX9_says 51 = .ok (.iadd, 1) := dk_96 (dk_at dksX9_says_2 4 rfl rfl)
theorem dX9_says_52 : decode cX9_says 52 = .ok (.iaload, 1) := dk_46 (dk_at dksX9_says_2 5 rfl rfl)
theorem dX9_says_53 : decode cX9_says 53 = .ok (.putfield 189, 3) := dk_181 0 189 (dk_at dksX9_says_2 6 rfl rfl)
theorem dX9_says_56 : decode cX9_says 56 = .ok (.aload_n 0, 1) := dk_42 (dk_at dksX9_says_2 9 rfl rfl)
theorem dX9_says_57 : decode cX9_says 57 = .ok (.aload_n 0, 1) := dk_42 (dk_at dksX9_says_2 10 rfl rfl)
theorem dX9_says_58 : decode cX9_says 58 = .ok (.invokevirtual 325, 3) := dk_182 1 69 (dk_at dksX9_says_2 11 rfl rfl)
theorem dX9_says_61 : decode cX9_says 61 = .ok (.aload_n 0, 1) := dk_42 (dk_at dksX9_says_2 14 rfl rfl)
theorem dX9_says_62 : decode cX9_says 62 = .ok (.getfield 26, 3) := dk_180 0 26 (dk_at dksX9_says_2 15 rfl rfl)
theorem dX9_says_65 : decode cX9_says 65 = .ok (.iconst 5, 1) := dk_8 (dk_at dksX9_says_2 18 rfl rfl)
theorem dX9_says_66 : decode cX9_says 66 = .ok (.iload_n 2, 1) := dk_28 (dk_at dksX9_says_2 19 rfl rfl)
theorem dX9_says_67 : decode cX9_says 67 = .ok (.imul, 1) := dk_104 (dk_at dksX9_says_2 20 rfl rfl)
theorem dX9_says_68 : decode cX9_says 68 = .ok (.iconst 3, 1) := dk_6 (dk_at dksX9_says_2 21 rfl rfl)
theorem dX9_says_69 : decode cX9_says 69 = .ok (.iadd, 1) := dk_96 (dk_at dksX9_says_2 22 rfl rfl)
theorem dX9_says_70 : decode cX9_says 70 = .ok (.iaload, 1) := dk_46 (dk_at dksX9_says_2 23 rfl rfl)
theorem dX9_says_71 : decode cX9_says 71 = .ok (.isub, 1) := dk_100 (dk_at dksX9_says_3 0 rfl rfl)
theorem dX9_says_72 : decode cX9_says 72 = .ok (.putfield 192, 3) := dk_181 0 192 (dk_at dksX9_says_3 1 rfl rfl)
theorem dX9_says_75 : decode cX9_says 75 = .ok (.aload_n 0, 1) := dk_42 (dk_at dksX9_says_3 4 rfl rfl)
theorem dX9_says_76 : decode cX9_says 76 = .ok (.aload_n 0, 1) := dk_42 (dk_at dksX9_says_3 5 rfl rfl)
theorem dX9_says_77 : decode cX9_says 77 = .ok (.getfield 101, 3) := dk_180 0 101 (dk_at dksX9_says_3 6 rfl rfl)
theorem dX9_says_80 : decode cX9_says 80 = .ok (.iload_n 1, 1) := dk_27 (dk_at dksX9_says_3 9 rfl rfl)
theorem dX9_says_81 : decode cX9_says 81 = .ok (.invokevirtual 322, 3) := dk_182 1 66 (dk_at dksX9_says_3 10 rfl rfl)
theorem dX9_says_84 : decode cX9_says 84 = .ok (.iconst 0, 1) := dk_3 (dk_at dksX9_says_3 13 rfl rfl)
theorem dX9_says_85 : decode cX9_says 85 = .ok (.bipush 99, 2) := dk_16 99 (dk_at dksX9_says_3 14 rfl rfl)
theorem dX9_says_87 : decode cX9_says 87 = .ok (.invokestatic 328, 3) := dk_184 1 72 (dk_at dksX9_says_3 16 rfl rfl)
theorem dX9_says_90 : decode cX9_says 90 = .ok (.ireturn, 1) := dk_172 (dk_at dksX9_says_3 19 rfl rfl)
abbrev cX9_hereMany : ByteArray := prog_17_method_14_code
def yX9_hereMany : MethodName := ⟨RX9, "hereMany", "()I"⟩
def dkwX9_hereMany_1 : List UInt8 := [60, 132, 2, 1, 167, 255, 232, 27, 172]
abbrev dktX9_hereMany_1 : List UInt8 := dkwX9_hereMany_1 ++ []
def dkwX9_hereMany_0 : List UInt8 := [3, 60, 3, 61, 28, 42, 180, 0, 64, 162, 0, 22, 27, 42, 180, 0, 26, 8, 28, 104, 6, 96, 46, 96]
abbrev dktX9_hereMany_0 : List UInt8 := dkwX9_hereMany_0 ++ dktX9_hereMany_1
theorem dksX9_hereMany_0 : cX9_hereMany.data.toList.drop 0 = dktX9_hereMany_0 := by decide +kernel
theorem dksX9_hereMany_1 : cX9_hereMany.data.toList.drop 24 = dktX9_hereMany_1 := dk_seg dksX9_hereMany_0 24 rfl rfl
theorem dX9_hereMany_0 : decode cX9_hereMany 0 = .ok (.iconst 0, 1) := dk_3 (dk_at dksX9_hereMany_0 0 rfl rfl)
theorem dX9_hereMany_1 : decode cX9_hereMany 1 = .ok (.istore_n 1, 1) := dk_60 (dk_at dksX9_hereMany_0 1 rfl rfl)
theorem dX9_hereMany_2 : decode cX9_hereMany 2 = .ok (.iconst 0, 1) := dk_3 (dk_at dksX9_hereMany_0 2 rfl rfl)
theorem dX9_hereMany_3 : decode cX9_hereMany 3 = .ok (.istore_n 2, 1) := dk_61 (dk_at dksX9_hereMany_0 3 rfl rfl)
theorem dX9_hereMany_4 : decode cX9_hereMany 4 = .ok (.iload_n 2, 1) := dk_28 (dk_at dksX9_hereMany_0 4 rfl rfl)
theorem dX9_hereMany_5 : decode cX9_hereMany 5 = .ok (.aload_n 0, 1) := dk_42 (dk_at dksX9_hereMany_0 5 rfl rfl)
theorem dX9_hereMany_6 : decode cX9_hereMany 6 = .ok (.getfield 64, 3) := dk_180 0 64 (dk_at dksX9_hereMany_0 6 rfl rfl)
theorem dX9_hereMany_9 : decode cX9_hereMany 9 = .ok (.if_icmp .ge 22, 3) := dk_162 0 22 (dk_at dksX9_hereMany_0 9 rfl rfl)
theorem dX9_hereMany_12 : decode cX9_hereMany 12 = .ok (.iload_n 1, 1) := dk_27 (dk_at dksX9_hereMany_0 12 rfl rfl)
theorem dX9_hereMany_13 : decode cX9_hereMany 13 = .ok (.aload_n 0, 1) := dk_42 (dk_at dksX9_hereMany_0 13 rfl rfl)
theorem dX9_hereMany_14 : decode cX9_hereMany 14 = .ok (.getfield 26, 3) := dk_180 0 26 (dk_at dksX9_hereMany_0 14 rfl rfl)
theorem dX9_hereMany_17 : decode cX9_hereMany 17 = .ok (.iconst 5, 1) := dk_8 (dk_at dksX9_hereMany_0 17 rfl rfl)
theorem dX9_hereMany_18 : decode cX9_hereMany 18 = .ok (.iload_n 2, 1) := dk_28 (dk_at dksX9_hereMany_0 18 rfl rfl)
theorem dX9_hereMany_19 : decode cX9_hereMany 19 = .ok (.imul, 1) := dk_104 (dk_at dksX9_hereMany_0 19 rfl rfl)
theorem dX9_hereMany_20 : decode cX9_hereMany 20 = .ok (.iconst 3, 1) := dk_6 (dk_at dksX9_hereMany_0 20 rfl rfl)
theorem dX9_hereMany_21 : decode cX9_hereMany 21 = .ok (.iadd, 1) := dk_96 (dk_at dksX9_hereMany_0 21 rfl rfl)
theorem dX9_hereMany_22 : decode cX9_hereMany 22 = .ok (.iaload, 1) := dk_46 (dk_at dksX9_hereMany_0 22 rfl rfl)
theorem dX9_hereMany_23 : decode cX9_hereMany 23 = .ok (.iadd, 1) := dk_96 (dk_at dksX9_hereMany_0 23 rfl rfl)
theorem dX9_hereMany_24 : decode cX9_hereMany 24 = .ok (.istore_n 1, 1) := dk_60 (dk_at dksX9_hereMany_1 0 rfl rfl)
theorem dX9_hereMany_25 : decode cX9_hereMany 25 = .ok (.iinc 2 1, 3) := dk_132 2 1 (dk_at dksX9_hereMany_1 1 rfl rfl)
theorem dX9_hereMany_28 : decode cX9_hereMany 28 = .ok (.goto (-24), 3) := dk_167 255 232 (dk_at dksX9_hereMany_1 4 rfl rfl)
theorem dX9_hereMany_31 : decode cX9_hereMany 31 = .ok (.iload_n 1, 1) := dk_27 (dk_at dksX9_hereMany_1 7 rfl rfl)
theorem dX9_hereMany_32 : decode cX9_hereMany 32 = .ok (.ireturn, 1) := dk_172 (dk_at dksX9_hereMany_1 8 rfl rfl)
abbrev cX9_read : ByteArray := prog_17_method_62_code
def yX9_read : MethodName := ⟨RX9, "read", "(II)I"⟩
def dkwX9_read_6 : List UInt8 := [182, 0, 167, 28, 154, 0, 7, 29, 167, 0, 15, 28, 4, 160, 0, 8, 21, 4, 167, 0, 5, 21, 5, 172]
abbrev dktX9_read_6 : List UInt8 := dkwX9_read_6 ++ []
def dkwX9_read_5 : List UInt8 := [3, 182, 0, 173, 182, 1, 62, 54, 5, 42, 180, 0, 154, 154, 0, 14, 42, 180, 0, 139, 153, 0, 7, 42]
abbrev dktX9_read_5 : List UInt8 := dkwX9_read_5 ++ dktX9_read_6
def dkwX9_read_4 : List UInt8 := [180, 0, 154, 153, 0, 7, 3, 167, 0, 24, 42, 42, 16, 101, 16, 97, 16, 115, 16, 101, 16, 115, 3, 3]
abbrev dktX9_read_4 : List UInt8 := dkwX9_read_4 ++ dktX9_read_5
def dkwX9_read_3 : List UInt8 := [42, 16, 115, 16, 116, 16, 114, 16, 111, 16, 110, 16, 103, 3, 3, 182, 0, 173, 182, 1, 62, 54, 4, 42]
abbrev dktX9_read_3 : List UInt8 := dkwX9_read_3 ++ dktX9_read_4
def dkwX9_read_2 : List UInt8 := [16, 115, 3, 3, 3, 182, 0, 173, 182, 1, 62, 62, 42, 180, 0, 154, 153, 0, 7, 3, 167, 0, 25, 42]
abbrev dktX9_read_2 : List UInt8 := dkwX9_read_2 ++ dktX9_read_3
def dkwX9_read_1 : List UInt8 := [42, 3, 181, 0, 164, 42, 3, 181, 0, 154, 42, 182, 0, 170, 42, 42, 16, 102, 16, 101, 16, 101, 16, 108]
abbrev dktX9_read_1 : List UInt8 := dkwX9_read_1 ++ dktX9_read_2
def dkwX9_read_0 : List UInt8 := [42, 17, 0, 160, 27, 104, 181, 0, 127, 42, 42, 180, 0, 17, 27, 46, 181, 0, 124, 42, 3, 181, 0, 130]
abbrev dktX9_read_0 : List UInt8 := dkwX9_read_0 ++ dktX9_read_1
theorem dksX9_read_0 : cX9_read.data.toList.drop 0 = dktX9_read_0 := by decide +kernel
theorem dksX9_read_1 : cX9_read.data.toList.drop 24 = dktX9_read_1 := dk_seg dksX9_read_0 24 rfl rfl
theorem dksX9_read_2 : cX9_read.data.toList.drop 48 = dktX9_read_2 := dk_seg dksX9_read_1 24 rfl rfl
theorem dksX9_read_3 : cX9_read.data.toList.drop 72 = dktX9_read_3 := dk_seg dksX9_read_2 24 rfl rfl
theorem dksX9_read_4 : cX9_read.data.toList.drop 96 = dktX9_read_4 := dk_seg dksX9_read_3 24 rfl rfl
theorem dksX9_read_5 : cX9_read.data.toList.drop 120 = dktX9_read_5 := dk_seg dksX9_read_4 24 rfl rfl
theorem dksX9_read_6 : cX9_read.data.toList.drop 144 = dktX9_read_6 := dk_seg dksX9_read_5 24 rfl rfl
theorem dX9_read_0 : decode cX9_read 0 = .ok (.aload_n 0, 1) := dk_42 (dk_at dksX9_read_0 0 rfl rfl)
theorem dX9_read_1 : decode cX9_read 1 = .ok (.sipush 160, 3) := dk_17 0 160 (dk_at dksX9_read_0 1 rfl rfl)
theorem dX9_read_4 : decode cX9_read 4 = .ok (.iload_n 1, 1) := dk_27 (dk_at dksX9_read_0 4 rfl rfl)
theorem dX9_read_5 : decode cX9_read 5 = .ok (.imul, 1) := dk_104 (dk_at dksX9_read_0 5 rfl rfl)
theorem dX9_read_6 : decode cX9_read 6 = .ok (.putfield 127, 3) := dk_181 0 127 (dk_at dksX9_read_0 6 rfl rfl)
theorem dX9_read_9 : decode cX9_read 9 = .ok (.aload_n 0, 1) := dk_42 (dk_at dksX9_read_0 9 rfl rfl)
theorem dX9_read_10 : decode cX9_read 10 = .ok (.aload_n 0, 1) := dk_42 (dk_at dksX9_read_0 10 rfl rfl)
theorem dX9_read_11 : decode cX9_read 11 = .ok (.getfield 17, 3) := dk_180 0 17 (dk_at dksX9_read_0 11 rfl rfl)
theorem dX9_read_14 : decode cX9_read 14 = .ok (.iload_n 1, 1) := dk_27 (dk_at dksX9_read_0 14 rfl rfl)
theorem dX9_read_15 : decode cX9_read 15 = .ok (.iaload, 1) := dk_46 (dk_at dksX9_read_0 15 rfl rfl)
theorem dX9_read_16 : decode cX9_read 16 = .ok (.putfield 124, 3) := dk_181 0 124 (dk_at dksX9_read_0 16 rfl rfl)
theorem dX9_read_19 : decode cX9_read 19 = .ok (.aload_n 0, 1) := dk_42 (dk_at dksX9_read_0 19 rfl rfl)
theorem dX9_read_20 : decode cX9_read 20 = .ok (.iconst 0, 1) := dk_3 (dk_at dksX9_read_0 20 rfl rfl)
theorem dX9_read_21 : decode cX9_read 21 = .ok (.putfield 130, 3) := dk_181 0 130 (dk_at dksX9_read_0 21 rfl rfl)
theorem dX9_read_24 : decode cX9_read 24 = .ok (.aload_n 0, 1) := dk_42 (dk_at dksX9_read_1 0 rfl rfl)
theorem dX9_read_25 : decode cX9_read 25 = .ok (.iconst 0, 1) := dk_3 (dk_at dksX9_read_1 1 rfl rfl)
theorem dX9_read_26 : decode cX9_read 26 = .ok (.putfield 164, 3) := dk_181 0 164 (dk_at dksX9_read_1 2 rfl rfl)
theorem dX9_read_29 : decode cX9_read 29 = .ok (.aload_n 0, 1) := dk_42 (dk_at dksX9_read_1 5 rfl rfl)
theorem dX9_read_30 : decode cX9_read 30 = .ok (.iconst 0, 1) := dk_3 (dk_at dksX9_read_1 6 rfl rfl)
theorem dX9_read_31 : decode cX9_read 31 = .ok (.putfield 154, 3) := dk_181 0 154 (dk_at dksX9_read_1 7 rfl rfl)
theorem dX9_read_34 : decode cX9_read 34 = .ok (.aload_n 0, 1) := dk_42 (dk_at dksX9_read_1 10 rfl rfl)
theorem dX9_read_35 : decode cX9_read 35 = .ok (.invokevirtual 170, 3) := dk_182 0 170 (dk_at dksX9_read_1 11 rfl rfl)
theorem dX9_read_38 : decode cX9_read 38 = .ok (.aload_n 0, 1) := dk_42 (dk_at dksX9_read_1 14 rfl rfl)
theorem dX9_read_39 : decode cX9_read 39 = .ok (.aload_n 0, 1) := dk_42 (dk_at dksX9_read_1 15 rfl rfl)
theorem dX9_read_40 : decode cX9_read 40 = .ok (.bipush 102, 2) := dk_16 102 (dk_at dksX9_read_1 16 rfl rfl)
theorem dX9_read_42 : decode cX9_read 42 = .ok (.bipush 101, 2) := dk_16 101 (dk_at dksX9_read_1 18 rfl rfl)
theorem dX9_read_44 : decode cX9_read 44 = .ok (.bipush 101, 2) := dk_16 101 (dk_at dksX9_read_1 20 rfl rfl)
theorem dX9_read_46 : decode cX9_read 46 = .ok (.bipush 108, 2) := dk_16 108 (dk_at dksX9_read_1 22 rfl rfl)
theorem dX9_read_48 : decode cX9_read 48 = .ok (.bipush 115, 2) := dk_16 115 (dk_at dksX9_read_2 0 rfl rfl)
theorem dX9_read_50 : decode cX9_read 50 = .ok (.iconst 0, 1) := dk_3 (dk_at dksX9_read_2 2 rfl rfl)
theorem dX9_read_51 : decode cX9_read 51 = .ok (.iconst 0, 1) := dk_3 (dk_at dksX9_read_2 3 rfl rfl)
theorem dX9_read_52 : decode cX9_read 52 = .ok (.iconst 0, 1) := dk_3 (dk_at dksX9_read_2 4 rfl rfl)
theorem dX9_read_53 : decode cX9_read 53 = .ok (.invokevirtual 173, 3) := dk_182 0 173 (dk_at dksX9_read_2 5 rfl rfl)
theorem dX9_read_56 : decode cX9_read 56 = .ok (.invokevirtual 318, 3) := dk_182 1 62 (dk_at dksX9_read_2 8 rfl rfl)
theorem dX9_read_59 : decode cX9_read 59 = .ok (.istore_n 3, 1) := dk_62 (dk_at dksX9_read_2 11 rfl rfl)
theorem dX9_read_60 : decode cX9_read 60 = .ok (.aload_n 0, 1) := dk_42 (dk_at dksX9_read_2 12 rfl rfl)
theorem dX9_read_61 : decode cX9_read 61 = .ok (.getfield 154, 3) := dk_180 0 154 (dk_at dksX9_read_2 13 rfl rfl)
theorem dX9_read_64 : decode cX9_read 64 = .ok (.ifCond .eq 7, 3) := dk_153 0 7 (dk_at dksX9_read_2 16 rfl rfl)
theorem dX9_read_67 : decode cX9_read 67 = .ok (.iconst 0, 1) := dk_3 (dk_at dksX9_read_2 19 rfl rfl)
theorem dX9_read_68 : decode cX9_read 68 = .ok (.goto 25, 3) := dk_167 0 25 (dk_at dksX9_read_2 20 rfl rfl)
theorem dX9_read_71 : decode cX9_read 71 = .ok (.aload_n 0, 1) := dk_42 (dk_at dksX9_read_2 23 rfl rfl)
theorem dX9_read_72 : decode cX9_read 72 = .ok (.aload_n 0, 1) := dk_42 (dk_at dksX9_read_3 0 rfl rfl)
theorem dX9_read_73 : decode cX9_read 73 = .ok (.bipush 115, 2) := dk_16 115 (dk_at dksX9_read_3 1 rfl rfl)
theorem dX9_read_75 : decode cX9_read 75 = .ok (.bipush 116, 2) := dk_16 116 (dk_at dksX9_read_3 3 rfl rfl)
theorem dX9_read_77 : decode cX9_read 77 = .ok (.bipush 114, 2) := dk_16 114 (dk_at dksX9_read_3 5 rfl rfl)
theorem dX9_read_79 : decode cX9_read 79 = .ok (.bipush 111, 2) := dk_16 111 (dk_at dksX9_read_3 7 rfl rfl)
theorem dX9_read_81 : decode cX9_read 81 = .ok (.bipush 110, 2) := dk_16 110 (dk_at dksX9_read_3 9 rfl rfl)
theorem dX9_read_83 : decode cX9_read 83 = .ok (.bipush 103, 2) := dk_16 103 (dk_at dksX9_read_3 11 rfl rfl)
theorem dX9_read_85 : decode cX9_read 85 = .ok (.iconst 0, 1) := dk_3 (dk_at dksX9_read_3 13 rfl rfl)
theorem dX9_read_86 : decode cX9_read 86 = .ok (.iconst 0, 1) := dk_3 (dk_at dksX9_read_3 14 rfl rfl)
theorem dX9_read_87 : decode cX9_read 87 = .ok (.invokevirtual 173, 3) := dk_182 0 173 (dk_at dksX9_read_3 15 rfl rfl)
theorem dX9_read_90 : decode cX9_read 90 = .ok (.invokevirtual 318, 3) := dk_182 1 62 (dk_at dksX9_read_3 18 rfl rfl)
theorem dX9_read_93 : decode cX9_read 93 = .ok (.istore 4, 2) := dk_54 4 (dk_at dksX9_read_3 21 rfl rfl)
theorem dX9_read_95 : decode cX9_read 95 = .ok (.aload_n 0, 1) := dk_42 (dk_at dksX9_read_3 23 rfl rfl)
theorem dX9_read_96 : decode cX9_read 96 = .ok (.getfield 154, 3) := dk_180 0 154 (dk_at dksX9_read_4 0 rfl rfl)
theorem dX9_read_99 : decode cX9_read 99 = .ok (.ifCond .eq 7, 3) := dk_153 0 7 (dk_at dksX9_read_4 3 rfl rfl)
theorem dX9_read_102 : decode cX9_read 102 = .ok (.iconst 0, 1) := dk_3 (dk_at dksX9_read_4 6 rfl rfl)
theorem dX9_read_103 : decode cX9_read 103 = .ok (.goto 24, 3) := dk_167 0 24 (dk_at dksX9_read_4 7 rfl rfl)
theorem dX9_read_106 : decode cX9_read 106 = .ok (.aload_n 0, 1) := dk_42 (dk_at dksX9_read_4 10 rfl rfl)
theorem dX9_read_107 : decode cX9_read 107 = .ok (.aload_n 0, 1) := dk_42 (dk_at dksX9_read_4 11 rfl rfl)
theorem dX9_read_108 : decode cX9_read 108 = .ok (.bipush 101, 2) := dk_16 101 (dk_at dksX9_read_4 12 rfl rfl)
theorem dX9_read_110 : decode cX9_read 110 = .ok (.bipush 97, 2) := dk_16 97 (dk_at dksX9_read_4 14 rfl rfl)
theorem dX9_read_112 : decode cX9_read 112 = .ok (.bipush 115, 2) := dk_16 115 (dk_at dksX9_read_4 16 rfl rfl)
theorem dX9_read_114 : decode cX9_read 114 = .ok (.bipush 101, 2) := dk_16 101 (dk_at dksX9_read_4 18 rfl rfl)
theorem dX9_read_116 : decode cX9_read 116 = .ok (.bipush 115, 2) := dk_16 115 (dk_at dksX9_read_4 20 rfl rfl)
theorem dX9_read_118 : decode cX9_read 118 = .ok (.iconst 0, 1) := dk_3 (dk_at dksX9_read_4 22 rfl rfl)
theorem dX9_read_119 : decode cX9_read 119 = .ok (.iconst 0, 1) := dk_3 (dk_at dksX9_read_4 23 rfl rfl)
theorem dX9_read_120 : decode cX9_read 120 = .ok (.iconst 0, 1) := dk_3 (dk_at dksX9_read_5 0 rfl rfl)
theorem dX9_read_121 : decode cX9_read 121 = .ok (.invokevirtual 173, 3) := dk_182 0 173 (dk_at dksX9_read_5 1 rfl rfl)
theorem dX9_read_124 : decode cX9_read 124 = .ok (.invokevirtual 318, 3) := dk_182 1 62 (dk_at dksX9_read_5 4 rfl rfl)
theorem dX9_read_127 : decode cX9_read 127 = .ok (.istore 5, 2) := dk_54 5 (dk_at dksX9_read_5 7 rfl rfl)
theorem dX9_read_129 : decode cX9_read 129 = .ok (.aload_n 0, 1) := dk_42 (dk_at dksX9_read_5 9 rfl rfl)
theorem dX9_read_130 : decode cX9_read 130 = .ok (.getfield 154, 3) := dk_180 0 154 (dk_at dksX9_read_5 10 rfl rfl)
theorem dX9_read_133 : decode cX9_read 133 = .ok (.ifCond .ne 14, 3) := dk_154 0 14 (dk_at dksX9_read_5 13 rfl rfl)
theorem dX9_read_136 : decode cX9_read 136 = .ok (.aload_n 0, 1) := dk_42 (dk_at dksX9_read_5 16 rfl rfl)
theorem dX9_read_137 : decode cX9_read 137 = .ok (.getfield 139, 3) := dk_180 0 139 (dk_at dksX9_read_5 17 rfl rfl)
theorem dX9_read_140 : decode cX9_read 140 = .ok (.ifCond .eq 7, 3) := dk_153 0 7 (dk_at dksX9_read_5 20 rfl rfl)
theorem dX9_read_143 : decode cX9_read 143 = .ok (.aload_n 0, 1) := dk_42 (dk_at dksX9_read_5 23 rfl rfl)
theorem dX9_read_144 : decode cX9_read 144 = .ok (.invokevirtual 167, 3) := dk_182 0 167 (dk_at dksX9_read_6 0 rfl rfl)
theorem dX9_read_147 : decode cX9_read 147 = .ok (.iload_n 2, 1) := dk_28 (dk_at dksX9_read_6 3 rfl rfl)
theorem dX9_read_148 : decode cX9_read 148 = .ok (.ifCond .ne 7, 3) := dk_154 0 7 (dk_at dksX9_read_6 4 rfl rfl)
theorem dX9_read_151 : decode cX9_read 151 = .ok (.iload_n 3, 1) := dk_29 (dk_at dksX9_read_6 7 rfl rfl)
theorem dX9_read_152 : decode cX9_read 152 = .ok (.goto 15, 3) := dk_167 0 15 (dk_at dksX9_read_6 8 rfl rfl)
theorem dX9_read_155 : decode cX9_read 155 = .ok (.iload_n 2, 1) := dk_28 (dk_at dksX9_read_6 11 rfl rfl)
theorem dX9_read_156 : decode cX9_read 156 = .ok (.iconst 1, 1) := dk_4 (dk_at dksX9_read_6 12 rfl rfl)
theorem dX9_read_157 : decode cX9_read 157 = .ok (.if_icmp .ne 8, 3) := dk_160 0 8 (dk_at dksX9_read_6 13 rfl rfl)
theorem dX9_read_160 : decode cX9_read 160 = .ok (.iload 4, 2) := dk_21 4 (dk_at dksX9_read_6 16 rfl rfl)
theorem dX9_read_162 : decode cX9_read 162 = .ok (.goto 5, 3) := dk_167 0 5 (dk_at dksX9_read_6 18 rfl rfl)
theorem dX9_read_165 : decode cX9_read 165 = .ok (.iload 5, 2) := dk_21 5 (dk_at dksX9_read_6 21 rfl rfl)
theorem dX9_read_167 : decode cX9_read 167 = .ok (.ireturn, 1) := dk_172 (dk_at dksX9_read_6 23 rfl rfl)
abbrev cX9_next : ByteArray := prog_17_method_18_code
def yX9_next : MethodName := ⟨RX9, "next", "()V"⟩
def dkwX9_next_13 : List UInt8 := [181, 0, 139, 42, 27, 133, 181, 0, 150, 42, 89, 180, 0, 130, 4, 96, 181, 0, 130, 177]
abbrev dktX9_next_13 : List UInt8 := dkwX9_next_13 ++ []
def dkwX9_next_12 : List UInt8 := [159, 0, 21, 27, 16, 42, 159, 0, 15, 27, 16, 60, 159, 0, 9, 27, 16, 61, 160, 0, 24, 42, 6]
abbrev dktX9_next_12 : List UInt8 := dkwX9_next_12 ++ dktX9_next_13
def dkwX9_next_11 : List UInt8 := [159, 0, 45, 27, 16, 41, 159, 0, 39, 27, 16, 59, 159, 0, 33, 27, 16, 43, 159, 0, 27, 27, 16, 45]
abbrev dktX9_next_11 : List UInt8 := dkwX9_next_11 ++ dktX9_next_12
def dkwX9_next_10 : List UInt8 := [167, 255, 184, 42, 28, 7, 164, 0, 7, 7, 167, 0, 4, 5, 181, 0, 139, 167, 0, 72, 27, 16, 40]
abbrev dktX9_next_10 : List UInt8 := dkwX9_next_10 ++ dktX9_next_11
def dkwX9_next_9 : List UInt8 := [167, 0, 7, 42, 180, 0, 150, 181, 0, 150, 132, 2, 1, 42, 89, 180, 0, 130, 4, 96, 181, 0, 130]
abbrev dktX9_next_9 : List UInt8 := dkwX9_next_9 ++ dktX9_next_10
def dkwX9_next_8 : List UInt8 := [20, 0, 108, 42, 180, 0, 150, 105, 42, 42, 180, 0, 130, 182, 0, 133, 133, 97, 20, 0, 146, 101]
abbrev dktX9_next_8 : List UInt8 := dkwX9_next_8 ++ dktX9_next_9
def dkwX9_next_7 : List UInt8 := [182, 0, 133, 133, 20, 0, 146, 20, 0, 148, 184, 0, 67, 153, 0, 57, 42, 28, 7, 162, 0, 28]
abbrev dktX9_next_7 : List UInt8 := dkwX9_next_7 ++ dktX9_next_8
def dkwX9_next_6 : List UInt8 := [184, 0, 67, 153, 0, 107, 42, 5, 181, 0, 139, 42, 9, 181, 0, 150, 3, 61, 42, 42, 180, 0, 130]
abbrev dktX9_next_6 : List UInt8 := dkwX9_next_6 ++ dktX9_next_7
def dkwX9_next_5 : List UInt8 := [153, 0, 203, 42, 89, 180, 0, 130, 4, 96, 181, 0, 130, 167, 255, 225, 27, 133, 20, 0, 146, 20, 0, 148]
abbrev dktX9_next_5 : List UInt8 := dkwX9_next_5 ++ dktX9_next_6
def dkwX9_next_4 : List UInt8 := [42, 4, 181, 0, 139, 42, 42, 180, 0, 130, 182, 0, 133, 133, 20, 0, 142, 20, 0, 144, 184, 0, 67]
abbrev dktX9_next_4 : List UInt8 := dkwX9_next_4 ++ dktX9_next_5
def dkwX9_next_3 : List UInt8 := [42, 180, 0, 124, 181, 0, 136, 167, 0, 243, 27, 133, 20, 0, 142, 20, 0, 144, 184, 0, 67, 153, 0, 42]
abbrev dktX9_next_3 : List UInt8 := dkwX9_next_3 ++ dktX9_next_4
def dkwX9_next_2 : List UInt8 := [42, 42, 180, 0, 130, 182, 0, 133, 60, 42, 7, 181, 0, 139, 27, 156, 0, 19, 42, 3, 181, 0, 139, 42]
abbrev dktX9_next_2 : List UInt8 := dkwX9_next_2 ++ dktX9_next_3
def dkwX9_next_1 : List UInt8 := [160, 0, 16, 42, 89, 180, 0, 130, 4, 96, 181, 0, 130, 167, 255, 220, 42, 42, 180, 0, 130, 181, 0, 136]
abbrev dktX9_next_1 : List UInt8 := dkwX9_next_1 ++ dktX9_next_2
def dkwX9_next_0 : List UInt8 := [42, 42, 180, 0, 130, 182, 0, 133, 16, 32, 159, 0, 16, 42, 42, 180, 0, 130, 182, 0, 133, 16, 10]
abbrev dktX9_next_0 : List UInt8 := dkwX9_next_0 ++ dktX9_next_1
theorem dksX9_next_0 : cX9_next.data.toList.drop 0 = dktX9_next_0 := by decide +kernel
theorem dksX9_next_1 : cX9_next.data.toList.drop 23 = dktX9_next_1 := dk_seg dksX9_next_0 23 rfl rfl
theorem dksX9_next_2 : cX9_next.data.toList.drop 47 = dktX9_next_2 := dk_seg dksX9_next_1 24 rfl rfl
theorem dksX9_next_3 : cX9_next.data.toList.drop 71 = dktX9_next_3 := dk_seg dksX9_next_2 24 rfl rfl
theorem dksX9_next_4 : cX9_next.data.toList.drop 95 = dktX9_next_4 := dk_seg dksX9_next_3 24 rfl rfl
theorem dksX9_next_5 : cX9_next.data.toList.drop 118 = dktX9_next_5 := dk_seg dksX9_next_4 23 rfl rfl
theorem dksX9_next_6 : cX9_next.data.toList.drop 142 = dktX9_next_6 := dk_seg dksX9_next_5 24 rfl rfl
theorem dksX9_next_7 : cX9_next.data.toList.drop 165 = dktX9_next_7 := dk_seg dksX9_next_6 23 rfl rfl
theorem dksX9_next_8 : cX9_next.data.toList.drop 187 = dktX9_next_8 := dk_seg dksX9_next_7 22 rfl rfl
theorem dksX9_next_9 : cX9_next.data.toList.drop 209 = dktX9_next_9 := dk_seg dksX9_next_8 22 rfl rfl
theorem dksX9_next_10 : cX9_next.data.toList.drop 232 = dktX9_next_10 := dk_seg dksX9_next_9 23 rfl rfl
theorem dksX9_next_11 : cX9_next.data.toList.drop 255 = dktX9_next_11 := dk_seg dksX9_next_10 23 rfl rfl
theorem dksX9_next_12 : cX9_next.data.toList.drop 279 = dktX9_next_12 := dk_seg dksX9_next_11 24 rfl rfl
theorem dksX9_next_13 : cX9_next.data.toList.drop 302 = dktX9_next_13 := dk_seg dksX9_next_12 23 rfl rfl
theorem dX9_next_0 : decode cX9_next 0 = .ok (.aload_n 0, 1) := dk_42 (dk_at dksX9_next_0 0 rfl rfl)
theorem dX9_next_1 : decode cX9_next 1 = .ok (.aload_n 0, 1) := dk_42 (dk_at dksX9_next_0 1 rfl rfl)
theorem dX9_next_2 : decode cX9_next 2 = .ok (.getfield 130, 3) := dk_180 0 130 (dk_at dksX9_next_0 2 rfl rfl)
theorem dX9_next_5 : decode cX9_next 5 = .ok (.invokevirtual 133, 3) := dk_182 0 133 (dk_at dksX9_next_0 5 rfl rfl)
theorem dX9_next_8 : decode cX9_next 8 = .ok (.bipush 32, 2) := dk_16 32 (dk_at dksX9_next_0 8 rfl rfl)
theorem dX9_next_10 : decode cX9_next 10 = .ok (.if_icmp .eq 16, 3) := dk_159 0 16 (dk_at dksX9_next_0 10 rfl rfl)
theorem dX9_next_13 : decode cX9_next 13 = .ok (.aload_n 0, 1) := dk_42 (dk_at dksX9_next_0 13 rfl rfl)
theorem dX9_next_14 : decode cX9_next 14 = .ok (.aload_n 0, 1) := dk_42 (dk_at dksX9_next_0 14 rfl rfl)
theorem dX9_next_15 : decode cX9_next 15 = .ok (.getfield 130, 3) := dk_180 0 130 (dk_at dksX9_next_0 15 rfl rfl)
theorem dX9_next_18 : decode cX9_next 18 = .ok (.invokevirtual 133, 3) := dk_182 0 133 (dk_at dksX9_next_0 18 rfl rfl)
theorem dX9_next_21 : decode cX9_next 21 = .ok (.bipush 10, 2) := dk_16 10 (dk_at dksX9_next_0 21 rfl rfl)
theorem dX9_next_23 : decode cX9_next 23 = .ok (.if_icmp .ne 16, 3) := dk_160 0 16 (dk_at dksX9_next_1 0 rfl rfl)
theorem dX9_next_26 : decode cX9_next 26 = .ok (.aload_n 0, 1) := dk_42 (dk_at dksX9_next_1 3 rfl rfl)
theorem dX9_next_27 : decode cX9_next 27 = .ok (.dup, 1) := dk_89 (dk_at dksX9_next_1 4 rfl rfl)
theorem dX9_next_28 : decode cX9_next 28 = .ok (.getfield 130, 3) := dk_180 0 130 (dk_at dksX9_next_1 5 rfl rfl)
theorem dX9_next_31 : decode cX9_next 31 = .ok (.iconst 1, 1) := dk_4 (dk_at dksX9_next_1 8 rfl rfl)
theorem dX9_next_32 : decode cX9_next 32 = .ok (.iadd, 1) := dk_96 (dk_at dksX9_next_1 9 rfl rfl)
theorem dX9_next_33 : decode cX9_next 33 = .ok (.putfield 130, 3) := dk_181 0 130 (dk_at dksX9_next_1 10 rfl rfl)
theorem dX9_next_36 : decode cX9_next 36 = .ok (.goto (-36), 3) := dk_167 255 220 (dk_at dksX9_next_1 13 rfl rfl)
theorem dX9_next_39 : decode cX9_next 39 = .ok (.aload_n 0, 1) := dk_42 (dk_at dksX9_next_1 16 rfl rfl)
theorem dX9_next_40 : decode cX9_next 40 = .ok (.aload_n 0, 1) := dk_42 (dk_at dksX9_next_1 17 rfl rfl)
theorem dX9_next_41 : decode cX9_next 41 = .ok (.getfield 130, 3) := dk_180 0 130 (dk_at dksX9_next_1 18 rfl rfl)
theorem dX9_next_44 : decode cX9_next 44 = .ok (.putfield 136, 3) := dk_181 0 136 (dk_at dksX9_next_1 21 rfl rfl)
theorem dX9_next_47 : decode cX9_next 47 = .ok (.aload_n 0, 1) := dk_42 (dk_at dksX9_next_2 0 rfl rfl)
theorem dX9_next_48 : decode cX9_next 48 = .ok (.aload_n 0, 1) := dk_42 (dk_at dksX9_next_2 1 rfl rfl)
theorem dX9_next_49 : decode cX9_next 49 = .ok (.getfield 130, 3) := dk_180 0 130 (dk_at dksX9_next_2 2 rfl rfl)
theorem dX9_next_52 : decode cX9_next 52 = .ok (.invokevirtual 133, 3) := dk_182 0 133 (dk_at dksX9_next_2 5 rfl rfl)
theorem dX9_next_55 : decode cX9_next 55 = .ok (.istore_n 1, 1) := dk_60 (dk_at dksX9_next_2 8 rfl rfl)
theorem dX9_next_56 : decode cX9_next 56 = .ok (.aload_n 0, 1) := dk_42 (dk_at dksX9_next_2 9 rfl rfl)
theorem dX9_next_57 : decode cX9_next 57 = .ok (.iconst 4, 1) := dk_7 (dk_at dksX9_next_2 10 rfl rfl)
theorem dX9_next_58 : decode cX9_next 58 = .ok (.putfield 139, 3) := dk_181 0 139 (dk_at dksX9_next_2 11 rfl rfl)
theorem dX9_next_61 : decode cX9_next 61 = .ok (.iload_n 1, 1) := dk_27 (dk_at dksX9_next_2 14 rfl rfl)
theorem dX9_next_62 : decode cX9_next 62 = .ok (.ifCond .ge 19, 3) := dk_156 0 19 (dk_at dksX9_next_2 15 rfl rfl)
theorem dX9_next_65 : decode cX9_next 65 = .ok (.aload_n 0, 1) := dk_42 (dk_at dksX9_next_2 18 rfl rfl)
theorem dX9_next_66 : decode cX9_next 66 = .ok (.iconst 0, 1) := dk_3 (dk_at dksX9_next_2 19 rfl rfl)
theorem dX9_next_67 : decode cX9_next 67 = .ok (.putfield 139, 3) := dk_181 0 139 (dk_at dksX9_next_2 20 rfl rfl)
theorem dX9_next_70 : decode cX9_next 70 = .ok (.aload_n 0, 1) := dk_42 (dk_at dksX9_next_2 23 rfl rfl)
theorem dX9_next_71 : decode cX9_next 71 = .ok (.aload_n 0, 1) := dk_42 (dk_at dksX9_next_3 0 rfl rfl)
theorem dX9_next_72 : decode cX9_next 72 = .ok (.getfield 124, 3) := dk_180 0 124 (dk_at dksX9_next_3 1 rfl rfl)
theorem dX9_next_75 : decode cX9_next 75 = .ok (.putfield 136, 3) := dk_181 0 136 (dk_at dksX9_next_3 4 rfl rfl)
theorem dX9_next_78 : decode cX9_next 78 = .ok (.goto 243, 3) := dk_167 0 243 (dk_at dksX9_next_3 7 rfl rfl)
theorem dX9_next_81 : decode cX9_next 81 = .ok (.iload_n 1, 1) := dk_27 (dk_at dksX9_next_3 10 rfl rfl)
theorem dX9_next_82 : decode cX9_next 82 = .ok (.i2l, 1) := dk_133 (dk_at dksX9_next_3 11 rfl rfl)
theorem dX9_next_83 : decode cX9_next 83 = .ok (.ldc2_w 142, 3) := dk_20 0 142 (dk_at dksX9_next_3 12 rfl rfl)
theorem dX9_next_86 : decode cX9_next 86 = .ok (.ldc2_w 144, 3) := dk_20 0 144 (dk_at dksX9_next_3 15 rfl rfl)
theorem dX9_next_89 : decode cX9_next 89 = .ok (.invokestatic 67, 3) := dk_184 0 67 (dk_at dksX9_next_3 18 rfl rfl)
theorem dX9_next_92 : decode cX9_next 92 = .ok (.ifCond .eq 42, 3) := dk_153 0 42 (dk_at dksX9_next_3 21 rfl rfl)
theorem dX9_next_95 : decode cX9_next 95 = .ok (.aload_n 0, 1) := dk_42 (dk_at dksX9_next_4 0 rfl rfl)
theorem dX9_next_96 : decode cX9_next 96 = .ok (.iconst 1, 1) := dk_4 (dk_at dksX9_next_4 1 rfl rfl)
theorem dX9_next_97 : decode cX9_next 97 = .ok (.putfield 139, 3) := dk_181 0 139 (dk_at dksX9_next_4 2 rfl rfl)
theorem dX9_next_100 : decode cX9_next 100 = .ok (.aload_n 0, 1) := dk_42 (dk_at dksX9_next_4 5 rfl rfl)
theorem dX9_next_101 : decode cX9_next 101 = .ok (.aload_n 0, 1) := dk_42 (dk_at dksX9_next_4 6 rfl rfl)
theorem dX9_next_102 : decode cX9_next 102 = .ok (.getfield 130, 3) := dk_180 0 130 (dk_at dksX9_next_4 7 rfl rfl)
theorem dX9_next_105 : decode cX9_next 105 = .ok (.invokevirtual 133, 3) := dk_182 0 133 (dk_at dksX9_next_4 10 rfl rfl)
theorem dX9_next_108 : decode cX9_next 108 = .ok (.i2l, 1) := dk_133 (dk_at dksX9_next_4 13 rfl rfl)
theorem dX9_next_109 : decode cX9_next 109 = .ok (.ldc2_w 142, 3) := dk_20 0 142 (dk_at dksX9_next_4 14 rfl rfl)
theorem dX9_next_112 : decode cX9_next 112 = .ok (.ldc2_w 144, 3) := dk_20 0 144 (dk_at dksX9_next_4 17 rfl rfl)
theorem dX9_next_115 : decode cX9_next 115 = .ok (.invokestatic 67, 3) := dk_184 0 67 (dk_at dksX9_next_4 20 rfl rfl)
theorem dX9_next_118 : decode cX9_next 118 = .ok (.ifCond .eq 203, 3) := dk_153 0 203 (dk_at dksX9_next_5 0 rfl rfl)
theorem dX9_next_121 : decode cX9_next 121 = .ok (.aload_n 0, 1) := dk_42 (dk_at dksX9_next_5 3 rfl rfl)
theorem dX9_next_122 : decode cX9_next 122 = .ok (.dup, 1) := dk_89 (dk_at dksX9_next_5 4 rfl rfl)
theorem dX9_next_123 : decode cX9_next 123 = .ok (.getfield 130, 3) := dk_180 0 130 (dk_at dksX9_next_5 5 rfl rfl)
theorem dX9_next_126 : decode cX9_next 126 = .ok (.iconst 1, 1) := dk_4 (dk_at dksX9_next_5 8 rfl rfl)
theorem dX9_next_127 : decode cX9_next 127 = .ok (.iadd, 1) := dk_96 (dk_at dksX9_next_5 9 rfl rfl)
theorem dX9_next_128 : decode cX9_next 128 = .ok (.putfield 130, 3) := dk_181 0 130 (dk_at dksX9_next_5 10 rfl rfl)
theorem dX9_next_131 : decode cX9_next 131 = .ok (.goto (-31), 3) := dk_167 255 225 (dk_at dksX9_next_5 13 rfl rfl)
theorem dX9_next_134 : decode cX9_next 134 = .ok (.iload_n 1, 1) := dk_27 (dk_at dksX9_next_5 16 rfl rfl)
theorem dX9_next_135 : decode cX9_next 135 = .ok (.i2l, 1) := dk_133 (dk_at dksX9_next_5 17 rfl rfl)
theorem dX9_next_136 : decode cX9_next 136 = .ok (.ldc2_w 146, 3) := dk_20 0 146 (dk_at dksX9_next_5 18 rfl rfl)
theorem dX9_next_139 : decode cX9_next 139 = .ok (.ldc2_w 148, 3) := dk_20 0 148 (dk_at dksX9_next_5 21 rfl rfl)
theorem dX9_next_142 : decode cX9_next 142 = .ok (.invokestatic 67, 3) := dk_184 0 67 (dk_at dksX9_next_6 0 rfl rfl)
theorem dX9_next_145 : decode cX9_next 145 = .ok (.ifCond .eq 107, 3) := dk_153 0 107 (dk_at dksX9_next_6 3 rfl rfl)
theorem dX9_next_148 : decode cX9_next 148 = .ok (.aload_n 0, 1) := dk_42 (dk_at dksX9_next_6 6 rfl rfl)
theorem dX9_next_149 : decode cX9_next 149 = .ok (.iconst 2, 1) := dk_5 (dk_at dksX9_next_6 7 rfl rfl)
theorem dX9_next_150 : decode cX9_next 150 = .ok (.putfield 139, 3) := dk_181 0 139 (dk_at dksX9_next_6 8 rfl rfl)
theorem dX9_next_153 : decode cX9_next 153 = .ok (.aload_n 0, 1) := dk_42 (dk_at dksX9_next_6 11 rfl rfl)
theorem dX9_next_154 : decode cX9_next 154 = .ok (.lconst 0, 1) := dk_9 (dk_at dksX9_next_6 12 rfl rfl)
theorem dX9_next_155 : decode cX9_next 155 = .ok (.putfield 150, 3) := dk_181 0 150 (dk_at dksX9_next_6 13 rfl rfl)
theorem dX9_next_158 : decode cX9_next 158 = .ok (.iconst 0, 1) := dk_3 (dk_at dksX9_next_6 16 rfl rfl)
theorem dX9_next_159 : decode cX9_next 159 = .ok (.istore_n 2, 1) := dk_61 (dk_at dksX9_next_6 17 rfl rfl)
theorem dX9_next_160 : decode cX9_next 160 = .ok (.aload_n 0, 1) := dk_42 (dk_at dksX9_next_6 18 rfl rfl)
theorem dX9_next_161 : decode cX9_next 161 = .ok (.aload_n 0, 1) := dk_42 (dk_at dksX9_next_6 19 rfl rfl)
theorem dX9_next_162 : decode cX9_next 162 = .ok (.getfield 130, 3) := dk_180 0 130 (dk_at dksX9_next_6 20 rfl rfl)
theorem dX9_next_165 : decode cX9_next 165 = .ok (.invokevirtual 133, 3) := dk_182 0 133 (dk_at dksX9_next_7 0 rfl rfl)
theorem dX9_next_168 : decode cX9_next 168 = .ok (.i2l, 1) := dk_133 (dk_at dksX9_next_7 3 rfl rfl)
theorem dX9_next_169 : decode cX9_next 169 = .ok (.ldc2_w 146, 3) := dk_20 0 146 (dk_at dksX9_next_7 4 rfl rfl)
theorem dX9_next_172 : decode cX9_next 172 = .ok (.ldc2_w 148, 3) := dk_20 0 148 (dk_at dksX9_next_7 7 rfl rfl)
theorem dX9_next_175 : decode cX9_next 175 = .ok (.invokestatic 67, 3) := dk_184 0 67 (dk_at dksX9_next_7 10 rfl rfl)
theorem dX9_next_178 : decode cX9_next 178 = .ok (.ifCond .eq 57, 3) := dk_153 0 57 (dk_at dksX9_next_7 13 rfl rfl)
theorem dX9_next_181 : decode cX9_next 181 = .ok (.aload_n 0, 1) := dk_42 (dk_at dksX9_next_7 16 rfl rfl)
theorem dX9_next_182 : decode cX9_next 182 = .ok (.iload_n 2, 1) := dk_28 (dk_at dksX9_next_7 17 rfl rfl)
theorem dX9_next_183 : decode cX9_next 183 = .ok (.iconst 4, 1) := dk_7 (dk_at dksX9_next_7 18 rfl rfl)
theorem dX9_next_184 : decode cX9_next 184 = .ok (.if_icmp .ge 28, 3) := dk_162 0 28 (dk_at dksX9_next_7 19 rfl rfl)
theorem dX9_next_187 : decode cX9_next 187 = .ok (.ldc2_w 108, 3) := dk_20 0 108 (dk_at dksX9_next_8 0 rfl rfl)
theorem dX9_next_190 : decode cX9_next 190 = .ok (.aload_n 0, 1) := dk_42 (dk_at dksX9_next_8 3 rfl rfl)
theorem dX9_next_191 : decode cX9_next 191 = .ok (.getfield 150, 3) := dk_180 0 150 (dk_at dksX9_next_8 4 rfl rfl)
theorem dX9_next_194 : decode cX9_next 194 = .ok (.lmul, 1) := dk_105 (dk_at dksX9_next_8 7 rfl rfl)
theorem dX9_next_195 : decode cX9_next 195 = .ok (.aload_n 0, 1) := dk_42 (dk_at dksX9_next_8 8 rfl rfl)
theorem dX9_next_196 : decode cX9_next 196 = .ok (.aload_n 0, 1) := dk_42 (dk_at dksX9_next_8 9 rfl rfl)
theorem dX9_next_197 : decode cX9_next 197 = .ok (.getfield 130, 3) := dk_180 0 130 (dk_at dksX9_next_8 10 rfl rfl)
theorem dX9_next_200 : decode cX9_next 200 = .ok (.invokevirtual 133, 3) := dk_182 0 133 (dk_at dksX9_next_8 13 rfl rfl)
theorem dX9_next_203 : decode cX9_next 203 = .ok (.i2l, 1) := dk_133 (dk_at dksX9_next_8 16 rfl rfl)
theorem dX9_next_204 : decode cX9_next 204 = .ok (.ladd, 1) := dk_97 (dk_at dksX9_next_8 17 rfl rfl)
theorem dX9_next_205 : decode cX9_next 205 = .ok (.ldc2_w 146, 3) := dk_20 0 146 (dk_at dksX9_next_8 18 rfl rfl)
theorem dX9_next_208 : decode cX9_next 208 = .ok (.lsub, 1) := dk_101 (dk_at dksX9_next_8 21 rfl rfl)
theorem dX9_next_209 : decode cX9_next 209 = .ok (.goto 7, 3) := dk_167 0 7 (dk_at dksX9_next_9 0 rfl rfl)
theorem dX9_next_212 : decode cX9_next 212 = .ok (.aload_n 0, 1) := dk_42 (dk_at dksX9_next_9 3 rfl rfl)
theorem dX9_next_213 : decode cX9_next 213 = .ok (.getfield 150, 3) := dk_180 0 150 (dk_at dksX9_next_9 4 rfl rfl)
theorem dX9_next_216 : decode cX9_next 216 = .ok (.putfield 150, 3) := dk_181 0 150 (dk_at dksX9_next_9 7 rfl rfl)
theorem dX9_next_219 : decode cX9_next 219 = .ok (.iinc 2 1, 3) := dk_132 2 1 (dk_at dksX9_next_9 10 rfl rfl)
theorem dX9_next_222 : decode cX9_next 222 = .ok (.aload_n 0, 1) := dk_42 (dk_at dksX9_next_9 13 rfl rfl)
theorem dX9_next_223 : decode cX9_next 223 = .ok (.dup, 1) := dk_89 (dk_at dksX9_next_9 14 rfl rfl)
theorem dX9_next_224 : decode cX9_next 224 = .ok (.getfield 130, 3) := dk_180 0 130 (dk_at dksX9_next_9 15 rfl rfl)
theorem dX9_next_227 : decode cX9_next 227 = .ok (.iconst 1, 1) := dk_4 (dk_at dksX9_next_9 18 rfl rfl)
theorem dX9_next_228 : decode cX9_next 228 = .ok (.iadd, 1) := dk_96 (dk_at dksX9_next_9 19 rfl rfl)
theorem dX9_next_229 : decode cX9_next 229 = .ok (.putfield 130, 3) := dk_181 0 130 (dk_at dksX9_next_9 20 rfl rfl)
theorem dX9_next_232 : decode cX9_next 232 = .ok (.goto (-72), 3) := dk_167 255 184 (dk_at dksX9_next_10 0 rfl rfl)
theorem dX9_next_235 : decode cX9_next 235 = .ok (.aload_n 0, 1) := dk_42 (dk_at dksX9_next_10 3 rfl rfl)
theorem dX9_next_236 : decode cX9_next 236 = .ok (.iload_n 2, 1) := dk_28 (dk_at dksX9_next_10 4 rfl rfl)
theorem dX9_next_237 : decode cX9_next 237 = .ok (.iconst 4, 1) := dk_7 (dk_at dksX9_next_10 5 rfl rfl)
theorem dX9_next_238 : decode cX9_next 238 = .ok (.if_icmp .le 7, 3) := dk_164 0 7 (dk_at dksX9_next_10 6 rfl rfl)
theorem dX9_next_241 : decode cX9_next 241 = .ok (.iconst 4, 1) := dk_7 (dk_at dksX9_next_10 9 rfl rfl)
theorem dX9_next_242 : decode cX9_next 242 = .ok (.goto 4, 3) := dk_167 0 4 (dk_at dksX9_next_10 10 rfl rfl)
theorem dX9_next_245 : decode cX9_next 245 = .ok (.iconst 2, 1) := dk_5 (dk_at dksX9_next_10 13 rfl rfl)
theorem dX9_next_246 : decode cX9_next 246 = .ok (.putfield 139, 3) := dk_181 0 139 (dk_at dksX9_next_10 14 rfl rfl)
theorem dX9_next_249 : decode cX9_next 249 = .ok (.goto 72, 3) := dk_167 0 72 (dk_at dksX9_next_10 17 rfl rfl)
theorem dX9_next_252 : decode cX9_next 252 = .ok (.iload_n 1, 1) := dk_27 (dk_at dksX9_next_10 20 rfl rfl)
theorem dX9_next_253 : decode cX9_next 253 = .ok (.bipush 40, 2) := dk_16 40 (dk_at dksX9_next_10 21 rfl rfl)
theorem dX9_next_255 : decode cX9_next 255 = .ok (.if_icmp .eq 45, 3) := dk_159 0 45 (dk_at dksX9_next_11 0 rfl rfl)
theorem dX9_next_258 : decode cX9_next 258 = .ok (.iload_n 1, 1) := dk_27 (dk_at dksX9_next_11 3 rfl rfl)
theorem dX9_next_259 : decode cX9_next 259 = .ok (.bipush 41, 2) := dk_16 41 (dk_at dksX9_next_11 4 rfl rfl)
theorem dX9_next_261 : decode cX9_next 261 = .ok (.if_icmp .eq 39, 3) := dk_159 0 39 (dk_at dksX9_next_11 6 rfl rfl)
theorem dX9_next_264 : decode cX9_next 264 = .ok (.iload_n 1, 1) := dk_27 (dk_at dksX9_next_11 9 rfl rfl)
theorem dX9_next_265 : decode cX9_next 265 = .ok (.bipush 59, 2) := dk_16 59 (dk_at dksX9_next_11 10 rfl rfl)
theorem dX9_next_267 : decode cX9_next 267 = .ok (.if_icmp .eq 33, 3) := dk_159 0 33 (dk_at dksX9_next_11 12 rfl rfl)
theorem dX9_next_270 : decode cX9_next 270 = .ok (.iload_n 1, 1) := dk_27 (dk_at dksX9_next_11 15 rfl rfl)
theorem dX9_next_271 : decode cX9_next 271 = .ok (.bipush 43, 2) := dk_16 43 (dk_at dksX9_next_11 16 rfl rfl)
theorem dX9_next_273 : decode cX9_next 273 = .ok (.if_icmp .eq 27, 3) := dk_159 0 27 (dk_at dksX9_next_11 18 rfl rfl)
theorem dX9_next_276 : decode cX9_next 276 = .ok (.iload_n 1, 1) := dk_27 (dk_at dksX9_next_11 21 rfl rfl)
theorem dX9_next_277 : decode cX9_next 277 = .ok (.bipush 45, 2) := dk_16 45 (dk_at dksX9_next_11 22 rfl rfl)
theorem dX9_next_279 : decode cX9_next 279 = .ok (.if_icmp .eq 21, 3) := dk_159 0 21 (dk_at dksX9_next_12 0 rfl rfl)
theorem dX9_next_282 : decode cX9_next 282 = .ok (.iload_n 1, 1) := dk_27 (dk_at dksX9_next_12 3 rfl rfl)
theorem dX9_next_283 : decode cX9_next 283 = .ok (.bipush 42, 2) := dk_16 42 (dk_at dksX9_next_12 4 rfl rfl)
theorem dX9_next_285 : decode cX9_next 285 = .ok (.if_icmp .eq 15, 3) := dk_159 0 15 (dk_at dksX9_next_12 6 rfl rfl)
theorem dX9_next_288 : decode cX9_next 288 = .ok (.iload_n 1, 1) := dk_27 (dk_at dksX9_next_12 9 rfl rfl)
theorem dX9_next_289 : decode cX9_next 289 = .ok (.bipush 60, 2) := dk_16 60 (dk_at dksX9_next_12 10 rfl rfl)
theorem dX9_next_291 : decode cX9_next 291 = .ok (.if_icmp .eq 9, 3) := dk_159 0 9 (dk_at dksX9_next_12 12 rfl rfl)
theorem dX9_next_294 : decode cX9_next 294 = .ok (.iload_n 1, 1) := dk_27 (dk_at dksX9_next_12 15 rfl rfl)
theorem dX9_next_295 : decode cX9_next 295 = .ok (.bipush 61, 2) := dk_16 61 (dk_at dksX9_next_12 16 rfl rfl)
theorem dX9_next_297 : decode cX9_next 297 = .ok (.if_icmp .ne 24, 3) := dk_160 0 24 (dk_at dksX9_next_12 18 rfl rfl)
theorem dX9_next_300 : decode cX9_next 300 = .ok (.aload_n 0, 1) := dk_42 (dk_at dksX9_next_12 21 rfl rfl)
theorem dX9_next_301 : decode cX9_next 301 = .ok (.iconst 3, 1) := dk_6 (dk_at dksX9_next_12 22 rfl rfl)
theorem dX9_next_302 : decode cX9_next 302 = .ok (.putfield 139, 3) := dk_181 0 139 (dk_at dksX9_next_13 0 rfl rfl)
theorem dX9_next_305 : decode cX9_next 305 = .ok (.aload_n 0, 1) := dk_42 (dk_at dksX9_next_13 3 rfl rfl)
theorem dX9_next_306 : decode cX9_next 306 = .ok (.iload_n 1, 1) := dk_27 (dk_at dksX9_next_13 4 rfl rfl)
theorem dX9_next_307 : decode cX9_next 307 = .ok (.i2l, 1) := dk_133 (dk_at dksX9_next_13 5 rfl rfl)
theorem dX9_next_308 : decode cX9_next 308 = .ok (.putfield 150, 3) := dk_181 0 150 (dk_at dksX9_next_13 6 rfl rfl)
theorem dX9_next_311 : decode cX9_next 311 = .ok (.aload_n 0, 1) := dk_42 (dk_at dksX9_next_13 9 rfl rfl)
theorem dX9_next_312 : decode cX9_next 312 = .ok (.dup, 1) := dk_89 (dk_at dksX9_next_13 10 rfl rfl)
theorem dX9_next_313 : decode cX9_next 313 = .ok (.getfield 130, 3) := dk_180 0 130 (dk_at dksX9_next_13 11 rfl rfl)
theorem dX9_next_316 : decode cX9_next 316 = .ok (.iconst 1, 1) := dk_4 (dk_at dksX9_next_13 14 rfl rfl)
theorem dX9_next_317 : decode cX9_next 317 = .ok (.iadd, 1) := dk_96 (dk_at dksX9_next_13 15 rfl rfl)
theorem dX9_next_318 : decode cX9_next 318 = .ok (.putfield 130, 3) := dk_181 0 130 (dk_at dksX9_next_13 16 rfl rfl)
theorem dX9_next_321 : decode cX9_next 321 = .ok (.return_, 1) := dk_177 (dk_at dksX9_next_13 19 rfl rfl)
abbrev cX9_byteAt : ByteArray := prog_17_method_17_code
def yX9_byteAt : MethodName := ⟨RX9, "byteAt", "(I)I"⟩
def dkwX9_byteAt_0 : List UInt8 := [27, 42, 180, 0, 124, 162, 0, 17, 42, 180, 0, 13, 42, 180, 0, 127, 27, 96, 46, 167, 0, 4, 2, 172]
abbrev dktX9_byteAt_0 : List UInt8 := dkwX9_byteAt_0 ++ []
theorem dksX9_byteAt_0 : cX9_byteAt.data.toList.drop 0 = dktX9_byteAt_0 := by decide +kernel
theorem dX9_byteAt_0 : decode cX9_byteAt 0 = .ok (.iload_n 1, 1) := dk_27 (dk_at dksX9_byteAt_0 0 rfl rfl)
theorem dX9_byteAt_1 : decode cX9_byteAt 1 = .ok (.aload_n 0, 1) := dk_42 (dk_at dksX9_byteAt_0 1 rfl rfl)
theorem dX9_byteAt_2 : decode cX9_byteAt 2 = .ok (.getfield 124, 3) := dk_180 0 124 (dk_at dksX9_byteAt_0 2 rfl rfl)
theorem dX9_byteAt_5 : decode cX9_byteAt 5 = .ok (.if_icmp .ge 17, 3) := dk_162 0 17 (dk_at dksX9_byteAt_0 5 rfl rfl)
theorem dX9_byteAt_8 : decode cX9_byteAt 8 = .ok (.aload_n 0, 1) := dk_42 (dk_at dksX9_byteAt_0 8 rfl rfl)
theorem dX9_byteAt_9 : decode cX9_byteAt 9 = .ok (.getfield 13, 3) := dk_180 0 13 (dk_at dksX9_byteAt_0 9 rfl rfl)
theorem dX9_byteAt_12 : decode cX9_byteAt 12 = .ok (.aload_n 0, 1) := dk_42 (dk_at dksX9_byteAt_0 12 rfl rfl)
theorem dX9_byteAt_13 : decode cX9_byteAt 13 = .ok (.getfield 127, 3) := dk_180 0 127 (dk_at dksX9_byteAt_0 13 rfl rfl)
theorem dX9_byteAt_16 : decode cX9_byteAt 16 = .ok (.iload_n 1, 1) := dk_27 (dk_at dksX9_byteAt_0 16 rfl rfl)
theorem dX9_byteAt_17 : decode cX9_byteAt 17 = .ok (.iadd, 1) := dk_96 (dk_at dksX9_byteAt_0 17 rfl rfl)
theorem dX9_byteAt_18 : decode cX9_byteAt 18 = .ok (.iaload, 1) := dk_46 (dk_at dksX9_byteAt_0 18 rfl rfl)
theorem dX9_byteAt_19 : decode cX9_byteAt 19 = .ok (.goto 4, 3) := dk_167 0 4 (dk_at dksX9_byteAt_0 19 rfl rfl)
theorem dX9_byteAt_22 : decode cX9_byteAt 22 = .ok (.iconst (-1), 1) := dk_2 (dk_at dksX9_byteAt_0 22 rfl rfl)
theorem dX9_byteAt_23 : decode cX9_byteAt 23 = .ok (.ireturn, 1) := dk_172 (dk_at dksX9_byteAt_0 23 rfl rfl)
abbrev cX9_isWord : ByteArray := prog_17_method_21_code
def yX9_isWord : MethodName := ⟨RX9, "isWord", "(IIIIIIII)Z"⟩
def dkwX9_isWord_4 : List UInt8 := [153, 0, 18, 42, 16, 7, 21, 8, 182, 0, 161, 153, 0, 7, 4, 167, 0, 4, 3, 172]
abbrev dktX9_isWord_4 : List UInt8 := dkwX9_isWord_4 ++ []
def dkwX9_isWord_3 : List UInt8 := [182, 0, 161, 153, 0, 39, 42, 8, 21, 6, 182, 0, 161, 153, 0, 29, 42, 16, 6, 21, 7, 182, 0, 161]
abbrev dktX9_isWord_3 : List UInt8 := dkwX9_isWord_3 ++ dktX9_isWord_4
def dkwX9_isWord_2 : List UInt8 := [42, 5, 29, 182, 0, 161, 153, 0, 59, 42, 6, 21, 4, 182, 0, 161, 153, 0, 49, 42, 7, 21, 5]
abbrev dktX9_isWord_2 : List UInt8 := dkwX9_isWord_2 ++ dktX9_isWord_3
def dkwX9_isWord_1 : List UInt8 := [16, 8, 96, 163, 0, 86, 42, 3, 27, 182, 0, 161, 153, 0, 77, 42, 4, 28, 182, 0, 161, 153, 0, 68]
abbrev dktX9_isWord_1 : List UInt8 := dkwX9_isWord_1 ++ dktX9_isWord_2
def dkwX9_isWord_0 : List UInt8 := [42, 180, 0, 154, 154, 0, 108, 42, 180, 0, 139, 4, 160, 0, 100, 42, 180, 0, 130, 42, 180, 0, 136]
abbrev dktX9_isWord_0 : List UInt8 := dkwX9_isWord_0 ++ dktX9_isWord_1
theorem dksX9_isWord_0 : cX9_isWord.data.toList.drop 0 = dktX9_isWord_0 := by decide +kernel
theorem dksX9_isWord_1 : cX9_isWord.data.toList.drop 23 = dktX9_isWord_1 := dk_seg dksX9_isWord_0 23 rfl rfl
theorem dksX9_isWord_2 : cX9_isWord.data.toList.drop 47 = dktX9_isWord_2 := dk_seg dksX9_isWord_1 24 rfl rfl
theorem dksX9_isWord_3 : cX9_isWord.data.toList.drop 70 = dktX9_isWord_3 := dk_seg dksX9_isWord_2 23 rfl rfl
theorem dksX9_isWord_4 : cX9_isWord.data.toList.drop 94 = dktX9_isWord_4 := dk_seg dksX9_isWord_3 24 rfl rfl
theorem dX9_isWord_0 : decode cX9_isWord 0 = .ok (.aload_n 0, 1) := dk_42 (dk_at dksX9_isWord_0 0 rfl rfl)
theorem dX9_isWord_1 : decode cX9_isWord 1 = .ok (.getfield 154, 3) := dk_180 0 154 (dk_at dksX9_isWord_0 1 rfl rfl)
theorem dX9_isWord_4 : decode cX9_isWord 4 = .ok (.ifCond .ne 108, 3) := dk_154 0 108 (dk_at dksX9_isWord_0 4 rfl rfl)
theorem dX9_isWord_7 : decode cX9_isWord 7 = .ok (.aload_n 0, 1) := dk_42 (dk_at dksX9_isWord_0 7 rfl rfl)
theorem dX9_isWord_8 : decode cX9_isWord 8 = .ok (.getfield 139, 3) := dk_180 0 139 (dk_at dksX9_isWord_0 8 rfl rfl)
theorem dX9_isWord_11 : decode cX9_isWord 11 = .ok (.iconst 1, 1) := dk_4 (dk_at dksX9_isWord_0 11 rfl rfl)
theorem dX9_isWord_12 : decode cX9_isWord 12 = .ok (.if_icmp .ne 100, 3) := dk_160 0 100 (dk_at dksX9_isWord_0 12 rfl rfl)
theorem dX9_isWord_15 : decode cX9_isWord 15 = .ok (.aload_n 0, 1) := dk_42 (dk_at dksX9_isWord_0 15 rfl rfl)
theorem dX9_isWord_16 : decode cX9_isWord 16 = .ok (.getfield 130, 3) := dk_180 0 130 (dk_at dksX9_isWord_0 16 rfl rfl)
theorem dX9_isWord_19 : decode cX9_isWord 19 = .ok (.aload_n 0, 1) := dk_42 (dk_at dksX9_isWord_0 19 rfl rfl)
theorem dX9_isWord_20 : decode cX9_isWord 20 = .ok (.getfield 136, 3) := dk_180 0 136 (dk_at dksX9_isWord_0 20 rfl rfl)
theorem dX9_isWord_23 : decode cX9_isWord 23 = .ok (.bipush 8, 2) := dk_16 8 (dk_at dksX9_isWord_1 0 rfl rfl)
theorem dX9_isWord_25 : decode cX9_isWord 25 = .ok (.iadd, 1) := dk_96 (dk_at dksX9_isWord_1 2 rfl rfl)
theorem dX9_isWord_26 : decode cX9_isWord 26 = .ok (.if_icmp .gt 86, 3) := dk_163 0 86 (dk_at dksX9_isWord_1 3 rfl rfl)
theorem dX9_isWord_29 : decode cX9_isWord 29 = .ok (.aload_n 0, 1) := dk_42 (dk_at dksX9_isWord_1 6 rfl rfl)
theorem dX9_isWord_30 : decode cX9_isWord 30 = .ok (.iconst 0, 1) := dk_3 (dk_at dksX9_isWord_1 7 rfl rfl)
theorem dX9_isWord_31 : decode cX9_isWord 31 = .ok (.iload_n 1, 1) := dk_27 (dk_at dksX9_isWord_1 8 rfl rfl)
theorem dX9_isWord_32 : decode cX9_isWord 32 = .ok (.invokevirtual 161, 3) := dk_182 0 161 (dk_at dksX9_isWord_1 9 rfl rfl)
theorem dX9_isWord_35 : decode cX9_isWord 35 = .ok (.ifCond .eq 77, 3) := dk_153 0 77 (dk_at dksX9_isWord_1 12 rfl rfl)
theorem dX9_isWord_38 : decode cX9_isWord 38 = .ok (.aload_n 0, 1) := dk_42 (dk_at dksX9_isWord_1 15 rfl rfl)
theorem dX9_isWord_39 : decode cX9_isWord 39 = .ok (.iconst 1, 1) := dk_4 (dk_at dksX9_isWord_1 16 rfl rfl)
theorem dX9_isWord_40 : decode cX9_isWord 40 = .ok (.iload_n 2, 1) := dk_28 (dk_at dksX9_isWord_1 17 rfl rfl)
theorem dX9_isWord_41 : decode cX9_isWord 41 = .ok (.invokevirtual 161, 3) := dk_182 0 161 (dk_at dksX9_isWord_1 18 rfl rfl)
theorem dX9_isWord_44 : decode cX9_isWord 44 = .ok (.ifCond .eq 68, 3) := dk_153 0 68 (dk_at dksX9_isWord_1 21 rfl rfl)
theorem dX9_isWord_47 : decode cX9_isWord 47 = .ok (.aload_n 0, 1) := dk_42 (dk_at dksX9_isWord_2 0 rfl rfl)
theorem dX9_isWord_48 : decode cX9_isWord 48 = .ok (.iconst 2, 1) := dk_5 (dk_at dksX9_isWord_2 1 rfl rfl)
theorem dX9_isWord_49 : decode cX9_isWord 49 = .ok (.iload_n 3, 1) := dk_29 (dk_at dksX9_isWord_2 2 rfl rfl)
theorem dX9_isWord_50 : decode cX9_isWord 50 = .ok (.invokevirtual 161, 3) := dk_182 0 161 (dk_at dksX9_isWord_2 3 rfl rfl)
theorem dX9_isWord_53 : decode cX9_isWord 53 = .ok (.ifCond .eq 59, 3) := dk_153 0 59 (dk_at dksX9_isWord_2 6 rfl rfl)
theorem dX9_isWord_56 : decode cX9_isWord 56 = .ok (.aload_n 0, 1) := dk_42 (dk_at dksX9_isWord_2 9 rfl rfl)
theorem dX9_isWord_57 : decode cX9_isWord 57 = .ok (.iconst 3, 1) := dk_6 (dk_at dksX9_isWord_2 10 rfl rfl)
theorem dX9_isWord_58 : decode cX9_isWord 58 = .ok (.iload 4, 2) := dk_21 4 (dk_at dksX9_isWord_2 11 rfl rfl)
theorem dX9_isWord_60 : decode cX9_isWord 60 = .ok (.invokevirtual 161, 3) := dk_182 0 161 (dk_at dksX9_isWord_2 13 rfl rfl)
theorem dX9_isWord_63 : decode cX9_isWord 63 = .ok (.ifCond .eq 49, 3) := dk_153 0 49 (dk_at dksX9_isWord_2 16 rfl rfl)
theorem dX9_isWord_66 : decode cX9_isWord 66 = .ok (.aload_n 0, 1) := dk_42 (dk_at dksX9_isWord_2 19 rfl rfl)
theorem dX9_isWord_67 : decode cX9_isWord 67 = .ok (.iconst 4, 1) := dk_7 (dk_at dksX9_isWord_2 20 rfl rfl)
theorem dX9_isWord_68 : decode cX9_isWord 68 = .ok (.iload 5, 2) := dk_21 5 (dk_at dksX9_isWord_2 21 rfl rfl)
theorem dX9_isWord_70 : decode cX9_isWord 70 = .ok (.invokevirtual 161, 3) := dk_182 0 161 (dk_at dksX9_isWord_3 0 rfl rfl)
theorem dX9_isWord_73 : decode cX9_isWord 73 = .ok (.ifCond .eq 39, 3) := dk_153 0 39 (dk_at dksX9_isWord_3 3 rfl rfl)
theorem dX9_isWord_76 : decode cX9_isWord 76 = .ok (.aload_n 0, 1) := dk_42 (dk_at dksX9_isWord_3 6 rfl rfl)
theorem dX9_isWord_77 : decode cX9_isWord 77 = .ok (.iconst 5, 1) := dk_8 (dk_at dksX9_isWord_3 7 rfl rfl)
theorem dX9_isWord_78 : decode cX9_isWord 78 = .ok (.iload 6, 2) := dk_21 6 (dk_at dksX9_isWord_3 8 rfl rfl)
theorem dX9_isWord_80 : decode cX9_isWord 80 = .ok (.invokevirtual 161, 3) := dk_182 0 161 (dk_at dksX9_isWord_3 10 rfl rfl)
theorem dX9_isWord_83 : decode cX9_isWord 83 = .ok (.ifCond .eq 29, 3) := dk_153 0 29 (dk_at dksX9_isWord_3 13 rfl rfl)
theorem dX9_isWord_86 : decode cX9_isWord 86 = .ok (.aload_n 0, 1) := dk_42 (dk_at dksX9_isWord_3 16 rfl rfl)
theorem dX9_isWord_87 : decode cX9_isWord 87 = .ok (.bipush 6, 2) := dk_16 6 (dk_at dksX9_isWord_3 17 rfl rfl)
theorem dX9_isWord_89 : decode cX9_isWord 89 = .ok (.iload 7, 2) := dk_21 7 (dk_at dksX9_isWord_3 19 rfl rfl)
theorem dX9_isWord_91 : decode cX9_isWord 91 = .ok (.invokevirtual 161, 3) := dk_182 0 161 (dk_at dksX9_isWord_3 21 rfl rfl)
theorem dX9_isWord_94 : decode cX9_isWord 94 = .ok (.ifCond .eq 18, 3) := dk_153 0 18 (dk_at dksX9_isWord_4 0 rfl rfl)
theorem dX9_isWord_97 : decode cX9_isWord 97 = .ok (.aload_n 0, 1) := dk_42 (dk_at dksX9_isWord_4 3 rfl rfl)
theorem dX9_isWord_98 : decode cX9_isWord 98 = .ok (.bipush 7, 2) := dk_16 7 (dk_at dksX9_isWord_4 4 rfl rfl)
theorem dX9_isWord_100 : decode cX9_isWord 100 = .ok (.iload 8, 2) := dk_21 8 (dk_at dksX9_isWord_4 6 rfl rfl)
theorem dX9_isWord_102 : decode cX9_isWord 102 = .ok (.invokevirtual 161, 3) := dk_182 0 161 (dk_at dksX9_isWord_4 8 rfl rfl)
theorem dX9_isWord_105 : decode cX9_isWord 105 = .ok (.ifCond .eq 7, 3) := dk_153 0 7 (dk_at dksX9_isWord_4 11 rfl rfl)
theorem dX9_isWord_108 : decode cX9_isWord 108 = .ok (.iconst 1, 1) := dk_4 (dk_at dksX9_isWord_4 14 rfl rfl)
theorem dX9_isWord_109 : decode cX9_isWord 109 = .ok (.goto 4, 3) := dk_167 0 4 (dk_at dksX9_isWord_4 15 rfl rfl)
theorem dX9_isWord_112 : decode cX9_isWord 112 = .ok (.iconst 0, 1) := dk_3 (dk_at dksX9_isWord_4 18 rfl rfl)
theorem dX9_isWord_113 : decode cX9_isWord 113 = .ok (.ireturn, 1) := dk_172 (dk_at dksX9_isWord_4 19 rfl rfl)
abbrev cX9_isLetter : ByteArray := prog_17_method_20_code
def yX9_isLetter : MethodName := ⟨RX9, "isLetter", "(II)Z"⟩
def dkwX9_isLetter_1 : List UInt8 := [160, 0, 7, 4, 167, 0, 16, 3, 167, 0, 12, 28, 154, 0, 7, 4, 167, 0, 4, 3, 172]
abbrev dktX9_isLetter_1 : List UInt8 := dkwX9_isLetter_1 ++ []
def dkwX9_isLetter_0 : List UInt8 := [42, 180, 0, 136, 27, 96, 42, 180, 0, 130, 162, 0, 25, 42, 42, 180, 0, 136, 27, 96, 182, 0, 133, 28]
abbrev dktX9_isLetter_0 : List UInt8 := dkwX9_isLetter_0 ++ dktX9_isLetter_1
theorem dksX9_isLetter_0 : cX9_isLetter.data.toList.drop 0 = dktX9_isLetter_0 := by decide +kernel
theorem dksX9_isLetter_1 : cX9_isLetter.data.toList.drop 24 = dktX9_isLetter_1 := dk_seg dksX9_isLetter_0 24 rfl rfl
theorem dX9_isLetter_0 : decode cX9_isLetter 0 = .ok (.aload_n 0, 1) := dk_42 (dk_at dksX9_isLetter_0 0 rfl rfl)
theorem dX9_isLetter_1 : decode cX9_isLetter 1 = .ok (.getfield 136, 3) := dk_180 0 136 (dk_at dksX9_isLetter_0 1 rfl rfl)
theorem dX9_isLetter_4 : decode cX9_isLetter 4 = .ok (.iload_n 1, 1) := dk_27 (dk_at dksX9_isLetter_0 4 rfl rfl)
theorem dX9_isLetter_5 : decode cX9_isLetter 5 = .ok (.iadd, 1) := dk_96 (dk_at dksX9_isLetter_0 5 rfl rfl)
theorem dX9_isLetter_6 : decode cX9_isLetter 6 = .ok (.aload_n 0, 1) := dk_42 (dk_at dksX9_isLetter_0 6 rfl rfl)
theorem dX9_isLetter_7 : decode cX9_isLetter 7 = .ok (.getfield 130, 3) := dk_180 0 130 (dk_at dksX9_isLetter_0 7 rfl rfl)
theorem dX9_isLetter_10 : decode cX9_isLetter 10 = .ok (.if_icmp .ge 25, 3) := dk_162 0 25 (dk_at dksX9_isLetter_0 10 rfl rfl)
theorem dX9_isLetter_13 : decode cX9_isLetter 13 = .ok (.aload_n 0, 1) := dk_42 (dk_at dksX9_isLetter_0 13 rfl rfl)
theorem dX9_isLetter_14 : decode cX9_isLetter 14 = .ok (.aload_n 0, 1) := dk_42 (dk_at dksX9_isLetter_0 14 rfl rfl)
theorem dX9_isLetter_15 : decode cX9_isLetter 15 = .ok (.getfield 136, 3) := dk_180 0 136 (dk_at dksX9_isLetter_0 15 rfl rfl)
theorem dX9_isLetter_18 : decode cX9_isLetter 18 = .ok (.iload_n 1, 1) := dk_27 (dk_at dksX9_isLetter_0 18 rfl rfl)
theorem dX9_isLetter_19 : decode cX9_isLetter 19 = .ok (.iadd, 1) := dk_96 (dk_at dksX9_isLetter_0 19 rfl rfl)
theorem dX9_isLetter_20 : decode cX9_isLetter 20 = .ok (.invokevirtual 133, 3) := dk_182 0 133 (dk_at dksX9_isLetter_0 20 rfl rfl)
theorem dX9_isLetter_23 : decode cX9_isLetter 23 = .ok (.iload_n 2, 1) := dk_28 (dk_at dksX9_isLetter_0 23 rfl rfl)
theorem dX9_isLetter_24 : decode cX9_isLetter 24 = .ok (.if_icmp .ne 7, 3) := dk_160 0 7 (dk_at dksX9_isLetter_1 0 rfl rfl)
theorem dX9_isLetter_27 : decode cX9_isLetter 27 = .ok (.iconst 1, 1) := dk_4 (dk_at dksX9_isLetter_1 3 rfl rfl)
theorem dX9_isLetter_28 : decode cX9_isLetter 28 = .ok (.goto 16, 3) := dk_167 0 16 (dk_at dksX9_isLetter_1 4 rfl rfl)
theorem dX9_isLetter_31 : decode cX9_isLetter 31 = .ok (.iconst 0, 1) := dk_3 (dk_at dksX9_isLetter_1 7 rfl rfl)
theorem dX9_isLetter_32 : decode cX9_isLetter 32 = .ok (.goto 12, 3) := dk_167 0 12 (dk_at dksX9_isLetter_1 8 rfl rfl)
theorem dX9_isLetter_35 : decode cX9_isLetter 35 = .ok (.iload_n 2, 1) := dk_28 (dk_at dksX9_isLetter_1 11 rfl rfl)
theorem dX9_isLetter_36 : decode cX9_isLetter 36 = .ok (.ifCond .ne 7, 3) := dk_154 0 7 (dk_at dksX9_isLetter_1 12 rfl rfl)
theorem dX9_isLetter_39 : decode cX9_isLetter 39 = .ok (.iconst 1, 1) := dk_4 (dk_at dksX9_isLetter_1 15 rfl rfl)
theorem dX9_isLetter_40 : decode cX9_isLetter 40 = .ok (.goto 4, 3) := dk_167 0 4 (dk_at dksX9_isLetter_1 16 rfl rfl)
theorem dX9_isLetter_43 : decode cX9_isLetter 43 = .ok (.iconst 0, 1) := dk_3 (dk_at dksX9_isLetter_1 19 rfl rfl)
theorem dX9_isLetter_44 : decode cX9_isLetter 44 = .ok (.ireturn, 1) := dk_172 (dk_at dksX9_isLetter_1 20 rfl rfl)
abbrev cX9_part : ByteArray := prog_17_method_61_code
def yX9_part : MethodName := ⟨RX9, "part", "(Z)I"⟩
def dkwX9_part_2 : List UInt8 := [182, 0, 167, 42, 180, 0, 154, 154, 0, 7, 42, 182, 0, 170, 28, 172]
abbrev dktX9_part_2 : List UInt8 := dkwX9_part_2 ++ []
def dkwX9_part_1 : List UInt8 := [153, 0, 7, 3, 167, 0, 7, 42, 182, 1, 59, 61, 42, 16, 59, 182, 0, 195, 154, 0, 7, 42]
abbrev dktX9_part_1 : List UInt8 := dkwX9_part_1 ++ dktX9_part_2
def dkwX9_part_0 : List UInt8 := [27, 154, 0, 7, 42, 182, 0, 167, 42, 180, 0, 154, 154, 0, 7, 42, 182, 0, 170, 42, 180, 0, 154]
abbrev dktX9_part_0 : List UInt8 := dkwX9_part_0 ++ dktX9_part_1
theorem dksX9_part_0 : cX9_part.data.toList.drop 0 = dktX9_part_0 := by decide +kernel
theorem dksX9_part_1 : cX9_part.data.toList.drop 23 = dktX9_part_1 := dk_seg dksX9_part_0 23 rfl rfl
theorem dksX9_part_2 : cX9_part.data.toList.drop 45 = dktX9_part_2 := dk_seg dksX9_part_1 22 rfl rfl
theorem dX9_part_0 : decode cX9_part 0 = .ok (.iload_n 1, 1) := dk_27 (dk_at dksX9_part_0 0 rfl rfl)
theorem dX9_part_1 : decode cX9_part 1 = .ok (.ifCond .ne 7, 3) := dk_154 0 7 (dk_at dksX9_part_0 1 rfl rfl)
theorem dX9_part_4 : decode cX9_part 4 = .ok (.aload_n 0, 1) := dk_42 (dk_at dksX9_part_0 4 rfl rfl)
theorem dX9_part_5 : decode cX9_part 5 = .ok (.invokevirtual 167, 3) := dk_182 0 167 (dk_at dksX9_part_0 5 rfl rfl)
theorem dX9_part_8 : decode cX9_part 8 = .ok (.aload_n 0, 1) := dk_42 (dk_at dksX9_part_0 8 rfl rfl)
theorem dX9_part_9 : decode cX9_part 9 = .ok (.getfield 154, 3) := dk_180 0 154 (dk_at dksX9_part_0 9 rfl rfl)
theorem dX9_part_12 : decode cX9_part 12 = .ok (.ifCond .ne 7, 3) := dk_154 0 7 (dk_at dksX9_part_0 12 rfl rfl)
theorem dX9_part_15 : decode cX9_part 15 = .ok (.aload_n 0, 1) := dk_42 (dk_at dksX9_part_0 15 rfl rfl)
theorem dX9_part_16 : decode cX9_part 16 = .ok (.invokevirtual 170, 3) := dk_182 0 170 (dk_at dksX9_part_0 16 rfl rfl)
theorem dX9_part_19 : decode cX9_part 19 = .ok (.aload_n 0, 1) := dk_42 (dk_at dksX9_part_0 19 rfl rfl)
theorem dX9_part_20 : decode cX9_part 20 = .ok (.getfield 154, 3) := dk_180 0 154 (dk_at dksX9_part_0 20 rfl rfl)
theorem dX9_part_23 : decode cX9_part 23 = .ok (.ifCond .eq 7, 3) := dk_153 0 7 (dk_at dksX9_part_1 0 rfl rfl)
theorem dX9_part_26 : decode cX9_part 26 = .ok (.iconst 0, 1) := dk_3 (dk_at dksX9_part_1 3 rfl rfl)
theorem dX9_part_27 : decode cX9_part 27 = .ok (.goto 7, 3) := dk_167 0 7 (dk_at dksX9_part_1 4 rfl rfl)
theorem dX9_part_30 : decode cX9_part 30 = .ok (.aload_n 0, 1) := dk_42 (dk_at dksX9_part_1 7 rfl rfl)
theorem dX9_part_31 : decode cX9_part 31 = .ok (.invokevirtual 315, 3) := dk_182 1 59 (dk_at dksX9_part_1 8 rfl rfl)
theorem dX9_part_34 : decode cX9_part 34 = .ok (.istore_n 2, 1) := dk_61 (dk_at dksX9_part_1 11 rfl rfl)
theorem dX9_part_35 : decode cX9_part 35 = .ok (.aload_n 0, 1) := dk_42 (dk_at dksX9_part_1 12 rfl rfl)
theorem dX9_part_36 : decode cX9_part 36 = .ok (.bipush 59, 2) := dk_16 59 (dk_at dksX9_part_1 13 rfl rfl)
theorem dX9_part_38 : decode cX9_part 38 = .ok (.invokevirtual 195, 3) := dk_182 0 195 (dk_at dksX9_part_1 15 rfl rfl)
theorem dX9_part_41 : decode cX9_part 41 = .ok (.ifCond .ne 7, 3) := dk_154 0 7 (dk_at dksX9_part_1 18 rfl rfl)
theorem dX9_part_44 : decode cX9_part 44 = .ok (.aload_n 0, 1) := dk_42 (dk_at dksX9_part_1 21 rfl rfl)
theorem dX9_part_45 : decode cX9_part 45 = .ok (.invokevirtual 167, 3) := dk_182 0 167 (dk_at dksX9_part_2 0 rfl rfl)
theorem dX9_part_48 : decode cX9_part 48 = .ok (.aload_n 0, 1) := dk_42 (dk_at dksX9_part_2 3 rfl rfl)
theorem dX9_part_49 : decode cX9_part 49 = .ok (.getfield 154, 3) := dk_180 0 154 (dk_at dksX9_part_2 4 rfl rfl)
theorem dX9_part_52 : decode cX9_part 52 = .ok (.ifCond .ne 7, 3) := dk_154 0 7 (dk_at dksX9_part_2 7 rfl rfl)
theorem dX9_part_55 : decode cX9_part 55 = .ok (.aload_n 0, 1) := dk_42 (dk_at dksX9_part_2 10 rfl rfl)
theorem dX9_part_56 : decode cX9_part 56 = .ok (.invokevirtual 170, 3) := dk_182 0 170 (dk_at dksX9_part_2 11 rfl rfl)
theorem dX9_part_59 : decode cX9_part 59 = .ok (.iload_n 2, 1) := dk_28 (dk_at dksX9_part_2 14 rfl rfl)
theorem dX9_part_60 : decode cX9_part 60 = .ok (.ireturn, 1) := dk_172 (dk_at dksX9_part_2 15 rfl rfl)
abbrev cX9_fail : ByteArray := prog_17_method_19_code
def yX9_fail : MethodName := ⟨RX9, "fail", "()V"⟩
def dkwX9_fail_0 : List UInt8 := [42, 180, 0, 154, 154, 0, 16, 42, 4, 181, 0, 154, 42, 42, 180, 0, 136, 181, 0, 158, 177]
abbrev dktX9_fail_0 : List UInt8 := dkwX9_fail_0 ++ []
theorem dksX9_fail_0 : cX9_fail.data.toList.drop 0 = dktX9_fail_0 := by decide +kernel
theorem dX9_fail_0 : decode cX9_fail 0 = .ok (.aload_n 0, 1) := dk_42 (dk_at dksX9_fail_0 0 rfl rfl)
theorem dX9_fail_1 : decode cX9_fail 1 = .ok (.getfield 154, 3) := dk_180 0 154 (dk_at dksX9_fail_0 1 rfl rfl)
theorem dX9_fail_4 : decode cX9_fail 4 = .ok (.ifCond .ne 16, 3) := dk_154 0 16 (dk_at dksX9_fail_0 4 rfl rfl)
theorem dX9_fail_7 : decode cX9_fail 7 = .ok (.aload_n 0, 1) := dk_42 (dk_at dksX9_fail_0 7 rfl rfl)
theorem dX9_fail_8 : decode cX9_fail 8 = .ok (.iconst 1, 1) := dk_4 (dk_at dksX9_fail_0 8 rfl rfl)
theorem dX9_fail_9 : decode cX9_fail 9 = .ok (.putfield 154, 3) := dk_181 0 154 (dk_at dksX9_fail_0 9 rfl rfl)
theorem dX9_fail_12 : decode cX9_fail 12 = .ok (.aload_n 0, 1) := dk_42 (dk_at dksX9_fail_0 12 rfl rfl)
theorem dX9_fail_13 : decode cX9_fail 13 = .ok (.aload_n 0, 1) := dk_42 (dk_at dksX9_fail_0 13 rfl rfl)
theorem dX9_fail_14 : decode cX9_fail 14 = .ok (.getfield 136, 3) := dk_180 0 136 (dk_at dksX9_fail_0 14 rfl rfl)
theorem dX9_fail_17 : decode cX9_fail 17 = .ok (.putfield 158, 3) := dk_181 0 158 (dk_at dksX9_fail_0 17 rfl rfl)
theorem dX9_fail_20 : decode cX9_fail 20 = .ok (.return_, 1) := dk_177 (dk_at dksX9_fail_0 20 rfl rfl)
abbrev cX9_either0 : ByteArray := prog_17_method_60_code
def yX9_either0 : MethodName := ⟨RX9, "either0", "()I"⟩
def dkwX9_either0_2 : List UInt8 := [167, 255, 216, 27, 172]
abbrev dktX9_either0_2 : List UInt8 := dkwX9_either0_2 ++ []
def dkwX9_either0_1 : List UInt8 := [182, 0, 170, 42, 182, 1, 56, 61, 27, 154, 0, 7, 28, 153, 0, 7, 4, 167, 0, 4, 3, 60]
abbrev dktX9_either0_1 : List UInt8 := dkwX9_either0_1 ++ dktX9_either0_2
def dkwX9_either0_0 : List UInt8 := [42, 182, 1, 56, 60, 42, 16, 111, 16, 114, 3, 3, 3, 3, 3, 3, 182, 0, 173, 153, 0, 29, 42]
abbrev dktX9_either0_0 : List UInt8 := dkwX9_either0_0 ++ dktX9_either0_1
theorem dksX9_either0_0 : cX9_either0.data.toList.drop 0 = dktX9_either0_0 := by decide +kernel
theorem dksX9_either0_1 : cX9_either0.data.toList.drop 23 = dktX9_either0_1 := dk_seg dksX9_either0_0 23 rfl rfl
theorem dksX9_either0_2 : cX9_either0.data.toList.drop 45 = dktX9_either0_2 := dk_seg dksX9_either0_1 22 rfl rfl
theorem dX9_either0_0 : decode cX9_either0 0 = .ok (.aload_n 0, 1) := dk_42 (dk_at dksX9_either0_0 0 rfl rfl)
theorem dX9_either0_1 : decode cX9_either0 1 = .ok (.invokevirtual 312, 3) := dk_182 1 56 (dk_at dksX9_either0_0 1 rfl rfl)
theorem dX9_either0_4 : decode cX9_either0 4 = .ok (.istore_n 1, 1) := dk_60 (dk_at dksX9_either0_0 4 rfl rfl)
theorem dX9_either0_5 : decode cX9_either0 5 = .ok (.aload_n 0, 1) := dk_42 (dk_at dksX9_either0_0 5 rfl rfl)
theorem dX9_either0_6 : decode cX9_either0 6 = .ok (.bipush 111, 2) := dk_16 111 (dk_at dksX9_either0_0 6 rfl rfl)
theorem dX9_either0_8 : decode cX9_either0 8 = .ok (.bipush 114, 2) := dk_16 114 (dk_at dksX9_either0_0 8 rfl rfl)
theorem dX9_either0_10 : decode cX9_either0 10 = .ok (.iconst 0, 1) := dk_3 (dk_at dksX9_either0_0 10 rfl rfl)
theorem dX9_either0_11 : decode cX9_either0 11 = .ok (.iconst 0, 1) := dk_3 (dk_at dksX9_either0_0 11 rfl rfl)
theorem dX9_either0_12 : decode cX9_either0 12 = .ok (.iconst 0, 1) := dk_3 (dk_at dksX9_either0_0 12 rfl rfl)
theorem dX9_either0_13 : decode cX9_either0 13 = .ok (.iconst 0, 1) := dk_3 (dk_at dksX9_either0_0 13 rfl rfl)
theorem dX9_either0_14 : decode cX9_either0 14 = .ok (.iconst 0, 1) := dk_3 (dk_at dksX9_either0_0 14 rfl rfl)
theorem dX9_either0_15 : decode cX9_either0 15 = .ok (.iconst 0, 1) := dk_3 (dk_at dksX9_either0_0 15 rfl rfl)
theorem dX9_either0_16 : decode cX9_either0 16 = .ok (.invokevirtual 173, 3) := dk_182 0 173 (dk_at dksX9_either0_0 16 rfl rfl)
theorem dX9_either0_19 : decode cX9_either0 19 = .ok (.ifCond .eq 29, 3) := dk_153 0 29 (dk_at dksX9_either0_0 19 rfl rfl)
theorem dX9_either0_22 : decode cX9_either0 22 = .ok (.aload_n 0, 1) := dk_42 (dk_at dksX9_either0_0 22 rfl rfl)
theorem dX9_either0_23 : decode cX9_either0 23 = .ok (.invokevirtual 170, 3) := dk_182 0 170 (dk_at dksX9_either0_1 0 rfl rfl)
theorem dX9_either0_26 : decode cX9_either0 26 = .ok (.aload_n 0, 1) := dk_42 (dk_at dksX9_either0_1 3 rfl rfl)
theorem dX9_either0_27 : decode cX9_either0 27 = .ok (.invokevirtual 312, 3) := dk_182 1 56 (dk_at dksX9_either0_1 4 rfl rfl)
theorem dX9_either0_30 : decode cX9_either0 30 = .ok (.istore_n 2, 1) := dk_61 (dk_at dksX9_either0_1 7 rfl rfl)
theorem dX9_either0_31 : decode cX9_either0 31 = .ok (.iload_n 1, 1) := dk_27 (dk_at dksX9_either0_1 8 rfl rfl)
theorem dX9_either0_32 : decode cX9_either0 32 = .ok (.ifCond .ne 7, 3) := dk_154 0 7 (dk_at dksX9_either0_1 9 rfl rfl)
theorem dX9_either0_35 : decode cX9_either0 35 = .ok (.iload_n 2, 1) := dk_28 (dk_at dksX9_either0_1 12 rfl rfl)
theorem dX9_either0_36 : decode cX9_either0 36 = .ok (.ifCond .eq 7, 3) := dk_153 0 7 (dk_at dksX9_either0_1 13 rfl rfl)
theorem dX9_either0_39 : decode cX9_either0 39 = .ok (.iconst 1, 1) := dk_4 (dk_at dksX9_either0_1 16 rfl rfl)
theorem dX9_either0_40 : decode cX9_either0 40 = .ok (.goto 4, 3) := dk_167 0 4 (dk_at dksX9_either0_1 17 rfl rfl)
theorem dX9_either0_43 : decode cX9_either0 43 = .ok (.iconst 0, 1) := dk_3 (dk_at dksX9_either0_1 20 rfl rfl)
theorem dX9_either0_44 : decode cX9_either0 44 = .ok (.istore_n 1, 1) := dk_60 (dk_at dksX9_either0_1 21 rfl rfl)
theorem dX9_either0_45 : decode cX9_either0 45 = .ok (.goto (-40), 3) := dk_167 255 216 (dk_at dksX9_either0_2 0 rfl rfl)
theorem dX9_either0_48 : decode cX9_either0 48 = .ok (.iload_n 1, 1) := dk_27 (dk_at dksX9_either0_2 3 rfl rfl)
theorem dX9_either0_49 : decode cX9_either0 49 = .ok (.ireturn, 1) := dk_172 (dk_at dksX9_either0_2 4 rfl rfl)
abbrev cX9_both0 : ByteArray := prog_17_method_59_code
def yX9_both0 : MethodName := ⟨RX9, "both0", "()I"⟩
def dkwX9_both0_2 : List UInt8 := [167, 255, 215, 27, 172]
abbrev dktX9_both0_2 : List UInt8 := dkwX9_both0_2 ++ []
def dkwX9_both0_1 : List UInt8 := [182, 0, 170, 42, 182, 1, 53, 61, 27, 153, 0, 11, 28, 153, 0, 7, 4, 167, 0, 4, 3, 60]
abbrev dktX9_both0_1 : List UInt8 := dkwX9_both0_1 ++ dktX9_both0_2
def dkwX9_both0_0 : List UInt8 := [42, 182, 1, 53, 60, 42, 16, 97, 16, 110, 16, 100, 3, 3, 3, 3, 3, 182, 0, 173, 153, 0, 29, 42]
abbrev dktX9_both0_0 : List UInt8 := dkwX9_both0_0 ++ dktX9_both0_1
theorem dksX9_both0_0 : cX9_both0.data.toList.drop 0 = dktX9_both0_0 := by decide +kernel
theorem dksX9_both0_1 : cX9_both0.data.toList.drop 24 = dktX9_both0_1 := dk_seg dksX9_both0_0 24 rfl rfl
theorem dksX9_both0_2 : cX9_both0.data.toList.drop 46 = dktX9_both0_2 := dk_seg dksX9_both0_1 22 rfl rfl
theorem dX9_both0_0 : decode cX9_both0 0 = .ok (.aload_n 0, 1) := dk_42 (dk_at dksX9_both0_0 0 rfl rfl)
theorem dX9_both0_1 : decode cX9_both0 1 = .ok (.invokevirtual 309, 3) := dk_182 1 53 (dk_at dksX9_both0_0 1 rfl rfl)
theorem dX9_both0_4 : decode cX9_both0 4 = .ok (.istore_n 1, 1) := dk_60 (dk_at dksX9_both0_0 4 rfl rfl)
theorem dX9_both0_5 : decode cX9_both0 5 = .ok (.aload_n 0, 1) := dk_42 (dk_at dksX9_both0_0 5 rfl rfl)
theorem dX9_both0_6 : decode cX9_both0 6 = .ok (.bipush 97, 2) := dk_16 97 (dk_at dksX9_both0_0 6 rfl rfl)
theorem dX9_both0_8 : decode cX9_both0 8 = .ok (.bipush 110, 2) := dk_16 110 (dk_at dksX9_both0_0 8 rfl rfl)
theorem dX9_both0_10 : decode cX9_both0 10 = .ok (.bipush 100, 2) := dk_16 100 (dk_at dksX9_both0_0 10 rfl rfl)
theorem dX9_both0_12 : decode cX9_both0 12 = .ok (.iconst 0, 1) := dk_3 (dk_at dksX9_both0_0 12 rfl rfl)
theorem dX9_both0_13 : decode cX9_both0 13 = .ok (.iconst 0, 1) := dk_3 (dk_at dksX9_both0_0 13 rfl rfl)
theorem dX9_both0_14 : decode cX9_both0 14 = .ok (.iconst 0, 1) := dk_3 (dk_at dksX9_both0_0 14 rfl rfl)
theorem dX9_both0_15 : decode cX9_both0 15 = .ok (.iconst 0, 1) := dk_3 (dk_at dksX9_both0_0 15 rfl rfl)
theorem dX9_both0_16 : decode cX9_both0 16 = .ok (.iconst 0, 1) := dk_3 (dk_at dksX9_both0_0 16 rfl rfl)
theorem dX9_both0_17 : decode cX9_both0 17 = .ok (.invokevirtual 173, 3) := dk_182 0 173 (dk_at dksX9_both0_0 17 rfl rfl)
theorem dX9_both0_20 : decode cX9_both0 20 = .ok (.ifCond .eq 29, 3) := dk_153 0 29 (dk_at dksX9_both0_0 20 rfl rfl)
theorem dX9_both0_23 : decode cX9_both0 23 = .ok (.aload_n 0, 1) := dk_42 (dk_at dksX9_both0_0 23 rfl rfl)
theorem dX9_both0_24 : decode cX9_both0 24 = .ok (.invokevirtual 170, 3) := dk_182 0 170 (dk_at dksX9_both0_1 0 rfl rfl)
theorem dX9_both0_27 : decode cX9_both0 27 = .ok (.aload_n 0, 1) := dk_42 (dk_at dksX9_both0_1 3 rfl rfl)
theorem dX9_both0_28 : decode cX9_both0 28 = .ok (.invokevirtual 309, 3) := dk_182 1 53 (dk_at dksX9_both0_1 4 rfl rfl)
theorem dX9_both0_31 : decode cX9_both0 31 = .ok (.istore_n 2, 1) := dk_61 (dk_at dksX9_both0_1 7 rfl rfl)
theorem dX9_both0_32 : decode cX9_both0 32 = .ok (.iload_n 1, 1) := dk_27 (dk_at dksX9_both0_1 8 rfl rfl)
theorem dX9_both0_33 : decode cX9_both0 33 = .ok (.ifCond .eq 11, 3) := dk_153 0 11 (dk_at dksX9_both0_1 9 rfl rfl)
theorem dX9_both0_36 : decode cX9_both0 36 = .ok (.iload_n 2, 1) := dk_28 (dk_at dksX9_both0_1 12 rfl rfl)
theorem dX9_both0_37 : decode cX9_both0 37 = .ok (.ifCond .eq 7, 3) := dk_153 0 7 (dk_at dksX9_both0_1 13 rfl rfl)
theorem dX9_both0_40 : decode cX9_both0 40 = .ok (.iconst 1, 1) := dk_4 (dk_at dksX9_both0_1 16 rfl rfl)
theorem dX9_both0_41 : decode cX9_both0 41 = .ok (.goto 4, 3) := dk_167 0 4 (dk_at dksX9_both0_1 17 rfl rfl)
theorem dX9_both0_44 : decode cX9_both0 44 = .ok (.iconst 0, 1) := dk_3 (dk_at dksX9_both0_1 20 rfl rfl)
theorem dX9_both0_45 : decode cX9_both0 45 = .ok (.istore_n 1, 1) := dk_60 (dk_at dksX9_both0_1 21 rfl rfl)
theorem dX9_both0_46 : decode cX9_both0 46 = .ok (.goto (-41), 3) := dk_167 255 215 (dk_at dksX9_both0_2 0 rfl rfl)
theorem dX9_both0_49 : decode cX9_both0 49 = .ok (.iload_n 1, 1) := dk_27 (dk_at dksX9_both0_2 3 rfl rfl)
theorem dX9_both0_50 : decode cX9_both0 50 = .ok (.ireturn, 1) := dk_172 (dk_at dksX9_both0_2 4 rfl rfl)
abbrev cX9_not0 : ByteArray := prog_17_method_58_code
def yX9_not0 : MethodName := ⟨RX9, "not0", "()I"⟩
def dkwX9_not0_5 : List UInt8 := [160, 0, 7, 4, 167, 0, 4, 3, 172]
abbrev dktX9_not0_5 : List UInt8 := dkwX9_not0_5 ++ []
def dkwX9_not0_4 : List UInt8 := [61, 42, 182, 0, 170, 42, 182, 1, 50, 62, 28, 153, 0, 11, 27, 29, 162, 0, 15, 167, 0, 8, 27, 29]
abbrev dktX9_not0_4 : List UInt8 := dkwX9_not0_4 ++ dktX9_not0_5
def dkwX9_not0_3 : List UInt8 := [182, 0, 195, 154, 0, 5, 27, 172, 42, 180, 0, 150, 20, 0, 217, 148, 154, 0, 7, 4, 167, 0, 4, 3]
abbrev dktX9_not0_3 : List UInt8 := dkwX9_not0_3 ++ dktX9_not0_4
def dkwX9_not0_2 : List UInt8 := [4, 167, 0, 4, 3, 172, 42, 182, 1, 50, 60, 42, 16, 60, 182, 0, 195, 154, 0, 14, 42, 16, 61]
abbrev dktX9_not0_2 : List UInt8 := dkwX9_not0_2 ++ dktX9_not0_3
def dkwX9_not0_1 : List UInt8 := [154, 0, 5, 3, 172, 42, 182, 1, 35, 60, 42, 89, 180, 0, 164, 4, 100, 181, 0, 164, 27, 154, 0, 7]
abbrev dktX9_not0_1 : List UInt8 := dkwX9_not0_1 ++ dktX9_not0_2
def dkwX9_not0_0 : List UInt8 := [42, 16, 110, 16, 111, 16, 116, 3, 3, 3, 3, 3, 182, 0, 173, 153, 0, 37, 42, 182, 0, 198]
abbrev dktX9_not0_0 : List UInt8 := dkwX9_not0_0 ++ dktX9_not0_1
theorem dksX9_not0_0 : cX9_not0.data.toList.drop 0 = dktX9_not0_0 := by decide +kernel
theorem dksX9_not0_1 : cX9_not0.data.toList.drop 22 = dktX9_not0_1 := dk_seg dksX9_not0_0 22 rfl rfl
theorem dksX9_not0_2 : cX9_not0.data.toList.drop 46 = dktX9_not0_2 := dk_seg dksX9_not0_1 24 rfl rfl
theorem dksX9_not0_3 : cX9_not0.data.toList.drop 69 = dktX9_not0_3 := dk_seg dksX9_not0_2 23 rfl rfl
theorem dksX9_not0_4 : cX9_not0.data.toList.drop 93 = dktX9_not0_4 := dk_seg dksX9_not0_3 24 rfl rfl
theorem dksX9_not0_5 : cX9_not0.data.toList.drop 117 = dktX9_not0_5 := dk_seg dksX9_not0_4 24 rfl rfl
theorem dX9_not0_0 : decode cX9_not0 0 = .ok (.aload_n 0, 1) := dk_42 (dk_at dksX9_not0_0 0 rfl rfl)
theorem dX9_not0_1 : decode cX9_not0 1 = .ok (.bipush 110, 2) := dk_16 110 (dk_at dksX9_not0_0 1 rfl rfl)
theorem dX9_not0_3 : decode cX9_not0 3 = .ok (.bipush 111, 2) := dk_16 111 (dk_at dksX9_not0_0 3 rfl rfl)
theorem dX9_not0_5 : decode cX9_not0 5 = .ok (.bipush 116, 2) := dk_16 116 (dk_at dksX9_not0_0 5 rfl rfl)
theorem dX9_not0_7 : decode cX9_not0 7 = .ok (.iconst 0, 1) := dk_3 (dk_at dksX9_not0_0 7 rfl rfl)
theorem dX9_not0_8 : decode cX9_not0 8 = .ok (.iconst 0, 1) := dk_3 (dk_at dksX9_not0_0 8 rfl rfl)
theorem dX9_not0_9 : decode cX9_not0 9 = .ok (.iconst 0, 1) := dk_3 (dk_at dksX9_not0_0 9 rfl rfl)
theorem dX9_not0_10 : decode cX9_not0 10 = .ok (.iconst 0, 1) := dk_3 (dk_at dksX9_not0_0 10 rfl rfl)
theorem dX9_not0_11 : decode cX9_not0 11 = .ok (.iconst 0, 1) := dk_3 (dk_at dksX9_not0_0 11 rfl rfl)
theorem dX9_not0_12 : decode cX9_not0 12 = .ok (.invokevirtual 173, 3) := dk_182 0 173 (dk_at dksX9_not0_0 12 rfl rfl)
theorem dX9_not0_15 : decode cX9_not0 15 = .ok (.ifCond .eq 37, 3) := dk_153 0 37 (dk_at dksX9_not0_0 15 rfl rfl)
theorem dX9_not0_18 : decode cX9_not0 18 = .ok (.aload_n 0, 1) := dk_42 (dk_at dksX9_not0_0 18 rfl rfl)
theorem dX9_not0_19 : decode cX9_not0 19 = .ok (.invokevirtual 198, 3) := dk_182 0 198 (dk_at dksX9_not0_0 19 rfl rfl)
theorem dX9_not0_22 : decode cX9_not0 22 = .ok (.ifCond .ne 5, 3) := dk_154 0 5 (dk_at dksX9_not0_1 0 rfl rfl)
theorem dX9_not0_25 : decode cX9_not0 25 = .ok (.iconst 0, 1) := dk_3 (dk_at dksX9_not0_1 3 rfl rfl)
theorem dX9_not0_26 : decode cX9_not0 26 = .ok (.ireturn, 1) := dk_172 (dk_at dksX9_not0_1 4 rfl rfl)
theorem dX9_not0_27 : decode cX9_not0 27 = .ok (.aload_n 0, 1) := dk_42 (dk_at dksX9_not0_1 5 rfl rfl)
theorem dX9_not0_28 : decode cX9_not0 28 = .ok (.invokevirtual 291, 3) := dk_182 1 35 (dk_at dksX9_not0_1 6 rfl rfl)
theorem dX9_not0_31 : decode cX9_not0 31 = .ok (.istore_n 1, 1) := dk_60 (dk_at dksX9_not0_1 9 rfl rfl)
theorem dX9_not0_32 : decode cX9_not0 32 = .ok (.aload_n 0, 1) := dk_42 (dk_at dksX9_not0_1 10 rfl rfl)
theorem dX9_not0_33 : decode cX9_not0 33 = .ok (.dup, 1) := dk_89 (dk_at dksX9_not0_1 11 rfl rfl)
theorem dX9_not0_34 : decode cX9_not0 34 = .ok (.getfield 164, 3) := dk_180 0 164 (dk_at dksX9_not0_1 12 rfl rfl)
theorem dX9_not0_37 : decode cX9_not0 37 = .ok (.iconst 1, 1) := dk_4 (dk_at dksX9_not0_1 15 rfl rfl)
theorem dX9_not0_38 : decode cX9_not0 38 = .ok (.isub, 1) := dk_100 (dk_at dksX9_not0_1 16 rfl rfl)
theorem dX9_not0_39 : decode cX9_not0 39 = .ok (.putfield 164, 3) := dk_181 0 164 (dk_at dksX9_not0_1 17 rfl rfl)
theorem dX9_not0_42 : decode cX9_not0 42 = .ok (.iload_n 1, 1) := dk_27 (dk_at dksX9_not0_1 20 rfl rfl)
theorem dX9_not0_43 : decode cX9_not0 43 = .ok (.ifCond .ne 7, 3) := dk_154 0 7 (dk_at dksX9_not0_1 21 rfl rfl)
theorem dX9_not0_46 : decode cX9_not0 46 = .ok (.iconst 1, 1) := dk_4 (dk_at dksX9_not0_2 0 rfl rfl)
theorem dX9_not0_47 : decode cX9_not0 47 = .ok (.goto 4, 3) := dk_167 0 4 (dk_at dksX9_not0_2 1 rfl rfl)
theorem dX9_not0_50 : decode cX9_not0 50 = .ok (.iconst 0, 1) := dk_3 (dk_at dksX9_not0_2 4 rfl rfl)
theorem dX9_not0_51 : decode cX9_not0 51 = .ok (.ireturn, 1) := dk_172 (dk_at dksX9_not0_2 5 rfl rfl)
theorem dX9_not0_52 : decode cX9_not0 52 = .ok (.aload_n 0, 1) := dk_42 (dk_at dksX9_not0_2 6 rfl rfl)
theorem dX9_not0_53 : decode cX9_not0 53 = .ok (.invokevirtual 306, 3) := dk_182 1 50 (dk_at dksX9_not0_2 7 rfl rfl)
theorem dX9_not0_56 : decode cX9_not0 56 = .ok (.istore_n 1, 1) := dk_60 (dk_at dksX9_not0_2 10 rfl rfl)
theorem dX9_not0_57 : decode cX9_not0 57 = .ok (.aload_n 0, 1) := dk_42 (dk_at dksX9_not0_2 11 rfl rfl)
theorem dX9_not0_58 : decode cX9_not0 58 = .ok (.bipush 60, 2) := dk_16 60 (dk_at dksX9_not0_2 12 rfl rfl)
theorem dX9_not0_60 : decode cX9_not0 60 = .ok (.invokevirtual 195, 3) := dk_182 0 195 (dk_at dksX9_not0_2 14 rfl rfl)
theorem dX9_not0_63 : decode cX9_not0 63 = .ok (.ifCond .ne 14, 3) := dk_154 0 14 (dk_at dksX9_not0_2 17 rfl rfl)
theorem dX9_not0_66 : decode cX9_not0 66 = .ok (.aload_n 0, 1) := dk_42 (dk_at dksX9_not0_2 20 rfl rfl)
theorem dX9_not0_67 : decode cX9_not0 67 = .ok (.bipush 61, 2) := dk_16 61 (dk_at dksX9_not0_2 21 rfl rfl)
theorem dX9_not0_69 : decode cX9_not0 69 = .ok (.invokevirtual 195, 3) := dk_182 0 195 (dk_at dksX9_not0_3 0 rfl rfl)
theorem dX9_not0_72 : decode cX9_not0 72 = .ok (.ifCond .ne 5, 3) := dk_154 0 5 (dk_at dksX9_not0_3 3 rfl rfl)
theorem dX9_not0_75 : decode cX9_not0 75 = .ok (.iload_n 1, 1) := dk_27 (dk_at dksX9_not0_3 6 rfl rfl)
theorem dX9_not0_76 : decode cX9_not0 76 = .ok (.ireturn, 1) := dk_172 (dk_at dksX9_not0_3 7 rfl rfl)
theorem dX9_not0_77 : decode cX9_not0 77 = .ok (.aload_n 0, 1) := dk_42 (dk_at dksX9_not0_3 8 rfl rfl)
theorem dX9_not0_78 : decode cX9_not0 78 = .ok (.getfield 150, 3) := dk_180 0 150 (dk_at dksX9_not0_3 9 rfl rfl)
theorem dX9_not0_81 : decode cX9_not0 81 = .ok (.ldc2_w 217, 3) := dk_20 0 217 (dk_at dksX9_not0_3 12 rfl rfl)
theorem dX9_not0_84 : decode cX9_not0 84 = .ok (.lcmp, 1) := dk_148 (dk_at dksX9_not0_3 15 rfl rfl)
theorem dX9_not0_85 : decode cX9_not0 85 = .ok (.ifCond .ne 7, 3) := dk_154 0 7 (dk_at dksX9_not0_3 16 rfl rfl)
theorem dX9_not0_88 : decode cX9_not0 88 = .ok (.iconst 1, 1) := dk_4 (dk_at dksX9_not0_3 19 rfl rfl)
theorem dX9_not0_89 : decode cX9_not0 89 = .ok (.goto 4, 3) := dk_167 0 4 (dk_at dksX9_not0_3 20 rfl rfl)
theorem dX9_not0_92 : decode cX9_not0 92 = .ok (.iconst 0, 1) := dk_3 (dk_at dksX9_not0_3 23 rfl rfl)
theorem dX9_not0_93 : decode cX9_not0 93 = .ok (.istore_n 2, 1) := dk_61 (dk_at dksX9_not0_4 0 rfl rfl)
theorem dX9_not0_94 : decode cX9_not0 94 = .ok (.aload_n 0, 1) := dk_42 (dk_at dksX9_not0_4 1 rfl rfl)
theorem dX9_not0_95 : decode cX9_not0 95 = .ok (.invokevirtual 170, 3) := dk_182 0 170 (dk_at dksX9_not0_4 2 rfl rfl)
theorem dX9_not0_98 : decode cX9_not0 98 = .ok (.aload_n 0, 1) := dk_42 (dk_at dksX9_not0_4 5 rfl rfl)
theorem dX9_not0_99 : decode cX9_not0 99 = .ok (.invokevirtual 306, 3) := dk_182 1 50 (dk_at dksX9_not0_4 6 rfl rfl)
theorem dX9_not0_102 : decode cX9_not0 102 = .ok (.istore_n 3, 1) := dk_62 (dk_at dksX9_not0_4 9 rfl rfl)
theorem dX9_not0_103 : decode cX9_not0 103 = .ok (.iload_n 2, 1) := dk_28 (dk_at dksX9_not0_4 10 rfl rfl)
theorem dX9_not0_104 : decode cX9_not0 104 = .ok (.ifCond .eq 11, 3) := dk_153 0 11 (dk_at dksX9_not0_4 11 rfl rfl)
theorem dX9_not0_107 : decode cX9_not0 107 = .ok (.iload_n 1, 1) := dk_27 (dk_at dksX9_not0_4 14 rfl rfl)
theorem dX9_not0_108 : decode cX9_not0 108 = .ok (.iload_n 3, 1) := dk_29 (dk_at dksX9_not0_4 15 rfl rfl)
theorem dX9_not0_109 : decode cX9_not0 109 = .ok (.if_icmp .ge 15, 3) := dk_162 0 15 (dk_at dksX9_not0_4 16 rfl rfl)
theorem dX9_not0_112 : decode cX9_not0 112 = .ok (.goto 8, 3) := dk_167 0 8 (dk_at dksX9_not0_4 19 rfl rfl)
theorem dX9_not0_115 : decode cX9_not0 115 = .ok (.iload_n 1, 1) := dk_27 (dk_at dksX9_not0_4 22 rfl rfl)
theorem dX9_not0_116 : decode cX9_not0 116 = .ok (.iload_n 3, 1) := dk_29 (dk_at dksX9_not0_4 23 rfl rfl)
theorem dX9_not0_117 : decode cX9_not0 117 = .ok (.if_icmp .ne 7, 3) := dk_160 0 7 (dk_at dksX9_not0_5 0 rfl rfl)
theorem dX9_not0_120 : decode cX9_not0 120 = .ok (.iconst 1, 1) := dk_4 (dk_at dksX9_not0_5 3 rfl rfl)
theorem dX9_not0_121 : decode cX9_not0 121 = .ok (.goto 4, 3) := dk_167 0 4 (dk_at dksX9_not0_5 4 rfl rfl)
theorem dX9_not0_124 : decode cX9_not0 124 = .ok (.iconst 0, 1) := dk_3 (dk_at dksX9_not0_5 7 rfl rfl)
theorem dX9_not0_125 : decode cX9_not0 125 = .ok (.ireturn, 1) := dk_172 (dk_at dksX9_not0_5 8 rfl rfl)
abbrev cX9_opens : ByteArray := prog_17_method_23_code
def yX9_opens : MethodName := ⟨RX9, "opens", "()Z"⟩
def dkwX9_opens_1 : List UInt8 := [42, 182, 0, 170, 4, 172]
abbrev dktX9_opens_1 : List UInt8 := dkwX9_opens_1 ++ []
def dkwX9_opens_0 : List UInt8 := [42, 180, 0, 164, 8, 160, 0, 9, 42, 182, 0, 167, 3, 172, 42, 89, 180, 0, 164, 4, 96, 181, 0, 164]
abbrev dktX9_opens_0 : List UInt8 := dkwX9_opens_0 ++ dktX9_opens_1
theorem dksX9_opens_0 : cX9_opens.data.toList.drop 0 = dktX9_opens_0 := by decide +kernel
theorem dksX9_opens_1 : cX9_opens.data.toList.drop 24 = dktX9_opens_1 := dk_seg dksX9_opens_0 24 rfl rfl
theorem dX9_opens_0 : decode cX9_opens 0 = .ok (.aload_n 0, 1) := dk_42 (dk_at dksX9_opens_0 0 rfl rfl)
theorem dX9_opens_1 : decode cX9_opens 1 = .ok (.getfield 164, 3) := dk_180 0 164 (dk_at dksX9_opens_0 1 rfl rfl)
theorem dX9_opens_4 : decode cX9_opens 4 = .ok (.iconst 5, 1) := dk_8 (dk_at dksX9_opens_0 4 rfl rfl)
theorem dX9_opens_5 : decode cX9_opens 5 = .ok (.if_icmp .ne 9, 3) := dk_160 0 9 (dk_at dksX9_opens_0 5 rfl rfl)
theorem dX9_opens_8 : decode cX9_opens 8 = .ok (.aload_n 0, 1) := dk_42 (dk_at dksX9_opens_0 8 rfl rfl)
theorem dX9_opens_9 : decode cX9_opens 9 = .ok (.invokevirtual 167, 3) := dk_182 0 167 (dk_at dksX9_opens_0 9 rfl rfl)
theorem dX9_opens_12 : decode cX9_opens 12 = .ok (.iconst 0, 1) := dk_3 (dk_at dksX9_opens_0 12 rfl rfl)
theorem dX9_opens_13 : decode cX9_opens 13 = .ok (.ireturn, 1) := dk_172 (dk_at dksX9_opens_0 13 rfl rfl)
theorem dX9_opens_14 : decode cX9_opens 14 = .ok (.aload_n 0, 1) := dk_42 (dk_at dksX9_opens_0 14 rfl rfl)
theorem dX9_opens_15 : decode cX9_opens 15 = .ok (.dup, 1) := dk_89 (dk_at dksX9_opens_0 15 rfl rfl)
theorem dX9_opens_16 : decode cX9_opens 16 = .ok (.getfield 164, 3) := dk_180 0 164 (dk_at dksX9_opens_0 16 rfl rfl)
theorem dX9_opens_19 : decode cX9_opens 19 = .ok (.iconst 1, 1) := dk_4 (dk_at dksX9_opens_0 19 rfl rfl)
theorem dX9_opens_20 : decode cX9_opens 20 = .ok (.iadd, 1) := dk_96 (dk_at dksX9_opens_0 20 rfl rfl)
theorem dX9_opens_21 : decode cX9_opens 21 = .ok (.putfield 164, 3) := dk_181 0 164 (dk_at dksX9_opens_0 21 rfl rfl)
theorem dX9_opens_24 : decode cX9_opens 24 = .ok (.aload_n 0, 1) := dk_42 (dk_at dksX9_opens_1 0 rfl rfl)
theorem dX9_opens_25 : decode cX9_opens 25 = .ok (.invokevirtual 170, 3) := dk_182 0 170 (dk_at dksX9_opens_1 1 rfl rfl)
theorem dX9_opens_28 : decode cX9_opens 28 = .ok (.iconst 1, 1) := dk_4 (dk_at dksX9_opens_1 4 rfl rfl)
theorem dX9_opens_29 : decode cX9_opens 29 = .ok (.ireturn, 1) := dk_172 (dk_at dksX9_opens_1 5 rfl rfl)
abbrev cX9_not1 : ByteArray := prog_17_method_52_code
def yX9_not1 : MethodName := ⟨RX9, "not1", "()I"⟩
def dkwX9_not1_5 : List UInt8 := [160, 0, 7, 4, 167, 0, 4, 3, 172]
abbrev dktX9_not1_5 : List UInt8 := dkwX9_not1_5 ++ []
def dkwX9_not1_4 : List UInt8 := [61, 42, 182, 0, 170, 42, 182, 1, 32, 62, 28, 153, 0, 11, 27, 29, 162, 0, 15, 167, 0, 8, 27, 29]
abbrev dktX9_not1_4 : List UInt8 := dkwX9_not1_4 ++ dktX9_not1_5
def dkwX9_not1_3 : List UInt8 := [182, 0, 195, 154, 0, 5, 27, 172, 42, 180, 0, 150, 20, 0, 217, 148, 154, 0, 7, 4, 167, 0, 4, 3]
abbrev dktX9_not1_3 : List UInt8 := dkwX9_not1_3 ++ dktX9_not1_4
def dkwX9_not1_2 : List UInt8 := [4, 167, 0, 4, 3, 172, 42, 182, 1, 32, 60, 42, 16, 60, 182, 0, 195, 154, 0, 14, 42, 16, 61]
abbrev dktX9_not1_2 : List UInt8 := dkwX9_not1_2 ++ dktX9_not1_3
def dkwX9_not1_1 : List UInt8 := [154, 0, 5, 3, 172, 42, 182, 1, 17, 60, 42, 89, 180, 0, 164, 4, 100, 181, 0, 164, 27, 154, 0, 7]
abbrev dktX9_not1_1 : List UInt8 := dkwX9_not1_1 ++ dktX9_not1_2
def dkwX9_not1_0 : List UInt8 := [42, 16, 110, 16, 111, 16, 116, 3, 3, 3, 3, 3, 182, 0, 173, 153, 0, 37, 42, 182, 0, 198]
abbrev dktX9_not1_0 : List UInt8 := dkwX9_not1_0 ++ dktX9_not1_1
theorem dksX9_not1_0 : cX9_not1.data.toList.drop 0 = dktX9_not1_0 := by decide +kernel
theorem dksX9_not1_1 : cX9_not1.data.toList.drop 22 = dktX9_not1_1 := dk_seg dksX9_not1_0 22 rfl rfl
theorem dksX9_not1_2 : cX9_not1.data.toList.drop 46 = dktX9_not1_2 := dk_seg dksX9_not1_1 24 rfl rfl
theorem dksX9_not1_3 : cX9_not1.data.toList.drop 69 = dktX9_not1_3 := dk_seg dksX9_not1_2 23 rfl rfl
theorem dksX9_not1_4 : cX9_not1.data.toList.drop 93 = dktX9_not1_4 := dk_seg dksX9_not1_3 24 rfl rfl
theorem dksX9_not1_5 : cX9_not1.data.toList.drop 117 = dktX9_not1_5 := dk_seg dksX9_not1_4 24 rfl rfl
theorem dX9_not1_0 : decode cX9_not1 0 = .ok (.aload_n 0, 1) := dk_42 (dk_at dksX9_not1_0 0 rfl rfl)
theorem dX9_not1_1 : decode cX9_not1 1 = .ok (.bipush 110, 2) := dk_16 110 (dk_at dksX9_not1_0 1 rfl rfl)
theorem dX9_not1_3 : decode cX9_not1 3 = .ok (.bipush 111, 2) := dk_16 111 (dk_at dksX9_not1_0 3 rfl rfl)
theorem dX9_not1_5 : decode cX9_not1 5 = .ok (.bipush 116, 2) := dk_16 116 (dk_at dksX9_not1_0 5 rfl rfl)
theorem dX9_not1_7 : decode cX9_not1 7 = .ok (.iconst 0, 1) := dk_3 (dk_at dksX9_not1_0 7 rfl rfl)
theorem dX9_not1_8 : decode cX9_not1 8 = .ok (.iconst 0, 1) := dk_3 (dk_at dksX9_not1_0 8 rfl rfl)
theorem dX9_not1_9 : decode cX9_not1 9 = .ok (.iconst 0, 1) := dk_3 (dk_at dksX9_not1_0 9 rfl rfl)
theorem dX9_not1_10 : decode cX9_not1 10 = .ok (.iconst 0, 1) := dk_3 (dk_at dksX9_not1_0 10 rfl rfl)
theorem dX9_not1_11 : decode cX9_not1 11 = .ok (.iconst 0, 1) := dk_3 (dk_at dksX9_not1_0 11 rfl rfl)
theorem dX9_not1_12 : decode cX9_not1 12 = .ok (.invokevirtual 173, 3) := dk_182 0 173 (dk_at dksX9_not1_0 12 rfl rfl)
theorem dX9_not1_15 : decode cX9_not1 15 = .ok (.ifCond .eq 37, 3) := dk_153 0 37 (dk_at dksX9_not1_0 15 rfl rfl)
theorem dX9_not1_18 : decode cX9_not1 18 = .ok (.aload_n 0, 1) := dk_42 (dk_at dksX9_not1_0 18 rfl rfl)
theorem dX9_not1_19 : decode cX9_not1 19 = .ok (.invokevirtual 198, 3) := dk_182 0 198 (dk_at dksX9_not1_0 19 rfl rfl)
theorem dX9_not1_22 : decode cX9_not1 22 = .ok (.ifCond .ne 5, 3) := dk_154 0 5 (dk_at dksX9_not1_1 0 rfl rfl)
theorem dX9_not1_25 : decode cX9_not1 25 = .ok (.iconst 0, 1) := dk_3 (dk_at dksX9_not1_1 3 rfl rfl)
theorem dX9_not1_26 : decode cX9_not1 26 = .ok (.ireturn, 1) := dk_172 (dk_at dksX9_not1_1 4 rfl rfl)
theorem dX9_not1_27 : decode cX9_not1 27 = .ok (.aload_n 0, 1) := dk_42 (dk_at dksX9_not1_1 5 rfl rfl)
theorem dX9_not1_28 : decode cX9_not1 28 = .ok (.invokevirtual 273, 3) := dk_182 1 17 (dk_at dksX9_not1_1 6 rfl rfl)
theorem dX9_not1_31 : decode cX9_not1 31 = .ok (.istore_n 1, 1) := dk_60 (dk_at dksX9_not1_1 9 rfl rfl)
theorem dX9_not1_32 : decode cX9_not1 32 = .ok (.aload_n 0, 1) := dk_42 (dk_at dksX9_not1_1 10 rfl rfl)
theorem dX9_not1_33 : decode cX9_not1 33 = .ok (.dup, 1) := dk_89 (dk_at dksX9_not1_1 11 rfl rfl)
theorem dX9_not1_34 : decode cX9_not1 34 = .ok (.getfield 164, 3) := dk_180 0 164 (dk_at dksX9_not1_1 12 rfl rfl)
theorem dX9_not1_37 : decode cX9_not1 37 = .ok (.iconst 1, 1) := dk_4 (dk_at dksX9_not1_1 15 rfl rfl)
theorem dX9_not1_38 : decode cX9_not1 38 = .ok (.isub, 1) := dk_100 (dk_at dksX9_not1_1 16 rfl rfl)
theorem dX9_not1_39 : decode cX9_not1 39 = .ok (.putfield 164, 3) := dk_181 0 164 (dk_at dksX9_not1_1 17 rfl rfl)
theorem dX9_not1_42 : decode cX9_not1 42 = .ok (.iload_n 1, 1) := dk_27 (dk_at dksX9_not1_1 20 rfl rfl)
theorem dX9_not1_43 : decode cX9_not1 43 = .ok (.ifCond .ne 7, 3) := dk_154 0 7 (dk_at dksX9_not1_1 21 rfl rfl)
theorem dX9_not1_46 : decode cX9_not1 46 = .ok (.iconst 1, 1) := dk_4 (dk_at dksX9_not1_2 0 rfl rfl)
theorem dX9_not1_47 : decode cX9_not1 47 = .ok (.goto 4, 3) := dk_167 0 4 (dk_at dksX9_not1_2 1 rfl rfl)
theorem dX9_not1_50 : decode cX9_not1 50 = .ok (.iconst 0, 1) := dk_3 (dk_at dksX9_not1_2 4 rfl rfl)
theorem dX9_not1_51 : decode cX9_not1 51 = .ok (.ireturn, 1) := dk_172 (dk_at dksX9_not1_2 5 rfl rfl)
theorem dX9_not1_52 : decode cX9_not1 52 = .ok (.aload_n 0, 1) := dk_42 (dk_at dksX9_not1_2 6 rfl rfl)
theorem dX9_not1_53 : decode cX9_not1 53 = .ok (.invokevirtual 288, 3) := dk_182 1 32 (dk_at dksX9_not1_2 7 rfl rfl)
theorem dX9_not1_56 : decode cX9_not1 56 = .ok (.istore_n 1, 1) := dk_60 (dk_at dksX9_not1_2 10 rfl rfl)
theorem dX9_not1_57 : decode cX9_not1 57 = .ok (.aload_n 0, 1) := dk_42 (dk_at dksX9_not1_2 11 rfl rfl)
theorem dX9_not1_58 : decode cX9_not1 58 = .ok (.bipush 60, 2) := dk_16 60 (dk_at dksX9_not1_2 12 rfl rfl)
theorem dX9_not1_60 : decode cX9_not1 60 = .ok (.invokevirtual 195, 3) := dk_182 0 195 (dk_at dksX9_not1_2 14 rfl rfl)
theorem dX9_not1_63 : decode cX9_not1 63 = .ok (.ifCond .ne 14, 3) := dk_154 0 14 (dk_at dksX9_not1_2 17 rfl rfl)
theorem dX9_not1_66 : decode cX9_not1 66 = .ok (.aload_n 0, 1) := dk_42 (dk_at dksX9_not1_2 20 rfl rfl)
theorem dX9_not1_67 : decode cX9_not1 67 = .ok (.bipush 61, 2) := dk_16 61 (dk_at dksX9_not1_2 21 rfl rfl)
theorem dX9_not1_69 : decode cX9_not1 69 = .ok (.invokevirtual 195, 3) := dk_182 0 195 (dk_at dksX9_not1_3 0 rfl rfl)
theorem dX9_not1_72 : decode cX9_not1 72 = .ok (.ifCond .ne 5, 3) := dk_154 0 5 (dk_at dksX9_not1_3 3 rfl rfl)
theorem dX9_not1_75 : decode cX9_not1 75 = .ok (.iload_n 1, 1) := dk_27 (dk_at dksX9_not1_3 6 rfl rfl)
theorem dX9_not1_76 : decode cX9_not1 76 = .ok (.ireturn, 1) := dk_172 (dk_at dksX9_not1_3 7 rfl rfl)
theorem dX9_not1_77 : decode cX9_not1 77 = .ok (.aload_n 0, 1) := dk_42 (dk_at dksX9_not1_3 8 rfl rfl)
theorem dX9_not1_78 : decode cX9_not1 78 = .ok (.getfield 150, 3) := dk_180 0 150 (dk_at dksX9_not1_3 9 rfl rfl)
theorem dX9_not1_81 : decode cX9_not1 81 = .ok (.ldc2_w 217, 3) := dk_20 0 217 (dk_at dksX9_not1_3 12 rfl rfl)
theorem dX9_not1_84 : decode cX9_not1 84 = .ok (.lcmp, 1) := dk_148 (dk_at dksX9_not1_3 15 rfl rfl)
theorem dX9_not1_85 : decode cX9_not1 85 = .ok (.ifCond .ne 7, 3) := dk_154 0 7 (dk_at dksX9_not1_3 16 rfl rfl)
theorem dX9_not1_88 : decode cX9_not1 88 = .ok (.iconst 1, 1) := dk_4 (dk_at dksX9_not1_3 19 rfl rfl)
theorem dX9_not1_89 : decode cX9_not1 89 = .ok (.goto 4, 3) := dk_167 0 4 (dk_at dksX9_not1_3 20 rfl rfl)
theorem dX9_not1_92 : decode cX9_not1 92 = .ok (.iconst 0, 1) := dk_3 (dk_at dksX9_not1_3 23 rfl rfl)
theorem dX9_not1_93 : decode cX9_not1 93 = .ok (.istore_n 2, 1) := dk_61 (dk_at dksX9_not1_4 0 rfl rfl)
theorem dX9_not1_94 : decode cX9_not1 94 = .ok (.aload_n 0, 1) := dk_42 (dk_at dksX9_not1_4 1 rfl rfl)
theorem dX9_not1_95 : decode cX9_not1 95 = .ok (.invokevirtual 170, 3) := dk_182 0 170 (dk_at dksX9_not1_4 2 rfl rfl)
theorem dX9_not1_98 : decode cX9_not1 98 = .ok (.aload_n 0, 1) := dk_42 (dk_at dksX9_not1_4 5 rfl rfl)
theorem dX9_not1_99 : decode cX9_not1 99 = .ok (.invokevirtual 288, 3) := dk_182 1 32 (dk_at dksX9_not1_4 6 rfl rfl)
theorem dX9_not1_102 : decode cX9_not1 102 = .ok (.istore_n 3, 1) := dk_62 (dk_at dksX9_not1_4 9 rfl rfl)
theorem dX9_not1_103 : decode cX9_not1 103 = .ok (.iload_n 2, 1) := dk_28 (dk_at dksX9_not1_4 10 rfl rfl)
theorem dX9_not1_104 : decode cX9_not1 104 = .ok (.ifCond .eq 11, 3) := dk_153 0 11 (dk_at dksX9_not1_4 11 rfl rfl)
theorem dX9_not1_107 : decode cX9_not1 107 = .ok (.iload_n 1, 1) := dk_27 (dk_at dksX9_not1_4 14 rfl rfl)
theorem dX9_not1_108 : decode cX9_not1 108 = .ok (.iload_n 3, 1) := dk_29 (dk_at dksX9_not1_4 15 rfl rfl)
theorem dX9_not1_109 : decode cX9_not1 109 = .ok (.if_icmp .ge 15, 3) := dk_162 0 15 (dk_at dksX9_not1_4 16 rfl rfl)
theorem dX9_not1_112 : decode cX9_not1 112 = .ok (.goto 8, 3) := dk_167 0 8 (dk_at dksX9_not1_4 19 rfl rfl)
theorem dX9_not1_115 : decode cX9_not1 115 = .ok (.iload_n 1, 1) := dk_27 (dk_at dksX9_not1_4 22 rfl rfl)
theorem dX9_not1_116 : decode cX9_not1 116 = .ok (.iload_n 3, 1) := dk_29 (dk_at dksX9_not1_4 23 rfl rfl)
theorem dX9_not1_117 : decode cX9_not1 117 = .ok (.if_icmp .ne 7, 3) := dk_160 0 7 (dk_at dksX9_not1_5 0 rfl rfl)
theorem dX9_not1_120 : decode cX9_not1 120 = .ok (.iconst 1, 1) := dk_4 (dk_at dksX9_not1_5 3 rfl rfl)
theorem dX9_not1_121 : decode cX9_not1 121 = .ok (.goto 4, 3) := dk_167 0 4 (dk_at dksX9_not1_5 4 rfl rfl)
theorem dX9_not1_124 : decode cX9_not1 124 = .ok (.iconst 0, 1) := dk_3 (dk_at dksX9_not1_5 7 rfl rfl)
theorem dX9_not1_125 : decode cX9_not1 125 = .ok (.ireturn, 1) := dk_172 (dk_at dksX9_not1_5 8 rfl rfl)
abbrev cX9_not2 : ByteArray := prog_17_method_46_code
def yX9_not2 : MethodName := ⟨RX9, "not2", "()I"⟩
def dkwX9_not2_5 : List UInt8 := [160, 0, 7, 4, 167, 0, 4, 3, 172]
abbrev dktX9_not2_5 : List UInt8 := dkwX9_not2_5 ++ []
def dkwX9_not2_4 : List UInt8 := [61, 42, 182, 0, 170, 42, 182, 1, 14, 62, 28, 153, 0, 11, 27, 29, 162, 0, 15, 167, 0, 8, 27, 29]
abbrev dktX9_not2_4 : List UInt8 := dkwX9_not2_4 ++ dktX9_not2_5
def dkwX9_not2_3 : List UInt8 := [182, 0, 195, 154, 0, 5, 27, 172, 42, 180, 0, 150, 20, 0, 217, 148, 154, 0, 7, 4, 167, 0, 4, 3]
abbrev dktX9_not2_3 : List UInt8 := dkwX9_not2_3 ++ dktX9_not2_4
def dkwX9_not2_2 : List UInt8 := [4, 167, 0, 4, 3, 172, 42, 182, 1, 14, 60, 42, 16, 60, 182, 0, 195, 154, 0, 14, 42, 16, 61]
abbrev dktX9_not2_2 : List UInt8 := dkwX9_not2_2 ++ dktX9_not2_3
def dkwX9_not2_1 : List UInt8 := [154, 0, 5, 3, 172, 42, 182, 0, 255, 60, 42, 89, 180, 0, 164, 4, 100, 181, 0, 164, 27, 154, 0, 7]
abbrev dktX9_not2_1 : List UInt8 := dkwX9_not2_1 ++ dktX9_not2_2
def dkwX9_not2_0 : List UInt8 := [42, 16, 110, 16, 111, 16, 116, 3, 3, 3, 3, 3, 182, 0, 173, 153, 0, 37, 42, 182, 0, 198]
abbrev dktX9_not2_0 : List UInt8 := dkwX9_not2_0 ++ dktX9_not2_1
theorem dksX9_not2_0 : cX9_not2.data.toList.drop 0 = dktX9_not2_0 := by decide +kernel
theorem dksX9_not2_1 : cX9_not2.data.toList.drop 22 = dktX9_not2_1 := dk_seg dksX9_not2_0 22 rfl rfl
theorem dksX9_not2_2 : cX9_not2.data.toList.drop 46 = dktX9_not2_2 := dk_seg dksX9_not2_1 24 rfl rfl
theorem dksX9_not2_3 : cX9_not2.data.toList.drop 69 = dktX9_not2_3 := dk_seg dksX9_not2_2 23 rfl rfl
theorem dksX9_not2_4 : cX9_not2.data.toList.drop 93 = dktX9_not2_4 := dk_seg dksX9_not2_3 24 rfl rfl
theorem dksX9_not2_5 : cX9_not2.data.toList.drop 117 = dktX9_not2_5 := dk_seg dksX9_not2_4 24 rfl rfl
theorem dX9_not2_0 : decode cX9_not2 0 = .ok (.aload_n 0, 1) := dk_42 (dk_at dksX9_not2_0 0 rfl rfl)
theorem dX9_not2_1 : decode cX9_not2 1 = .ok (.bipush 110, 2) := dk_16 110 (dk_at dksX9_not2_0 1 rfl rfl)
theorem dX9_not2_3 : decode cX9_not2 3 = .ok (.bipush 111, 2) := dk_16 111 (dk_at dksX9_not2_0 3 rfl rfl)
theorem dX9_not2_5 : decode cX9_not2 5 = .ok (.bipush 116, 2) := dk_16 116 (dk_at dksX9_not2_0 5 rfl rfl)
theorem dX9_not2_7 : decode cX9_not2 7 = .ok (.iconst 0, 1) := dk_3 (dk_at dksX9_not2_0 7 rfl rfl)
theorem dX9_not2_8 : decode cX9_not2 8 = .ok (.iconst 0, 1) := dk_3 (dk_at dksX9_not2_0 8 rfl rfl)
theorem dX9_not2_9 : decode cX9_not2 9 = .ok (.iconst 0, 1) := dk_3 (dk_at dksX9_not2_0 9 rfl rfl)
theorem dX9_not2_10 : decode cX9_not2 10 = .ok (.iconst 0, 1) := dk_3 (dk_at dksX9_not2_0 10 rfl rfl)
theorem dX9_not2_11 : decode cX9_not2 11 = .ok (.iconst 0, 1) := dk_3 (dk_at dksX9_not2_0 11 rfl rfl)
theorem dX9_not2_12 : decode cX9_not2 12 = .ok (.invokevirtual 173, 3) := dk_182 0 173 (dk_at dksX9_not2_0 12 rfl rfl)
theorem dX9_not2_15 : decode cX9_not2 15 = .ok (.ifCond .eq 37, 3) := dk_153 0 37 (dk_at dksX9_not2_0 15 rfl rfl)
theorem dX9_not2_18 : decode cX9_not2 18 = .ok (.aload_n 0, 1) := dk_42 (dk_at dksX9_not2_0 18 rfl rfl)
theorem dX9_not2_19 : decode cX9_not2 19 = .ok (.invokevirtual 198, 3) := dk_182 0 198 (dk_at dksX9_not2_0 19 rfl rfl)
theorem dX9_not2_22 : decode cX9_not2 22 = .ok (.ifCond .ne 5, 3) := dk_154 0 5 (dk_at dksX9_not2_1 0 rfl rfl)
theorem dX9_not2_25 : decode cX9_not2 25 = .ok (.iconst 0, 1) := dk_3 (dk_at dksX9_not2_1 3 rfl rfl)
theorem dX9_not2_26 : decode cX9_not2 26 = .ok (.ireturn, 1) := dk_172 (dk_at dksX9_not2_1 4 rfl rfl)
theorem dX9_not2_27 : decode cX9_not2 27 = .ok (.aload_n 0, 1) := dk_42 (dk_at dksX9_not2_1 5 rfl rfl)
theorem dX9_not2_28 : decode cX9_not2 28 = .ok (.invokevirtual 255, 3) := dk_182 0 255 (dk_at dksX9_not2_1 6 rfl rfl)
theorem dX9_not2_31 : decode cX9_not2 31 = .ok (.istore_n 1, 1) := dk_60 (dk_at dksX9_not2_1 9 rfl rfl)
theorem dX9_not2_32 : decode cX9_not2 32 = .ok (.aload_n 0, 1) := dk_42 (dk_at dksX9_not2_1 10 rfl rfl)
theorem dX9_not2_33 : decode cX9_not2 33 = .ok (.dup, 1) := dk_89 (dk_at dksX9_not2_1 11 rfl rfl)
theorem dX9_not2_34 : decode cX9_not2 34 = .ok (.getfield 164, 3) := dk_180 0 164 (dk_at dksX9_not2_1 12 rfl rfl)
theorem dX9_not2_37 : decode cX9_not2 37 = .ok (.iconst 1, 1) := dk_4 (dk_at dksX9_not2_1 15 rfl rfl)
theorem dX9_not2_38 : decode cX9_not2 38 = .ok (.isub, 1) := dk_100 (dk_at dksX9_not2_1 16 rfl rfl)
theorem dX9_not2_39 : decode cX9_not2 39 = .ok (.putfield 164, 3) := dk_181 0 164 (dk_at dksX9_not2_1 17 rfl rfl)
theorem dX9_not2_42 : decode cX9_not2 42 = .ok (.iload_n 1, 1) := dk_27 (dk_at dksX9_not2_1 20 rfl rfl)
theorem dX9_not2_43 : decode cX9_not2 43 = .ok (.ifCond .ne 7, 3) := dk_154 0 7 (dk_at dksX9_not2_1 21 rfl rfl)
theorem dX9_not2_46 : decode cX9_not2 46 = .ok (.iconst 1, 1) := dk_4 (dk_at dksX9_not2_2 0 rfl rfl)
theorem dX9_not2_47 : decode cX9_not2 47 = .ok (.goto 4, 3) := dk_167 0 4 (dk_at dksX9_not2_2 1 rfl rfl)
theorem dX9_not2_50 : decode cX9_not2 50 = .ok (.iconst 0, 1) := dk_3 (dk_at dksX9_not2_2 4 rfl rfl)
theorem dX9_not2_51 : decode cX9_not2 51 = .ok (.ireturn, 1) := dk_172 (dk_at dksX9_not2_2 5 rfl rfl)
theorem dX9_not2_52 : decode cX9_not2 52 = .ok (.aload_n 0, 1) := dk_42 (dk_at dksX9_not2_2 6 rfl rfl)
theorem dX9_not2_53 : decode cX9_not2 53 = .ok (.invokevirtual 270, 3) := dk_182 1 14 (dk_at dksX9_not2_2 7 rfl rfl)
theorem dX9_not2_56 : decode cX9_not2 56 = .ok (.istore_n 1, 1) := dk_60 (dk_at dksX9_not2_2 10 rfl rfl)
theorem dX9_not2_57 : decode cX9_not2 57 = .ok (.aload_n 0, 1) := dk_42 (dk_at dksX9_not2_2 11 rfl rfl)
theorem dX9_not2_58 : decode cX9_not2 58 = .ok (.bipush 60, 2) := dk_16 60 (dk_at dksX9_not2_2 12 rfl rfl)
theorem dX9_not2_60 : decode cX9_not2 60 = .ok (.invokevirtual 195, 3) := dk_182 0 195 (dk_at dksX9_not2_2 14 rfl rfl)
theorem dX9_not2_63 : decode cX9_not2 63 = .ok (.ifCond .ne 14, 3) := dk_154 0 14 (dk_at dksX9_not2_2 17 rfl rfl)
theorem dX9_not2_66 : decode cX9_not2 66 = .ok (.aload_n 0, 1) := dk_42 (dk_at dksX9_not2_2 20 rfl rfl)
theorem dX9_not2_67 : decode cX9_not2 67 = .ok (.bipush 61, 2) := dk_16 61 (dk_at dksX9_not2_2 21 rfl rfl)
theorem dX9_not2_69 : decode cX9_not2 69 = .ok (.invokevirtual 195, 3) := dk_182 0 195 (dk_at dksX9_not2_3 0 rfl rfl)
theorem dX9_not2_72 : decode cX9_not2 72 = .ok (.ifCond .ne 5, 3) := dk_154 0 5 (dk_at dksX9_not2_3 3 rfl rfl)
theorem dX9_not2_75 : decode cX9_not2 75 = .ok (.iload_n 1, 1) := dk_27 (dk_at dksX9_not2_3 6 rfl rfl)
theorem dX9_not2_76 : decode cX9_not2 76 = .ok (.ireturn, 1) := dk_172 (dk_at dksX9_not2_3 7 rfl rfl)
theorem dX9_not2_77 : decode cX9_not2 77 = .ok (.aload_n 0, 1) := dk_42 (dk_at dksX9_not2_3 8 rfl rfl)
theorem dX9_not2_78 : decode cX9_not2 78 = .ok (.getfield 150, 3) := dk_180 0 150 (dk_at dksX9_not2_3 9 rfl rfl)
theorem dX9_not2_81 : decode cX9_not2 81 = .ok (.ldc2_w 217, 3) := dk_20 0 217 (dk_at dksX9_not2_3 12 rfl rfl)
theorem dX9_not2_84 : decode cX9_not2 84 = .ok (.lcmp, 1) := dk_148 (dk_at dksX9_not2_3 15 rfl rfl)
theorem dX9_not2_85 : decode cX9_not2 85 = .ok (.ifCond .ne 7, 3) := dk_154 0 7 (dk_at dksX9_not2_3 16 rfl rfl)
theorem dX9_not2_88 : decode cX9_not2 88 = .ok (.iconst 1, 1) := dk_4 (dk_at dksX9_not2_3 19 rfl rfl)
theorem dX9_not2_89 : decode cX9_not2 89 = .ok (.goto 4, 3) := dk_167 0 4 (dk_at dksX9_not2_3 20 rfl rfl)
theorem dX9_not2_92 : decode cX9_not2 92 = .ok (.iconst 0, 1) := dk_3 (dk_at dksX9_not2_3 23 rfl rfl)
theorem dX9_not2_93 : decode cX9_not2 93 = .ok (.istore_n 2, 1) := dk_61 (dk_at dksX9_not2_4 0 rfl rfl)
theorem dX9_not2_94 : decode cX9_not2 94 = .ok (.aload_n 0, 1) := dk_42 (dk_at dksX9_not2_4 1 rfl rfl)
theorem dX9_not2_95 : decode cX9_not2 95 = .ok (.invokevirtual 170, 3) := dk_182 0 170 (dk_at dksX9_not2_4 2 rfl rfl)
theorem dX9_not2_98 : decode cX9_not2 98 = .ok (.aload_n 0, 1) := dk_42 (dk_at dksX9_not2_4 5 rfl rfl)
theorem dX9_not2_99 : decode cX9_not2 99 = .ok (.invokevirtual 270, 3) := dk_182 1 14 (dk_at dksX9_not2_4 6 rfl rfl)
theorem dX9_not2_102 : decode cX9_not2 102 = .ok (.istore_n 3, 1) := dk_62 (dk_at dksX9_not2_4 9 rfl rfl)
theorem dX9_not2_103 : decode cX9_not2 103 = .ok (.iload_n 2, 1) := dk_28 (dk_at dksX9_not2_4 10 rfl rfl)
theorem dX9_not2_104 : decode cX9_not2 104 = .ok (.ifCond .eq 11, 3) := dk_153 0 11 (dk_at dksX9_not2_4 11 rfl rfl)
theorem dX9_not2_107 : decode cX9_not2 107 = .ok (.iload_n 1, 1) := dk_27 (dk_at dksX9_not2_4 14 rfl rfl)
theorem dX9_not2_108 : decode cX9_not2 108 = .ok (.iload_n 3, 1) := dk_29 (dk_at dksX9_not2_4 15 rfl rfl)
theorem dX9_not2_109 : decode cX9_not2 109 = .ok (.if_icmp .ge 15, 3) := dk_162 0 15 (dk_at dksX9_not2_4 16 rfl rfl)
theorem dX9_not2_112 : decode cX9_not2 112 = .ok (.goto 8, 3) := dk_167 0 8 (dk_at dksX9_not2_4 19 rfl rfl)
theorem dX9_not2_115 : decode cX9_not2 115 = .ok (.iload_n 1, 1) := dk_27 (dk_at dksX9_not2_4 22 rfl rfl)
theorem dX9_not2_116 : decode cX9_not2 116 = .ok (.iload_n 3, 1) := dk_29 (dk_at dksX9_not2_4 23 rfl rfl)
theorem dX9_not2_117 : decode cX9_not2 117 = .ok (.if_icmp .ne 7, 3) := dk_160 0 7 (dk_at dksX9_not2_5 0 rfl rfl)
theorem dX9_not2_120 : decode cX9_not2 120 = .ok (.iconst 1, 1) := dk_4 (dk_at dksX9_not2_5 3 rfl rfl)
theorem dX9_not2_121 : decode cX9_not2 121 = .ok (.goto 4, 3) := dk_167 0 4 (dk_at dksX9_not2_5 4 rfl rfl)
theorem dX9_not2_124 : decode cX9_not2 124 = .ok (.iconst 0, 1) := dk_3 (dk_at dksX9_not2_5 7 rfl rfl)
theorem dX9_not2_125 : decode cX9_not2 125 = .ok (.ireturn, 1) := dk_172 (dk_at dksX9_not2_5 8 rfl rfl)
abbrev cX9_not3 : ByteArray := prog_17_method_40_code
def yX9_not3 : MethodName := ⟨RX9, "not3", "()I"⟩
def dkwX9_not3_5 : List UInt8 := [160, 0, 7, 4, 167, 0, 4, 3, 172]
abbrev dktX9_not3_5 : List UInt8 := dkwX9_not3_5 ++ []
def dkwX9_not3_4 : List UInt8 := [61, 42, 182, 0, 170, 42, 182, 0, 252, 62, 28, 153, 0, 11, 27, 29, 162, 0, 15, 167, 0, 8, 27, 29]
abbrev dktX9_not3_4 : List UInt8 := dkwX9_not3_4 ++ dktX9_not3_5
def dkwX9_not3_3 : List UInt8 := [182, 0, 195, 154, 0, 5, 27, 172, 42, 180, 0, 150, 20, 0, 217, 148, 154, 0, 7, 4, 167, 0, 4, 3]
abbrev dktX9_not3_3 : List UInt8 := dkwX9_not3_3 ++ dktX9_not3_4
def dkwX9_not3_2 : List UInt8 := [4, 167, 0, 4, 3, 172, 42, 182, 0, 252, 60, 42, 16, 60, 182, 0, 195, 154, 0, 14, 42, 16, 61]
abbrev dktX9_not3_2 : List UInt8 := dkwX9_not3_2 ++ dktX9_not3_3
def dkwX9_not3_1 : List UInt8 := [154, 0, 5, 3, 172, 42, 182, 0, 237, 60, 42, 89, 180, 0, 164, 4, 100, 181, 0, 164, 27, 154, 0, 7]
abbrev dktX9_not3_1 : List UInt8 := dkwX9_not3_1 ++ dktX9_not3_2
def dkwX9_not3_0 : List UInt8 := [42, 16, 110, 16, 111, 16, 116, 3, 3, 3, 3, 3, 182, 0, 173, 153, 0, 37, 42, 182, 0, 198]
abbrev dktX9_not3_0 : List UInt8 := dkwX9_not3_0 ++ dktX9_not3_1
theorem dksX9_not3_0 : cX9_not3.data.toList.drop 0 = dktX9_not3_0 := by decide +kernel
theorem dksX9_not3_1 : cX9_not3.data.toList.drop 22 = dktX9_not3_1 := dk_seg dksX9_not3_0 22 rfl rfl
theorem dksX9_not3_2 : cX9_not3.data.toList.drop 46 = dktX9_not3_2 := dk_seg dksX9_not3_1 24 rfl rfl
theorem dksX9_not3_3 : cX9_not3.data.toList.drop 69 = dktX9_not3_3 := dk_seg dksX9_not3_2 23 rfl rfl
theorem dksX9_not3_4 : cX9_not3.data.toList.drop 93 = dktX9_not3_4 := dk_seg dksX9_not3_3 24 rfl rfl
theorem dksX9_not3_5 : cX9_not3.data.toList.drop 117 = dktX9_not3_5 := dk_seg dksX9_not3_4 24 rfl rfl
theorem dX9_not3_0 : decode cX9_not3 0 = .ok (.aload_n 0, 1) := dk_42 (dk_at dksX9_not3_0 0 rfl rfl)
theorem dX9_not3_1 : decode cX9_not3 1 = .ok (.bipush 110, 2) := dk_16 110 (dk_at dksX9_not3_0 1 rfl rfl)
theorem dX9_not3_3 : decode cX9_not3 3 = .ok (.bipush 111, 2) := dk_16 111 (dk_at dksX9_not3_0 3 rfl rfl)
theorem dX9_not3_5 : decode cX9_not3 5 = .ok (.bipush 116, 2) := dk_16 116 (dk_at dksX9_not3_0 5 rfl rfl)
theorem dX9_not3_7 : decode cX9_not3 7 = .ok (.iconst 0, 1) := dk_3 (dk_at dksX9_not3_0 7 rfl rfl)
theorem dX9_not3_8 : decode cX9_not3 8 = .ok (.iconst 0, 1) := dk_3 (dk_at dksX9_not3_0 8 rfl rfl)
theorem dX9_not3_9 : decode cX9_not3 9 = .ok (.iconst 0, 1) := dk_3 (dk_at dksX9_not3_0 9 rfl rfl)
theorem dX9_not3_10 : decode cX9_not3 10 = .ok (.iconst 0, 1) := dk_3 (dk_at dksX9_not3_0 10 rfl rfl)
theorem dX9_not3_11 : decode cX9_not3 11 = .ok (.iconst 0, 1) := dk_3 (dk_at dksX9_not3_0 11 rfl rfl)
theorem dX9_not3_12 : decode cX9_not3 12 = .ok (.invokevirtual 173, 3) := dk_182 0 173 (dk_at dksX9_not3_0 12 rfl rfl)
theorem dX9_not3_15 : decode cX9_not3 15 = .ok (.ifCond .eq 37, 3) := dk_153 0 37 (dk_at dksX9_not3_0 15 rfl rfl)
theorem dX9_not3_18 : decode cX9_not3 18 = .ok (.aload_n 0, 1) := dk_42 (dk_at dksX9_not3_0 18 rfl rfl)
theorem dX9_not3_19 : decode cX9_not3 19 = .ok (.invokevirtual 198, 3) := dk_182 0 198 (dk_at dksX9_not3_0 19 rfl rfl)
theorem dX9_not3_22 : decode cX9_not3 22 = .ok (.ifCond .ne 5, 3) := dk_154 0 5 (dk_at dksX9_not3_1 0 rfl rfl)
theorem dX9_not3_25 : decode cX9_not3 25 = .ok (.iconst 0, 1) := dk_3 (dk_at dksX9_not3_1 3 rfl rfl)
theorem dX9_not3_26 : decode cX9_not3 26 = .ok (.ireturn, 1) := dk_172 (dk_at dksX9_not3_1 4 rfl rfl)
theorem dX9_not3_27 : decode cX9_not3 27 = .ok (.aload_n 0, 1) := dk_42 (dk_at dksX9_not3_1 5 rfl rfl)
theorem dX9_not3_28 : decode cX9_not3 28 = .ok (.invokevirtual 237, 3) := dk_182 0 237 (dk_at dksX9_not3_1 6 rfl rfl)
theorem dX9_not3_31 : decode cX9_not3 31 = .ok (.istore_n 1, 1) := dk_60 (dk_at dksX9_not3_1 9 rfl rfl)
theorem dX9_not3_32 : decode cX9_not3 32 = .ok (.aload_n 0, 1) := dk_42 (dk_at dksX9_not3_1 10 rfl rfl)
theorem dX9_not3_33 : decode cX9_not3 33 = .ok (.dup, 1) := dk_89 (dk_at dksX9_not3_1 11 rfl rfl)
theorem dX9_not3_34 : decode cX9_not3 34 = .ok (.getfield 164, 3) := dk_180 0 164 (dk_at dksX9_not3_1 12 rfl rfl)
theorem dX9_not3_37 : decode cX9_not3 37 = .ok (.iconst 1, 1) := dk_4 (dk_at dksX9_not3_1 15 rfl rfl)
theorem dX9_not3_38 : decode cX9_not3 38 = .ok (.isub, 1) := dk_100 (dk_at dksX9_not3_1 16 rfl rfl)
theorem dX9_not3_39 : decode cX9_not3 39 = .ok (.putfield 164, 3) := dk_181 0 164 (dk_at dksX9_not3_1 17 rfl rfl)
theorem dX9_not3_42 : decode cX9_not3 42 = .ok (.iload_n 1, 1) := dk_27 (dk_at dksX9_not3_1 20 rfl rfl)
theorem dX9_not3_43 : decode cX9_not3 43 = .ok (.ifCond .ne 7, 3) := dk_154 0 7 (dk_at dksX9_not3_1 21 rfl rfl)
theorem dX9_not3_46 : decode cX9_not3 46 = .ok (.iconst 1, 1) := dk_4 (dk_at dksX9_not3_2 0 rfl rfl)
theorem dX9_not3_47 : decode cX9_not3 47 = .ok (.goto 4, 3) := dk_167 0 4 (dk_at dksX9_not3_2 1 rfl rfl)
theorem dX9_not3_50 : decode cX9_not3 50 = .ok (.iconst 0, 1) := dk_3 (dk_at dksX9_not3_2 4 rfl rfl)
theorem dX9_not3_51 : decode cX9_not3 51 = .ok (.ireturn, 1) := dk_172 (dk_at dksX9_not3_2 5 rfl rfl)
theorem dX9_not3_52 : decode cX9_not3 52 = .ok (.aload_n 0, 1) := dk_42 (dk_at dksX9_not3_2 6 rfl rfl)
theorem dX9_not3_53 : decode cX9_not3 53 = .ok (.invokevirtual 252, 3) := dk_182 0 252 (dk_at dksX9_not3_2 7 rfl rfl)
theorem dX9_not3_56 : decode cX9_not3 56 = .ok (.istore_n 1, 1) := dk_60 (dk_at dksX9_not3_2 10 rfl rfl)
theorem dX9_not3_57 : decode cX9_not3 57 = .ok (.aload_n 0, 1) := dk_42 (dk_at dksX9_not3_2 11 rfl rfl)
theorem dX9_not3_58 : decode cX9_not3 58 = .ok (.bipush 60, 2) := dk_16 60 (dk_at dksX9_not3_2 12 rfl rfl)
theorem dX9_not3_60 : decode cX9_not3 60 = .ok (.invokevirtual 195, 3) := dk_182 0 195 (dk_at dksX9_not3_2 14 rfl rfl)
theorem dX9_not3_63 : decode cX9_not3 63 = .ok (.ifCond .ne 14, 3) := dk_154 0 14 (dk_at dksX9_not3_2 17 rfl rfl)
theorem dX9_not3_66 : decode cX9_not3 66 = .ok (.aload_n 0, 1) := dk_42 (dk_at dksX9_not3_2 20 rfl rfl)
theorem dX9_not3_67 : decode cX9_not3 67 = .ok (.bipush 61, 2) := dk_16 61 (dk_at dksX9_not3_2 21 rfl rfl)
theorem dX9_not3_69 : decode cX9_not3 69 = .ok (.invokevirtual 195, 3) := dk_182 0 195 (dk_at dksX9_not3_3 0 rfl rfl)
theorem dX9_not3_72 : decode cX9_not3 72 = .ok (.ifCond .ne 5, 3) := dk_154 0 5 (dk_at dksX9_not3_3 3 rfl rfl)
theorem dX9_not3_75 : decode cX9_not3 75 = .ok (.iload_n 1, 1) := dk_27 (dk_at dksX9_not3_3 6 rfl rfl)
theorem dX9_not3_76 : decode cX9_not3 76 = .ok (.ireturn, 1) := dk_172 (dk_at dksX9_not3_3 7 rfl rfl)
theorem dX9_not3_77 : decode cX9_not3 77 = .ok (.aload_n 0, 1) := dk_42 (dk_at dksX9_not3_3 8 rfl rfl)
theorem dX9_not3_78 : decode cX9_not3 78 = .ok (.getfield 150, 3) := dk_180 0 150 (dk_at dksX9_not3_3 9 rfl rfl)
theorem dX9_not3_81 : decode cX9_not3 81 = .ok (.ldc2_w 217, 3) := dk_20 0 217 (dk_at dksX9_not3_3 12 rfl rfl)
theorem dX9_not3_84 : decode cX9_not3 84 = .ok (.lcmp, 1) := dk_148 (dk_at dksX9_not3_3 15 rfl rfl)
theorem dX9_not3_85 : decode cX9_not3 85 = .ok (.ifCond .ne 7, 3) := dk_154 0 7 (dk_at dksX9_not3_3 16 rfl rfl)
theorem dX9_not3_88 : decode cX9_not3 88 = .ok (.iconst 1, 1) := dk_4 (dk_at dksX9_not3_3 19 rfl rfl)
theorem dX9_not3_89 : decode cX9_not3 89 = .ok (.goto 4, 3) := dk_167 0 4 (dk_at dksX9_not3_3 20 rfl rfl)
theorem dX9_not3_92 : decode cX9_not3 92 = .ok (.iconst 0, 1) := dk_3 (dk_at dksX9_not3_3 23 rfl rfl)
theorem dX9_not3_93 : decode cX9_not3 93 = .ok (.istore_n 2, 1) := dk_61 (dk_at dksX9_not3_4 0 rfl rfl)
theorem dX9_not3_94 : decode cX9_not3 94 = .ok (.aload_n 0, 1) := dk_42 (dk_at dksX9_not3_4 1 rfl rfl)
theorem dX9_not3_95 : decode cX9_not3 95 = .ok (.invokevirtual 170, 3) := dk_182 0 170 (dk_at dksX9_not3_4 2 rfl rfl)
theorem dX9_not3_98 : decode cX9_not3 98 = .ok (.aload_n 0, 1) := dk_42 (dk_at dksX9_not3_4 5 rfl rfl)
theorem dX9_not3_99 : decode cX9_not3 99 = .ok (.invokevirtual 252, 3) := dk_182 0 252 (dk_at dksX9_not3_4 6 rfl rfl)
theorem dX9_not3_102 : decode cX9_not3 102 = .ok (.istore_n 3, 1) := dk_62 (dk_at dksX9_not3_4 9 rfl rfl)
theorem dX9_not3_103 : decode cX9_not3 103 = .ok (.iload_n 2, 1) := dk_28 (dk_at dksX9_not3_4 10 rfl rfl)
theorem dX9_not3_104 : decode cX9_not3 104 = .ok (.ifCond .eq 11, 3) := dk_153 0 11 (dk_at dksX9_not3_4 11 rfl rfl)
theorem dX9_not3_107 : decode cX9_not3 107 = .ok (.iload_n 1, 1) := dk_27 (dk_at dksX9_not3_4 14 rfl rfl)
theorem dX9_not3_108 : decode cX9_not3 108 = .ok (.iload_n 3, 1) := dk_29 (dk_at dksX9_not3_4 15 rfl rfl)
theorem dX9_not3_109 : decode cX9_not3 109 = .ok (.if_icmp .ge 15, 3) := dk_162 0 15 (dk_at dksX9_not3_4 16 rfl rfl)
theorem dX9_not3_112 : decode cX9_not3 112 = .ok (.goto 8, 3) := dk_167 0 8 (dk_at dksX9_not3_4 19 rfl rfl)
theorem dX9_not3_115 : decode cX9_not3 115 = .ok (.iload_n 1, 1) := dk_27 (dk_at dksX9_not3_4 22 rfl rfl)
theorem dX9_not3_116 : decode cX9_not3 116 = .ok (.iload_n 3, 1) := dk_29 (dk_at dksX9_not3_4 23 rfl rfl)
theorem dX9_not3_117 : decode cX9_not3 117 = .ok (.if_icmp .ne 7, 3) := dk_160 0 7 (dk_at dksX9_not3_5 0 rfl rfl)
theorem dX9_not3_120 : decode cX9_not3 120 = .ok (.iconst 1, 1) := dk_4 (dk_at dksX9_not3_5 3 rfl rfl)
theorem dX9_not3_121 : decode cX9_not3 121 = .ok (.goto 4, 3) := dk_167 0 4 (dk_at dksX9_not3_5 4 rfl rfl)
theorem dX9_not3_124 : decode cX9_not3 124 = .ok (.iconst 0, 1) := dk_3 (dk_at dksX9_not3_5 7 rfl rfl)
theorem dX9_not3_125 : decode cX9_not3 125 = .ok (.ireturn, 1) := dk_172 (dk_at dksX9_not3_5 8 rfl rfl)
abbrev cX9_not4 : ByteArray := prog_17_method_34_code
def yX9_not4 : MethodName := ⟨RX9, "not4", "()I"⟩
def dkwX9_not4_5 : List UInt8 := [160, 0, 7, 4, 167, 0, 4, 3, 172]
abbrev dktX9_not4_5 : List UInt8 := dkwX9_not4_5 ++ []
def dkwX9_not4_4 : List UInt8 := [61, 42, 182, 0, 170, 42, 182, 0, 234, 62, 28, 153, 0, 11, 27, 29, 162, 0, 15, 167, 0, 8, 27, 29]
abbrev dktX9_not4_4 : List UInt8 := dkwX9_not4_4 ++ dktX9_not4_5
def dkwX9_not4_3 : List UInt8 := [182, 0, 195, 154, 0, 5, 27, 172, 42, 180, 0, 150, 20, 0, 217, 148, 154, 0, 7, 4, 167, 0, 4, 3]
abbrev dktX9_not4_3 : List UInt8 := dkwX9_not4_3 ++ dktX9_not4_4
def dkwX9_not4_2 : List UInt8 := [4, 167, 0, 4, 3, 172, 42, 182, 0, 234, 60, 42, 16, 60, 182, 0, 195, 154, 0, 14, 42, 16, 61]
abbrev dktX9_not4_2 : List UInt8 := dkwX9_not4_2 ++ dktX9_not4_3
def dkwX9_not4_1 : List UInt8 := [154, 0, 5, 3, 172, 42, 182, 0, 219, 60, 42, 89, 180, 0, 164, 4, 100, 181, 0, 164, 27, 154, 0, 7]
abbrev dktX9_not4_1 : List UInt8 := dkwX9_not4_1 ++ dktX9_not4_2
def dkwX9_not4_0 : List UInt8 := [42, 16, 110, 16, 111, 16, 116, 3, 3, 3, 3, 3, 182, 0, 173, 153, 0, 37, 42, 182, 0, 198]
abbrev dktX9_not4_0 : List UInt8 := dkwX9_not4_0 ++ dktX9_not4_1
theorem dksX9_not4_0 : cX9_not4.data.toList.drop 0 = dktX9_not4_0 := by decide +kernel
theorem dksX9_not4_1 : cX9_not4.data.toList.drop 22 = dktX9_not4_1 := dk_seg dksX9_not4_0 22 rfl rfl
theorem dksX9_not4_2 : cX9_not4.data.toList.drop 46 = dktX9_not4_2 := dk_seg dksX9_not4_1 24 rfl rfl
theorem dksX9_not4_3 : cX9_not4.data.toList.drop 69 = dktX9_not4_3 := dk_seg dksX9_not4_2 23 rfl rfl
theorem dksX9_not4_4 : cX9_not4.data.toList.drop 93 = dktX9_not4_4 := dk_seg dksX9_not4_3 24 rfl rfl
theorem dksX9_not4_5 : cX9_not4.data.toList.drop 117 = dktX9_not4_5 := dk_seg dksX9_not4_4 24 rfl rfl
theorem dX9_not4_0 : decode cX9_not4 0 = .ok (.aload_n 0, 1) := dk_42 (dk_at dksX9_not4_0 0 rfl rfl)
theorem dX9_not4_1 : decode cX9_not4 1 = .ok (.bipush 110, 2) := dk_16 110 (dk_at dksX9_not4_0 1 rfl rfl)
theorem dX9_not4_3 : decode cX9_not4 3 = .ok (.bipush 111, 2) := dk_16 111 (dk_at dksX9_not4_0 3 rfl rfl)
theorem dX9_not4_5 : decode cX9_not4 5 = .ok (.bipush 116, 2) := dk_16 116 (dk_at dksX9_not4_0 5 rfl rfl)
theorem dX9_not4_7 : decode cX9_not4 7 = .ok (.iconst 0, 1) := dk_3 (dk_at dksX9_not4_0 7 rfl rfl)
theorem dX9_not4_8 : decode cX9_not4 8 = .ok (.iconst 0, 1) := dk_3 (dk_at dksX9_not4_0 8 rfl rfl)
theorem dX9_not4_9 : decode cX9_not4 9 = .ok (.iconst 0, 1) := dk_3 (dk_at dksX9_not4_0 9 rfl rfl)
theorem dX9_not4_10 : decode cX9_not4 10 = .ok (.iconst 0, 1) := dk_3 (dk_at dksX9_not4_0 10 rfl rfl)
theorem dX9_not4_11 : decode cX9_not4 11 = .ok (.iconst 0, 1) := dk_3 (dk_at dksX9_not4_0 11 rfl rfl)
theorem dX9_not4_12 : decode cX9_not4 12 = .ok (.invokevirtual 173, 3) := dk_182 0 173 (dk_at dksX9_not4_0 12 rfl rfl)
theorem dX9_not4_15 : decode cX9_not4 15 = .ok (.ifCond .eq 37, 3) := dk_153 0 37 (dk_at dksX9_not4_0 15 rfl rfl)
theorem dX9_not4_18 : decode cX9_not4 18 = .ok (.aload_n 0, 1) := dk_42 (dk_at dksX9_not4_0 18 rfl rfl)
theorem dX9_not4_19 : decode cX9_not4 19 = .ok (.invokevirtual 198, 3) := dk_182 0 198 (dk_at dksX9_not4_0 19 rfl rfl)
theorem dX9_not4_22 : decode cX9_not4 22 = .ok (.ifCond .ne 5, 3) := dk_154 0 5 (dk_at dksX9_not4_1 0 rfl rfl)
theorem dX9_not4_25 : decode cX9_not4 25 = .ok (.iconst 0, 1) := dk_3 (dk_at dksX9_not4_1 3 rfl rfl)
theorem dX9_not4_26 : decode cX9_not4 26 = .ok (.ireturn, 1) := dk_172 (dk_at dksX9_not4_1 4 rfl rfl)
theorem dX9_not4_27 : decode cX9_not4 27 = .ok (.aload_n 0, 1) := dk_42 (dk_at dksX9_not4_1 5 rfl rfl)
theorem dX9_not4_28 : decode cX9_not4 28 = .ok (.invokevirtual 219, 3) := dk_182 0 219 (dk_at dksX9_not4_1 6 rfl rfl)
theorem dX9_not4_31 : decode cX9_not4 31 = .ok (.istore_n 1, 1) := dk_60 (dk_at dksX9_not4_1 9 rfl rfl)
theorem dX9_not4_32 : decode cX9_not4 32 = .ok (.aload_n 0, 1) := dk_42 (dk_at dksX9_not4_1 10 rfl rfl)
theorem dX9_not4_33 : decode cX9_not4 33 = .ok (.dup, 1) := dk_89 (dk_at dksX9_not4_1 11 rfl rfl)
theorem dX9_not4_34 : decode cX9_not4 34 = .ok (.getfield 164, 3) := dk_180 0 164 (dk_at dksX9_not4_1 12 rfl rfl)
theorem dX9_not4_37 : decode cX9_not4 37 = .ok (.iconst 1, 1) := dk_4 (dk_at dksX9_not4_1 15 rfl rfl)
theorem dX9_not4_38 : decode cX9_not4 38 = .ok (.isub, 1) := dk_100 (dk_at dksX9_not4_1 16 rfl rfl)
theorem dX9_not4_39 : decode cX9_not4 39 = .ok (.putfield 164, 3) := dk_181 0 164 (dk_at dksX9_not4_1 17 rfl rfl)
theorem dX9_not4_42 : decode cX9_not4 42 = .ok (.iload_n 1, 1) := dk_27 (dk_at dksX9_not4_1 20 rfl rfl)
theorem dX9_not4_43 : decode cX9_not4 43 = .ok (.ifCond .ne 7, 3) := dk_154 0 7 (dk_at dksX9_not4_1 21 rfl rfl)
theorem dX9_not4_46 : decode cX9_not4 46 = .ok (.iconst 1, 1) := dk_4 (dk_at dksX9_not4_2 0 rfl rfl)
theorem dX9_not4_47 : decode cX9_not4 47 = .ok (.goto 4, 3) := dk_167 0 4 (dk_at dksX9_not4_2 1 rfl rfl)
theorem dX9_not4_50 : decode cX9_not4 50 = .ok (.iconst 0, 1) := dk_3 (dk_at dksX9_not4_2 4 rfl rfl)
theorem dX9_not4_51 : decode cX9_not4 51 = .ok (.ireturn, 1) := dk_172 (dk_at dksX9_not4_2 5 rfl rfl)
theorem dX9_not4_52 : decode cX9_not4 52 = .ok (.aload_n 0, 1) := dk_42 (dk_at dksX9_not4_2 6 rfl rfl)
theorem dX9_not4_53 : decode cX9_not4 53 = .ok (.invokevirtual 234, 3) := dk_182 0 234 (dk_at dksX9_not4_2 7 rfl rfl)
theorem dX9_not4_56 : decode cX9_not4 56 = .ok (.istore_n 1, 1) := dk_60 (dk_at dksX9_not4_2 10 rfl rfl)
theorem dX9_not4_57 : decode cX9_not4 57 = .ok (.aload_n 0, 1) := dk_42 (dk_at dksX9_not4_2 11 rfl rfl)
theorem dX9_not4_58 : decode cX9_not4 58 = .ok (.bipush 60, 2) := dk_16 60 (dk_at dksX9_not4_2 12 rfl rfl)
theorem dX9_not4_60 : decode cX9_not4 60 = .ok (.invokevirtual 195, 3) := dk_182 0 195 (dk_at dksX9_not4_2 14 rfl rfl)
theorem dX9_not4_63 : decode cX9_not4 63 = .ok (.ifCond .ne 14, 3) := dk_154 0 14 (dk_at dksX9_not4_2 17 rfl rfl)
theorem dX9_not4_66 : decode cX9_not4 66 = .ok (.aload_n 0, 1) := dk_42 (dk_at dksX9_not4_2 20 rfl rfl)
theorem dX9_not4_67 : decode cX9_not4 67 = .ok (.bipush 61, 2) := dk_16 61 (dk_at dksX9_not4_2 21 rfl rfl)
theorem dX9_not4_69 : decode cX9_not4 69 = .ok (.invokevirtual 195, 3) := dk_182 0 195 (dk_at dksX9_not4_3 0 rfl rfl)
theorem dX9_not4_72 : decode cX9_not4 72 = .ok (.ifCond .ne 5, 3) := dk_154 0 5 (dk_at dksX9_not4_3 3 rfl rfl)
theorem dX9_not4_75 : decode cX9_not4 75 = .ok (.iload_n 1, 1) := dk_27 (dk_at dksX9_not4_3 6 rfl rfl)
theorem dX9_not4_76 : decode cX9_not4 76 = .ok (.ireturn, 1) := dk_172 (dk_at dksX9_not4_3 7 rfl rfl)
theorem dX9_not4_77 : decode cX9_not4 77 = .ok (.aload_n 0, 1) := dk_42 (dk_at dksX9_not4_3 8 rfl rfl)
theorem dX9_not4_78 : decode cX9_not4 78 = .ok (.getfield 150, 3) := dk_180 0 150 (dk_at dksX9_not4_3 9 rfl rfl)
theorem dX9_not4_81 : decode cX9_not4 81 = .ok (.ldc2_w 217, 3) := dk_20 0 217 (dk_at dksX9_not4_3 12 rfl rfl)
theorem dX9_not4_84 : decode cX9_not4 84 = .ok (.lcmp, 1) := dk_148 (dk_at dksX9_not4_3 15 rfl rfl)
theorem dX9_not4_85 : decode cX9_not4 85 = .ok (.ifCond .ne 7, 3) := dk_154 0 7 (dk_at dksX9_not4_3 16 rfl rfl)
theorem dX9_not4_88 : decode cX9_not4 88 = .ok (.iconst 1, 1) := dk_4 (dk_at dksX9_not4_3 19 rfl rfl)
theorem dX9_not4_89 : decode cX9_not4 89 = .ok (.goto 4, 3) := dk_167 0 4 (dk_at dksX9_not4_3 20 rfl rfl)
theorem dX9_not4_92 : decode cX9_not4 92 = .ok (.iconst 0, 1) := dk_3 (dk_at dksX9_not4_3 23 rfl rfl)
theorem dX9_not4_93 : decode cX9_not4 93 = .ok (.istore_n 2, 1) := dk_61 (dk_at dksX9_not4_4 0 rfl rfl)
theorem dX9_not4_94 : decode cX9_not4 94 = .ok (.aload_n 0, 1) := dk_42 (dk_at dksX9_not4_4 1 rfl rfl)
theorem dX9_not4_95 : decode cX9_not4 95 = .ok (.invokevirtual 170, 3) := dk_182 0 170 (dk_at dksX9_not4_4 2 rfl rfl)
theorem dX9_not4_98 : decode cX9_not4 98 = .ok (.aload_n 0, 1) := dk_42 (dk_at dksX9_not4_4 5 rfl rfl)
theorem dX9_not4_99 : decode cX9_not4 99 = .ok (.invokevirtual 234, 3) := dk_182 0 234 (dk_at dksX9_not4_4 6 rfl rfl)
theorem dX9_not4_102 : decode cX9_not4 102 = .ok (.istore_n 3, 1) := dk_62 (dk_at dksX9_not4_4 9 rfl rfl)
theorem dX9_not4_103 : decode cX9_not4 103 = .ok (.iload_n 2, 1) := dk_28 (dk_at dksX9_not4_4 10 rfl rfl)
theorem dX9_not4_104 : decode cX9_not4 104 = .ok (.ifCond .eq 11, 3) := dk_153 0 11 (dk_at dksX9_not4_4 11 rfl rfl)
theorem dX9_not4_107 : decode cX9_not4 107 = .ok (.iload_n 1, 1) := dk_27 (dk_at dksX9_not4_4 14 rfl rfl)
theorem dX9_not4_108 : decode cX9_not4 108 = .ok (.iload_n 3, 1) := dk_29 (dk_at dksX9_not4_4 15 rfl rfl)
theorem dX9_not4_109 : decode cX9_not4 109 = .ok (.if_icmp .ge 15, 3) := dk_162 0 15 (dk_at dksX9_not4_4 16 rfl rfl)
theorem dX9_not4_112 : decode cX9_not4 112 = .ok (.goto 8, 3) := dk_167 0 8 (dk_at dksX9_not4_4 19 rfl rfl)
theorem dX9_not4_115 : decode cX9_not4 115 = .ok (.iload_n 1, 1) := dk_27 (dk_at dksX9_not4_4 22 rfl rfl)
theorem dX9_not4_116 : decode cX9_not4 116 = .ok (.iload_n 3, 1) := dk_29 (dk_at dksX9_not4_4 23 rfl rfl)
theorem dX9_not4_117 : decode cX9_not4 117 = .ok (.if_icmp .ne 7, 3) := dk_160 0 7 (dk_at dksX9_not4_5 0 rfl rfl)
theorem dX9_not4_120 : decode cX9_not4 120 = .ok (.iconst 1, 1) := dk_4 (dk_at dksX9_not4_5 3 rfl rfl)
theorem dX9_not4_121 : decode cX9_not4 121 = .ok (.goto 4, 3) := dk_167 0 4 (dk_at dksX9_not4_5 4 rfl rfl)
theorem dX9_not4_124 : decode cX9_not4 124 = .ok (.iconst 0, 1) := dk_3 (dk_at dksX9_not4_5 7 rfl rfl)
theorem dX9_not4_125 : decode cX9_not4 125 = .ok (.ireturn, 1) := dk_172 (dk_at dksX9_not4_5 8 rfl rfl)
abbrev cX9_not5 : ByteArray := prog_17_method_28_code
def yX9_not5 : MethodName := ⟨RX9, "not5", "()I"⟩
def dkwX9_not5_4 : List UInt8 := [167, 0, 4, 3, 172]
abbrev dktX9_not5_4 : List UInt8 := dkwX9_not5_4 ++ []
def dkwX9_not5_3 : List UInt8 := [182, 0, 214, 62, 28, 153, 0, 11, 27, 29, 162, 0, 15, 167, 0, 8, 27, 29, 160, 0, 7, 4]
abbrev dktX9_not5_3 : List UInt8 := dkwX9_not5_3 ++ dktX9_not5_4
def dkwX9_not5_2 : List UInt8 := [27, 172, 42, 180, 0, 150, 20, 0, 217, 148, 154, 0, 7, 4, 167, 0, 4, 3, 61, 42, 182, 0, 170, 42]
abbrev dktX9_not5_2 : List UInt8 := dkwX9_not5_2 ++ dktX9_not5_3
def dkwX9_not5_1 : List UInt8 := [172, 42, 182, 0, 214, 60, 42, 16, 60, 182, 0, 195, 154, 0, 14, 42, 16, 61, 182, 0, 195, 154, 0, 5]
abbrev dktX9_not5_1 : List UInt8 := dkwX9_not5_1 ++ dktX9_not5_2
def dkwX9_not5_0 : List UInt8 := [42, 16, 110, 16, 111, 16, 116, 3, 3, 3, 3, 3, 182, 0, 173, 153, 0, 10, 42, 182, 0, 198, 87, 3]
abbrev dktX9_not5_0 : List UInt8 := dkwX9_not5_0 ++ dktX9_not5_1
theorem dksX9_not5_0 : cX9_not5.data.toList.drop 0 = dktX9_not5_0 := by decide +kernel
theorem dksX9_not5_1 : cX9_not5.data.toList.drop 24 = dktX9_not5_1 := dk_seg dksX9_not5_0 24 rfl rfl
theorem dksX9_not5_2 : cX9_not5.data.toList.drop 48 = dktX9_not5_2 := dk_seg dksX9_not5_1 24 rfl rfl
theorem dksX9_not5_3 : cX9_not5.data.toList.drop 72 = dktX9_not5_3 := dk_seg dksX9_not5_2 24 rfl rfl
theorem dksX9_not5_4 : cX9_not5.data.toList.drop 94 = dktX9_not5_4 := dk_seg dksX9_not5_3 22 rfl rfl
theorem dX9_not5_0 : decode cX9_not5 0 = .ok (.aload_n 0, 1) := dk_42 (dk_at dksX9_not5_0 0 rfl rfl)
theorem dX9_not5_1 : decode cX9_not5 1 = .ok (.bipush 110, 2) := dk_16 110 (dk_at dksX9_not5_0 1 rfl rfl)
theorem dX9_not5_3 : decode cX9_not5 3 = .ok (.bipush 111, 2) := dk_16 111 (dk_at dksX9_not5_0 3 rfl rfl)
theorem dX9_not5_5 : decode cX9_not5 5 = .ok (.bipush 116, 2) := dk_16 116 (dk_at dksX9_not5_0 5 rfl rfl)
theorem dX9_not5_7 : decode cX9_not5 7 = .ok (.iconst 0, 1) := dk_3 (dk_at dksX9_not5_0 7 rfl rfl)
theorem dX9_not5_8 : decode cX9_not5 8 = .ok (.iconst 0, 1) := dk_3 (dk_at dksX9_not5_0 8 rfl rfl)
theorem dX9_not5_9 : decode cX9_not5 9 = .ok (.iconst 0, 1) := dk_3 (dk_at dksX9_not5_0 9 rfl rfl)
theorem dX9_not5_10 : decode cX9_not5 10 = .ok (.iconst 0, 1) := dk_3 (dk_at dksX9_not5_0 10 rfl rfl)
theorem dX9_not5_11 : decode cX9_not5 11 = .ok (.iconst 0, 1) := dk_3 (dk_at dksX9_not5_0 11 rfl rfl)
theorem dX9_not5_12 : decode cX9_not5 12 = .ok (.invokevirtual 173, 3) := dk_182 0 173 (dk_at dksX9_not5_0 12 rfl rfl)
theorem dX9_not5_15 : decode cX9_not5 15 = .ok (.ifCond .eq 10, 3) := dk_153 0 10 (dk_at dksX9_not5_0 15 rfl rfl)
theorem dX9_not5_18 : decode cX9_not5 18 = .ok (.aload_n 0, 1) := dk_42 (dk_at dksX9_not5_0 18 rfl rfl)
theorem dX9_not5_19 : decode cX9_not5 19 = .ok (.invokevirtual 198, 3) := dk_182 0 198 (dk_at dksX9_not5_0 19 rfl rfl)
theorem dX9_not5_22 : decode cX9_not5 22 = .ok (.pop, 1) := dk_87 (dk_at dksX9_not5_0 22 rfl rfl)
theorem dX9_not5_23 : decode cX9_not5 23 = .ok (.iconst 0, 1) := dk_3 (dk_at dksX9_not5_0 23 rfl rfl)
theorem dX9_not5_24 : decode cX9_not5 24 = .ok (.ireturn, 1) := dk_172 (dk_at dksX9_not5_1 0 rfl rfl)
theorem dX9_not5_25 : decode cX9_not5 25 = .ok (.aload_n 0, 1) := dk_42 (dk_at dksX9_not5_1 1 rfl rfl)
theorem dX9_not5_26 : decode cX9_not5 26 = .ok (.invokevirtual 214, 3) := dk_182 0 214 (dk_at dksX9_not5_1 2 rfl rfl)
theorem dX9_not5_29 : decode cX9_not5 29 = .ok (.istore_n 1, 1) := dk_60 (dk_at dksX9_not5_1 5 rfl rfl)
theorem dX9_not5_30 : decode cX9_not5 30 = .ok (.aload_n 0, 1) := dk_42 (dk_at dksX9_not5_1 6 rfl rfl)
theorem dX9_not5_31 : decode cX9_not5 31 = .ok (.bipush 60, 2) := dk_16 60 (dk_at dksX9_not5_1 7 rfl rfl)
theorem dX9_not5_33 : decode cX9_not5 33 = .ok (.invokevirtual 195, 3) := dk_182 0 195 (dk_at dksX9_not5_1 9 rfl rfl)
theorem dX9_not5_36 : decode cX9_not5 36 = .ok (.ifCond .ne 14, 3) := dk_154 0 14 (dk_at dksX9_not5_1 12 rfl rfl)
theorem dX9_not5_39 : decode cX9_not5 39 = .ok (.aload_n 0, 1) := dk_42 (dk_at dksX9_not5_1 15 rfl rfl)
theorem dX9_not5_40 : decode cX9_not5 40 = .ok (.bipush 61, 2) := dk_16 61 (dk_at dksX9_not5_1 16 rfl rfl)
theorem dX9_not5_42 : decode cX9_not5 42 = .ok (.invokevirtual 195, 3) := dk_182 0 195 (dk_at dksX9_not5_1 18 rfl rfl)
theorem dX9_not5_45 : decode cX9_not5 45 = .ok (.ifCond .ne 5, 3) := dk_154 0 5 (dk_at dksX9_not5_1 21 rfl rfl)
theorem dX9_not5_48 : decode cX9_not5 48 = .ok (.iload_n 1, 1) := dk_27 (dk_at dksX9_not5_2 0 rfl rfl)
theorem dX9_not5_49 : decode cX9_not5 49 = .ok (.ireturn, 1) := dk_172 (dk_at dksX9_not5_2 1 rfl rfl)
theorem dX9_not5_50 : decode cX9_not5 50 = .ok (.aload_n 0, 1) := dk_42 (dk_at dksX9_not5_2 2 rfl rfl)
theorem dX9_not5_51 : decode cX9_not5 51 = .ok (.getfield 150, 3) := dk_180 0 150 (dk_at dksX9_not5_2 3 rfl rfl)
theorem dX9_not5_54 : decode cX9_not5 54 = .ok (.ldc2_w 217, 3) := dk_20 0 217 (dk_at dksX9_not5_2 6 rfl rfl)
theorem dX9_not5_57 : decode cX9_not5 57 = .ok (.lcmp, 1) := dk_148 (dk_at dksX9_not5_2 9 rfl rfl)
theorem dX9_not5_58 : decode cX9_not5 58 = .ok (.ifCond .ne 7, 3) := dk_154 0 7 (dk_at dksX9_not5_2 10 rfl rfl)
theorem dX9_not5_61 : decode cX9_not5 61 = .ok (.iconst 1, 1) := dk_4 (dk_at dksX9_not5_2 13 rfl rfl)
theorem dX9_not5_62 : decode cX9_not5 62 = .ok (.goto 4, 3) := dk_167 0 4 (dk_at dksX9_not5_2 14 rfl rfl)
theorem dX9_not5_65 : decode cX9_not5 65 = .ok (.iconst 0, 1) := dk_3 (dk_at dksX9_not5_2 17 rfl rfl)
theorem dX9_not5_66 : decode cX9_not5 66 = .ok (.istore_n 2, 1) := dk_61 (dk_at dksX9_not5_2 18 rfl rfl)
theorem dX9_not5_67 : decode cX9_not5 67 = .ok (.aload_n 0, 1) := dk_42 (dk_at dksX9_not5_2 19 rfl rfl)
theorem dX9_not5_68 : decode cX9_not5 68 = .ok (.invokevirtual 170, 3) := dk_182 0 170 (dk_at dksX9_not5_2 20 rfl rfl)
theorem dX9_not5_71 : decode cX9_not5 71 = .ok (.aload_n 0, 1) := dk_42 (dk_at dksX9_not5_2 23 rfl rfl)
theorem dX9_not5_72 : decode cX9_not5 72 = .ok (.invokevirtual 214, 3) := dk_182 0 214 (dk_at dksX9_not5_3 0 rfl rfl)
theorem dX9_not5_75 : decode cX9_not5 75 = .ok (.istore_n 3, 1) := dk_62 (dk_at dksX9_not5_3 3 rfl rfl)
theorem dX9_not5_76 : decode cX9_not5 76 = .ok (.iload_n 2, 1) := dk_28 (dk_at dksX9_not5_3 4 rfl rfl)
theorem dX9_not5_77 : decode cX9_not5 77 = .ok (.ifCond .eq 11, 3) := dk_153 0 11 (dk_at dksX9_not5_3 5 rfl rfl)
theorem dX9_not5_80 : decode cX9_not5 80 = .ok (.iload_n 1, 1) := dk_27 (dk_at dksX9_not5_3 8 rfl rfl)
theorem dX9_not5_81 : decode cX9_not5 81 = .ok (.iload_n 3, 1) := dk_29 (dk_at dksX9_not5_3 9 rfl rfl)
theorem dX9_not5_82 : decode cX9_not5 82 = .ok (.if_icmp .ge 15, 3) := dk_162 0 15 (dk_at dksX9_not5_3 10 rfl rfl)
theorem dX9_not5_85 : decode cX9_not5 85 = .ok (.goto 8, 3) := dk_167 0 8 (dk_at dksX9_not5_3 13 rfl rfl)
theorem dX9_not5_88 : decode cX9_not5 88 = .ok (.iload_n 1, 1) := dk_27 (dk_at dksX9_not5_3 16 rfl rfl)
theorem dX9_not5_89 : decode cX9_not5 89 = .ok (.iload_n 3, 1) := dk_29 (dk_at dksX9_not5_3 17 rfl rfl)
theorem dX9_not5_90 : decode cX9_not5 90 = .ok (.if_icmp .ne 7, 3) := dk_160 0 7 (dk_at dksX9_not5_3 18 rfl rfl)
theorem dX9_not5_93 : decode cX9_not5 93 = .ok (.iconst 1, 1) := dk_4 (dk_at dksX9_not5_3 21 rfl rfl)
theorem dX9_not5_94 : decode cX9_not5 94 = .ok (.goto 4, 3) := dk_167 0 4 (dk_at dksX9_not5_4 0 rfl rfl)
theorem dX9_not5_97 : decode cX9_not5 97 = .ok (.iconst 0, 1) := dk_3 (dk_at dksX9_not5_4 3 rfl rfl)
theorem dX9_not5_98 : decode cX9_not5 98 = .ok (.ireturn, 1) := dk_172 (dk_at dksX9_not5_4 4 rfl rfl)
abbrev cX9_added5 : ByteArray := prog_17_method_27_code
def yX9_added5 : MethodName := ⟨RX9, "added5", "()I"⟩
def dkwX9_added5_2 : List UInt8 := [62, 28, 153, 0, 9, 27, 29, 96, 167, 0, 6, 27, 29, 100, 60, 167, 255, 198, 27, 172]
abbrev dktX9_added5_2 : List UInt8 := dkwX9_added5_2 ++ []
def dkwX9_added5_1 : List UInt8 := [180, 0, 150, 20, 0, 212, 148, 154, 0, 7, 4, 167, 0, 4, 3, 61, 42, 182, 0, 170, 42, 182, 0, 209]
abbrev dktX9_added5_1 : List UInt8 := dkwX9_added5_1 ++ dktX9_added5_2
def dkwX9_added5_0 : List UInt8 := [42, 182, 0, 209, 60, 42, 16, 43, 182, 0, 195, 154, 0, 12, 42, 16, 45, 182, 0, 195, 153, 0, 46, 42]
abbrev dktX9_added5_0 : List UInt8 := dkwX9_added5_0 ++ dktX9_added5_1
theorem dksX9_added5_0 : cX9_added5.data.toList.drop 0 = dktX9_added5_0 := by decide +kernel
theorem dksX9_added5_1 : cX9_added5.data.toList.drop 24 = dktX9_added5_1 := dk_seg dksX9_added5_0 24 rfl rfl
theorem dksX9_added5_2 : cX9_added5.data.toList.drop 48 = dktX9_added5_2 := dk_seg dksX9_added5_1 24 rfl rfl
theorem dX9_added5_0 : decode cX9_added5 0 = .ok (.aload_n 0, 1) := dk_42 (dk_at dksX9_added5_0 0 rfl rfl)
theorem dX9_added5_1 : decode cX9_added5 1 = .ok (.invokevirtual 209, 3) := dk_182 0 209 (dk_at dksX9_added5_0 1 rfl rfl)
theorem dX9_added5_4 : decode cX9_added5 4 = .ok (.istore_n 1, 1) := dk_60 (dk_at dksX9_added5_0 4 rfl rfl)
theorem dX9_added5_5 : decode cX9_added5 5 = .ok (.aload_n 0, 1) := dk_42 (dk_at dksX9_added5_0 5 rfl rfl)
theorem dX9_added5_6 : decode cX9_added5 6 = .ok (.bipush 43, 2) := dk_16 43 (dk_at dksX9_added5_0 6 rfl rfl)
theorem dX9_added5_8 : decode cX9_added5 8 = .ok (.invokevirtual 195, 3) := dk_182 0 195 (dk_at dksX9_added5_0 8 rfl rfl)
theorem dX9_added5_11 : decode cX9_added5 11 = .ok (.ifCond .ne 12, 3) := dk_154 0 12 (dk_at dksX9_added5_0 11 rfl rfl)
theorem dX9_added5_14 : decode cX9_added5 14 = .ok (.aload_n 0, 1) := dk_42 (dk_at dksX9_added5_0 14 rfl rfl)
theorem dX9_added5_15 : decode cX9_added5 15 = .ok (.bipush 45, 2) := dk_16 45 (dk_at dksX9_added5_0 15 rfl rfl)
theorem dX9_added5_17 : decode cX9_added5 17 = .ok (.invokevirtual 195, 3) := dk_182 0 195 (dk_at dksX9_added5_0 17 rfl rfl)
theorem dX9_added5_20 : decode cX9_added5 20 = .ok (.ifCond .eq 46, 3) := dk_153 0 46 (dk_at dksX9_added5_0 20 rfl rfl)
theorem dX9_added5_23 : decode cX9_added5 23 = .ok (.aload_n 0, 1) := dk_42 (dk_at dksX9_added5_0 23 rfl rfl)
theorem dX9_added5_24 : decode cX9_added5 24 = .ok (.getfield 150, 3) := dk_180 0 150 (dk_at dksX9_added5_1 0 rfl rfl)
theorem dX9_added5_27 : decode cX9_added5 27 = .ok (.ldc2_w 212, 3) := dk_20 0 212 (dk_at dksX9_added5_1 3 rfl rfl)
theorem dX9_added5_30 : decode cX9_added5 30 = .ok (.lcmp, 1) := dk_148 (dk_at dksX9_added5_1 6 rfl rfl)
theorem dX9_added5_31 : decode cX9_added5 31 = .ok (.ifCond .ne 7, 3) := dk_154 0 7 (dk_at dksX9_added5_1 7 rfl rfl)
theorem dX9_added5_34 : decode cX9_added5 34 = .ok (.iconst 1, 1) := dk_4 (dk_at dksX9_added5_1 10 rfl rfl)
theorem dX9_added5_35 : decode cX9_added5 35 = .ok (.goto 4, 3) := dk_167 0 4 (dk_at dksX9_added5_1 11 rfl rfl)
theorem dX9_added5_38 : decode cX9_added5 38 = .ok (.iconst 0, 1) := dk_3 (dk_at dksX9_added5_1 14 rfl rfl)
theorem dX9_added5_39 : decode cX9_added5 39 = .ok (.istore_n 2, 1) := dk_61 (dk_at dksX9_added5_1 15 rfl rfl)
theorem dX9_added5_40 : decode cX9_added5 40 = .ok (.aload_n 0, 1) := dk_42 (dk_at dksX9_added5_1 16 rfl rfl)
theorem dX9_added5_41 : decode cX9_added5 41 = .ok (.invokevirtual 170, 3) := dk_182 0 170 (dk_at dksX9_added5_1 17 rfl rfl)
theorem dX9_added5_44 : decode cX9_added5 44 = .ok (.aload_n 0, 1) := dk_42 (dk_at dksX9_added5_1 20 rfl rfl)
theorem dX9_added5_45 : decode cX9_added5 45 = .ok (.invokevirtual 209, 3) := dk_182 0 209 (dk_at dksX9_added5_1 21 rfl rfl)
theorem dX9_added5_48 : decode cX9_added5 48 = .ok (.istore_n 3, 1) := dk_62 (dk_at dksX9_added5_2 0 rfl rfl)
theorem dX9_added5_49 : decode cX9_added5 49 = .ok (.iload_n 2, 1) := dk_28 (dk_at dksX9_added5_2 1 rfl rfl)
theorem dX9_added5_50 : decode cX9_added5 50 = .ok (.ifCond .eq 9, 3) := dk_153 0 9 (dk_at dksX9_added5_2 2 rfl rfl)
theorem dX9_added5_53 : decode cX9_added5 53 = .ok (.iload_n 1, 1) := dk_27 (dk_at dksX9_added5_2 5 rfl rfl)
theorem dX9_added5_54 : decode cX9_added5 54 = .ok (.iload_n 3, 1) := dk_29 (dk_at dksX9_added5_2 6 rfl rfl)
theorem dX9_added5_55 : decode cX9_added5 55 = .ok (.iadd, 1) := dk_96 (dk_at dksX9_added5_2 7 rfl rfl)
theorem dX9_added5_56 : decode cX9_added5 56 = .ok (.goto 6, 3) := dk_167 0 6 (dk_at dksX9_added5_2 8 rfl rfl)
theorem dX9_added5_59 : decode cX9_added5 59 = .ok (.iload_n 1, 1) := dk_27 (dk_at dksX9_added5_2 11 rfl rfl)
theorem dX9_added5_60 : decode cX9_added5 60 = .ok (.iload_n 3, 1) := dk_29 (dk_at dksX9_added5_2 12 rfl rfl)
theorem dX9_added5_61 : decode cX9_added5 61 = .ok (.isub, 1) := dk_100 (dk_at dksX9_added5_2 13 rfl rfl)
theorem dX9_added5_62 : decode cX9_added5 62 = .ok (.istore_n 1, 1) := dk_60 (dk_at dksX9_added5_2 14 rfl rfl)
theorem dX9_added5_63 : decode cX9_added5 63 = .ok (.goto (-58), 3) := dk_167 255 198 (dk_at dksX9_added5_2 15 rfl rfl)
theorem dX9_added5_66 : decode cX9_added5 66 = .ok (.iload_n 1, 1) := dk_27 (dk_at dksX9_added5_2 18 rfl rfl)
theorem dX9_added5_67 : decode cX9_added5 67 = .ok (.ireturn, 1) := dk_172 (dk_at dksX9_added5_2 19 rfl rfl)
abbrev cX9_term5 : ByteArray := prog_17_method_26_code
def yX9_term5 : MethodName := ⟨RX9, "term5", "()I"⟩
def dkwX9_term5_1 : List UInt8 := [60, 167, 255, 236, 27, 172]
abbrev dktX9_term5_1 : List UInt8 := dkwX9_term5_1 ++ []
def dkwX9_term5_0 : List UInt8 := [42, 182, 0, 206, 60, 42, 16, 42, 182, 0, 195, 153, 0, 17, 42, 182, 0, 170, 27, 42, 182, 0, 206, 104]
abbrev dktX9_term5_0 : List UInt8 := dkwX9_term5_0 ++ dktX9_term5_1
theorem dksX9_term5_0 : cX9_term5.data.toList.drop 0 = dktX9_term5_0 := by decide +kernel
theorem dksX9_term5_1 : cX9_term5.data.toList.drop 24 = dktX9_term5_1 := dk_seg dksX9_term5_0 24 rfl rfl
theorem dX9_term5_0 : decode cX9_term5 0 = .ok (.aload_n 0, 1) := dk_42 (dk_at dksX9_term5_0 0 rfl rfl)
theorem dX9_term5_1 : decode cX9_term5 1 = .ok (.invokevirtual 206, 3) := dk_182 0 206 (dk_at dksX9_term5_0 1 rfl rfl)
theorem dX9_term5_4 : decode cX9_term5 4 = .ok (.istore_n 1, 1) := dk_60 (dk_at dksX9_term5_0 4 rfl rfl)
theorem dX9_term5_5 : decode cX9_term5 5 = .ok (.aload_n 0, 1) := dk_42 (dk_at dksX9_term5_0 5 rfl rfl)
theorem dX9_term5_6 : decode cX9_term5 6 = .ok (.bipush 42, 2) := dk_16 42 (dk_at dksX9_term5_0 6 rfl rfl)
theorem dX9_term5_8 : decode cX9_term5 8 = .ok (.invokevirtual 195, 3) := dk_182 0 195 (dk_at dksX9_term5_0 8 rfl rfl)
theorem dX9_term5_11 : decode cX9_term5 11 = .ok (.ifCond .eq 17, 3) := dk_153 0 17 (dk_at dksX9_term5_0 11 rfl rfl)
theorem dX9_term5_14 : decode cX9_term5 14 = .ok (.aload_n 0, 1) := dk_42 (dk_at dksX9_term5_0 14 rfl rfl)
theorem dX9_term5_15 : decode cX9_term5 15 = .ok (.invokevirtual 170, 3) := dk_182 0 170 (dk_at dksX9_term5_0 15 rfl rfl)
theorem dX9_term5_18 : decode cX9_term5 18 = .ok (.iload_n 1, 1) := dk_27 (dk_at dksX9_term5_0 18 rfl rfl)
theorem dX9_term5_19 : decode cX9_term5 19 = .ok (.aload_n 0, 1) := dk_42 (dk_at dksX9_term5_0 19 rfl rfl)
theorem dX9_term5_20 : decode cX9_term5 20 = .ok (.invokevirtual 206, 3) := dk_182 0 206 (dk_at dksX9_term5_0 20 rfl rfl)
theorem dX9_term5_23 : decode cX9_term5 23 = .ok (.imul, 1) := dk_104 (dk_at dksX9_term5_0 23 rfl rfl)
theorem dX9_term5_24 : decode cX9_term5 24 = .ok (.istore_n 1, 1) := dk_60 (dk_at dksX9_term5_1 0 rfl rfl)
theorem dX9_term5_25 : decode cX9_term5 25 = .ok (.goto (-20), 3) := dk_167 255 236 (dk_at dksX9_term5_1 1 rfl rfl)
theorem dX9_term5_28 : decode cX9_term5 28 = .ok (.iload_n 1, 1) := dk_27 (dk_at dksX9_term5_1 4 rfl rfl)
theorem dX9_term5_29 : decode cX9_term5 29 = .ok (.ireturn, 1) := dk_172 (dk_at dksX9_term5_1 5 rfl rfl)
abbrev cX9_atom5 : ByteArray := prog_17_method_25_code
def yX9_atom5 : MethodName := ⟨RX9, "atom5", "()I"⟩
def dkwX9_atom5_4 : List UInt8 := [182, 0, 170, 167, 0, 7, 42, 182, 0, 167, 27, 172]
abbrev dktX9_atom5_4 : List UInt8 := dkwX9_atom5_4 ++ []
def dkwX9_atom5_3 : List UInt8 := [154, 0, 30, 42, 180, 0, 139, 4, 160, 0, 22, 42, 182, 0, 202, 60, 42, 180, 0, 154, 154, 0, 14, 42]
abbrev dktX9_atom5_3 : List UInt8 := dkwX9_atom5_3 ++ dktX9_atom5_4
def dkwX9_atom5_2 : List UInt8 := [180, 0, 139, 5, 160, 0, 16, 42, 180, 0, 150, 136, 60, 42, 182, 0, 170, 167, 0, 41, 42, 180, 0, 154]
abbrev dktX9_atom5_2 : List UInt8 := dkwX9_atom5_2 ++ dktX9_atom5_3
def dkwX9_atom5_1 : List UInt8 := [182, 0, 195, 153, 0, 11, 42, 182, 0, 198, 87, 167, 0, 69, 42, 180, 0, 154, 154, 0, 24, 42]
abbrev dktX9_atom5_1 : List UInt8 := dkwX9_atom5_1 ++ dktX9_atom5_2
def dkwX9_atom5_0 : List UInt8 := [3, 60, 42, 16, 45, 182, 0, 195, 153, 0, 11, 42, 182, 0, 198, 87, 167, 0, 86, 42, 16, 40]
abbrev dktX9_atom5_0 : List UInt8 := dkwX9_atom5_0 ++ dktX9_atom5_1
theorem dksX9_atom5_0 : cX9_atom5.data.toList.drop 0 = dktX9_atom5_0 := by decide +kernel
theorem dksX9_atom5_1 : cX9_atom5.data.toList.drop 22 = dktX9_atom5_1 := dk_seg dksX9_atom5_0 22 rfl rfl
theorem dksX9_atom5_2 : cX9_atom5.data.toList.drop 44 = dktX9_atom5_2 := dk_seg dksX9_atom5_1 22 rfl rfl
theorem dksX9_atom5_3 : cX9_atom5.data.toList.drop 68 = dktX9_atom5_3 := dk_seg dksX9_atom5_2 24 rfl rfl
theorem dksX9_atom5_4 : cX9_atom5.data.toList.drop 92 = dktX9_atom5_4 := dk_seg dksX9_atom5_3 24 rfl rfl
theorem dX9_atom5_0 : decode cX9_atom5 0 = .ok (.iconst 0, 1) := dk_3 (dk_at dksX9_atom5_0 0 rfl rfl)
theorem dX9_atom5_1 : decode cX9_atom5 1 = .ok (.istore_n 1, 1) := dk_60 (dk_at dksX9_atom5_0 1 rfl rfl)
theorem dX9_atom5_2 : decode cX9_atom5 2 = .ok (.aload_n 0, 1) := dk_42 (dk_at dksX9_atom5_0 2 rfl rfl)
theorem dX9_atom5_3 : decode cX9_atom5 3 = .ok (.bipush 45, 2) := dk_16 45 (dk_at dksX9_atom5_0 3 rfl rfl)
theorem dX9_atom5_5 : decode cX9_atom5 5 = .ok (.invokevirtual 195, 3) := dk_182 0 195 (dk_at dksX9_atom5_0 5 rfl rfl)
theorem dX9_atom5_8 : decode cX9_atom5 8 = .ok (.ifCond .eq 11, 3) := dk_153 0 11 (dk_at dksX9_atom5_0 8 rfl rfl)
theorem dX9_atom5_11 : decode cX9_atom5 11 = .ok (.aload_n 0, 1) := dk_42 (dk_at dksX9_atom5_0 11 rfl rfl)
theorem dX9_atom5_12 : decode cX9_atom5 12 = .ok (.invokevirtual 198, 3) := dk_182 0 198 (dk_at dksX9_atom5_0 12 rfl rfl)
theorem dX9_atom5_15 : decode cX9_atom5 15 = .ok (.pop, 1) := dk_87 (dk_at dksX9_atom5_0 15 rfl rfl)
theorem dX9_atom5_16 : decode cX9_atom5 16 = .ok (.goto 86, 3) := dk_167 0 86 (dk_at dksX9_atom5_0 16 rfl rfl)
theorem dX9_atom5_19 : decode cX9_atom5 19 = .ok (.aload_n 0, 1) := dk_42 (dk_at dksX9_atom5_0 19 rfl rfl)
theorem dX9_atom5_20 : decode cX9_atom5 20 = .ok (.bipush 40, 2) := dk_16 40 (dk_at dksX9_atom5_0 20 rfl rfl)
theorem dX9_atom5_22 : decode cX9_atom5 22 = .ok (.invokevirtual 195, 3) := dk_182 0 195 (dk_at dksX9_atom5_1 0 rfl rfl)
theorem dX9_atom5_25 : decode cX9_atom5 25 = .ok (.ifCond .eq 11, 3) := dk_153 0 11 (dk_at dksX9_atom5_1 3 rfl rfl)
theorem dX9_atom5_28 : decode cX9_atom5 28 = .ok (.aload_n 0, 1) := dk_42 (dk_at dksX9_atom5_1 6 rfl rfl)
theorem dX9_atom5_29 : decode cX9_atom5 29 = .ok (.invokevirtual 198, 3) := dk_182 0 198 (dk_at dksX9_atom5_1 7 rfl rfl)
theorem dX9_atom5_32 : decode cX9_atom5 32 = .ok (.pop, 1) := dk_87 (dk_at dksX9_atom5_1 10 rfl rfl)
theorem dX9_atom5_33 : decode cX9_atom5 33 = .ok (.goto 69, 3) := dk_167 0 69 (dk_at dksX9_atom5_1 11 rfl rfl)
theorem dX9_atom5_36 : decode cX9_atom5 36 = .ok (.aload_n 0, 1) := dk_42 (dk_at dksX9_atom5_1 14 rfl rfl)
theorem dX9_atom5_37 : decode cX9_atom5 37 = .ok (.getfield 154, 3) := dk_180 0 154 (dk_at dksX9_atom5_1 15 rfl rfl)
theorem dX9_atom5_40 : decode cX9_atom5 40 = .ok (.ifCond .ne 24, 3) := dk_154 0 24 (dk_at dksX9_atom5_1 18 rfl rfl)
theorem dX9_atom5_43 : decode cX9_atom5 43 = .ok (.aload_n 0, 1) := dk_42 (dk_at dksX9_atom5_1 21 rfl rfl)
theorem dX9_atom5_44 : decode cX9_atom5 44 = .ok (.getfield 139, 3) := dk_180 0 139 (dk_at dksX9_atom5_2 0 rfl rfl)
theorem dX9_atom5_47 : decode cX9_atom5 47 = .ok (.iconst 2, 1) := dk_5 (dk_at dksX9_atom5_2 3 rfl rfl)
theorem dX9_atom5_48 : decode cX9_atom5 48 = .ok (.if_icmp .ne 16, 3) := dk_160 0 16 (dk_at dksX9_atom5_2 4 rfl rfl)
theorem dX9_atom5_51 : decode cX9_atom5 51 = .ok (.aload_n 0, 1) := dk_42 (dk_at dksX9_atom5_2 7 rfl rfl)
theorem dX9_atom5_52 : decode cX9_atom5 52 = .ok (.getfield 150, 3) := dk_180 0 150 (dk_at dksX9_atom5_2 8 rfl rfl)
theorem dX9_atom5_55 : decode cX9_atom5 55 = .ok (.l2i, 1) := dk_136 (dk_at dksX9_atom5_2 11 rfl rfl)
theorem dX9_atom5_56 : decode cX9_atom5 56 = .ok (.istore_n 1, 1) := dk_60 (dk_at dksX9_atom5_2 12 rfl rfl)
theorem dX9_atom5_57 : decode cX9_atom5 57 = .ok (.aload_n 0, 1) := dk_42 (dk_at dksX9_atom5_2 13 rfl rfl)
theorem dX9_atom5_58 : decode cX9_atom5 58 = .ok (.invokevirtual 170, 3) := dk_182 0 170 (dk_at dksX9_atom5_2 14 rfl rfl)
theorem dX9_atom5_61 : decode cX9_atom5 61 = .ok (.goto 41, 3) := dk_167 0 41 (dk_at dksX9_atom5_2 17 rfl rfl)
theorem dX9_atom5_64 : decode cX9_atom5 64 = .ok (.aload_n 0, 1) := dk_42 (dk_at dksX9_atom5_2 20 rfl rfl)
theorem dX9_atom5_65 : decode cX9_atom5 65 = .ok (.getfield 154, 3) := dk_180 0 154 (dk_at dksX9_atom5_2 21 rfl rfl)
theorem dX9_atom5_68 : decode cX9_atom5 68 = .ok (.ifCond .ne 30, 3) := dk_154 0 30 (dk_at dksX9_atom5_3 0 rfl rfl)
theorem dX9_atom5_71 : decode cX9_atom5 71 = .ok (.aload_n 0, 1) := dk_42 (dk_at dksX9_atom5_3 3 rfl rfl)
theorem dX9_atom5_72 : decode cX9_atom5 72 = .ok (.getfield 139, 3) := dk_180 0 139 (dk_at dksX9_atom5_3 4 rfl rfl)
theorem dX9_atom5_75 : decode cX9_atom5 75 = .ok (.iconst 1, 1) := dk_4 (dk_at dksX9_atom5_3 7 rfl rfl)
theorem dX9_atom5_76 : decode cX9_atom5 76 = .ok (.if_icmp .ne 22, 3) := dk_160 0 22 (dk_at dksX9_atom5_3 8 rfl rfl)
theorem dX9_atom5_79 : decode cX9_atom5 79 = .ok (.aload_n 0, 1) := dk_42 (dk_at dksX9_atom5_3 11 rfl rfl)
theorem dX9_atom5_80 : decode cX9_atom5 80 = .ok (.invokevirtual 202, 3) := dk_182 0 202 (dk_at dksX9_atom5_3 12 rfl rfl)
theorem dX9_atom5_83 : decode cX9_atom5 83 = .ok (.istore_n 1, 1) := dk_60 (dk_at dksX9_atom5_3 15 rfl rfl)
theorem dX9_atom5_84 : decode cX9_atom5 84 = .ok (.aload_n 0, 1) := dk_42 (dk_at dksX9_atom5_3 16 rfl rfl)
theorem dX9_atom5_85 : decode cX9_atom5 85 = .ok (.getfield 154, 3) := dk_180 0 154 (dk_at dksX9_atom5_3 17 rfl rfl)
theorem dX9_atom5_88 : decode cX9_atom5 88 = .ok (.ifCond .ne 14, 3) := dk_154 0 14 (dk_at dksX9_atom5_3 20 rfl rfl)
theorem dX9_atom5_91 : decode cX9_atom5 91 = .ok (.aload_n 0, 1) := dk_42 (dk_at dksX9_atom5_3 23 rfl rfl)
theorem dX9_atom5_92 : decode cX9_atom5 92 = .ok (.invokevirtual 170, 3) := dk_182 0 170 (dk_at dksX9_atom5_4 0 rfl rfl)
theorem dX9_atom5_95 : decode cX9_atom5 95 = .ok (.goto 7, 3) := dk_167 0 7 (dk_at dksX9_atom5_4 3 rfl rfl)
theorem dX9_atom5_98 : decode cX9_atom5 98 = .ok (.aload_n 0, 1) := dk_42 (dk_at dksX9_atom5_4 6 rfl rfl)
theorem dX9_atom5_99 : decode cX9_atom5 99 = .ok (.invokevirtual 167, 3) := dk_182 0 167 (dk_at dksX9_atom5_4 7 rfl rfl)
theorem dX9_atom5_102 : decode cX9_atom5 102 = .ok (.iload_n 1, 1) := dk_27 (dk_at dksX9_atom5_4 10 rfl rfl)
theorem dX9_atom5_103 : decode cX9_atom5 103 = .ok (.ireturn, 1) := dk_172 (dk_at dksX9_atom5_4 11 rfl rfl)
abbrev cX9_isSign : ByteArray := prog_17_method_22_code
def yX9_isSign : MethodName := ⟨RX9, "isSign", "(I)Z"⟩
def dkwX9_isSign_1 : List UInt8 := [154, 0, 7, 4, 167, 0, 4, 3, 172]
abbrev dktX9_isSign_1 : List UInt8 := dkwX9_isSign_1 ++ []
def dkwX9_isSign_0 : List UInt8 := [42, 180, 0, 154, 154, 0, 25, 42, 180, 0, 139, 6, 160, 0, 17, 42, 180, 0, 150, 27, 133, 148]
abbrev dktX9_isSign_0 : List UInt8 := dkwX9_isSign_0 ++ dktX9_isSign_1
theorem dksX9_isSign_0 : cX9_isSign.data.toList.drop 0 = dktX9_isSign_0 := by decide +kernel
theorem dksX9_isSign_1 : cX9_isSign.data.toList.drop 22 = dktX9_isSign_1 := dk_seg dksX9_isSign_0 22 rfl rfl
theorem dX9_isSign_0 : decode cX9_isSign 0 = .ok (.aload_n 0, 1) := dk_42 (dk_at dksX9_isSign_0 0 rfl rfl)
theorem dX9_isSign_1 : decode cX9_isSign 1 = .ok (.getfield 154, 3) := dk_180 0 154 (dk_at dksX9_isSign_0 1 rfl rfl)
theorem dX9_isSign_4 : decode cX9_isSign 4 = .ok (.ifCond .ne 25, 3) := dk_154 0 25 (dk_at dksX9_isSign_0 4 rfl rfl)
theorem dX9_isSign_7 : decode cX9_isSign 7 = .ok (.aload_n 0, 1) := dk_42 (dk_at dksX9_isSign_0 7 rfl rfl)
theorem dX9_isSign_8 : decode cX9_isSign 8 = .ok (.getfield 139, 3) := dk_180 0 139 (dk_at dksX9_isSign_0 8 rfl rfl)
theorem dX9_isSign_11 : decode cX9_isSign 11 = .ok (.iconst 3, 1) := dk_6 (dk_at dksX9_isSign_0 11 rfl rfl)
theorem dX9_isSign_12 : decode cX9_isSign 12 = .ok (.if_icmp .ne 17, 3) := dk_160 0 17 (dk_at dksX9_isSign_0 12 rfl rfl)
theorem dX9_isSign_15 : decode cX9_isSign 15 = .ok (.aload_n 0, 1) := dk_42 (dk_at dksX9_isSign_0 15 rfl rfl)
theorem dX9_isSign_16 : decode cX9_isSign 16 = .ok (.getfield 150, 3) := dk_180 0 150 (dk_at dksX9_isSign_0 16 rfl rfl)
theorem dX9_isSign_19 : decode cX9_isSign 19 = .ok (.iload_n 1, 1) := dk_27 (dk_at dksX9_isSign_0 19 rfl rfl)
theorem dX9_isSign_20 : decode cX9_isSign 20 = .ok (.i2l, 1) := dk_133 (dk_at dksX9_isSign_0 20 rfl rfl)
theorem dX9_isSign_21 : decode cX9_isSign 21 = .ok (.lcmp, 1) := dk_148 (dk_at dksX9_isSign_0 21 rfl rfl)
theorem dX9_isSign_22 : decode cX9_isSign 22 = .ok (.ifCond .ne 7, 3) := dk_154 0 7 (dk_at dksX9_isSign_1 0 rfl rfl)
theorem dX9_isSign_25 : decode cX9_isSign 25 = .ok (.iconst 1, 1) := dk_4 (dk_at dksX9_isSign_1 3 rfl rfl)
theorem dX9_isSign_26 : decode cX9_isSign 26 = .ok (.goto 4, 3) := dk_167 0 4 (dk_at dksX9_isSign_1 4 rfl rfl)
theorem dX9_isSign_29 : decode cX9_isSign 29 = .ok (.iconst 0, 1) := dk_3 (dk_at dksX9_isSign_1 7 rfl rfl)
theorem dX9_isSign_30 : decode cX9_isSign 30 = .ok (.ireturn, 1) := dk_172 (dk_at dksX9_isSign_1 8 rfl rfl)
abbrev cX9_name : ByteArray := prog_17_method_24_code
def yX9_name : MethodName := ⟨RX9, "name", "()I"⟩
def dkwX9_name_6 : List UInt8 := [153, 0, 8, 42, 180, 0, 192, 172, 42, 182, 0, 167, 3, 172]
abbrev dktX9_name_6 : List UInt8 := dkwX9_name_6 ++ []
def dkwX9_name_5 : List UInt8 := [180, 0, 189, 172, 42, 16, 111, 16, 116, 16, 104, 16, 101, 16, 114, 16, 115, 3, 3, 182, 0, 173]
abbrev dktX9_name_5 : List UInt8 := dkwX9_name_5 ++ dktX9_name_6
def dkwX9_name_4 : List UInt8 := [180, 0, 186, 172, 42, 16, 101, 16, 97, 16, 115, 16, 101, 3, 3, 3, 3, 182, 0, 173, 153, 0, 8, 42]
abbrev dktX9_name_4 : List UInt8 := dkwX9_name_4 ++ dktX9_name_5
def dkwX9_name_3 : List UInt8 := [180, 0, 183, 172, 42, 16, 121, 16, 101, 16, 97, 16, 114, 3, 3, 3, 3, 182, 0, 173, 153, 0, 8, 42]
abbrev dktX9_name_3 : List UInt8 := dkwX9_name_3 ++ dktX9_name_4
def dkwX9_name_2 : List UInt8 := [172, 42, 16, 102, 16, 108, 16, 111, 16, 111, 16, 114, 3, 3, 3, 182, 0, 173, 153, 0, 8, 42]
abbrev dktX9_name_2 : List UInt8 := dkwX9_name_2 ++ dktX9_name_3
def dkwX9_name_1 : List UInt8 := [16, 110, 16, 117, 16, 109, 16, 98, 16, 101, 16, 114, 3, 3, 182, 0, 173, 153, 0, 8, 42, 180, 0, 180]
abbrev dktX9_name_1 : List UInt8 := dkwX9_name_1 ++ dktX9_name_2
def dkwX9_name_0 : List UInt8 := [42, 16, 97, 16, 103, 16, 101, 3, 3, 3, 3, 3, 182, 0, 173, 153, 0, 8, 42, 180, 0, 177, 172, 42]
abbrev dktX9_name_0 : List UInt8 := dkwX9_name_0 ++ dktX9_name_1
theorem dksX9_name_0 : cX9_name.data.toList.drop 0 = dktX9_name_0 := by decide +kernel
theorem dksX9_name_1 : cX9_name.data.toList.drop 24 = dktX9_name_1 := dk_seg dksX9_name_0 24 rfl rfl
theorem dksX9_name_2 : cX9_name.data.toList.drop 48 = dktX9_name_2 := dk_seg dksX9_name_1 24 rfl rfl
theorem dksX9_name_3 : cX9_name.data.toList.drop 70 = dktX9_name_3 := dk_seg dksX9_name_2 22 rfl rfl
theorem dksX9_name_4 : cX9_name.data.toList.drop 94 = dktX9_name_4 := dk_seg dksX9_name_3 24 rfl rfl
theorem dksX9_name_5 : cX9_name.data.toList.drop 118 = dktX9_name_5 := dk_seg dksX9_name_4 24 rfl rfl
theorem dksX9_name_6 : cX9_name.data.toList.drop 140 = dktX9_name_6 := dk_seg dksX9_name_5 22 rfl rfl
theorem dX9_name_0 : decode cX9_name 0 = .ok (.aload_n 0, 1) := dk_42 (dk_at dksX9_name_0 0 rfl rfl)
theorem dX9_name_1 : decode cX9_name 1 = .ok (.bipush 97, 2) := dk_16 97 (dk_at dksX9_name_0 1 rfl rfl)
theorem dX9_name_3 : decode cX9_name 3 = .ok (.bipush 103, 2) := dk_16 103 (dk_at dksX9_name_0 3 rfl rfl)
theorem dX9_name_5 : decode cX9_name 5 = .ok (.bipush 101, 2) := dk_16 101 (dk_at dksX9_name_0 5 rfl rfl)
theorem dX9_name_7 : decode cX9_name 7 = .ok (.iconst 0, 1) := dk_3 (dk_at dksX9_name_0 7 rfl rfl)
theorem dX9_name_8 : decode cX9_name 8 = .ok (.iconst 0, 1) := dk_3 (dk_at dksX9_name_0 8 rfl rfl)
theorem dX9_name_9 : decode cX9_name 9 = .ok (.iconst 0, 1) := dk_3 (dk_at dksX9_name_0 9 rfl rfl)
theorem dX9_name_10 : decode cX9_name 10 = .ok (.iconst 0, 1) := dk_3 (dk_at dksX9_name_0 10 rfl rfl)
theorem dX9_name_11 : decode cX9_name 11 = .ok (.iconst 0, 1) := dk_3 (dk_at dksX9_name_0 11 rfl rfl)
theorem dX9_name_12 : decode cX9_name 12 = .ok (.invokevirtual 173, 3) := dk_182 0 173 (dk_at dksX9_name_0 12 rfl rfl)
theorem dX9_name_15 : decode cX9_name 15 = .ok (.ifCond .eq 8, 3) := dk_153 0 8 (dk_at dksX9_name_0 15 rfl rfl)
theorem dX9_name_18 : decode cX9_name 18 = .ok (.aload_n 0, 1) := dk_42 (dk_at dksX9_name_0 18 rfl rfl)
theorem dX9_name_19 : decode cX9_name 19 = .ok (.getfield 177, 3) := dk_180 0 177 (dk_at dksX9_name_0 19 rfl rfl)
theorem dX9_name_22 : decode cX9_name 22 = .ok (.ireturn, 1) := dk_172 (dk_at dksX9_name_0 22 rfl rfl)
theorem dX9_name_23 : decode cX9_name 23 = .ok (.aload_n 0, 1) := dk_42 (dk_at dksX9_name_0 23 rfl rfl)
theorem dX9_name_24 : decode cX9_name 24 = .ok (.bipush 110, 2) := dk_16 110 (dk_at dksX9_name_1 0 rfl rfl)
theorem dX9_name_26 : decode cX9_name 26 = .ok (.bipush 117, 2) := dk_16 117 (dk_at dksX9_name_1 2 rfl rfl)
theorem dX9_name_28 : decode cX9_name 28 = .ok (.bipush 109, 2) := dk_16 109 (dk_at dksX9_name_1 4 rfl rfl)
theorem dX9_name_30 : decode cX9_name 30 = .ok (.bipush 98, 2) := dk_16 98 (dk_at dksX9_name_1 6 rfl rfl)
theorem dX9_name_32 : decode cX9_name 32 = .ok (.bipush 101, 2) := dk_16 101 (dk_at dksX9_name_1 8 rfl rfl)
theorem dX9_name_34 : decode cX9_name 34 = .ok (.bipush 114, 2) := dk_16 114 (dk_at dksX9_name_1 10 rfl rfl)
theorem dX9_name_36 : decode cX9_name 36 = .ok (.iconst 0, 1) := dk_3 (dk_at dksX9_name_1 12 rfl rfl)
theorem dX9_name_37 : decode cX9_name 37 = .ok (.iconst 0, 1) := dk_3 (dk_at dksX9_name_1 13 rfl rfl)
theorem dX9_name_38 : decode cX9_name 38 = .ok (.invokevirtual 173, 3) := dk_182 0 173 (dk_at dksX9_name_1 14 rfl rfl)
theorem dX9_name_41 : decode cX9_name 41 = .ok (.ifCond .eq 8, 3) := dk_153 0 8 (dk_at dksX9_name_1 17 rfl rfl)
theorem dX9_name_44 : decode cX9_name 44 = .ok (.aload_n 0, 1) := dk_42 (dk_at dksX9_name_1 20 rfl rfl)
theorem dX9_name_45 : decode cX9_name 45 = .ok (.getfield 180, 3) := dk_180 0 180 (dk_at dksX9_name_1 21 rfl rfl)
theorem dX9_name_48 : decode cX9_name 48 = .ok (.ireturn, 1) := dk_172 (dk_at dksX9_name_2 0 rfl rfl)
theorem dX9_name_49 : decode cX9_name 49 = .ok (.aload_n 0, 1) := dk_42 (dk_at dksX9_name_2 1 rfl rfl)
theorem dX9_name_50 : decode cX9_name 50 = .ok (.bipush 102, 2) := dk_16 102 (dk_at dksX9_name_2 2 rfl rfl)
theorem dX9_name_52 : decode cX9_name 52 = .ok (.bipush 108, 2) := dk_16 108 (dk_at dksX9_name_2 4 rfl rfl)
theorem dX9_name_54 : decode cX9_name 54 = .ok (.bipush 111, 2) := dk_16 111 (dk_at dksX9_name_2 6 rfl rfl)
theorem dX9_name_56 : decode cX9_name 56 = .ok (.bipush 111, 2) := dk_16 111 (dk_at dksX9_name_2 8 rfl rfl)
theorem dX9_name_58 : decode cX9_name 58 = .ok (.bipush 114, 2) := dk_16 114 (dk_at dksX9_name_2 10 rfl rfl)
theorem dX9_name_60 : decode cX9_name 60 = .ok (.iconst 0, 1) := dk_3 (dk_at dksX9_name_2 12 rfl rfl)
theorem dX9_name_61 : decode cX9_name 61 = .ok (.iconst 0, 1) := dk_3 (dk_at dksX9_name_2 13 rfl rfl)
theorem dX9_name_62 : decode cX9_name 62 = .ok (.iconst 0, 1) := dk_3 (dk_at dksX9_name_2 14 rfl rfl)
theorem dX9_name_63 : decode cX9_name 63 = .ok (.invokevirtual 173, 3) := dk_182 0 173 (dk_at dksX9_name_2 15 rfl rfl)
theorem dX9_name_66 : decode cX9_name 66 = .ok (.ifCond .eq 8, 3) := dk_153 0 8 (dk_at dksX9_name_2 18 rfl rfl)
theorem dX9_name_69 : decode cX9_name 69 = .ok (.aload_n 0, 1) := dk_42 (dk_at dksX9_name_2 21 rfl rfl)
theorem dX9_name_70 : decode cX9_name 70 = .ok (.getfield 183, 3) := dk_180 0 183 (dk_at dksX9_name_3 0 rfl rfl)
theorem dX9_name_73 : decode cX9_name 73 = .ok (.ireturn, 1) := dk_172 (dk_at dksX9_name_3 3 rfl rfl)
theorem dX9_name_74 : decode cX9_name 74 = .ok (.aload_n 0, 1) := dk_42 (dk_at dksX9_name_3 4 rfl rfl)
theorem dX9_name_75 : decode cX9_name 75 = .ok (.bipush 121, 2) := dk_16 121 (dk_at dksX9_name_3 5 rfl rfl)
theorem dX9_name_77 : decode cX9_name 77 = .ok (.bipush 101, 2) := dk_16 101 (dk_at dksX9_name_3 7 rfl rfl)
theorem dX9_name_79 : decode cX9_name 79 = .ok (.bipush 97, 2) := dk_16 97 (dk_at dksX9_name_3 9 rfl rfl)
theorem dX9_name_81 : decode cX9_name 81 = .ok (.bipush 114, 2) := dk_16 114 (dk_at dksX9_name_3 11 rfl rfl)
theorem dX9_name_83 : decode cX9_name 83 = .ok (.iconst 0, 1) := dk_3 (dk_at dksX9_name_3 13 rfl rfl)
theorem dX9_name_84 : decode cX9_name 84 = .ok (.iconst 0, 1) := dk_3 (dk_at dksX9_name_3 14 rfl rfl)
theorem dX9_name_85 : decode cX9_name 85 = .ok (.iconst 0, 1) := dk_3 (dk_at dksX9_name_3 15 rfl rfl)
theorem dX9_name_86 : decode cX9_name 86 = .ok (.iconst 0, 1) := dk_3 (dk_at dksX9_name_3 16 rfl rfl)
theorem dX9_name_87 : decode cX9_name 87 = .ok (.invokevirtual 173, 3) := dk_182 0 173 (dk_at dksX9_name_3 17 rfl rfl)
theorem dX9_name_90 : decode cX9_name 90 = .ok (.ifCond .eq 8, 3) := dk_153 0 8 (dk_at dksX9_name_3 20 rfl rfl)
theorem dX9_name_93 : decode cX9_name 93 = .ok (.aload_n 0, 1) := dk_42 (dk_at dksX9_name_3 23 rfl rfl)
theorem dX9_name_94 : decode cX9_name 94 = .ok (.getfield 186, 3) := dk_180 0 186 (dk_at dksX9_name_4 0 rfl rfl)
theorem dX9_name_97 : decode cX9_name 97 = .ok (.ireturn, 1) := dk_172 (dk_at dksX9_name_4 3 rfl rfl)
theorem dX9_name_98 : decode cX9_name 98 = .ok (.aload_n 0, 1) := dk_42 (dk_at dksX9_name_4 4 rfl rfl)
theorem dX9_name_99 : decode cX9_name 99 = .ok (.bipush 101, 2) := dk_16 101 (dk_at dksX9_name_4 5 rfl rfl)
theorem dX9_name_101 : decode cX9_name 101 = .ok (.bipush 97, 2) := dk_16 97 (dk_at dksX9_name_4 7 rfl rfl)
theorem dX9_name_103 : decode cX9_name 103 = .ok (.bipush 115, 2) := dk_16 115 (dk_at dksX9_name_4 9 rfl rfl)
theorem dX9_name_105 : decode cX9_name 105 = .ok (.bipush 101, 2) := dk_16 101 (dk_at dksX9_name_4 11 rfl rfl)
theorem dX9_name_107 : decode cX9_name 107 = .ok (.iconst 0, 1) := dk_3 (dk_at dksX9_name_4 13 rfl rfl)
theorem dX9_name_108 : decode cX9_name 108 = .ok (.iconst 0, 1) := dk_3 (dk_at dksX9_name_4 14 rfl rfl)
theorem dX9_name_109 : decode cX9_name 109 = .ok (.iconst 0, 1) := dk_3 (dk_at dksX9_name_4 15 rfl rfl)
theorem dX9_name_110 : decode cX9_name 110 = .ok (.iconst 0, 1) := dk_3 (dk_at dksX9_name_4 16 rfl rfl)
theorem dX9_name_111 : decode cX9_name 111 = .ok (.invokevirtual 173, 3) := dk_182 0 173 (dk_at dksX9_name_4 17 rfl rfl)
theorem dX9_name_114 : decode cX9_name 114 = .ok (.ifCond .eq 8, 3) := dk_153 0 8 (dk_at dksX9_name_4 20 rfl rfl)
theorem dX9_name_117 : decode cX9_name 117 = .ok (.aload_n 0, 1) := dk_42 (dk_at dksX9_name_4 23 rfl rfl)
theorem dX9_name_118 : decode cX9_name 118 = .ok (.getfield 189, 3) := dk_180 0 189 (dk_at dksX9_name_5 0 rfl rfl)
theorem dX9_name_121 : decode cX9_name 121 = .ok (.ireturn, 1) := dk_172 (dk_at dksX9_name_5 3 rfl rfl)
theorem dX9_name_122 : decode cX9_name 122 = .ok (.aload_n 0, 1) := dk_42 (dk_at dksX9_name_5 4 rfl rfl)
theorem dX9_name_123 : decode cX9_name 123 = .ok (.bipush 111, 2) := dk_16 111 (dk_at dksX9_name_5 5 rfl rfl)
theorem dX9_name_125 : decode cX9_name 125 = .ok (.bipush 116, 2) := dk_16 116 (dk_at dksX9_name_5 7 rfl rfl)
theorem dX9_name_127 : decode cX9_name 127 = .ok (.bipush 104, 2) := dk_16 104 (dk_at dksX9_name_5 9 rfl rfl)
theorem dX9_name_129 : decode cX9_name 129 = .ok (.bipush 101, 2) := dk_16 101 (dk_at dksX9_name_5 11 rfl rfl)
theorem dX9_name_131 : decode cX9_name 131 = .ok (.bipush 114, 2) := dk_16 114 (dk_at dksX9_name_5 13 rfl rfl)
theorem dX9_name_133 : decode cX9_name 133 = .ok (.bipush 115, 2) := dk_16 115 (dk_at dksX9_name_5 15 rfl rfl)
theorem dX9_name_135 : decode cX9_name 135 = .ok (.iconst 0, 1) := dk_3 (dk_at dksX9_name_5 17 rfl rfl)
theorem dX9_name_136 : decode cX9_name 136 = .ok (.iconst 0, 1) := dk_3 (dk_at dksX9_name_5 18 rfl rfl)
theorem dX9_name_137 : decode cX9_name 137 = .ok (.invokevirtual 173, 3) := dk_182 0 173 (dk_at dksX9_name_5 19 rfl rfl)
theorem dX9_name_140 : decode cX9_name 140 = .ok (.ifCond .eq 8, 3) := dk_153 0 8 (dk_at dksX9_name_6 0 rfl rfl)
theorem dX9_name_143 : decode cX9_name 143 = .ok (.aload_n 0, 1) := dk_42 (dk_at dksX9_name_6 3 rfl rfl)
theorem dX9_name_144 : decode cX9_name 144 = .ok (.getfield 192, 3) := dk_180 0 192 (dk_at dksX9_name_6 4 rfl rfl)
theorem dX9_name_147 : decode cX9_name 147 = .ok (.ireturn, 1) := dk_172 (dk_at dksX9_name_6 7 rfl rfl)
theorem dX9_name_148 : decode cX9_name 148 = .ok (.aload_n 0, 1) := dk_42 (dk_at dksX9_name_6 8 rfl rfl)
theorem dX9_name_149 : decode cX9_name 149 = .ok (.invokevirtual 167, 3) := dk_182 0 167 (dk_at dksX9_name_6 9 rfl rfl)
theorem dX9_name_152 : decode cX9_name 152 = .ok (.iconst 0, 1) := dk_3 (dk_at dksX9_name_6 12 rfl rfl)
theorem dX9_name_153 : decode cX9_name 153 = .ok (.ireturn, 1) := dk_172 (dk_at dksX9_name_6 13 rfl rfl)
abbrev cX9_added4 : ByteArray := prog_17_method_33_code
def yX9_added4 : MethodName := ⟨RX9, "added4", "()I"⟩
def dkwX9_added4_2 : List UInt8 := [62, 28, 153, 0, 9, 27, 29, 96, 167, 0, 6, 27, 29, 100, 60, 167, 255, 198, 27, 172]
abbrev dktX9_added4_2 : List UInt8 := dkwX9_added4_2 ++ []
def dkwX9_added4_1 : List UInt8 := [180, 0, 150, 20, 0, 212, 148, 154, 0, 7, 4, 167, 0, 4, 3, 61, 42, 182, 0, 170, 42, 182, 0, 231]
abbrev dktX9_added4_1 : List UInt8 := dkwX9_added4_1 ++ dktX9_added4_2
def dkwX9_added4_0 : List UInt8 := [42, 182, 0, 231, 60, 42, 16, 43, 182, 0, 195, 154, 0, 12, 42, 16, 45, 182, 0, 195, 153, 0, 46, 42]
abbrev dktX9_added4_0 : List UInt8 := dkwX9_added4_0 ++ dktX9_added4_1
theorem dksX9_added4_0 : cX9_added4.data.toList.drop 0 = dktX9_added4_0 := by decide +kernel
theorem dksX9_added4_1 : cX9_added4.data.toList.drop 24 = dktX9_added4_1 := dk_seg dksX9_added4_0 24 rfl rfl
theorem dksX9_added4_2 : cX9_added4.data.toList.drop 48 = dktX9_added4_2 := dk_seg dksX9_added4_1 24 rfl rfl
theorem dX9_added4_0 : decode cX9_added4 0 = .ok (.aload_n 0, 1) := dk_42 (dk_at dksX9_added4_0 0 rfl rfl)
theorem dX9_added4_1 : decode cX9_added4 1 = .ok (.invokevirtual 231, 3) := dk_182 0 231 (dk_at dksX9_added4_0 1 rfl rfl)
theorem dX9_added4_4 : decode cX9_added4 4 = .ok (.istore_n 1, 1) := dk_60 (dk_at dksX9_added4_0 4 rfl rfl)
theorem dX9_added4_5 : decode cX9_added4 5 = .ok (.aload_n 0, 1) := dk_42 (dk_at dksX9_added4_0 5 rfl rfl)
theorem dX9_added4_6 : decode cX9_added4 6 = .ok (.bipush 43, 2) := dk_16 43 (dk_at dksX9_added4_0 6 rfl rfl)
theorem dX9_added4_8 : decode cX9_added4 8 = .ok (.invokevirtual 195, 3) := dk_182 0 195 (dk_at dksX9_added4_0 8 rfl rfl)
theorem dX9_added4_11 : decode cX9_added4 11 = .ok (.ifCond .ne 12, 3) := dk_154 0 12 (dk_at dksX9_added4_0 11 rfl rfl)
theorem dX9_added4_14 : decode cX9_added4 14 = .ok (.aload_n 0, 1) := dk_42 (dk_at dksX9_added4_0 14 rfl rfl)
theorem dX9_added4_15 : decode cX9_added4 15 = .ok (.bipush 45, 2) := dk_16 45 (dk_at dksX9_added4_0 15 rfl rfl)
theorem dX9_added4_17 : decode cX9_added4 17 = .ok (.invokevirtual 195, 3) := dk_182 0 195 (dk_at dksX9_added4_0 17 rfl rfl)
theorem dX9_added4_20 : decode cX9_added4 20 = .ok (.ifCond .eq 46, 3) := dk_153 0 46 (dk_at dksX9_added4_0 20 rfl rfl)
theorem dX9_added4_23 : decode cX9_added4 23 = .ok (.aload_n 0, 1) := dk_42 (dk_at dksX9_added4_0 23 rfl rfl)
theorem dX9_added4_24 : decode cX9_added4 24 = .ok (.getfield 150, 3) := dk_180 0 150 (dk_at dksX9_added4_1 0 rfl rfl)
theorem dX9_added4_27 : decode cX9_added4 27 = .ok (.ldc2_w 212, 3) := dk_20 0 212 (dk_at dksX9_added4_1 3 rfl rfl)
theorem dX9_added4_30 : decode cX9_added4 30 = .ok (.lcmp, 1) := dk_148 (dk_at dksX9_added4_1 6 rfl rfl)
theorem dX9_added4_31 : decode cX9_added4 31 = .ok (.ifCond .ne 7, 3) := dk_154 0 7 (dk_at dksX9_added4_1 7 rfl rfl)
theorem dX9_added4_34 : decode cX9_added4 34 = .ok (.iconst 1, 1) := dk_4 (dk_at dksX9_added4_1 10 rfl rfl)
theorem dX9_added4_35 : decode cX9_added4 35 = .ok (.goto 4, 3) := dk_167 0 4 (dk_at dksX9_added4_1 11 rfl rfl)
theorem dX9_added4_38 : decode cX9_added4 38 = .ok (.iconst 0, 1) := dk_3 (dk_at dksX9_added4_1 14 rfl rfl)
theorem dX9_added4_39 : decode cX9_added4 39 = .ok (.istore_n 2, 1) := dk_61 (dk_at dksX9_added4_1 15 rfl rfl)
theorem dX9_added4_40 : decode cX9_added4 40 = .ok (.aload_n 0, 1) := dk_42 (dk_at dksX9_added4_1 16 rfl rfl)
theorem dX9_added4_41 : decode cX9_added4 41 = .ok (.invokevirtual 170, 3) := dk_182 0 170 (dk_at dksX9_added4_1 17 rfl rfl)
theorem dX9_added4_44 : decode cX9_added4 44 = .ok (.aload_n 0, 1) := dk_42 (dk_at dksX9_added4_1 20 rfl rfl)
theorem dX9_added4_45 : decode cX9_added4 45 = .ok (.invokevirtual 231, 3) := dk_182 0 231 (dk_at dksX9_added4_1 21 rfl rfl)
theorem dX9_added4_48 : decode cX9_added4 48 = .ok (.istore_n 3, 1) := dk_62 (dk_at dksX9_added4_2 0 rfl rfl)
theorem dX9_added4_49 : decode cX9_added4 49 = .ok (.iload_n 2, 1) := dk_28 (dk_at dksX9_added4_2 1 rfl rfl)
theorem dX9_added4_50 : decode cX9_added4 50 = .ok (.ifCond .eq 9, 3) := dk_153 0 9 (dk_at dksX9_added4_2 2 rfl rfl)
theorem dX9_added4_53 : decode cX9_added4 53 = .ok (.iload_n 1, 1) := dk_27 (dk_at dksX9_added4_2 5 rfl rfl)
theorem dX9_added4_54 : decode cX9_added4 54 = .ok (.iload_n 3, 1) := dk_29 (dk_at dksX9_added4_2 6 rfl rfl)
theorem dX9_added4_55 : decode cX9_added4 55 = .ok (.iadd, 1) := dk_96 (dk_at dksX9_added4_2 7 rfl rfl)
theorem dX9_added4_56 : decode cX9_added4 56 = .ok (.goto 6, 3) := dk_167 0 6 (dk_at dksX9_added4_2 8 rfl rfl)
theorem dX9_added4_59 : decode cX9_added4 59 = .ok (.iload_n 1, 1) := dk_27 (dk_at dksX9_added4_2 11 rfl rfl)
theorem dX9_added4_60 : decode cX9_added4 60 = .ok (.iload_n 3, 1) := dk_29 (dk_at dksX9_added4_2 12 rfl rfl)
theorem dX9_added4_61 : decode cX9_added4 61 = .ok (.isub, 1) := dk_100 (dk_at dksX9_added4_2 13 rfl rfl)
theorem dX9_added4_62 : decode cX9_added4 62 = .ok (.istore_n 1, 1) := dk_60 (dk_at dksX9_added4_2 14 rfl rfl)
theorem dX9_added4_63 : decode cX9_added4 63 = .ok (.goto (-58), 3) := dk_167 255 198 (dk_at dksX9_added4_2 15 rfl rfl)
theorem dX9_added4_66 : decode cX9_added4 66 = .ok (.iload_n 1, 1) := dk_27 (dk_at dksX9_added4_2 18 rfl rfl)
theorem dX9_added4_67 : decode cX9_added4 67 = .ok (.ireturn, 1) := dk_172 (dk_at dksX9_added4_2 19 rfl rfl)
abbrev cX9_term4 : ByteArray := prog_17_method_32_code
def yX9_term4 : MethodName := ⟨RX9, "term4", "()I"⟩
def dkwX9_term4_1 : List UInt8 := [60, 167, 255, 236, 27, 172]
abbrev dktX9_term4_1 : List UInt8 := dkwX9_term4_1 ++ []
def dkwX9_term4_0 : List UInt8 := [42, 182, 0, 228, 60, 42, 16, 42, 182, 0, 195, 153, 0, 17, 42, 182, 0, 170, 27, 42, 182, 0, 228, 104]
abbrev dktX9_term4_0 : List UInt8 := dkwX9_term4_0 ++ dktX9_term4_1
theorem dksX9_term4_0 : cX9_term4.data.toList.drop 0 = dktX9_term4_0 := by decide +kernel
theorem dksX9_term4_1 : cX9_term4.data.toList.drop 24 = dktX9_term4_1 := dk_seg dksX9_term4_0 24 rfl rfl
theorem dX9_term4_0 : decode cX9_term4 0 = .ok (.aload_n 0, 1) := dk_42 (dk_at dksX9_term4_0 0 rfl rfl)
theorem dX9_term4_1 : decode cX9_term4 1 = .ok (.invokevirtual 228, 3) := dk_182 0 228 (dk_at dksX9_term4_0 1 rfl rfl)
theorem dX9_term4_4 : decode cX9_term4 4 = .ok (.istore_n 1, 1) := dk_60 (dk_at dksX9_term4_0 4 rfl rfl)
theorem dX9_term4_5 : decode cX9_term4 5 = .ok (.aload_n 0, 1) := dk_42 (dk_at dksX9_term4_0 5 rfl rfl)
theorem dX9_term4_6 : decode cX9_term4 6 = .ok (.bipush 42, 2) := dk_16 42 (dk_at dksX9_term4_0 6 rfl rfl)
theorem dX9_term4_8 : decode cX9_term4 8 = .ok (.invokevirtual 195, 3) := dk_182 0 195 (dk_at dksX9_term4_0 8 rfl rfl)
theorem dX9_term4_11 : decode cX9_term4 11 = .ok (.ifCond .eq 17, 3) := dk_153 0 17 (dk_at dksX9_term4_0 11 rfl rfl)
theorem dX9_term4_14 : decode cX9_term4 14 = .ok (.aload_n 0, 1) := dk_42 (dk_at dksX9_term4_0 14 rfl rfl)
theorem dX9_term4_15 : decode cX9_term4 15 = .ok (.invokevirtual 170, 3) := dk_182 0 170 (dk_at dksX9_term4_0 15 rfl rfl)
theorem dX9_term4_18 : decode cX9_term4 18 = .ok (.iload_n 1, 1) := dk_27 (dk_at dksX9_term4_0 18 rfl rfl)
theorem dX9_term4_19 : decode cX9_term4 19 = .ok (.aload_n 0, 1) := dk_42 (dk_at dksX9_term4_0 19 rfl rfl)
theorem dX9_term4_20 : decode cX9_term4 20 = .ok (.invokevirtual 228, 3) := dk_182 0 228 (dk_at dksX9_term4_0 20 rfl rfl)
theorem dX9_term4_23 : decode cX9_term4 23 = .ok (.imul, 1) := dk_104 (dk_at dksX9_term4_0 23 rfl rfl)
theorem dX9_term4_24 : decode cX9_term4 24 = .ok (.istore_n 1, 1) := dk_60 (dk_at dksX9_term4_1 0 rfl rfl)
theorem dX9_term4_25 : decode cX9_term4 25 = .ok (.goto (-20), 3) := dk_167 255 236 (dk_at dksX9_term4_1 1 rfl rfl)
theorem dX9_term4_28 : decode cX9_term4 28 = .ok (.iload_n 1, 1) := dk_27 (dk_at dksX9_term4_1 4 rfl rfl)
theorem dX9_term4_29 : decode cX9_term4 29 = .ok (.ireturn, 1) := dk_172 (dk_at dksX9_term4_1 5 rfl rfl)
abbrev cX9_atom4 : ByteArray := prog_17_method_31_code
def yX9_atom4 : MethodName := ⟨RX9, "atom4", "()I"⟩
def dkwX9_atom4_6 : List UInt8 := [182, 0, 202, 60, 42, 180, 0, 154, 154, 0, 14, 42, 182, 0, 170, 167, 0, 7, 42, 182, 0, 167, 27, 172]
abbrev dktX9_atom4_6 : List UInt8 := dkwX9_atom4_6 ++ []
def dkwX9_atom4_5 : List UInt8 := [182, 0, 170, 167, 0, 41, 42, 180, 0, 154, 154, 0, 30, 42, 180, 0, 139, 4, 160, 0, 22, 42]
abbrev dktX9_atom4_5 : List UInt8 := dkwX9_atom4_5 ++ dktX9_atom4_6
def dkwX9_atom4_4 : List UInt8 := [42, 180, 0, 154, 154, 0, 24, 42, 180, 0, 139, 5, 160, 0, 16, 42, 180, 0, 150, 136, 60, 42]
abbrev dktX9_atom4_4 : List UInt8 := dkwX9_atom4_4 ++ dktX9_atom4_5
def dkwX9_atom4_3 : List UInt8 := [42, 89, 180, 0, 164, 4, 100, 181, 0, 164, 42, 180, 0, 154, 154, 0, 76, 42, 182, 0, 170, 167, 0, 69]
abbrev dktX9_atom4_3 : List UInt8 := dkwX9_atom4_3 ++ dktX9_atom4_4
def dkwX9_atom4_2 : List UInt8 := [182, 0, 198, 153, 0, 111, 42, 182, 0, 225, 60, 42, 16, 41, 182, 0, 195, 154, 0, 7, 42, 182, 0, 167]
abbrev dktX9_atom4_2 : List UInt8 := dkwX9_atom4_2 ++ dktX9_atom4_3
def dkwX9_atom4_1 : List UInt8 := [42, 89, 180, 0, 164, 4, 100, 181, 0, 164, 167, 0, 127, 42, 16, 40, 182, 0, 195, 153, 0, 52, 42]
abbrev dktX9_atom4_1 : List UInt8 := dkwX9_atom4_1 ++ dktX9_atom4_2
def dkwX9_atom4_0 : List UInt8 := [3, 60, 42, 16, 45, 182, 0, 195, 153, 0, 29, 42, 182, 0, 198, 153, 0, 146, 42, 182, 0, 206, 116, 60]
abbrev dktX9_atom4_0 : List UInt8 := dkwX9_atom4_0 ++ dktX9_atom4_1
theorem dksX9_atom4_0 : cX9_atom4.data.toList.drop 0 = dktX9_atom4_0 := by decide +kernel
theorem dksX9_atom4_1 : cX9_atom4.data.toList.drop 24 = dktX9_atom4_1 := dk_seg dksX9_atom4_0 24 rfl rfl
theorem dksX9_atom4_2 : cX9_atom4.data.toList.drop 47 = dktX9_atom4_2 := dk_seg dksX9_atom4_1 23 rfl rfl
theorem dksX9_atom4_3 : cX9_atom4.data.toList.drop 71 = dktX9_atom4_3 := dk_seg dksX9_atom4_2 24 rfl rfl
theorem dksX9_atom4_4 : cX9_atom4.data.toList.drop 95 = dktX9_atom4_4 := dk_seg dksX9_atom4_3 24 rfl rfl
theorem dksX9_atom4_5 : cX9_atom4.data.toList.drop 117 = dktX9_atom4_5 := dk_seg dksX9_atom4_4 22 rfl rfl
theorem dksX9_atom4_6 : cX9_atom4.data.toList.drop 139 = dktX9_atom4_6 := dk_seg dksX9_atom4_5 22 rfl rfl
theorem dX9_atom4_0 : decode cX9_atom4 0 = .ok (.iconst 0, 1) := dk_3 (dk_at dksX9_atom4_0 0 rfl rfl)
theorem dX9_atom4_1 : decode cX9_atom4 1 = .ok (.istore_n 1, 1) := dk_60 (dk_at dksX9_atom4_0 1 rfl rfl)
theorem dX9_atom4_2 : decode cX9_atom4 2 = .ok (.aload_n 0, 1) := dk_42 (dk_at dksX9_atom4_0 2 rfl rfl)
theorem dX9_atom4_3 : decode cX9_atom4 3 = .ok (.bipush 45, 2) := dk_16 45 (dk_at dksX9_atom4_0 3 rfl rfl)
theorem dX9_atom4_5 : decode cX9_atom4 5 = .ok (.invokevirtual 195, 3) := dk_182 0 195 (dk_at dksX9_atom4_0 5 rfl rfl)
theorem dX9_atom4_8 : decode cX9_atom4 8 = .ok (.ifCond .eq 29, 3) := dk_153 0 29 (dk_at dksX9_atom4_0 8 rfl rfl)
theorem dX9_atom4_11 : decode cX9_atom4 11 = .ok (.aload_n 0, 1) := dk_42 (dk_at dksX9_atom4_0 11 rfl rfl)
theorem dX9_atom4_12 : decode cX9_atom4 12 = .ok (.invokevirtual 198, 3) := dk_182 0 198 (dk_at dksX9_atom4_0 12 rfl rfl)
theorem dX9_atom4_15 : decode cX9_atom4 15 = .ok (.ifCond .eq 146, 3) := dk_153 0 146 (dk_at dksX9_atom4_0 15 rfl rfl)
theorem dX9_atom4_18 : decode cX9_atom4 18 = .ok (.aload_n 0, 1) := dk_42 (dk_at dksX9_atom4_0 18 rfl rfl)
theorem dX9_atom4_19 : decode cX9_atom4 19 = .ok (.invokevirtual 206, 3) := dk_182 0 206 (dk_at dksX9_atom4_0 19 rfl rfl)
theorem dX9_atom4_22 : decode cX9_atom4 22 = .ok (.ineg, 1) := dk_116 (dk_at dksX9_atom4_0 22 rfl rfl)
theorem dX9_atom4_23 : decode cX9_atom4 23 = .ok (.istore_n 1, 1) := dk_60 (dk_at dksX9_atom4_0 23 rfl rfl)
theorem dX9_atom4_24 : decode cX9_atom4 24 = .ok (.aload_n 0, 1) := dk_42 (dk_at dksX9_atom4_1 0 rfl rfl)
theorem dX9_atom4_25 : decode cX9_atom4 25 = .ok (.dup, 1) := dk_89 (dk_at dksX9_atom4_1 1 rfl rfl)
theorem dX9_atom4_26 : decode cX9_atom4 26 = .ok (.getfield 164, 3) := dk_180 0 164 (dk_at dksX9_atom4_1 2 rfl rfl)
theorem dX9_atom4_29 : decode cX9_atom4 29 = .ok (.iconst 1, 1) := dk_4 (dk_at dksX9_atom4_1 5 rfl rfl)
theorem dX9_atom4_30 : decode cX9_atom4 30 = .ok (.isub, 1) := dk_100 (dk_at dksX9_atom4_1 6 rfl rfl)
theorem dX9_atom4_31 : decode cX9_atom4 31 = .ok (.putfield 164, 3) := dk_181 0 164 (dk_at dksX9_atom4_1 7 rfl rfl)
theorem dX9_atom4_34 : decode cX9_atom4 34 = .ok (.goto 127, 3) := dk_167 0 127 (dk_at dksX9_atom4_1 10 rfl rfl)
theorem dX9_atom4_37 : decode cX9_atom4 37 = .ok (.aload_n 0, 1) := dk_42 (dk_at dksX9_atom4_1 13 rfl rfl)
theorem dX9_atom4_38 : decode cX9_atom4 38 = .ok (.bipush 40, 2) := dk_16 40 (dk_at dksX9_atom4_1 14 rfl rfl)
theorem dX9_atom4_40 : decode cX9_atom4 40 = .ok (.invokevirtual 195, 3) := dk_182 0 195 (dk_at dksX9_atom4_1 16 rfl rfl)
theorem dX9_atom4_43 : decode cX9_atom4 43 = .ok (.ifCond .eq 52, 3) := dk_153 0 52 (dk_at dksX9_atom4_1 19 rfl rfl)
theorem dX9_atom4_46 : decode cX9_atom4 46 = .ok (.aload_n 0, 1) := dk_42 (dk_at dksX9_atom4_1 22 rfl rfl)
theorem dX9_atom4_47 : decode cX9_atom4 47 = .ok (.invokevirtual 198, 3) := dk_182 0 198 (dk_at dksX9_atom4_2 0 rfl rfl)
theorem dX9_atom4_50 : decode cX9_atom4 50 = .ok (.ifCond .eq 111, 3) := dk_153 0 111 (dk_at dksX9_atom4_2 3 rfl rfl)
theorem dX9_atom4_53 : decode cX9_atom4 53 = .ok (.aload_n 0, 1) := dk_42 (dk_at dksX9_atom4_2 6 rfl rfl)
theorem dX9_atom4_54 : decode cX9_atom4 54 = .ok (.invokevirtual 225, 3) := dk_182 0 225 (dk_at dksX9_atom4_2 7 rfl rfl)
theorem dX9_atom4_57 : decode cX9_atom4 57 = .ok (.istore_n 1, 1) := dk_60 (dk_at dksX9_atom4_2 10 rfl rfl)
theorem dX9_atom4_58 : decode cX9_atom4 58 = .ok (.aload_n 0, 1) := dk_42 (dk_at dksX9_atom4_2 11 rfl rfl)
theorem dX9_atom4_59 : decode cX9_atom4 59 = .ok (.bipush 41, 2) := dk_16 41 (dk_at dksX9_atom4_2 12 rfl rfl)
theorem dX9_atom4_61 : decode cX9_atom4 61 = .ok (.invokevirtual 195, 3) := dk_182 0 195 (dk_at dksX9_atom4_2 14 rfl rfl)
theorem dX9_atom4_64 : decode cX9_atom4 64 = .ok (.ifCond .ne 7, 3) := dk_154 0 7 (dk_at dksX9_atom4_2 17 rfl rfl)
theorem dX9_atom4_67 : decode cX9_atom4 67 = .ok (.aload_n 0, 1) := dk_42 (dk_at dksX9_atom4_2 20 rfl rfl)
theorem dX9_atom4_68 : decode cX9_atom4 68 = .ok (.invokevirtual 167, 3) := dk_182 0 167 (dk_at dksX9_atom4_2 21 rfl rfl)
theorem dX9_atom4_71 : decode cX9_atom4 71 = .ok (.aload_n 0, 1) := dk_42 (dk_at dksX9_atom4_3 0 rfl rfl)
theorem dX9_atom4_72 : decode cX9_atom4 72 = .ok (.dup, 1) := dk_89 (dk_at dksX9_atom4_3 1 rfl rfl)
theorem dX9_atom4_73 : decode cX9_atom4 73 = .ok (.getfield 164, 3) := dk_180 0 164 (dk_at dksX9_atom4_3 2 rfl rfl)
theorem dX9_atom4_76 : decode cX9_atom4 76 = .ok (.iconst 1, 1) := dk_4 (dk_at dksX9_atom4_3 5 rfl rfl)
theorem dX9_atom4_77 : decode cX9_atom4 77 = .ok (.isub, 1) := dk_100 (dk_at dksX9_atom4_3 6 rfl rfl)
theorem dX9_atom4_78 : decode cX9_atom4 78 = .ok (.putfield 164, 3) := dk_181 0 164 (dk_at dksX9_atom4_3 7 rfl rfl)
theorem dX9_atom4_81 : decode cX9_atom4 81 = .ok (.aload_n 0, 1) := dk_42 (dk_at dksX9_atom4_3 10 rfl rfl)
theorem dX9_atom4_82 : decode cX9_atom4 82 = .ok (.getfield 154, 3) := dk_180 0 154 (dk_at dksX9_atom4_3 11 rfl rfl)
theorem dX9_atom4_85 : decode cX9_atom4 85 = .ok (.ifCond .ne 76, 3) := dk_154 0 76 (dk_at dksX9_atom4_3 14 rfl rfl)
theorem dX9_atom4_88 : decode cX9_atom4 88 = .ok (.aload_n 0, 1) := dk_42 (dk_at dksX9_atom4_3 17 rfl rfl)
theorem dX9_atom4_89 : decode cX9_atom4 89 = .ok (.invokevirtual 170, 3) := dk_182 0 170 (dk_at dksX9_atom4_3 18 rfl rfl)
theorem dX9_atom4_92 : decode cX9_atom4 92 = .ok (.goto 69, 3) := dk_167 0 69 (dk_at dksX9_atom4_3 21 rfl rfl)
theorem dX9_atom4_95 : decode cX9_atom4 95 = .ok (.aload_n 0, 1) := dk_42 (dk_at dksX9_atom4_4 0 rfl rfl)
theorem dX9_atom4_96 : decode cX9_atom4 96 = .ok (.getfield 154, 3) := dk_180 0 154 (dk_at dksX9_atom4_4 1 rfl rfl)
theorem dX9_atom4_99 : decode cX9_atom4 99 = .ok (.ifCond .ne 24, 3) := dk_154 0 24 (dk_at dksX9_atom4_4 4 rfl rfl)
theorem dX9_atom4_102 : decode cX9_atom4 102 = .ok (.aload_n 0, 1) := dk_42 (dk_at dksX9_atom4_4 7 rfl rfl)
theorem dX9_atom4_103 : decode cX9_atom4 103 = .ok (.getfield 139, 3) := dk_180 0 139 (dk_at dksX9_atom4_4 8 rfl rfl)
theorem dX9_atom4_106 : decode cX9_atom4 106 = .ok (.iconst 2, 1) := dk_5 (dk_at dksX9_atom4_4 11 rfl rfl)
theorem dX9_atom4_107 : decode cX9_atom4 107 = .ok (.if_icmp .ne 16, 3) := dk_160 0 16 (dk_at dksX9_atom4_4 12 rfl rfl)
theorem dX9_atom4_110 : decode cX9_atom4 110 = .ok (.aload_n 0, 1) := dk_42 (dk_at dksX9_atom4_4 15 rfl rfl)
theorem dX9_atom4_111 : decode cX9_atom4 111 = .ok (.getfield 150, 3) := dk_180 0 150 (dk_at dksX9_atom4_4 16 rfl rfl)
theorem dX9_atom4_114 : decode cX9_atom4 114 = .ok (.l2i, 1) := dk_136 (dk_at dksX9_atom4_4 19 rfl rfl)
theorem dX9_atom4_115 : decode cX9_atom4 115 = .ok (.istore_n 1, 1) := dk_60 (dk_at dksX9_atom4_4 20 rfl rfl)
theorem dX9_atom4_116 : decode cX9_atom4 116 = .ok (.aload_n 0, 1) := dk_42 (dk_at dksX9_atom4_4 21 rfl rfl)
theorem dX9_atom4_117 : decode cX9_atom4 117 = .ok (.invokevirtual 170, 3) := dk_182 0 170 (dk_at dksX9_atom4_5 0 rfl rfl)
theorem dX9_atom4_120 : decode cX9_atom4 120 = .ok (.goto 41, 3) := dk_167 0 41 (dk_at dksX9_atom4_5 3 rfl rfl)
theorem dX9_atom4_123 : decode cX9_atom4 123 = .ok (.aload_n 0, 1) := dk_42 (dk_at dksX9_atom4_5 6 rfl rfl)
theorem dX9_atom4_124 : decode cX9_atom4 124 = .ok (.getfield 154, 3) := dk_180 0 154 (dk_at dksX9_atom4_5 7 rfl rfl)
theorem dX9_atom4_127 : decode cX9_atom4 127 = .ok (.ifCond .ne 30, 3) := dk_154 0 30 (dk_at dksX9_atom4_5 10 rfl rfl)
theorem dX9_atom4_130 : decode cX9_atom4 130 = .ok (.aload_n 0, 1) := dk_42 (dk_at dksX9_atom4_5 13 rfl rfl)
theorem dX9_atom4_131 : decode cX9_atom4 131 = .ok (.getfield 139, 3) := dk_180 0 139 (dk_at dksX9_atom4_5 14 rfl rfl)
theorem dX9_atom4_134 : decode cX9_atom4 134 = .ok (.iconst 1, 1) := dk_4 (dk_at dksX9_atom4_5 17 rfl rfl)
theorem dX9_atom4_135 : decode cX9_atom4 135 = .ok (.if_icmp .ne 22, 3) := dk_160 0 22 (dk_at dksX9_atom4_5 18 rfl rfl)
theorem dX9_atom4_138 : decode cX9_atom4 138 = .ok (.aload_n 0, 1) := dk_42 (dk_at dksX9_atom4_5 21 rfl rfl)
theorem dX9_atom4_139 : decode cX9_atom4 139 = .ok (.invokevirtual 202, 3) := dk_182 0 202 (dk_at dksX9_atom4_6 0 rfl rfl)
theorem dX9_atom4_142 : decode cX9_atom4 142 = .ok (.istore_n 1, 1) := dk_60 (dk_at dksX9_atom4_6 3 rfl rfl)
theorem dX9_atom4_143 : decode cX9_atom4 143 = .ok (.aload_n 0, 1) := dk_42 (dk_at dksX9_atom4_6 4 rfl rfl)
theorem dX9_atom4_144 : decode cX9_atom4 144 = .ok (.getfield 154, 3) := dk_180 0 154 (dk_at dksX9_atom4_6 5 rfl rfl)
theorem dX9_atom4_147 : decode cX9_atom4 147 = .ok (.ifCond .ne 14, 3) := dk_154 0 14 (dk_at dksX9_atom4_6 8 rfl rfl)
theorem dX9_atom4_150 : decode cX9_atom4 150 = .ok (.aload_n 0, 1) := dk_42 (dk_at dksX9_atom4_6 11 rfl rfl)
theorem dX9_atom4_151 : decode cX9_atom4 151 = .ok (.invokevirtual 170, 3) := dk_182 0 170 (dk_at dksX9_atom4_6 12 rfl rfl)
theorem dX9_atom4_154 : decode cX9_atom4 154 = .ok (.goto 7, 3) := dk_167 0 7 (dk_at dksX9_atom4_6 15 rfl rfl)
theorem dX9_atom4_157 : decode cX9_atom4 157 = .ok (.aload_n 0, 1) := dk_42 (dk_at dksX9_atom4_6 18 rfl rfl)
theorem dX9_atom4_158 : decode cX9_atom4 158 = .ok (.invokevirtual 167, 3) := dk_182 0 167 (dk_at dksX9_atom4_6 19 rfl rfl)
theorem dX9_atom4_161 : decode cX9_atom4 161 = .ok (.iload_n 1, 1) := dk_27 (dk_at dksX9_atom4_6 22 rfl rfl)
theorem dX9_atom4_162 : decode cX9_atom4 162 = .ok (.ireturn, 1) := dk_172 (dk_at dksX9_atom4_6 23 rfl rfl)
abbrev cX9_either5 : ByteArray := prog_17_method_30_code
def yX9_either5 : MethodName := ⟨RX9, "either5", "()I"⟩
def dkwX9_either5_2 : List UInt8 := [167, 255, 216, 27, 172]
abbrev dktX9_either5_2 : List UInt8 := dkwX9_either5_2 ++ []
def dkwX9_either5_1 : List UInt8 := [182, 0, 170, 42, 182, 0, 222, 61, 27, 154, 0, 7, 28, 153, 0, 7, 4, 167, 0, 4, 3, 60]
abbrev dktX9_either5_1 : List UInt8 := dkwX9_either5_1 ++ dktX9_either5_2
def dkwX9_either5_0 : List UInt8 := [42, 182, 0, 222, 60, 42, 16, 111, 16, 114, 3, 3, 3, 3, 3, 3, 182, 0, 173, 153, 0, 29, 42]
abbrev dktX9_either5_0 : List UInt8 := dkwX9_either5_0 ++ dktX9_either5_1
theorem dksX9_either5_0 : cX9_either5.data.toList.drop 0 = dktX9_either5_0 := by decide +kernel
theorem dksX9_either5_1 : cX9_either5.data.toList.drop 23 = dktX9_either5_1 := dk_seg dksX9_either5_0 23 rfl rfl
theorem dksX9_either5_2 : cX9_either5.data.toList.drop 45 = dktX9_either5_2 := dk_seg dksX9_either5_1 22 rfl rfl
theorem dX9_either5_0 : decode cX9_either5 0 = .ok (.aload_n 0, 1) := dk_42 (dk_at dksX9_either5_0 0 rfl rfl)
theorem dX9_either5_1 : decode cX9_either5 1 = .ok (.invokevirtual 222, 3) := dk_182 0 222 (dk_at dksX9_either5_0 1 rfl rfl)
theorem dX9_either5_4 : decode cX9_either5 4 = .ok (.istore_n 1, 1) := dk_60 (dk_at dksX9_either5_0 4 rfl rfl)
theorem dX9_either5_5 : decode cX9_either5 5 = .ok (.aload_n 0, 1) := dk_42 (dk_at dksX9_either5_0 5 rfl rfl)
theorem dX9_either5_6 : decode cX9_either5 6 = .ok (.bipush 111, 2) := dk_16 111 (dk_at dksX9_either5_0 6 rfl rfl)
theorem dX9_either5_8 : decode cX9_either5 8 = .ok (.bipush 114, 2) := dk_16 114 (dk_at dksX9_either5_0 8 rfl rfl)
theorem dX9_either5_10 : decode cX9_either5 10 = .ok (.iconst 0, 1) := dk_3 (dk_at dksX9_either5_0 10 rfl rfl)
theorem dX9_either5_11 : decode cX9_either5 11 = .ok (.iconst 0, 1) := dk_3 (dk_at dksX9_either5_0 11 rfl rfl)
theorem dX9_either5_12 : decode cX9_either5 12 = .ok (.iconst 0, 1) := dk_3 (dk_at dksX9_either5_0 12 rfl rfl)
theorem dX9_either5_13 : decode cX9_either5 13 = .ok (.iconst 0, 1) := dk_3 (dk_at dksX9_either5_0 13 rfl rfl)
theorem dX9_either5_14 : decode cX9_either5 14 = .ok (.iconst 0, 1) := dk_3 (dk_at dksX9_either5_0 14 rfl rfl)
theorem dX9_either5_15 : decode cX9_either5 15 = .ok (.iconst 0, 1) := dk_3 (dk_at dksX9_either5_0 15 rfl rfl)
theorem dX9_either5_16 : decode cX9_either5 16 = .ok (.invokevirtual 173, 3) := dk_182 0 173 (dk_at dksX9_either5_0 16 rfl rfl)
theorem dX9_either5_19 : decode cX9_either5 19 = .ok (.ifCond .eq 29, 3) := dk_153 0 29 (dk_at dksX9_either5_0 19 rfl rfl)
theorem dX9_either5_22 : decode cX9_either5 22 = .ok (.aload_n 0, 1) := dk_42 (dk_at dksX9_either5_0 22 rfl rfl)
theorem dX9_either5_23 : decode cX9_either5 23 = .ok (.invokevirtual 170, 3) := dk_182 0 170 (dk_at dksX9_either5_1 0 rfl rfl)
theorem dX9_either5_26 : decode cX9_either5 26 = .ok (.aload_n 0, 1) := dk_42 (dk_at dksX9_either5_1 3 rfl rfl)
theorem dX9_either5_27 : decode cX9_either5 27 = .ok (.invokevirtual 222, 3) := dk_182 0 222 (dk_at dksX9_either5_1 4 rfl rfl)
theorem dX9_either5_30 : decode cX9_either5 30 = .ok (.istore_n 2, 1) := dk_61 (dk_at dksX9_either5_1 7 rfl rfl)
theorem dX9_either5_31 : decode cX9_either5 31 = .ok (.iload_n 1, 1) := dk_27 (dk_at dksX9_either5_1 8 rfl rfl)
theorem dX9_either5_32 : decode cX9_either5 32 = .ok (.ifCond .ne 7, 3) := dk_154 0 7 (dk_at dksX9_either5_1 9 rfl rfl)
theorem dX9_either5_35 : decode cX9_either5 35 = .ok (.iload_n 2, 1) := dk_28 (dk_at dksX9_either5_1 12 rfl rfl)
theorem dX9_either5_36 : decode cX9_either5 36 = .ok (.ifCond .eq 7, 3) := dk_153 0 7 (dk_at dksX9_either5_1 13 rfl rfl)
theorem dX9_either5_39 : decode cX9_either5 39 = .ok (.iconst 1, 1) := dk_4 (dk_at dksX9_either5_1 16 rfl rfl)
theorem dX9_either5_40 : decode cX9_either5 40 = .ok (.goto 4, 3) := dk_167 0 4 (dk_at dksX9_either5_1 17 rfl rfl)
theorem dX9_either5_43 : decode cX9_either5 43 = .ok (.iconst 0, 1) := dk_3 (dk_at dksX9_either5_1 20 rfl rfl)
theorem dX9_either5_44 : decode cX9_either5 44 = .ok (.istore_n 1, 1) := dk_60 (dk_at dksX9_either5_1 21 rfl rfl)
theorem dX9_either5_45 : decode cX9_either5 45 = .ok (.goto (-40), 3) := dk_167 255 216 (dk_at dksX9_either5_2 0 rfl rfl)
theorem dX9_either5_48 : decode cX9_either5 48 = .ok (.iload_n 1, 1) := dk_27 (dk_at dksX9_either5_2 3 rfl rfl)
theorem dX9_either5_49 : decode cX9_either5 49 = .ok (.ireturn, 1) := dk_172 (dk_at dksX9_either5_2 4 rfl rfl)
abbrev cX9_both5 : ByteArray := prog_17_method_29_code
def yX9_both5 : MethodName := ⟨RX9, "both5", "()I"⟩
def dkwX9_both5_2 : List UInt8 := [167, 255, 215, 27, 172]
abbrev dktX9_both5_2 : List UInt8 := dkwX9_both5_2 ++ []
def dkwX9_both5_1 : List UInt8 := [182, 0, 170, 42, 182, 0, 219, 61, 27, 153, 0, 11, 28, 153, 0, 7, 4, 167, 0, 4, 3, 60]
abbrev dktX9_both5_1 : List UInt8 := dkwX9_both5_1 ++ dktX9_both5_2
def dkwX9_both5_0 : List UInt8 := [42, 182, 0, 219, 60, 42, 16, 97, 16, 110, 16, 100, 3, 3, 3, 3, 3, 182, 0, 173, 153, 0, 29, 42]
abbrev dktX9_both5_0 : List UInt8 := dkwX9_both5_0 ++ dktX9_both5_1
theorem dksX9_both5_0 : cX9_both5.data.toList.drop 0 = dktX9_both5_0 := by decide +kernel
theorem dksX9_both5_1 : cX9_both5.data.toList.drop 24 = dktX9_both5_1 := dk_seg dksX9_both5_0 24 rfl rfl
theorem dksX9_both5_2 : cX9_both5.data.toList.drop 46 = dktX9_both5_2 := dk_seg dksX9_both5_1 22 rfl rfl
theorem dX9_both5_0 : decode cX9_both5 0 = .ok (.aload_n 0, 1) := dk_42 (dk_at dksX9_both5_0 0 rfl rfl)
theorem dX9_both5_1 : decode cX9_both5 1 = .ok (.invokevirtual 219, 3) := dk_182 0 219 (dk_at dksX9_both5_0 1 rfl rfl)
theorem dX9_both5_4 : decode cX9_both5 4 = .ok (.istore_n 1, 1) := dk_60 (dk_at dksX9_both5_0 4 rfl rfl)
theorem dX9_both5_5 : decode cX9_both5 5 = .ok (.aload_n 0, 1) := dk_42 (dk_at dksX9_both5_0 5 rfl rfl)
theorem dX9_both5_6 : decode cX9_both5 6 = .ok (.bipush 97, 2) := dk_16 97 (dk_at dksX9_both5_0 6 rfl rfl)
theorem dX9_both5_8 : decode cX9_both5 8 = .ok (.bipush 110, 2) := dk_16 110 (dk_at dksX9_both5_0 8 rfl rfl)
theorem dX9_both5_10 : decode cX9_both5 10 = .ok (.bipush 100, 2) := dk_16 100 (dk_at dksX9_both5_0 10 rfl rfl)
theorem dX9_both5_12 : decode cX9_both5 12 = .ok (.iconst 0, 1) := dk_3 (dk_at dksX9_both5_0 12 rfl rfl)
theorem dX9_both5_13 : decode cX9_both5 13 = .ok (.iconst 0, 1) := dk_3 (dk_at dksX9_both5_0 13 rfl rfl)
theorem dX9_both5_14 : decode cX9_both5 14 = .ok (.iconst 0, 1) := dk_3 (dk_at dksX9_both5_0 14 rfl rfl)
theorem dX9_both5_15 : decode cX9_both5 15 = .ok (.iconst 0, 1) := dk_3 (dk_at dksX9_both5_0 15 rfl rfl)
theorem dX9_both5_16 : decode cX9_both5 16 = .ok (.iconst 0, 1) := dk_3 (dk_at dksX9_both5_0 16 rfl rfl)
theorem dX9_both5_17 : decode cX9_both5 17 = .ok (.invokevirtual 173, 3) := dk_182 0 173 (dk_at dksX9_both5_0 17 rfl rfl)
theorem dX9_both5_20 : decode cX9_both5 20 = .ok (.ifCond .eq 29, 3) := dk_153 0 29 (dk_at dksX9_both5_0 20 rfl rfl)
theorem dX9_both5_23 : decode cX9_both5 23 = .ok (.aload_n 0, 1) := dk_42 (dk_at dksX9_both5_0 23 rfl rfl)
theorem dX9_both5_24 : decode cX9_both5 24 = .ok (.invokevirtual 170, 3) := dk_182 0 170 (dk_at dksX9_both5_1 0 rfl rfl)
theorem dX9_both5_27 : decode cX9_both5 27 = .ok (.aload_n 0, 1) := dk_42 (dk_at dksX9_both5_1 3 rfl rfl)
theorem dX9_both5_28 : decode cX9_both5 28 = .ok (.invokevirtual 219, 3) := dk_182 0 219 (dk_at dksX9_both5_1 4 rfl rfl)
theorem dX9_both5_31 : decode cX9_both5 31 = .ok (.istore_n 2, 1) := dk_61 (dk_at dksX9_both5_1 7 rfl rfl)
theorem dX9_both5_32 : decode cX9_both5 32 = .ok (.iload_n 1, 1) := dk_27 (dk_at dksX9_both5_1 8 rfl rfl)
theorem dX9_both5_33 : decode cX9_both5 33 = .ok (.ifCond .eq 11, 3) := dk_153 0 11 (dk_at dksX9_both5_1 9 rfl rfl)
theorem dX9_both5_36 : decode cX9_both5 36 = .ok (.iload_n 2, 1) := dk_28 (dk_at dksX9_both5_1 12 rfl rfl)
theorem dX9_both5_37 : decode cX9_both5 37 = .ok (.ifCond .eq 7, 3) := dk_153 0 7 (dk_at dksX9_both5_1 13 rfl rfl)
theorem dX9_both5_40 : decode cX9_both5 40 = .ok (.iconst 1, 1) := dk_4 (dk_at dksX9_both5_1 16 rfl rfl)
theorem dX9_both5_41 : decode cX9_both5 41 = .ok (.goto 4, 3) := dk_167 0 4 (dk_at dksX9_both5_1 17 rfl rfl)
theorem dX9_both5_44 : decode cX9_both5 44 = .ok (.iconst 0, 1) := dk_3 (dk_at dksX9_both5_1 20 rfl rfl)
theorem dX9_both5_45 : decode cX9_both5 45 = .ok (.istore_n 1, 1) := dk_60 (dk_at dksX9_both5_1 21 rfl rfl)
theorem dX9_both5_46 : decode cX9_both5 46 = .ok (.goto (-41), 3) := dk_167 255 215 (dk_at dksX9_both5_2 0 rfl rfl)
theorem dX9_both5_49 : decode cX9_both5 49 = .ok (.iload_n 1, 1) := dk_27 (dk_at dksX9_both5_2 3 rfl rfl)
theorem dX9_both5_50 : decode cX9_both5 50 = .ok (.ireturn, 1) := dk_172 (dk_at dksX9_both5_2 4 rfl rfl)
abbrev cX9_added3 : ByteArray := prog_17_method_39_code
def yX9_added3 : MethodName := ⟨RX9, "added3", "()I"⟩
def dkwX9_added3_2 : List UInt8 := [62, 28, 153, 0, 9, 27, 29, 96, 167, 0, 6, 27, 29, 100, 60, 167, 255, 198, 27, 172]
abbrev dktX9_added3_2 : List UInt8 := dkwX9_added3_2 ++ []
def dkwX9_added3_1 : List UInt8 := [180, 0, 150, 20, 0, 212, 148, 154, 0, 7, 4, 167, 0, 4, 3, 61, 42, 182, 0, 170, 42, 182, 0, 249]
abbrev dktX9_added3_1 : List UInt8 := dkwX9_added3_1 ++ dktX9_added3_2
def dkwX9_added3_0 : List UInt8 := [42, 182, 0, 249, 60, 42, 16, 43, 182, 0, 195, 154, 0, 12, 42, 16, 45, 182, 0, 195, 153, 0, 46, 42]
abbrev dktX9_added3_0 : List UInt8 := dkwX9_added3_0 ++ dktX9_added3_1
theorem dksX9_added3_0 : cX9_added3.data.toList.drop 0 = dktX9_added3_0 := by decide +kernel
theorem dksX9_added3_1 : cX9_added3.data.toList.drop 24 = dktX9_added3_1 := dk_seg dksX9_added3_0 24 rfl rfl
theorem dksX9_added3_2 : cX9_added3.data.toList.drop 48 = dktX9_added3_2 := dk_seg dksX9_added3_1 24 rfl rfl
theorem dX9_added3_0 : decode cX9_added3 0 = .ok (.aload_n 0, 1) := dk_42 (dk_at dksX9_added3_0 0 rfl rfl)
theorem dX9_added3_1 : decode cX9_added3 1 = .ok (.invokevirtual 249, 3) := dk_182 0 249 (dk_at dksX9_added3_0 1 rfl rfl)
theorem dX9_added3_4 : decode cX9_added3 4 = .ok (.istore_n 1, 1) := dk_60 (dk_at dksX9_added3_0 4 rfl rfl)
theorem dX9_added3_5 : decode cX9_added3 5 = .ok (.aload_n 0, 1) := dk_42 (dk_at dksX9_added3_0 5 rfl rfl)
theorem dX9_added3_6 : decode cX9_added3 6 = .ok (.bipush 43, 2) := dk_16 43 (dk_at dksX9_added3_0 6 rfl rfl)
theorem dX9_added3_8 : decode cX9_added3 8 = .ok (.invokevirtual 195, 3) := dk_182 0 195 (dk_at dksX9_added3_0 8 rfl rfl)
theorem dX9_added3_11 : decode cX9_added3 11 = .ok (.ifCond .ne 12, 3) := dk_154 0 12 (dk_at dksX9_added3_0 11 rfl rfl)
theorem dX9_added3_14 : decode cX9_added3 14 = .ok (.aload_n 0, 1) := dk_42 (dk_at dksX9_added3_0 14 rfl rfl)
theorem dX9_added3_15 : decode cX9_added3 15 = .ok (.bipush 45, 2) := dk_16 45 (dk_at dksX9_added3_0 15 rfl rfl)
theorem dX9_added3_17 : decode cX9_added3 17 = .ok (.invokevirtual 195, 3) := dk_182 0 195 (dk_at dksX9_added3_0 17 rfl rfl)
theorem dX9_added3_20 : decode cX9_added3 20 = .ok (.ifCond .eq 46, 3) := dk_153 0 46 (dk_at dksX9_added3_0 20 rfl rfl)
theorem dX9_added3_23 : decode cX9_added3 23 = .ok (.aload_n 0, 1) := dk_42 (dk_at dksX9_added3_0 23 rfl rfl)
theorem dX9_added3_24 : decode cX9_added3 24 = .ok (.getfield 150, 3) := dk_180 0 150 (dk_at dksX9_added3_1 0 rfl rfl)
theorem dX9_added3_27 : decode cX9_added3 27 = .ok (.ldc2_w 212, 3) := dk_20 0 212 (dk_at dksX9_added3_1 3 rfl rfl)
theorem dX9_added3_30 : decode cX9_added3 30 = .ok (.lcmp, 1) := dk_148 (dk_at dksX9_added3_1 6 rfl rfl)
theorem dX9_added3_31 : decode cX9_added3 31 = .ok (.ifCond .ne 7, 3) := dk_154 0 7 (dk_at dksX9_added3_1 7 rfl rfl)
theorem dX9_added3_34 : decode cX9_added3 34 = .ok (.iconst 1, 1) := dk_4 (dk_at dksX9_added3_1 10 rfl rfl)
theorem dX9_added3_35 : decode cX9_added3 35 = .ok (.goto 4, 3) := dk_167 0 4 (dk_at dksX9_added3_1 11 rfl rfl)
theorem dX9_added3_38 : decode cX9_added3 38 = .ok (.iconst 0, 1) := dk_3 (dk_at dksX9_added3_1 14 rfl rfl)
theorem dX9_added3_39 : decode cX9_added3 39 = .ok (.istore_n 2, 1) := dk_61 (dk_at dksX9_added3_1 15 rfl rfl)
theorem dX9_added3_40 : decode cX9_added3 40 = .ok (.aload_n 0, 1) := dk_42 (dk_at dksX9_added3_1 16 rfl rfl)
theorem dX9_added3_41 : decode cX9_added3 41 = .ok (.invokevirtual 170, 3) := dk_182 0 170 (dk_at dksX9_added3_1 17 rfl rfl)
theorem dX9_added3_44 : decode cX9_added3 44 = .ok (.aload_n 0, 1) := dk_42 (dk_at dksX9_added3_1 20 rfl rfl)
theorem dX9_added3_45 : decode cX9_added3 45 = .ok (.invokevirtual 249, 3) := dk_182 0 249 (dk_at dksX9_added3_1 21 rfl rfl)
theorem dX9_added3_48 : decode cX9_added3 48 = .ok (.istore_n 3, 1) := dk_62 (dk_at dksX9_added3_2 0 rfl rfl)
theorem dX9_added3_49 : decode cX9_added3 49 = .ok (.iload_n 2, 1) := dk_28 (dk_at dksX9_added3_2 1 rfl rfl)
theorem dX9_added3_50 : decode cX9_added3 50 = .ok (.ifCond .eq 9, 3) := dk_153 0 9 (dk_at dksX9_added3_2 2 rfl rfl)
theorem dX9_added3_53 : decode cX9_added3 53 = .ok (.iload_n 1, 1) := dk_27 (dk_at dksX9_added3_2 5 rfl rfl)
theorem dX9_added3_54 : decode cX9_added3 54 = .ok (.iload_n 3, 1) := dk_29 (dk_at dksX9_added3_2 6 rfl rfl)
theorem dX9_added3_55 : decode cX9_added3 55 = .ok (.iadd, 1) := dk_96 (dk_at dksX9_added3_2 7 rfl rfl)
theorem dX9_added3_56 : decode cX9_added3 56 = .ok (.goto 6, 3) := dk_167 0 6 (dk_at dksX9_added3_2 8 rfl rfl)
theorem dX9_added3_59 : decode cX9_added3 59 = .ok (.iload_n 1, 1) := dk_27 (dk_at dksX9_added3_2 11 rfl rfl)
theorem dX9_added3_60 : decode cX9_added3 60 = .ok (.iload_n 3, 1) := dk_29 (dk_at dksX9_added3_2 12 rfl rfl)
theorem dX9_added3_61 : decode cX9_added3 61 = .ok (.isub, 1) := dk_100 (dk_at dksX9_added3_2 13 rfl rfl)
theorem dX9_added3_62 : decode cX9_added3 62 = .ok (.istore_n 1, 1) := dk_60 (dk_at dksX9_added3_2 14 rfl rfl)
theorem dX9_added3_63 : decode cX9_added3 63 = .ok (.goto (-58), 3) := dk_167 255 198 (dk_at dksX9_added3_2 15 rfl rfl)
theorem dX9_added3_66 : decode cX9_added3 66 = .ok (.iload_n 1, 1) := dk_27 (dk_at dksX9_added3_2 18 rfl rfl)
theorem dX9_added3_67 : decode cX9_added3 67 = .ok (.ireturn, 1) := dk_172 (dk_at dksX9_added3_2 19 rfl rfl)
abbrev cX9_term3 : ByteArray := prog_17_method_38_code
def yX9_term3 : MethodName := ⟨RX9, "term3", "()I"⟩
def dkwX9_term3_1 : List UInt8 := [60, 167, 255, 236, 27, 172]
abbrev dktX9_term3_1 : List UInt8 := dkwX9_term3_1 ++ []
def dkwX9_term3_0 : List UInt8 := [42, 182, 0, 246, 60, 42, 16, 42, 182, 0, 195, 153, 0, 17, 42, 182, 0, 170, 27, 42, 182, 0, 246, 104]
abbrev dktX9_term3_0 : List UInt8 := dkwX9_term3_0 ++ dktX9_term3_1
theorem dksX9_term3_0 : cX9_term3.data.toList.drop 0 = dktX9_term3_0 := by decide +kernel
theorem dksX9_term3_1 : cX9_term3.data.toList.drop 24 = dktX9_term3_1 := dk_seg dksX9_term3_0 24 rfl rfl
theorem dX9_term3_0 : decode cX9_term3 0 = .ok (.aload_n 0, 1) := dk_42 (dk_at dksX9_term3_0 0 rfl rfl)
theorem dX9_term3_1 : decode cX9_term3 1 = .ok (.invokevirtual 246, 3) := dk_182 0 246 (dk_at dksX9_term3_0 1 rfl rfl)
theorem dX9_term3_4 : decode cX9_term3 4 = .ok (.istore_n 1, 1) := dk_60 (dk_at dksX9_term3_0 4 rfl rfl)
theorem dX9_term3_5 : decode cX9_term3 5 = .ok (.aload_n 0, 1) := dk_42 (dk_at dksX9_term3_0 5 rfl rfl)
theorem dX9_term3_6 : decode cX9_term3 6 = .ok (.bipush 42, 2) := dk_16 42 (dk_at dksX9_term3_0 6 rfl rfl)
theorem dX9_term3_8 : decode cX9_term3 8 = .ok (.invokevirtual 195, 3) := dk_182 0 195 (dk_at dksX9_term3_0 8 rfl rfl)
theorem dX9_term3_11 : decode cX9_term3 11 = .ok (.ifCond .eq 17, 3) := dk_153 0 17 (dk_at dksX9_term3_0 11 rfl rfl)
theorem dX9_term3_14 : decode cX9_term3 14 = .ok (.aload_n 0, 1) := dk_42 (dk_at dksX9_term3_0 14 rfl rfl)
theorem dX9_term3_15 : decode cX9_term3 15 = .ok (.invokevirtual 170, 3) := dk_182 0 170 (dk_at dksX9_term3_0 15 rfl rfl)
theorem dX9_term3_18 : decode cX9_term3 18 = .ok (.iload_n 1, 1) := dk_27 (dk_at dksX9_term3_0 18 rfl rfl)
theorem dX9_term3_19 : decode cX9_term3 19 = .ok (.aload_n 0, 1) := dk_42 (dk_at dksX9_term3_0 19 rfl rfl)
theorem dX9_term3_20 : decode cX9_term3 20 = .ok (.invokevirtual 246, 3) := dk_182 0 246 (dk_at dksX9_term3_0 20 rfl rfl)
theorem dX9_term3_23 : decode cX9_term3 23 = .ok (.imul, 1) := dk_104 (dk_at dksX9_term3_0 23 rfl rfl)
theorem dX9_term3_24 : decode cX9_term3 24 = .ok (.istore_n 1, 1) := dk_60 (dk_at dksX9_term3_1 0 rfl rfl)
theorem dX9_term3_25 : decode cX9_term3 25 = .ok (.goto (-20), 3) := dk_167 255 236 (dk_at dksX9_term3_1 1 rfl rfl)
theorem dX9_term3_28 : decode cX9_term3 28 = .ok (.iload_n 1, 1) := dk_27 (dk_at dksX9_term3_1 4 rfl rfl)
theorem dX9_term3_29 : decode cX9_term3 29 = .ok (.ireturn, 1) := dk_172 (dk_at dksX9_term3_1 5 rfl rfl)
abbrev cX9_atom3 : ByteArray := prog_17_method_37_code
def yX9_atom3 : MethodName := ⟨RX9, "atom3", "()I"⟩
def dkwX9_atom3_6 : List UInt8 := [182, 0, 202, 60, 42, 180, 0, 154, 154, 0, 14, 42, 182, 0, 170, 167, 0, 7, 42, 182, 0, 167, 27, 172]
abbrev dktX9_atom3_6 : List UInt8 := dkwX9_atom3_6 ++ []
def dkwX9_atom3_5 : List UInt8 := [182, 0, 170, 167, 0, 41, 42, 180, 0, 154, 154, 0, 30, 42, 180, 0, 139, 4, 160, 0, 22, 42]
abbrev dktX9_atom3_5 : List UInt8 := dkwX9_atom3_5 ++ dktX9_atom3_6
def dkwX9_atom3_4 : List UInt8 := [42, 180, 0, 154, 154, 0, 24, 42, 180, 0, 139, 5, 160, 0, 16, 42, 180, 0, 150, 136, 60, 42]
abbrev dktX9_atom3_4 : List UInt8 := dkwX9_atom3_4 ++ dktX9_atom3_5
def dkwX9_atom3_3 : List UInt8 := [42, 89, 180, 0, 164, 4, 100, 181, 0, 164, 42, 180, 0, 154, 154, 0, 76, 42, 182, 0, 170, 167, 0, 69]
abbrev dktX9_atom3_3 : List UInt8 := dkwX9_atom3_3 ++ dktX9_atom3_4
def dkwX9_atom3_2 : List UInt8 := [182, 0, 198, 153, 0, 111, 42, 182, 0, 243, 60, 42, 16, 41, 182, 0, 195, 154, 0, 7, 42, 182, 0, 167]
abbrev dktX9_atom3_2 : List UInt8 := dkwX9_atom3_2 ++ dktX9_atom3_3
def dkwX9_atom3_1 : List UInt8 := [42, 89, 180, 0, 164, 4, 100, 181, 0, 164, 167, 0, 127, 42, 16, 40, 182, 0, 195, 153, 0, 52, 42]
abbrev dktX9_atom3_1 : List UInt8 := dkwX9_atom3_1 ++ dktX9_atom3_2
def dkwX9_atom3_0 : List UInt8 := [3, 60, 42, 16, 45, 182, 0, 195, 153, 0, 29, 42, 182, 0, 198, 153, 0, 146, 42, 182, 0, 228, 116, 60]
abbrev dktX9_atom3_0 : List UInt8 := dkwX9_atom3_0 ++ dktX9_atom3_1
theorem dksX9_atom3_0 : cX9_atom3.data.toList.drop 0 = dktX9_atom3_0 := by decide +kernel
theorem dksX9_atom3_1 : cX9_atom3.data.toList.drop 24 = dktX9_atom3_1 := dk_seg dksX9_atom3_0 24 rfl rfl
theorem dksX9_atom3_2 : cX9_atom3.data.toList.drop 47 = dktX9_atom3_2 := dk_seg dksX9_atom3_1 23 rfl rfl
theorem dksX9_atom3_3 : cX9_atom3.data.toList.drop 71 = dktX9_atom3_3 := dk_seg dksX9_atom3_2 24 rfl rfl
theorem dksX9_atom3_4 : cX9_atom3.data.toList.drop 95 = dktX9_atom3_4 := dk_seg dksX9_atom3_3 24 rfl rfl
theorem dksX9_atom3_5 : cX9_atom3.data.toList.drop 117 = dktX9_atom3_5 := dk_seg dksX9_atom3_4 22 rfl rfl
theorem dksX9_atom3_6 : cX9_atom3.data.toList.drop 139 = dktX9_atom3_6 := dk_seg dksX9_atom3_5 22 rfl rfl
theorem dX9_atom3_0 : decode cX9_atom3 0 = .ok (.iconst 0, 1) := dk_3 (dk_at dksX9_atom3_0 0 rfl rfl)
theorem dX9_atom3_1 : decode cX9_atom3 1 = .ok (.istore_n 1, 1) := dk_60 (dk_at dksX9_atom3_0 1 rfl rfl)
theorem dX9_atom3_2 : decode cX9_atom3 2 = .ok (.aload_n 0, 1) := dk_42 (dk_at dksX9_atom3_0 2 rfl rfl)
theorem dX9_atom3_3 : decode cX9_atom3 3 = .ok (.bipush 45, 2) := dk_16 45 (dk_at dksX9_atom3_0 3 rfl rfl)
theorem dX9_atom3_5 : decode cX9_atom3 5 = .ok (.invokevirtual 195, 3) := dk_182 0 195 (dk_at dksX9_atom3_0 5 rfl rfl)
theorem dX9_atom3_8 : decode cX9_atom3 8 = .ok (.ifCond .eq 29, 3) := dk_153 0 29 (dk_at dksX9_atom3_0 8 rfl rfl)
theorem dX9_atom3_11 : decode cX9_atom3 11 = .ok (.aload_n 0, 1) := dk_42 (dk_at dksX9_atom3_0 11 rfl rfl)
theorem dX9_atom3_12 : decode cX9_atom3 12 = .ok (.invokevirtual 198, 3) := dk_182 0 198 (dk_at dksX9_atom3_0 12 rfl rfl)
theorem dX9_atom3_15 : decode cX9_atom3 15 = .ok (.ifCond .eq 146, 3) := dk_153 0 146 (dk_at dksX9_atom3_0 15 rfl rfl)
theorem dX9_atom3_18 : decode cX9_atom3 18 = .ok (.aload_n 0, 1) := dk_42 (dk_at dksX9_atom3_0 18 rfl rfl)
theorem dX9_atom3_19 : decode cX9_atom3 19 = .ok (.invokevirtual 228, 3) := dk_182 0 228 (dk_at dksX9_atom3_0 19 rfl rfl)
theorem dX9_atom3_22 : decode cX9_atom3 22 = .ok (.ineg, 1) := dk_116 (dk_at dksX9_atom3_0 22 rfl rfl)
theorem dX9_atom3_23 : decode cX9_atom3 23 = .ok (.istore_n 1, 1) := dk_60 (dk_at dksX9_atom3_0 23 rfl rfl)
theorem dX9_atom3_24 : decode cX9_atom3 24 = .ok (.aload_n 0, 1) := dk_42 (dk_at dksX9_atom3_1 0 rfl rfl)
theorem dX9_atom3_25 : decode cX9_atom3 25 = .ok (.dup, 1) := dk_89 (dk_at dksX9_atom3_1 1 rfl rfl)
theorem dX9_atom3_26 : decode cX9_atom3 26 = .ok (.getfield 164, 3) := dk_180 0 164 (dk_at dksX9_atom3_1 2 rfl rfl)
theorem dX9_atom3_29 : decode cX9_atom3 29 = .ok (.iconst 1, 1) := dk_4 (dk_at dksX9_atom3_1 5 rfl rfl)
theorem dX9_atom3_30 : decode cX9_atom3 30 = .ok (.isub, 1) := dk_100 (dk_at dksX9_atom3_1 6 rfl rfl)
theorem dX9_atom3_31 : decode cX9_atom3 31 = .ok (.putfield 164, 3) := dk_181 0 164 (dk_at dksX9_atom3_1 7 rfl rfl)
theorem dX9_atom3_34 : decode cX9_atom3 34 = .ok (.goto 127, 3) := dk_167 0 127 (dk_at dksX9_atom3_1 10 rfl rfl)
theorem dX9_atom3_37 : decode cX9_atom3 37 = .ok (.aload_n 0, 1) := dk_42 (dk_at dksX9_atom3_1 13 rfl rfl)
theorem dX9_atom3_38 : decode cX9_atom3 38 = .ok (.bipush 40, 2) := dk_16 40 (dk_at dksX9_atom3_1 14 rfl rfl)
theorem dX9_atom3_40 : decode cX9_atom3 40 = .ok (.invokevirtual 195, 3) := dk_182 0 195 (dk_at dksX9_atom3_1 16 rfl rfl)
theorem dX9_atom3_43 : decode cX9_atom3 43 = .ok (.ifCond .eq 52, 3) := dk_153 0 52 (dk_at dksX9_atom3_1 19 rfl rfl)
theorem dX9_atom3_46 : decode cX9_atom3 46 = .ok (.aload_n 0, 1) := dk_42 (dk_at dksX9_atom3_1 22 rfl rfl)
theorem dX9_atom3_47 : decode cX9_atom3 47 = .ok (.invokevirtual 198, 3) := dk_182 0 198 (dk_at dksX9_atom3_2 0 rfl rfl)
theorem dX9_atom3_50 : decode cX9_atom3 50 = .ok (.ifCond .eq 111, 3) := dk_153 0 111 (dk_at dksX9_atom3_2 3 rfl rfl)
theorem dX9_atom3_53 : decode cX9_atom3 53 = .ok (.aload_n 0, 1) := dk_42 (dk_at dksX9_atom3_2 6 rfl rfl)
theorem dX9_atom3_54 : decode cX9_atom3 54 = .ok (.invokevirtual 243, 3) := dk_182 0 243 (dk_at dksX9_atom3_2 7 rfl rfl)
theorem dX9_atom3_57 : decode cX9_atom3 57 = .ok (.istore_n 1, 1) := dk_60 (dk_at dksX9_atom3_2 10 rfl rfl)
theorem dX9_atom3_58 : decode cX9_atom3 58 = .ok (.aload_n 0, 1) := dk_42 (dk_at dksX9_atom3_2 11 rfl rfl)
theorem dX9_atom3_59 : decode cX9_atom3 59 = .ok (.bipush 41, 2) := dk_16 41 (dk_at dksX9_atom3_2 12 rfl rfl)
theorem dX9_atom3_61 : decode cX9_atom3 61 = .ok (.invokevirtual 195, 3) := dk_182 0 195 (dk_at dksX9_atom3_2 14 rfl rfl)
theorem dX9_atom3_64 : decode cX9_atom3 64 = .ok (.ifCond .ne 7, 3) := dk_154 0 7 (dk_at dksX9_atom3_2 17 rfl rfl)
theorem dX9_atom3_67 : decode cX9_atom3 67 = .ok (.aload_n 0, 1) := dk_42 (dk_at dksX9_atom3_2 20 rfl rfl)
theorem dX9_atom3_68 : decode cX9_atom3 68 = .ok (.invokevirtual 167, 3) := dk_182 0 167 (dk_at dksX9_atom3_2 21 rfl rfl)
theorem dX9_atom3_71 : decode cX9_atom3 71 = .ok (.aload_n 0, 1) := dk_42 (dk_at dksX9_atom3_3 0 rfl rfl)
theorem dX9_atom3_72 : decode cX9_atom3 72 = .ok (.dup, 1) := dk_89 (dk_at dksX9_atom3_3 1 rfl rfl)
theorem dX9_atom3_73 : decode cX9_atom3 73 = .ok (.getfield 164, 3) := dk_180 0 164 (dk_at dksX9_atom3_3 2 rfl rfl)
theorem dX9_atom3_76 : decode cX9_atom3 76 = .ok (.iconst 1, 1) := dk_4 (dk_at dksX9_atom3_3 5 rfl rfl)
theorem dX9_atom3_77 : decode cX9_atom3 77 = .ok (.isub, 1) := dk_100 (dk_at dksX9_atom3_3 6 rfl rfl)
theorem dX9_atom3_78 : decode cX9_atom3 78 = .ok (.putfield 164, 3) := dk_181 0 164 (dk_at dksX9_atom3_3 7 rfl rfl)
theorem dX9_atom3_81 : decode cX9_atom3 81 = .ok (.aload_n 0, 1) := dk_42 (dk_at dksX9_atom3_3 10 rfl rfl)
theorem dX9_atom3_82 : decode cX9_atom3 82 = .ok (.getfield 154, 3) := dk_180 0 154 (dk_at dksX9_atom3_3 11 rfl rfl)
theorem dX9_atom3_85 : decode cX9_atom3 85 = .ok (.ifCond .ne 76, 3) := dk_154 0 76 (dk_at dksX9_atom3_3 14 rfl rfl)
theorem dX9_atom3_88 : decode cX9_atom3 88 = .ok (.aload_n 0, 1) := dk_42 (dk_at dksX9_atom3_3 17 rfl rfl)
theorem dX9_atom3_89 : decode cX9_atom3 89 = .ok (.invokevirtual 170, 3) := dk_182 0 170 (dk_at dksX9_atom3_3 18 rfl rfl)
theorem dX9_atom3_92 : decode cX9_atom3 92 = .ok (.goto 69, 3) := dk_167 0 69 (dk_at dksX9_atom3_3 21 rfl rfl)
theorem dX9_atom3_95 : decode cX9_atom3 95 = .ok (.aload_n 0, 1) := dk_42 (dk_at dksX9_atom3_4 0 rfl rfl)
theorem dX9_atom3_96 : decode cX9_atom3 96 = .ok (.getfield 154, 3) := dk_180 0 154 (dk_at dksX9_atom3_4 1 rfl rfl)
theorem dX9_atom3_99 : decode cX9_atom3 99 = .ok (.ifCond .ne 24, 3) := dk_154 0 24 (dk_at dksX9_atom3_4 4 rfl rfl)
theorem dX9_atom3_102 : decode cX9_atom3 102 = .ok (.aload_n 0, 1) := dk_42 (dk_at dksX9_atom3_4 7 rfl rfl)
theorem dX9_atom3_103 : decode cX9_atom3 103 = .ok (.getfield 139, 3) := dk_180 0 139 (dk_at dksX9_atom3_4 8 rfl rfl)
theorem dX9_atom3_106 : decode cX9_atom3 106 = .ok (.iconst 2, 1) := dk_5 (dk_at dksX9_atom3_4 11 rfl rfl)
theorem dX9_atom3_107 : decode cX9_atom3 107 = .ok (.if_icmp .ne 16, 3) := dk_160 0 16 (dk_at dksX9_atom3_4 12 rfl rfl)
theorem dX9_atom3_110 : decode cX9_atom3 110 = .ok (.aload_n 0, 1) := dk_42 (dk_at dksX9_atom3_4 15 rfl rfl)
theorem dX9_atom3_111 : decode cX9_atom3 111 = .ok (.getfield 150, 3) := dk_180 0 150 (dk_at dksX9_atom3_4 16 rfl rfl)
theorem dX9_atom3_114 : decode cX9_atom3 114 = .ok (.l2i, 1) := dk_136 (dk_at dksX9_atom3_4 19 rfl rfl)
theorem dX9_atom3_115 : decode cX9_atom3 115 = .ok (.istore_n 1, 1) := dk_60 (dk_at dksX9_atom3_4 20 rfl rfl)
theorem dX9_atom3_116 : decode cX9_atom3 116 = .ok (.aload_n 0, 1) := dk_42 (dk_at dksX9_atom3_4 21 rfl rfl)
theorem dX9_atom3_117 : decode cX9_atom3 117 = .ok (.invokevirtual 170, 3) := dk_182 0 170 (dk_at dksX9_atom3_5 0 rfl rfl)
theorem dX9_atom3_120 : decode cX9_atom3 120 = .ok (.goto 41, 3) := dk_167 0 41 (dk_at dksX9_atom3_5 3 rfl rfl)
theorem dX9_atom3_123 : decode cX9_atom3 123 = .ok (.aload_n 0, 1) := dk_42 (dk_at dksX9_atom3_5 6 rfl rfl)
theorem dX9_atom3_124 : decode cX9_atom3 124 = .ok (.getfield 154, 3) := dk_180 0 154 (dk_at dksX9_atom3_5 7 rfl rfl)
theorem dX9_atom3_127 : decode cX9_atom3 127 = .ok (.ifCond .ne 30, 3) := dk_154 0 30 (dk_at dksX9_atom3_5 10 rfl rfl)
theorem dX9_atom3_130 : decode cX9_atom3 130 = .ok (.aload_n 0, 1) := dk_42 (dk_at dksX9_atom3_5 13 rfl rfl)
theorem dX9_atom3_131 : decode cX9_atom3 131 = .ok (.getfield 139, 3) := dk_180 0 139 (dk_at dksX9_atom3_5 14 rfl rfl)
theorem dX9_atom3_134 : decode cX9_atom3 134 = .ok (.iconst 1, 1) := dk_4 (dk_at dksX9_atom3_5 17 rfl rfl)
theorem dX9_atom3_135 : decode cX9_atom3 135 = .ok (.if_icmp .ne 22, 3) := dk_160 0 22 (dk_at dksX9_atom3_5 18 rfl rfl)
theorem dX9_atom3_138 : decode cX9_atom3 138 = .ok (.aload_n 0, 1) := dk_42 (dk_at dksX9_atom3_5 21 rfl rfl)
theorem dX9_atom3_139 : decode cX9_atom3 139 = .ok (.invokevirtual 202, 3) := dk_182 0 202 (dk_at dksX9_atom3_6 0 rfl rfl)
theorem dX9_atom3_142 : decode cX9_atom3 142 = .ok (.istore_n 1, 1) := dk_60 (dk_at dksX9_atom3_6 3 rfl rfl)
theorem dX9_atom3_143 : decode cX9_atom3 143 = .ok (.aload_n 0, 1) := dk_42 (dk_at dksX9_atom3_6 4 rfl rfl)
theorem dX9_atom3_144 : decode cX9_atom3 144 = .ok (.getfield 154, 3) := dk_180 0 154 (dk_at dksX9_atom3_6 5 rfl rfl)
theorem dX9_atom3_147 : decode cX9_atom3 147 = .ok (.ifCond .ne 14, 3) := dk_154 0 14 (dk_at dksX9_atom3_6 8 rfl rfl)
theorem dX9_atom3_150 : decode cX9_atom3 150 = .ok (.aload_n 0, 1) := dk_42 (dk_at dksX9_atom3_6 11 rfl rfl)
theorem dX9_atom3_151 : decode cX9_atom3 151 = .ok (.invokevirtual 170, 3) := dk_182 0 170 (dk_at dksX9_atom3_6 12 rfl rfl)
theorem dX9_atom3_154 : decode cX9_atom3 154 = .ok (.goto 7, 3) := dk_167 0 7 (dk_at dksX9_atom3_6 15 rfl rfl)
theorem dX9_atom3_157 : decode cX9_atom3 157 = .ok (.aload_n 0, 1) := dk_42 (dk_at dksX9_atom3_6 18 rfl rfl)
theorem dX9_atom3_158 : decode cX9_atom3 158 = .ok (.invokevirtual 167, 3) := dk_182 0 167 (dk_at dksX9_atom3_6 19 rfl rfl)
theorem dX9_atom3_161 : decode cX9_atom3 161 = .ok (.iload_n 1, 1) := dk_27 (dk_at dksX9_atom3_6 22 rfl rfl)
theorem dX9_atom3_162 : decode cX9_atom3 162 = .ok (.ireturn, 1) := dk_172 (dk_at dksX9_atom3_6 23 rfl rfl)
abbrev cX9_either4 : ByteArray := prog_17_method_36_code
def yX9_either4 : MethodName := ⟨RX9, "either4", "()I"⟩
def dkwX9_either4_2 : List UInt8 := [167, 255, 216, 27, 172]
abbrev dktX9_either4_2 : List UInt8 := dkwX9_either4_2 ++ []
def dkwX9_either4_1 : List UInt8 := [182, 0, 170, 42, 182, 0, 240, 61, 27, 154, 0, 7, 28, 153, 0, 7, 4, 167, 0, 4, 3, 60]
abbrev dktX9_either4_1 : List UInt8 := dkwX9_either4_1 ++ dktX9_either4_2
def dkwX9_either4_0 : List UInt8 := [42, 182, 0, 240, 60, 42, 16, 111, 16, 114, 3, 3, 3, 3, 3, 3, 182, 0, 173, 153, 0, 29, 42]
abbrev dktX9_either4_0 : List UInt8 := dkwX9_either4_0 ++ dktX9_either4_1
theorem dksX9_either4_0 : cX9_either4.data.toList.drop 0 = dktX9_either4_0 := by decide +kernel
theorem dksX9_either4_1 : cX9_either4.data.toList.drop 23 = dktX9_either4_1 := dk_seg dksX9_either4_0 23 rfl rfl
theorem dksX9_either4_2 : cX9_either4.data.toList.drop 45 = dktX9_either4_2 := dk_seg dksX9_either4_1 22 rfl rfl
theorem dX9_either4_0 : decode cX9_either4 0 = .ok (.aload_n 0, 1) := dk_42 (dk_at dksX9_either4_0 0 rfl rfl)
theorem dX9_either4_1 : decode cX9_either4 1 = .ok (.invokevirtual 240, 3) := dk_182 0 240 (dk_at dksX9_either4_0 1 rfl rfl)
theorem dX9_either4_4 : decode cX9_either4 4 = .ok (.istore_n 1, 1) := dk_60 (dk_at dksX9_either4_0 4 rfl rfl)
theorem dX9_either4_5 : decode cX9_either4 5 = .ok (.aload_n 0, 1) := dk_42 (dk_at dksX9_either4_0 5 rfl rfl)
theorem dX9_either4_6 : decode cX9_either4 6 = .ok (.bipush 111, 2) := dk_16 111 (dk_at dksX9_either4_0 6 rfl rfl)
theorem dX9_either4_8 : decode cX9_either4 8 = .ok (.bipush 114, 2) := dk_16 114 (dk_at dksX9_either4_0 8 rfl rfl)
theorem dX9_either4_10 : decode cX9_either4 10 = .ok (.iconst 0, 1) := dk_3 (dk_at dksX9_either4_0 10 rfl rfl)
theorem dX9_either4_11 : decode cX9_either4 11 = .ok (.iconst 0, 1) := dk_3 (dk_at dksX9_either4_0 11 rfl rfl)
theorem dX9_either4_12 : decode cX9_either4 12 = .ok (.iconst 0, 1) := dk_3 (dk_at dksX9_either4_0 12 rfl rfl)
theorem dX9_either4_13 : decode cX9_either4 13 = .ok (.iconst 0, 1) := dk_3 (dk_at dksX9_either4_0 13 rfl rfl)
theorem dX9_either4_14 : decode cX9_either4 14 = .ok (.iconst 0, 1) := dk_3 (dk_at dksX9_either4_0 14 rfl rfl)
theorem dX9_either4_15 : decode cX9_either4 15 = .ok (.iconst 0, 1) := dk_3 (dk_at dksX9_either4_0 15 rfl rfl)
theorem dX9_either4_16 : decode cX9_either4 16 = .ok (.invokevirtual 173, 3) := dk_182 0 173 (dk_at dksX9_either4_0 16 rfl rfl)
theorem dX9_either4_19 : decode cX9_either4 19 = .ok (.ifCond .eq 29, 3) := dk_153 0 29 (dk_at dksX9_either4_0 19 rfl rfl)
theorem dX9_either4_22 : decode cX9_either4 22 = .ok (.aload_n 0, 1) := dk_42 (dk_at dksX9_either4_0 22 rfl rfl)
theorem dX9_either4_23 : decode cX9_either4 23 = .ok (.invokevirtual 170, 3) := dk_182 0 170 (dk_at dksX9_either4_1 0 rfl rfl)
theorem dX9_either4_26 : decode cX9_either4 26 = .ok (.aload_n 0, 1) := dk_42 (dk_at dksX9_either4_1 3 rfl rfl)
theorem dX9_either4_27 : decode cX9_either4 27 = .ok (.invokevirtual 240, 3) := dk_182 0 240 (dk_at dksX9_either4_1 4 rfl rfl)
theorem dX9_either4_30 : decode cX9_either4 30 = .ok (.istore_n 2, 1) := dk_61 (dk_at dksX9_either4_1 7 rfl rfl)
theorem dX9_either4_31 : decode cX9_either4 31 = .ok (.iload_n 1, 1) := dk_27 (dk_at dksX9_either4_1 8 rfl rfl)
theorem dX9_either4_32 : decode cX9_either4 32 = .ok (.ifCond .ne 7, 3) := dk_154 0 7 (dk_at dksX9_either4_1 9 rfl rfl)
theorem dX9_either4_35 : decode cX9_either4 35 = .ok (.iload_n 2, 1) := dk_28 (dk_at dksX9_either4_1 12 rfl rfl)
theorem dX9_either4_36 : decode cX9_either4 36 = .ok (.ifCond .eq 7, 3) := dk_153 0 7 (dk_at dksX9_either4_1 13 rfl rfl)
theorem dX9_either4_39 : decode cX9_either4 39 = .ok (.iconst 1, 1) := dk_4 (dk_at dksX9_either4_1 16 rfl rfl)
theorem dX9_either4_40 : decode cX9_either4 40 = .ok (.goto 4, 3) := dk_167 0 4 (dk_at dksX9_either4_1 17 rfl rfl)
theorem dX9_either4_43 : decode cX9_either4 43 = .ok (.iconst 0, 1) := dk_3 (dk_at dksX9_either4_1 20 rfl rfl)
theorem dX9_either4_44 : decode cX9_either4 44 = .ok (.istore_n 1, 1) := dk_60 (dk_at dksX9_either4_1 21 rfl rfl)
theorem dX9_either4_45 : decode cX9_either4 45 = .ok (.goto (-40), 3) := dk_167 255 216 (dk_at dksX9_either4_2 0 rfl rfl)
theorem dX9_either4_48 : decode cX9_either4 48 = .ok (.iload_n 1, 1) := dk_27 (dk_at dksX9_either4_2 3 rfl rfl)
theorem dX9_either4_49 : decode cX9_either4 49 = .ok (.ireturn, 1) := dk_172 (dk_at dksX9_either4_2 4 rfl rfl)
abbrev cX9_both4 : ByteArray := prog_17_method_35_code
def yX9_both4 : MethodName := ⟨RX9, "both4", "()I"⟩
def dkwX9_both4_2 : List UInt8 := [167, 255, 215, 27, 172]
abbrev dktX9_both4_2 : List UInt8 := dkwX9_both4_2 ++ []
def dkwX9_both4_1 : List UInt8 := [182, 0, 170, 42, 182, 0, 237, 61, 27, 153, 0, 11, 28, 153, 0, 7, 4, 167, 0, 4, 3, 60]
abbrev dktX9_both4_1 : List UInt8 := dkwX9_both4_1 ++ dktX9_both4_2
def dkwX9_both4_0 : List UInt8 := [42, 182, 0, 237, 60, 42, 16, 97, 16, 110, 16, 100, 3, 3, 3, 3, 3, 182, 0, 173, 153, 0, 29, 42]
abbrev dktX9_both4_0 : List UInt8 := dkwX9_both4_0 ++ dktX9_both4_1
theorem dksX9_both4_0 : cX9_both4.data.toList.drop 0 = dktX9_both4_0 := by decide +kernel
theorem dksX9_both4_1 : cX9_both4.data.toList.drop 24 = dktX9_both4_1 := dk_seg dksX9_both4_0 24 rfl rfl
theorem dksX9_both4_2 : cX9_both4.data.toList.drop 46 = dktX9_both4_2 := dk_seg dksX9_both4_1 22 rfl rfl
theorem dX9_both4_0 : decode cX9_both4 0 = .ok (.aload_n 0, 1) := dk_42 (dk_at dksX9_both4_0 0 rfl rfl)
theorem dX9_both4_1 : decode cX9_both4 1 = .ok (.invokevirtual 237, 3) := dk_182 0 237 (dk_at dksX9_both4_0 1 rfl rfl)
theorem dX9_both4_4 : decode cX9_both4 4 = .ok (.istore_n 1, 1) := dk_60 (dk_at dksX9_both4_0 4 rfl rfl)
theorem dX9_both4_5 : decode cX9_both4 5 = .ok (.aload_n 0, 1) := dk_42 (dk_at dksX9_both4_0 5 rfl rfl)
theorem dX9_both4_6 : decode cX9_both4 6 = .ok (.bipush 97, 2) := dk_16 97 (dk_at dksX9_both4_0 6 rfl rfl)
theorem dX9_both4_8 : decode cX9_both4 8 = .ok (.bipush 110, 2) := dk_16 110 (dk_at dksX9_both4_0 8 rfl rfl)
theorem dX9_both4_10 : decode cX9_both4 10 = .ok (.bipush 100, 2) := dk_16 100 (dk_at dksX9_both4_0 10 rfl rfl)
theorem dX9_both4_12 : decode cX9_both4 12 = .ok (.iconst 0, 1) := dk_3 (dk_at dksX9_both4_0 12 rfl rfl)
theorem dX9_both4_13 : decode cX9_both4 13 = .ok (.iconst 0, 1) := dk_3 (dk_at dksX9_both4_0 13 rfl rfl)
theorem dX9_both4_14 : decode cX9_both4 14 = .ok (.iconst 0, 1) := dk_3 (dk_at dksX9_both4_0 14 rfl rfl)
theorem dX9_both4_15 : decode cX9_both4 15 = .ok (.iconst 0, 1) := dk_3 (dk_at dksX9_both4_0 15 rfl rfl)
theorem dX9_both4_16 : decode cX9_both4 16 = .ok (.iconst 0, 1) := dk_3 (dk_at dksX9_both4_0 16 rfl rfl)
theorem dX9_both4_17 : decode cX9_both4 17 = .ok (.invokevirtual 173, 3) := dk_182 0 173 (dk_at dksX9_both4_0 17 rfl rfl)
theorem dX9_both4_20 : decode cX9_both4 20 = .ok (.ifCond .eq 29, 3) := dk_153 0 29 (dk_at dksX9_both4_0 20 rfl rfl)
theorem dX9_both4_23 : decode cX9_both4 23 = .ok (.aload_n 0, 1) := dk_42 (dk_at dksX9_both4_0 23 rfl rfl)
theorem dX9_both4_24 : decode cX9_both4 24 = .ok (.invokevirtual 170, 3) := dk_182 0 170 (dk_at dksX9_both4_1 0 rfl rfl)
theorem dX9_both4_27 : decode cX9_both4 27 = .ok (.aload_n 0, 1) := dk_42 (dk_at dksX9_both4_1 3 rfl rfl)
theorem dX9_both4_28 : decode cX9_both4 28 = .ok (.invokevirtual 237, 3) := dk_182 0 237 (dk_at dksX9_both4_1 4 rfl rfl)
theorem dX9_both4_31 : decode cX9_both4 31 = .ok (.istore_n 2, 1) := dk_61 (dk_at dksX9_both4_1 7 rfl rfl)
theorem dX9_both4_32 : decode cX9_both4 32 = .ok (.iload_n 1, 1) := dk_27 (dk_at dksX9_both4_1 8 rfl rfl)
theorem dX9_both4_33 : decode cX9_both4 33 = .ok (.ifCond .eq 11, 3) := dk_153 0 11 (dk_at dksX9_both4_1 9 rfl rfl)
theorem dX9_both4_36 : decode cX9_both4 36 = .ok (.iload_n 2, 1) := dk_28 (dk_at dksX9_both4_1 12 rfl rfl)
theorem dX9_both4_37 : decode cX9_both4 37 = .ok (.ifCond .eq 7, 3) := dk_153 0 7 (dk_at dksX9_both4_1 13 rfl rfl)
theorem dX9_both4_40 : decode cX9_both4 40 = .ok (.iconst 1, 1) := dk_4 (dk_at dksX9_both4_1 16 rfl rfl)
theorem dX9_both4_41 : decode cX9_both4 41 = .ok (.goto 4, 3) := dk_167 0 4 (dk_at dksX9_both4_1 17 rfl rfl)
theorem dX9_both4_44 : decode cX9_both4 44 = .ok (.iconst 0, 1) := dk_3 (dk_at dksX9_both4_1 20 rfl rfl)
theorem dX9_both4_45 : decode cX9_both4 45 = .ok (.istore_n 1, 1) := dk_60 (dk_at dksX9_both4_1 21 rfl rfl)
theorem dX9_both4_46 : decode cX9_both4 46 = .ok (.goto (-41), 3) := dk_167 255 215 (dk_at dksX9_both4_2 0 rfl rfl)
theorem dX9_both4_49 : decode cX9_both4 49 = .ok (.iload_n 1, 1) := dk_27 (dk_at dksX9_both4_2 3 rfl rfl)
theorem dX9_both4_50 : decode cX9_both4 50 = .ok (.ireturn, 1) := dk_172 (dk_at dksX9_both4_2 4 rfl rfl)
abbrev cX9_added2 : ByteArray := prog_17_method_45_code
def yX9_added2 : MethodName := ⟨RX9, "added2", "()I"⟩
def dkwX9_added2_2 : List UInt8 := [62, 28, 153, 0, 9, 27, 29, 96, 167, 0, 6, 27, 29, 100, 60, 167, 255, 198, 27, 172]
abbrev dktX9_added2_2 : List UInt8 := dkwX9_added2_2 ++ []
def dkwX9_added2_1 : List UInt8 := [180, 0, 150, 20, 0, 212, 148, 154, 0, 7, 4, 167, 0, 4, 3, 61, 42, 182, 0, 170, 42, 182, 1, 11]
abbrev dktX9_added2_1 : List UInt8 := dkwX9_added2_1 ++ dktX9_added2_2
def dkwX9_added2_0 : List UInt8 := [42, 182, 1, 11, 60, 42, 16, 43, 182, 0, 195, 154, 0, 12, 42, 16, 45, 182, 0, 195, 153, 0, 46, 42]
abbrev dktX9_added2_0 : List UInt8 := dkwX9_added2_0 ++ dktX9_added2_1
theorem dksX9_added2_0 : cX9_added2.data.toList.drop 0 = dktX9_added2_0 := by decide +kernel
theorem dksX9_added2_1 : cX9_added2.data.toList.drop 24 = dktX9_added2_1 := dk_seg dksX9_added2_0 24 rfl rfl
theorem dksX9_added2_2 : cX9_added2.data.toList.drop 48 = dktX9_added2_2 := dk_seg dksX9_added2_1 24 rfl rfl
theorem dX9_added2_0 : decode cX9_added2 0 = .ok (.aload_n 0, 1) := dk_42 (dk_at dksX9_added2_0 0 rfl rfl)
theorem dX9_added2_1 : decode cX9_added2 1 = .ok (.invokevirtual 267, 3) := dk_182 1 11 (dk_at dksX9_added2_0 1 rfl rfl)
theorem dX9_added2_4 : decode cX9_added2 4 = .ok (.istore_n 1, 1) := dk_60 (dk_at dksX9_added2_0 4 rfl rfl)
theorem dX9_added2_5 : decode cX9_added2 5 = .ok (.aload_n 0, 1) := dk_42 (dk_at dksX9_added2_0 5 rfl rfl)
theorem dX9_added2_6 : decode cX9_added2 6 = .ok (.bipush 43, 2) := dk_16 43 (dk_at dksX9_added2_0 6 rfl rfl)
theorem dX9_added2_8 : decode cX9_added2 8 = .ok (.invokevirtual 195, 3) := dk_182 0 195 (dk_at dksX9_added2_0 8 rfl rfl)
theorem dX9_added2_11 : decode cX9_added2 11 = .ok (.ifCond .ne 12, 3) := dk_154 0 12 (dk_at dksX9_added2_0 11 rfl rfl)
theorem dX9_added2_14 : decode cX9_added2 14 = .ok (.aload_n 0, 1) := dk_42 (dk_at dksX9_added2_0 14 rfl rfl)
theorem dX9_added2_15 : decode cX9_added2 15 = .ok (.bipush 45, 2) := dk_16 45 (dk_at dksX9_added2_0 15 rfl rfl)
theorem dX9_added2_17 : decode cX9_added2 17 = .ok (.invokevirtual 195, 3) := dk_182 0 195 (dk_at dksX9_added2_0 17 rfl rfl)
theorem dX9_added2_20 : decode cX9_added2 20 = .ok (.ifCond .eq 46, 3) := dk_153 0 46 (dk_at dksX9_added2_0 20 rfl rfl)
theorem dX9_added2_23 : decode cX9_added2 23 = .ok (.aload_n 0, 1) := dk_42 (dk_at dksX9_added2_0 23 rfl rfl)
theorem dX9_added2_24 : decode cX9_added2 24 = .ok (.getfield 150, 3) := dk_180 0 150 (dk_at dksX9_added2_1 0 rfl rfl)
theorem dX9_added2_27 : decode cX9_added2 27 = .ok (.ldc2_w 212, 3) := dk_20 0 212 (dk_at dksX9_added2_1 3 rfl rfl)
theorem dX9_added2_30 : decode cX9_added2 30 = .ok (.lcmp, 1) := dk_148 (dk_at dksX9_added2_1 6 rfl rfl)
theorem dX9_added2_31 : decode cX9_added2 31 = .ok (.ifCond .ne 7, 3) := dk_154 0 7 (dk_at dksX9_added2_1 7 rfl rfl)
theorem dX9_added2_34 : decode cX9_added2 34 = .ok (.iconst 1, 1) := dk_4 (dk_at dksX9_added2_1 10 rfl rfl)
theorem dX9_added2_35 : decode cX9_added2 35 = .ok (.goto 4, 3) := dk_167 0 4 (dk_at dksX9_added2_1 11 rfl rfl)
theorem dX9_added2_38 : decode cX9_added2 38 = .ok (.iconst 0, 1) := dk_3 (dk_at dksX9_added2_1 14 rfl rfl)
theorem dX9_added2_39 : decode cX9_added2 39 = .ok (.istore_n 2, 1) := dk_61 (dk_at dksX9_added2_1 15 rfl rfl)
theorem dX9_added2_40 : decode cX9_added2 40 = .ok (.aload_n 0, 1) := dk_42 (dk_at dksX9_added2_1 16 rfl rfl)
theorem dX9_added2_41 : decode cX9_added2 41 = .ok (.invokevirtual 170, 3) := dk_182 0 170 (dk_at dksX9_added2_1 17 rfl rfl)
theorem dX9_added2_44 : decode cX9_added2 44 = .ok (.aload_n 0, 1) := dk_42 (dk_at dksX9_added2_1 20 rfl rfl)
theorem dX9_added2_45 : decode cX9_added2 45 = .ok (.invokevirtual 267, 3) := dk_182 1 11 (dk_at dksX9_added2_1 21 rfl rfl)
theorem dX9_added2_48 : decode cX9_added2 48 = .ok (.istore_n 3, 1) := dk_62 (dk_at dksX9_added2_2 0 rfl rfl)
theorem dX9_added2_49 : decode cX9_added2 49 = .ok (.iload_n 2, 1) := dk_28 (dk_at dksX9_added2_2 1 rfl rfl)
theorem dX9_added2_50 : decode cX9_added2 50 = .ok (.ifCond .eq 9, 3) := dk_153 0 9 (dk_at dksX9_added2_2 2 rfl rfl)
theorem dX9_added2_53 : decode cX9_added2 53 = .ok (.iload_n 1, 1) := dk_27 (dk_at dksX9_added2_2 5 rfl rfl)
theorem dX9_added2_54 : decode cX9_added2 54 = .ok (.iload_n 3, 1) := dk_29 (dk_at dksX9_added2_2 6 rfl rfl)
theorem dX9_added2_55 : decode cX9_added2 55 = .ok (.iadd, 1) := dk_96 (dk_at dksX9_added2_2 7 rfl rfl)
theorem dX9_added2_56 : decode cX9_added2 56 = .ok (.goto 6, 3) := dk_167 0 6 (dk_at dksX9_added2_2 8 rfl rfl)
theorem dX9_added2_59 : decode cX9_added2 59 = .ok (.iload_n 1, 1) := dk_27 (dk_at dksX9_added2_2 11 rfl rfl)
theorem dX9_added2_60 : decode cX9_added2 60 = .ok (.iload_n 3, 1) := dk_29 (dk_at dksX9_added2_2 12 rfl rfl)
theorem dX9_added2_61 : decode cX9_added2 61 = .ok (.isub, 1) := dk_100 (dk_at dksX9_added2_2 13 rfl rfl)
theorem dX9_added2_62 : decode cX9_added2 62 = .ok (.istore_n 1, 1) := dk_60 (dk_at dksX9_added2_2 14 rfl rfl)
theorem dX9_added2_63 : decode cX9_added2 63 = .ok (.goto (-58), 3) := dk_167 255 198 (dk_at dksX9_added2_2 15 rfl rfl)
theorem dX9_added2_66 : decode cX9_added2 66 = .ok (.iload_n 1, 1) := dk_27 (dk_at dksX9_added2_2 18 rfl rfl)
theorem dX9_added2_67 : decode cX9_added2 67 = .ok (.ireturn, 1) := dk_172 (dk_at dksX9_added2_2 19 rfl rfl)
abbrev cX9_term2 : ByteArray := prog_17_method_44_code
def yX9_term2 : MethodName := ⟨RX9, "term2", "()I"⟩
def dkwX9_term2_1 : List UInt8 := [60, 167, 255, 236, 27, 172]
abbrev dktX9_term2_1 : List UInt8 := dkwX9_term2_1 ++ []
def dkwX9_term2_0 : List UInt8 := [42, 182, 1, 8, 60, 42, 16, 42, 182, 0, 195, 153, 0, 17, 42, 182, 0, 170, 27, 42, 182, 1, 8, 104]
abbrev dktX9_term2_0 : List UInt8 := dkwX9_term2_0 ++ dktX9_term2_1
theorem dksX9_term2_0 : cX9_term2.data.toList.drop 0 = dktX9_term2_0 := by decide +kernel
theorem dksX9_term2_1 : cX9_term2.data.toList.drop 24 = dktX9_term2_1 := dk_seg dksX9_term2_0 24 rfl rfl
theorem dX9_term2_0 : decode cX9_term2 0 = .ok (.aload_n 0, 1) := dk_42 (dk_at dksX9_term2_0 0 rfl rfl)
theorem dX9_term2_1 : decode cX9_term2 1 = .ok (.invokevirtual 264, 3) := dk_182 1 8 (dk_at dksX9_term2_0 1 rfl rfl)
theorem dX9_term2_4 : decode cX9_term2 4 = .ok (.istore_n 1, 1) := dk_60 (dk_at dksX9_term2_0 4 rfl rfl)
theorem dX9_term2_5 : decode cX9_term2 5 = .ok (.aload_n 0, 1) := dk_42 (dk_at dksX9_term2_0 5 rfl rfl)
theorem dX9_term2_6 : decode cX9_term2 6 = .ok (.bipush 42, 2) := dk_16 42 (dk_at dksX9_term2_0 6 rfl rfl)
theorem dX9_term2_8 : decode cX9_term2 8 = .ok (.invokevirtual 195, 3) := dk_182 0 195 (dk_at dksX9_term2_0 8 rfl rfl)
theorem dX9_term2_11 : decode cX9_term2 11 = .ok (.ifCond .eq 17, 3) := dk_153 0 17 (dk_at dksX9_term2_0 11 rfl rfl)
theorem dX9_term2_14 : decode cX9_term2 14 = .ok (.aload_n 0, 1) := dk_42 (dk_at dksX9_term2_0 14 rfl rfl)
theorem dX9_term2_15 : decode cX9_term2 15 = .ok (.invokevirtual 170, 3) := dk_182 0 170 (dk_at dksX9_term2_0 15 rfl rfl)
theorem dX9_term2_18 : decode cX9_term2 18 = .ok (.iload_n 1, 1) := dk_27 (dk_at dksX9_term2_0 18 rfl rfl)
theorem dX9_term2_19 : decode cX9_term2 19 = .ok (.aload_n 0, 1) := dk_42 (dk_at dksX9_term2_0 19 rfl rfl)
theorem dX9_term2_20 : decode cX9_term2 20 = .ok (.invokevirtual 264, 3) := dk_182 1 8 (dk_at dksX9_term2_0 20 rfl rfl)
theorem dX9_term2_23 : decode cX9_term2 23 = .ok (.imul, 1) := dk_104 (dk_at dksX9_term2_0 23 rfl rfl)
theorem dX9_term2_24 : decode cX9_term2 24 = .ok (.istore_n 1, 1) := dk_60 (dk_at dksX9_term2_1 0 rfl rfl)
theorem dX9_term2_25 : decode cX9_term2 25 = .ok (.goto (-20), 3) := dk_167 255 236 (dk_at dksX9_term2_1 1 rfl rfl)
theorem dX9_term2_28 : decode cX9_term2 28 = .ok (.iload_n 1, 1) := dk_27 (dk_at dksX9_term2_1 4 rfl rfl)
theorem dX9_term2_29 : decode cX9_term2 29 = .ok (.ireturn, 1) := dk_172 (dk_at dksX9_term2_1 5 rfl rfl)
abbrev cX9_atom2 : ByteArray := prog_17_method_43_code
def yX9_atom2 : MethodName := ⟨RX9, "atom2", "()I"⟩
def dkwX9_atom2_6 : List UInt8 := [182, 0, 202, 60, 42, 180, 0, 154, 154, 0, 14, 42, 182, 0, 170, 167, 0, 7, 42, 182, 0, 167, 27, 172]
abbrev dktX9_atom2_6 : List UInt8 := dkwX9_atom2_6 ++ []
def dkwX9_atom2_5 : List UInt8 := [182, 0, 170, 167, 0, 41, 42, 180, 0, 154, 154, 0, 30, 42, 180, 0, 139, 4, 160, 0, 22, 42]
abbrev dktX9_atom2_5 : List UInt8 := dkwX9_atom2_5 ++ dktX9_atom2_6
def dkwX9_atom2_4 : List UInt8 := [42, 180, 0, 154, 154, 0, 24, 42, 180, 0, 139, 5, 160, 0, 16, 42, 180, 0, 150, 136, 60, 42]
abbrev dktX9_atom2_4 : List UInt8 := dkwX9_atom2_4 ++ dktX9_atom2_5
def dkwX9_atom2_3 : List UInt8 := [42, 89, 180, 0, 164, 4, 100, 181, 0, 164, 42, 180, 0, 154, 154, 0, 76, 42, 182, 0, 170, 167, 0, 69]
abbrev dktX9_atom2_3 : List UInt8 := dkwX9_atom2_3 ++ dktX9_atom2_4
def dkwX9_atom2_2 : List UInt8 := [182, 0, 198, 153, 0, 111, 42, 182, 1, 5, 60, 42, 16, 41, 182, 0, 195, 154, 0, 7, 42, 182, 0, 167]
abbrev dktX9_atom2_2 : List UInt8 := dkwX9_atom2_2 ++ dktX9_atom2_3
def dkwX9_atom2_1 : List UInt8 := [42, 89, 180, 0, 164, 4, 100, 181, 0, 164, 167, 0, 127, 42, 16, 40, 182, 0, 195, 153, 0, 52, 42]
abbrev dktX9_atom2_1 : List UInt8 := dkwX9_atom2_1 ++ dktX9_atom2_2
def dkwX9_atom2_0 : List UInt8 := [3, 60, 42, 16, 45, 182, 0, 195, 153, 0, 29, 42, 182, 0, 198, 153, 0, 146, 42, 182, 0, 246, 116, 60]
abbrev dktX9_atom2_0 : List UInt8 := dkwX9_atom2_0 ++ dktX9_atom2_1
theorem dksX9_atom2_0 : cX9_atom2.data.toList.drop 0 = dktX9_atom2_0 := by decide +kernel
theorem dksX9_atom2_1 : cX9_atom2.data.toList.drop 24 = dktX9_atom2_1 := dk_seg dksX9_atom2_0 24 rfl rfl
theorem dksX9_atom2_2 : cX9_atom2.data.toList.drop 47 = dktX9_atom2_2 := dk_seg dksX9_atom2_1 23 rfl rfl
theorem dksX9_atom2_3 : cX9_atom2.data.toList.drop 71 = dktX9_atom2_3 := dk_seg dksX9_atom2_2 24 rfl rfl
theorem dksX9_atom2_4 : cX9_atom2.data.toList.drop 95 = dktX9_atom2_4 := dk_seg dksX9_atom2_3 24 rfl rfl
theorem dksX9_atom2_5 : cX9_atom2.data.toList.drop 117 = dktX9_atom2_5 := dk_seg dksX9_atom2_4 22 rfl rfl
theorem dksX9_atom2_6 : cX9_atom2.data.toList.drop 139 = dktX9_atom2_6 := dk_seg dksX9_atom2_5 22 rfl rfl
theorem dX9_atom2_0 : decode cX9_atom2 0 = .ok (.iconst 0, 1) := dk_3 (dk_at dksX9_atom2_0 0 rfl rfl)
theorem dX9_atom2_1 : decode cX9_atom2 1 = .ok (.istore_n 1, 1) := dk_60 (dk_at dksX9_atom2_0 1 rfl rfl)
theorem dX9_atom2_2 : decode cX9_atom2 2 = .ok (.aload_n 0, 1) := dk_42 (dk_at dksX9_atom2_0 2 rfl rfl)
theorem dX9_atom2_3 : decode cX9_atom2 3 = .ok (.bipush 45, 2) := dk_16 45 (dk_at dksX9_atom2_0 3 rfl rfl)
theorem dX9_atom2_5 : decode cX9_atom2 5 = .ok (.invokevirtual 195, 3) := dk_182 0 195 (dk_at dksX9_atom2_0 5 rfl rfl)
theorem dX9_atom2_8 : decode cX9_atom2 8 = .ok (.ifCond .eq 29, 3) := dk_153 0 29 (dk_at dksX9_atom2_0 8 rfl rfl)
theorem dX9_atom2_11 : decode cX9_atom2 11 = .ok (.aload_n 0, 1) := dk_42 (dk_at dksX9_atom2_0 11 rfl rfl)
theorem dX9_atom2_12 : decode cX9_atom2 12 = .ok (.invokevirtual 198, 3) := dk_182 0 198 (dk_at dksX9_atom2_0 12 rfl rfl)
theorem dX9_atom2_15 : decode cX9_atom2 15 = .ok (.ifCond .eq 146, 3) := dk_153 0 146 (dk_at dksX9_atom2_0 15 rfl rfl)
theorem dX9_atom2_18 : decode cX9_atom2 18 = .ok (.aload_n 0, 1) := dk_42 (dk_at dksX9_atom2_0 18 rfl rfl)
theorem dX9_atom2_19 : decode cX9_atom2 19 = .ok (.invokevirtual 246, 3) := dk_182 0 246 (dk_at dksX9_atom2_0 19 rfl rfl)
theorem dX9_atom2_22 : decode cX9_atom2 22 = .ok (.ineg, 1) := dk_116 (dk_at dksX9_atom2_0 22 rfl rfl)
theorem dX9_atom2_23 : decode cX9_atom2 23 = .ok (.istore_n 1, 1) := dk_60 (dk_at dksX9_atom2_0 23 rfl rfl)
theorem dX9_atom2_24 : decode cX9_atom2 24 = .ok (.aload_n 0, 1) := dk_42 (dk_at dksX9_atom2_1 0 rfl rfl)
theorem dX9_atom2_25 : decode cX9_atom2 25 = .ok (.dup, 1) := dk_89 (dk_at dksX9_atom2_1 1 rfl rfl)
theorem dX9_atom2_26 : decode cX9_atom2 26 = .ok (.getfield 164, 3) := dk_180 0 164 (dk_at dksX9_atom2_1 2 rfl rfl)
theorem dX9_atom2_29 : decode cX9_atom2 29 = .ok (.iconst 1, 1) := dk_4 (dk_at dksX9_atom2_1 5 rfl rfl)
theorem dX9_atom2_30 : decode cX9_atom2 30 = .ok (.isub, 1) := dk_100 (dk_at dksX9_atom2_1 6 rfl rfl)
theorem dX9_atom2_31 : decode cX9_atom2 31 = .ok (.putfield 164, 3) := dk_181 0 164 (dk_at dksX9_atom2_1 7 rfl rfl)
theorem dX9_atom2_34 : decode cX9_atom2 34 = .ok (.goto 127, 3) := dk_167 0 127 (dk_at dksX9_atom2_1 10 rfl rfl)
theorem dX9_atom2_37 : decode cX9_atom2 37 = .ok (.aload_n 0, 1) := dk_42 (dk_at dksX9_atom2_1 13 rfl rfl)
theorem dX9_atom2_38 : decode cX9_atom2 38 = .ok (.bipush 40, 2) := dk_16 40 (dk_at dksX9_atom2_1 14 rfl rfl)
theorem dX9_atom2_40 : decode cX9_atom2 40 = .ok (.invokevirtual 195, 3) := dk_182 0 195 (dk_at dksX9_atom2_1 16 rfl rfl)
theorem dX9_atom2_43 : decode cX9_atom2 43 = .ok (.ifCond .eq 52, 3) := dk_153 0 52 (dk_at dksX9_atom2_1 19 rfl rfl)
theorem dX9_atom2_46 : decode cX9_atom2 46 = .ok (.aload_n 0, 1) := dk_42 (dk_at dksX9_atom2_1 22 rfl rfl)
theorem dX9_atom2_47 : decode cX9_atom2 47 = .ok (.invokevirtual 198, 3) := dk_182 0 198 (dk_at dksX9_atom2_2 0 rfl rfl)
theorem dX9_atom2_50 : decode cX9_atom2 50 = .ok (.ifCond .eq 111, 3) := dk_153 0 111 (dk_at dksX9_atom2_2 3 rfl rfl)
theorem dX9_atom2_53 : decode cX9_atom2 53 = .ok (.aload_n 0, 1) := dk_42 (dk_at dksX9_atom2_2 6 rfl rfl)
theorem dX9_atom2_54 : decode cX9_atom2 54 = .ok (.invokevirtual 261, 3) := dk_182 1 5 (dk_at dksX9_atom2_2 7 rfl rfl)
theorem dX9_atom2_57 : decode cX9_atom2 57 = .ok (.istore_n 1, 1) := dk_60 (dk_at dksX9_atom2_2 10 rfl rfl)
theorem dX9_atom2_58 : decode cX9_atom2 58 = .ok (.aload_n 0, 1) := dk_42 (dk_at dksX9_atom2_2 11 rfl rfl)
theorem dX9_atom2_59 : decode cX9_atom2 59 = .ok (.bipush 41, 2) := dk_16 41 (dk_at dksX9_atom2_2 12 rfl rfl)
theorem dX9_atom2_61 : decode cX9_atom2 61 = .ok (.invokevirtual 195, 3) := dk_182 0 195 (dk_at dksX9_atom2_2 14 rfl rfl)
theorem dX9_atom2_64 : decode cX9_atom2 64 = .ok (.ifCond .ne 7, 3) := dk_154 0 7 (dk_at dksX9_atom2_2 17 rfl rfl)
theorem dX9_atom2_67 : decode cX9_atom2 67 = .ok (.aload_n 0, 1) := dk_42 (dk_at dksX9_atom2_2 20 rfl rfl)
theorem dX9_atom2_68 : decode cX9_atom2 68 = .ok (.invokevirtual 167, 3) := dk_182 0 167 (dk_at dksX9_atom2_2 21 rfl rfl)
theorem dX9_atom2_71 : decode cX9_atom2 71 = .ok (.aload_n 0, 1) := dk_42 (dk_at dksX9_atom2_3 0 rfl rfl)
theorem dX9_atom2_72 : decode cX9_atom2 72 = .ok (.dup, 1) := dk_89 (dk_at dksX9_atom2_3 1 rfl rfl)
theorem dX9_atom2_73 : decode cX9_atom2 73 = .ok (.getfield 164, 3) := dk_180 0 164 (dk_at dksX9_atom2_3 2 rfl rfl)
theorem dX9_atom2_76 : decode cX9_atom2 76 = .ok (.iconst 1, 1) := dk_4 (dk_at dksX9_atom2_3 5 rfl rfl)
theorem dX9_atom2_77 : decode cX9_atom2 77 = .ok (.isub, 1) := dk_100 (dk_at dksX9_atom2_3 6 rfl rfl)
theorem dX9_atom2_78 : decode cX9_atom2 78 = .ok (.putfield 164, 3) := dk_181 0 164 (dk_at dksX9_atom2_3 7 rfl rfl)
theorem dX9_atom2_81 : decode cX9_atom2 81 = .ok (.aload_n 0, 1) := dk_42 (dk_at dksX9_atom2_3 10 rfl rfl)
theorem dX9_atom2_82 : decode cX9_atom2 82 = .ok (.getfield 154, 3) := dk_180 0 154 (dk_at dksX9_atom2_3 11 rfl rfl)
theorem dX9_atom2_85 : decode cX9_atom2 85 = .ok (.ifCond .ne 76, 3) := dk_154 0 76 (dk_at dksX9_atom2_3 14 rfl rfl)
theorem dX9_atom2_88 : decode cX9_atom2 88 = .ok (.aload_n 0, 1) := dk_42 (dk_at dksX9_atom2_3 17 rfl rfl)
theorem dX9_atom2_89 : decode cX9_atom2 89 = .ok (.invokevirtual 170, 3) := dk_182 0 170 (dk_at dksX9_atom2_3 18 rfl rfl)
theorem dX9_atom2_92 : decode cX9_atom2 92 = .ok (.goto 69, 3) := dk_167 0 69 (dk_at dksX9_atom2_3 21 rfl rfl)
theorem dX9_atom2_95 : decode cX9_atom2 95 = .ok (.aload_n 0, 1) := dk_42 (dk_at dksX9_atom2_4 0 rfl rfl)
theorem dX9_atom2_96 : decode cX9_atom2 96 = .ok (.getfield 154, 3) := dk_180 0 154 (dk_at dksX9_atom2_4 1 rfl rfl)
theorem dX9_atom2_99 : decode cX9_atom2 99 = .ok (.ifCond .ne 24, 3) := dk_154 0 24 (dk_at dksX9_atom2_4 4 rfl rfl)
theorem dX9_atom2_102 : decode cX9_atom2 102 = .ok (.aload_n 0, 1) := dk_42 (dk_at dksX9_atom2_4 7 rfl rfl)
theorem dX9_atom2_103 : decode cX9_atom2 103 = .ok (.getfield 139, 3) := dk_180 0 139 (dk_at dksX9_atom2_4 8 rfl rfl)
theorem dX9_atom2_106 : decode cX9_atom2 106 = .ok (.iconst 2, 1) := dk_5 (dk_at dksX9_atom2_4 11 rfl rfl)
theorem dX9_atom2_107 : decode cX9_atom2 107 = .ok (.if_icmp .ne 16, 3) := dk_160 0 16 (dk_at dksX9_atom2_4 12 rfl rfl)
theorem dX9_atom2_110 : decode cX9_atom2 110 = .ok (.aload_n 0, 1) := dk_42 (dk_at dksX9_atom2_4 15 rfl rfl)
theorem dX9_atom2_111 : decode cX9_atom2 111 = .ok (.getfield 150, 3) := dk_180 0 150 (dk_at dksX9_atom2_4 16 rfl rfl)
theorem dX9_atom2_114 : decode cX9_atom2 114 = .ok (.l2i, 1) := dk_136 (dk_at dksX9_atom2_4 19 rfl rfl)
theorem dX9_atom2_115 : decode cX9_atom2 115 = .ok (.istore_n 1, 1) := dk_60 (dk_at dksX9_atom2_4 20 rfl rfl)
theorem dX9_atom2_116 : decode cX9_atom2 116 = .ok (.aload_n 0, 1) := dk_42 (dk_at dksX9_atom2_4 21 rfl rfl)
theorem dX9_atom2_117 : decode cX9_atom2 117 = .ok (.invokevirtual 170, 3) := dk_182 0 170 (dk_at dksX9_atom2_5 0 rfl rfl)
theorem dX9_atom2_120 : decode cX9_atom2 120 = .ok (.goto 41, 3) := dk_167 0 41 (dk_at dksX9_atom2_5 3 rfl rfl)
theorem dX9_atom2_123 : decode cX9_atom2 123 = .ok (.aload_n 0, 1) := dk_42 (dk_at dksX9_atom2_5 6 rfl rfl)
theorem dX9_atom2_124 : decode cX9_atom2 124 = .ok (.getfield 154, 3) := dk_180 0 154 (dk_at dksX9_atom2_5 7 rfl rfl)
theorem dX9_atom2_127 : decode cX9_atom2 127 = .ok (.ifCond .ne 30, 3) := dk_154 0 30 (dk_at dksX9_atom2_5 10 rfl rfl)
theorem dX9_atom2_130 : decode cX9_atom2 130 = .ok (.aload_n 0, 1) := dk_42 (dk_at dksX9_atom2_5 13 rfl rfl)
theorem dX9_atom2_131 : decode cX9_atom2 131 = .ok (.getfield 139, 3) := dk_180 0 139 (dk_at dksX9_atom2_5 14 rfl rfl)
theorem dX9_atom2_134 : decode cX9_atom2 134 = .ok (.iconst 1, 1) := dk_4 (dk_at dksX9_atom2_5 17 rfl rfl)
theorem dX9_atom2_135 : decode cX9_atom2 135 = .ok (.if_icmp .ne 22, 3) := dk_160 0 22 (dk_at dksX9_atom2_5 18 rfl rfl)
theorem dX9_atom2_138 : decode cX9_atom2 138 = .ok (.aload_n 0, 1) := dk_42 (dk_at dksX9_atom2_5 21 rfl rfl)
theorem dX9_atom2_139 : decode cX9_atom2 139 = .ok (.invokevirtual 202, 3) := dk_182 0 202 (dk_at dksX9_atom2_6 0 rfl rfl)
theorem dX9_atom2_142 : decode cX9_atom2 142 = .ok (.istore_n 1, 1) := dk_60 (dk_at dksX9_atom2_6 3 rfl rfl)
theorem dX9_atom2_143 : decode cX9_atom2 143 = .ok (.aload_n 0, 1) := dk_42 (dk_at dksX9_atom2_6 4 rfl rfl)
theorem dX9_atom2_144 : decode cX9_atom2 144 = .ok (.getfield 154, 3) := dk_180 0 154 (dk_at dksX9_atom2_6 5 rfl rfl)
theorem dX9_atom2_147 : decode cX9_atom2 147 = .ok (.ifCond .ne 14, 3) := dk_154 0 14 (dk_at dksX9_atom2_6 8 rfl rfl)
theorem dX9_atom2_150 : decode cX9_atom2 150 = .ok (.aload_n 0, 1) := dk_42 (dk_at dksX9_atom2_6 11 rfl rfl)
theorem dX9_atom2_151 : decode cX9_atom2 151 = .ok (.invokevirtual 170, 3) := dk_182 0 170 (dk_at dksX9_atom2_6 12 rfl rfl)
theorem dX9_atom2_154 : decode cX9_atom2 154 = .ok (.goto 7, 3) := dk_167 0 7 (dk_at dksX9_atom2_6 15 rfl rfl)
theorem dX9_atom2_157 : decode cX9_atom2 157 = .ok (.aload_n 0, 1) := dk_42 (dk_at dksX9_atom2_6 18 rfl rfl)
theorem dX9_atom2_158 : decode cX9_atom2 158 = .ok (.invokevirtual 167, 3) := dk_182 0 167 (dk_at dksX9_atom2_6 19 rfl rfl)
theorem dX9_atom2_161 : decode cX9_atom2 161 = .ok (.iload_n 1, 1) := dk_27 (dk_at dksX9_atom2_6 22 rfl rfl)
theorem dX9_atom2_162 : decode cX9_atom2 162 = .ok (.ireturn, 1) := dk_172 (dk_at dksX9_atom2_6 23 rfl rfl)
abbrev cX9_either3 : ByteArray := prog_17_method_42_code
def yX9_either3 : MethodName := ⟨RX9, "either3", "()I"⟩
def dkwX9_either3_2 : List UInt8 := [167, 255, 216, 27, 172]
abbrev dktX9_either3_2 : List UInt8 := dkwX9_either3_2 ++ []
def dkwX9_either3_1 : List UInt8 := [182, 0, 170, 42, 182, 1, 2, 61, 27, 154, 0, 7, 28, 153, 0, 7, 4, 167, 0, 4, 3, 60]
abbrev dktX9_either3_1 : List UInt8 := dkwX9_either3_1 ++ dktX9_either3_2
def dkwX9_either3_0 : List UInt8 := [42, 182, 1, 2, 60, 42, 16, 111, 16, 114, 3, 3, 3, 3, 3, 3, 182, 0, 173, 153, 0, 29, 42]
abbrev dktX9_either3_0 : List UInt8 := dkwX9_either3_0 ++ dktX9_either3_1
theorem dksX9_either3_0 : cX9_either3.data.toList.drop 0 = dktX9_either3_0 := by decide +kernel
theorem dksX9_either3_1 : cX9_either3.data.toList.drop 23 = dktX9_either3_1 := dk_seg dksX9_either3_0 23 rfl rfl
theorem dksX9_either3_2 : cX9_either3.data.toList.drop 45 = dktX9_either3_2 := dk_seg dksX9_either3_1 22 rfl rfl
theorem dX9_either3_0 : decode cX9_either3 0 = .ok (.aload_n 0, 1) := dk_42 (dk_at dksX9_either3_0 0 rfl rfl)
theorem dX9_either3_1 : decode cX9_either3 1 = .ok (.invokevirtual 258, 3) := dk_182 1 2 (dk_at dksX9_either3_0 1 rfl rfl)
theorem dX9_either3_4 : decode cX9_either3 4 = .ok (.istore_n 1, 1) := dk_60 (dk_at dksX9_either3_0 4 rfl rfl)
theorem dX9_either3_5 : decode cX9_either3 5 = .ok (.aload_n 0, 1) := dk_42 (dk_at dksX9_either3_0 5 rfl rfl)
theorem dX9_either3_6 : decode cX9_either3 6 = .ok (.bipush 111, 2) := dk_16 111 (dk_at dksX9_either3_0 6 rfl rfl)
theorem dX9_either3_8 : decode cX9_either3 8 = .ok (.bipush 114, 2) := dk_16 114 (dk_at dksX9_either3_0 8 rfl rfl)
theorem dX9_either3_10 : decode cX9_either3 10 = .ok (.iconst 0, 1) := dk_3 (dk_at dksX9_either3_0 10 rfl rfl)
theorem dX9_either3_11 : decode cX9_either3 11 = .ok (.iconst 0, 1) := dk_3 (dk_at dksX9_either3_0 11 rfl rfl)
theorem dX9_either3_12 : decode cX9_either3 12 = .ok (.iconst 0, 1) := dk_3 (dk_at dksX9_either3_0 12 rfl rfl)
theorem dX9_either3_13 : decode cX9_either3 13 = .ok (.iconst 0, 1) := dk_3 (dk_at dksX9_either3_0 13 rfl rfl)
theorem dX9_either3_14 : decode cX9_either3 14 = .ok (.iconst 0, 1) := dk_3 (dk_at dksX9_either3_0 14 rfl rfl)
theorem dX9_either3_15 : decode cX9_either3 15 = .ok (.iconst 0, 1) := dk_3 (dk_at dksX9_either3_0 15 rfl rfl)
theorem dX9_either3_16 : decode cX9_either3 16 = .ok (.invokevirtual 173, 3) := dk_182 0 173 (dk_at dksX9_either3_0 16 rfl rfl)
theorem dX9_either3_19 : decode cX9_either3 19 = .ok (.ifCond .eq 29, 3) := dk_153 0 29 (dk_at dksX9_either3_0 19 rfl rfl)
theorem dX9_either3_22 : decode cX9_either3 22 = .ok (.aload_n 0, 1) := dk_42 (dk_at dksX9_either3_0 22 rfl rfl)
theorem dX9_either3_23 : decode cX9_either3 23 = .ok (.invokevirtual 170, 3) := dk_182 0 170 (dk_at dksX9_either3_1 0 rfl rfl)
theorem dX9_either3_26 : decode cX9_either3 26 = .ok (.aload_n 0, 1) := dk_42 (dk_at dksX9_either3_1 3 rfl rfl)
theorem dX9_either3_27 : decode cX9_either3 27 = .ok (.invokevirtual 258, 3) := dk_182 1 2 (dk_at dksX9_either3_1 4 rfl rfl)
theorem dX9_either3_30 : decode cX9_either3 30 = .ok (.istore_n 2, 1) := dk_61 (dk_at dksX9_either3_1 7 rfl rfl)
theorem dX9_either3_31 : decode cX9_either3 31 = .ok (.iload_n 1, 1) := dk_27 (dk_at dksX9_either3_1 8 rfl rfl)
theorem dX9_either3_32 : decode cX9_either3 32 = .ok (.ifCond .ne 7, 3) := dk_154 0 7 (dk_at dksX9_either3_1 9 rfl rfl)
theorem dX9_either3_35 : decode cX9_either3 35 = .ok (.iload_n 2, 1) := dk_28 (dk_at dksX9_either3_1 12 rfl rfl)
theorem dX9_either3_36 : decode cX9_either3 36 = .ok (.ifCond .eq 7, 3) := dk_153 0 7 (dk_at dksX9_either3_1 13 rfl rfl)
theorem dX9_either3_39 : decode cX9_either3 39 = .ok (.iconst 1, 1) := dk_4 (dk_at dksX9_either3_1 16 rfl rfl)
theorem dX9_either3_40 : decode cX9_either3 40 = .ok (.goto 4, 3) := dk_167 0 4 (dk_at dksX9_either3_1 17 rfl rfl)
theorem dX9_either3_43 : decode cX9_either3 43 = .ok (.iconst 0, 1) := dk_3 (dk_at dksX9_either3_1 20 rfl rfl)
theorem dX9_either3_44 : decode cX9_either3 44 = .ok (.istore_n 1, 1) := dk_60 (dk_at dksX9_either3_1 21 rfl rfl)
theorem dX9_either3_45 : decode cX9_either3 45 = .ok (.goto (-40), 3) := dk_167 255 216 (dk_at dksX9_either3_2 0 rfl rfl)
theorem dX9_either3_48 : decode cX9_either3 48 = .ok (.iload_n 1, 1) := dk_27 (dk_at dksX9_either3_2 3 rfl rfl)
theorem dX9_either3_49 : decode cX9_either3 49 = .ok (.ireturn, 1) := dk_172 (dk_at dksX9_either3_2 4 rfl rfl)
abbrev cX9_both3 : ByteArray := prog_17_method_41_code
def yX9_both3 : MethodName := ⟨RX9, "both3", "()I"⟩
def dkwX9_both3_2 : List UInt8 := [167, 255, 215, 27, 172]
abbrev dktX9_both3_2 : List UInt8 := dkwX9_both3_2 ++ []
def dkwX9_both3_1 : List UInt8 := [182, 0, 170, 42, 182, 0, 255, 61, 27, 153, 0, 11, 28, 153, 0, 7, 4, 167, 0, 4, 3, 60]
abbrev dktX9_both3_1 : List UInt8 := dkwX9_both3_1 ++ dktX9_both3_2
def dkwX9_both3_0 : List UInt8 := [42, 182, 0, 255, 60, 42, 16, 97, 16, 110, 16, 100, 3, 3, 3, 3, 3, 182, 0, 173, 153, 0, 29, 42]
abbrev dktX9_both3_0 : List UInt8 := dkwX9_both3_0 ++ dktX9_both3_1
theorem dksX9_both3_0 : cX9_both3.data.toList.drop 0 = dktX9_both3_0 := by decide +kernel
theorem dksX9_both3_1 : cX9_both3.data.toList.drop 24 = dktX9_both3_1 := dk_seg dksX9_both3_0 24 rfl rfl
theorem dksX9_both3_2 : cX9_both3.data.toList.drop 46 = dktX9_both3_2 := dk_seg dksX9_both3_1 22 rfl rfl
theorem dX9_both3_0 : decode cX9_both3 0 = .ok (.aload_n 0, 1) := dk_42 (dk_at dksX9_both3_0 0 rfl rfl)
theorem dX9_both3_1 : decode cX9_both3 1 = .ok (.invokevirtual 255, 3) := dk_182 0 255 (dk_at dksX9_both3_0 1 rfl rfl)
theorem dX9_both3_4 : decode cX9_both3 4 = .ok (.istore_n 1, 1) := dk_60 (dk_at dksX9_both3_0 4 rfl rfl)
theorem dX9_both3_5 : decode cX9_both3 5 = .ok (.aload_n 0, 1) := dk_42 (dk_at dksX9_both3_0 5 rfl rfl)
theorem dX9_both3_6 : decode cX9_both3 6 = .ok (.bipush 97, 2) := dk_16 97 (dk_at dksX9_both3_0 6 rfl rfl)
theorem dX9_both3_8 : decode cX9_both3 8 = .ok (.bipush 110, 2) := dk_16 110 (dk_at dksX9_both3_0 8 rfl rfl)
theorem dX9_both3_10 : decode cX9_both3 10 = .ok (.bipush 100, 2) := dk_16 100 (dk_at dksX9_both3_0 10 rfl rfl)
theorem dX9_both3_12 : decode cX9_both3 12 = .ok (.iconst 0, 1) := dk_3 (dk_at dksX9_both3_0 12 rfl rfl)
theorem dX9_both3_13 : decode cX9_both3 13 = .ok (.iconst 0, 1) := dk_3 (dk_at dksX9_both3_0 13 rfl rfl)
theorem dX9_both3_14 : decode cX9_both3 14 = .ok (.iconst 0, 1) := dk_3 (dk_at dksX9_both3_0 14 rfl rfl)
theorem dX9_both3_15 : decode cX9_both3 15 = .ok (.iconst 0, 1) := dk_3 (dk_at dksX9_both3_0 15 rfl rfl)
theorem dX9_both3_16 : decode cX9_both3 16 = .ok (.iconst 0, 1) := dk_3 (dk_at dksX9_both3_0 16 rfl rfl)
theorem dX9_both3_17 : decode cX9_both3 17 = .ok (.invokevirtual 173, 3) := dk_182 0 173 (dk_at dksX9_both3_0 17 rfl rfl)
theorem dX9_both3_20 : decode cX9_both3 20 = .ok (.ifCond .eq 29, 3) := dk_153 0 29 (dk_at dksX9_both3_0 20 rfl rfl)
theorem dX9_both3_23 : decode cX9_both3 23 = .ok (.aload_n 0, 1) := dk_42 (dk_at dksX9_both3_0 23 rfl rfl)
theorem dX9_both3_24 : decode cX9_both3 24 = .ok (.invokevirtual 170, 3) := dk_182 0 170 (dk_at dksX9_both3_1 0 rfl rfl)
theorem dX9_both3_27 : decode cX9_both3 27 = .ok (.aload_n 0, 1) := dk_42 (dk_at dksX9_both3_1 3 rfl rfl)
theorem dX9_both3_28 : decode cX9_both3 28 = .ok (.invokevirtual 255, 3) := dk_182 0 255 (dk_at dksX9_both3_1 4 rfl rfl)
theorem dX9_both3_31 : decode cX9_both3 31 = .ok (.istore_n 2, 1) := dk_61 (dk_at dksX9_both3_1 7 rfl rfl)
theorem dX9_both3_32 : decode cX9_both3 32 = .ok (.iload_n 1, 1) := dk_27 (dk_at dksX9_both3_1 8 rfl rfl)
theorem dX9_both3_33 : decode cX9_both3 33 = .ok (.ifCond .eq 11, 3) := dk_153 0 11 (dk_at dksX9_both3_1 9 rfl rfl)
theorem dX9_both3_36 : decode cX9_both3 36 = .ok (.iload_n 2, 1) := dk_28 (dk_at dksX9_both3_1 12 rfl rfl)
theorem dX9_both3_37 : decode cX9_both3 37 = .ok (.ifCond .eq 7, 3) := dk_153 0 7 (dk_at dksX9_both3_1 13 rfl rfl)
theorem dX9_both3_40 : decode cX9_both3 40 = .ok (.iconst 1, 1) := dk_4 (dk_at dksX9_both3_1 16 rfl rfl)
theorem dX9_both3_41 : decode cX9_both3 41 = .ok (.goto 4, 3) := dk_167 0 4 (dk_at dksX9_both3_1 17 rfl rfl)
theorem dX9_both3_44 : decode cX9_both3 44 = .ok (.iconst 0, 1) := dk_3 (dk_at dksX9_both3_1 20 rfl rfl)
theorem dX9_both3_45 : decode cX9_both3 45 = .ok (.istore_n 1, 1) := dk_60 (dk_at dksX9_both3_1 21 rfl rfl)
theorem dX9_both3_46 : decode cX9_both3 46 = .ok (.goto (-41), 3) := dk_167 255 215 (dk_at dksX9_both3_2 0 rfl rfl)
theorem dX9_both3_49 : decode cX9_both3 49 = .ok (.iload_n 1, 1) := dk_27 (dk_at dksX9_both3_2 3 rfl rfl)
theorem dX9_both3_50 : decode cX9_both3 50 = .ok (.ireturn, 1) := dk_172 (dk_at dksX9_both3_2 4 rfl rfl)
abbrev cX9_added1 : ByteArray := prog_17_method_51_code
def yX9_added1 : MethodName := ⟨RX9, "added1", "()I"⟩
def dkwX9_added1_2 : List UInt8 := [62, 28, 153, 0, 9, 27, 29, 96, 167, 0, 6, 27, 29, 100, 60, 167, 255, 198, 27, 172]
abbrev dktX9_added1_2 : List UInt8 := dkwX9_added1_2 ++ []
def dkwX9_added1_1 : List UInt8 := [180, 0, 150, 20, 0, 212, 148, 154, 0, 7, 4, 167, 0, 4, 3, 61, 42, 182, 0, 170, 42, 182, 1, 29]
abbrev dktX9_added1_1 : List UInt8 := dkwX9_added1_1 ++ dktX9_added1_2
def dkwX9_added1_0 : List UInt8 := [42, 182, 1, 29, 60, 42, 16, 43, 182, 0, 195, 154, 0, 12, 42, 16, 45, 182, 0, 195, 153, 0, 46, 42]
abbrev dktX9_added1_0 : List UInt8 := dkwX9_added1_0 ++ dktX9_added1_1
theorem dksX9_added1_0 : cX9_added1.data.toList.drop 0 = dktX9_added1_0 := by decide +kernel
theorem dksX9_added1_1 : cX9_added1.data.toList.drop 24 = dktX9_added1_1 := dk_seg dksX9_added1_0 24 rfl rfl
theorem dksX9_added1_2 : cX9_added1.data.toList.drop 48 = dktX9_added1_2 := dk_seg dksX9_added1_1 24 rfl rfl
theorem dX9_added1_0 : decode cX9_added1 0 = .ok (.aload_n 0, 1) := dk_42 (dk_at dksX9_added1_0 0 rfl rfl)
theorem dX9_added1_1 : decode cX9_added1 1 = .ok (.invokevirtual 285, 3) := dk_182 1 29 (dk_at dksX9_added1_0 1 rfl rfl)
theorem dX9_added1_4 : decode cX9_added1 4 = .ok (.istore_n 1, 1) := dk_60 (dk_at dksX9_added1_0 4 rfl rfl)
theorem dX9_added1_5 : decode cX9_added1 5 = .ok (.aload_n 0, 1) := dk_42 (dk_at dksX9_added1_0 5 rfl rfl)
theorem dX9_added1_6 : decode cX9_added1 6 = .ok (.bipush 43, 2) := dk_16 43 (dk_at dksX9_added1_0 6 rfl rfl)
theorem dX9_added1_8 : decode cX9_added1 8 = .ok (.invokevirtual 195, 3) := dk_182 0 195 (dk_at dksX9_added1_0 8 rfl rfl)
theorem dX9_added1_11 : decode cX9_added1 11 = .ok (.ifCond .ne 12, 3) := dk_154 0 12 (dk_at dksX9_added1_0 11 rfl rfl)
theorem dX9_added1_14 : decode cX9_added1 14 = .ok (.aload_n 0, 1) := dk_42 (dk_at dksX9_added1_0 14 rfl rfl)
theorem dX9_added1_15 : decode cX9_added1 15 = .ok (.bipush 45, 2) := dk_16 45 (dk_at dksX9_added1_0 15 rfl rfl)
theorem dX9_added1_17 : decode cX9_added1 17 = .ok (.invokevirtual 195, 3) := dk_182 0 195 (dk_at dksX9_added1_0 17 rfl rfl)
theorem dX9_added1_20 : decode cX9_added1 20 = .ok (.ifCond .eq 46, 3) := dk_153 0 46 (dk_at dksX9_added1_0 20 rfl rfl)
theorem dX9_added1_23 : decode cX9_added1 23 = .ok (.aload_n 0, 1) := dk_42 (dk_at dksX9_added1_0 23 rfl rfl)
theorem dX9_added1_24 : decode cX9_added1 24 = .ok (.getfield 150, 3) := dk_180 0 150 (dk_at dksX9_added1_1 0 rfl rfl)
theorem dX9_added1_27 : decode cX9_added1 27 = .ok (.ldc2_w 212, 3) := dk_20 0 212 (dk_at dksX9_added1_1 3 rfl rfl)
theorem dX9_added1_30 : decode cX9_added1 30 = .ok (.lcmp, 1) := dk_148 (dk_at dksX9_added1_1 6 rfl rfl)
theorem dX9_added1_31 : decode cX9_added1 31 = .ok (.ifCond .ne 7, 3) := dk_154 0 7 (dk_at dksX9_added1_1 7 rfl rfl)
theorem dX9_added1_34 : decode cX9_added1 34 = .ok (.iconst 1, 1) := dk_4 (dk_at dksX9_added1_1 10 rfl rfl)
theorem dX9_added1_35 : decode cX9_added1 35 = .ok (.goto 4, 3) := dk_167 0 4 (dk_at dksX9_added1_1 11 rfl rfl)
theorem dX9_added1_38 : decode cX9_added1 38 = .ok (.iconst 0, 1) := dk_3 (dk_at dksX9_added1_1 14 rfl rfl)
theorem dX9_added1_39 : decode cX9_added1 39 = .ok (.istore_n 2, 1) := dk_61 (dk_at dksX9_added1_1 15 rfl rfl)
theorem dX9_added1_40 : decode cX9_added1 40 = .ok (.aload_n 0, 1) := dk_42 (dk_at dksX9_added1_1 16 rfl rfl)
theorem dX9_added1_41 : decode cX9_added1 41 = .ok (.invokevirtual 170, 3) := dk_182 0 170 (dk_at dksX9_added1_1 17 rfl rfl)
theorem dX9_added1_44 : decode cX9_added1 44 = .ok (.aload_n 0, 1) := dk_42 (dk_at dksX9_added1_1 20 rfl rfl)
theorem dX9_added1_45 : decode cX9_added1 45 = .ok (.invokevirtual 285, 3) := dk_182 1 29 (dk_at dksX9_added1_1 21 rfl rfl)
theorem dX9_added1_48 : decode cX9_added1 48 = .ok (.istore_n 3, 1) := dk_62 (dk_at dksX9_added1_2 0 rfl rfl)
theorem dX9_added1_49 : decode cX9_added1 49 = .ok (.iload_n 2, 1) := dk_28 (dk_at dksX9_added1_2 1 rfl rfl)
theorem dX9_added1_50 : decode cX9_added1 50 = .ok (.ifCond .eq 9, 3) := dk_153 0 9 (dk_at dksX9_added1_2 2 rfl rfl)
theorem dX9_added1_53 : decode cX9_added1 53 = .ok (.iload_n 1, 1) := dk_27 (dk_at dksX9_added1_2 5 rfl rfl)
theorem dX9_added1_54 : decode cX9_added1 54 = .ok (.iload_n 3, 1) := dk_29 (dk_at dksX9_added1_2 6 rfl rfl)
theorem dX9_added1_55 : decode cX9_added1 55 = .ok (.iadd, 1) := dk_96 (dk_at dksX9_added1_2 7 rfl rfl)
theorem dX9_added1_56 : decode cX9_added1 56 = .ok (.goto 6, 3) := dk_167 0 6 (dk_at dksX9_added1_2 8 rfl rfl)
theorem dX9_added1_59 : decode cX9_added1 59 = .ok (.iload_n 1, 1) := dk_27 (dk_at dksX9_added1_2 11 rfl rfl)
theorem dX9_added1_60 : decode cX9_added1 60 = .ok (.iload_n 3, 1) := dk_29 (dk_at dksX9_added1_2 12 rfl rfl)
theorem dX9_added1_61 : decode cX9_added1 61 = .ok (.isub, 1) := dk_100 (dk_at dksX9_added1_2 13 rfl rfl)
theorem dX9_added1_62 : decode cX9_added1 62 = .ok (.istore_n 1, 1) := dk_60 (dk_at dksX9_added1_2 14 rfl rfl)
theorem dX9_added1_63 : decode cX9_added1 63 = .ok (.goto (-58), 3) := dk_167 255 198 (dk_at dksX9_added1_2 15 rfl rfl)
theorem dX9_added1_66 : decode cX9_added1 66 = .ok (.iload_n 1, 1) := dk_27 (dk_at dksX9_added1_2 18 rfl rfl)
theorem dX9_added1_67 : decode cX9_added1 67 = .ok (.ireturn, 1) := dk_172 (dk_at dksX9_added1_2 19 rfl rfl)
abbrev cX9_term1 : ByteArray := prog_17_method_50_code
def yX9_term1 : MethodName := ⟨RX9, "term1", "()I"⟩
def dkwX9_term1_1 : List UInt8 := [60, 167, 255, 236, 27, 172]
abbrev dktX9_term1_1 : List UInt8 := dkwX9_term1_1 ++ []
def dkwX9_term1_0 : List UInt8 := [42, 182, 1, 26, 60, 42, 16, 42, 182, 0, 195, 153, 0, 17, 42, 182, 0, 170, 27, 42, 182, 1, 26, 104]
abbrev dktX9_term1_0 : List UInt8 := dkwX9_term1_0 ++ dktX9_term1_1
theorem dksX9_term1_0 : cX9_term1.data.toList.drop 0 = dktX9_term1_0 := by decide +kernel
theorem dksX9_term1_1 : cX9_term1.data.toList.drop 24 = dktX9_term1_1 := dk_seg dksX9_term1_0 24 rfl rfl
theorem dX9_term1_0 : decode cX9_term1 0 = .ok (.aload_n 0, 1) := dk_42 (dk_at dksX9_term1_0 0 rfl rfl)
theorem dX9_term1_1 : decode cX9_term1 1 = .ok (.invokevirtual 282, 3) := dk_182 1 26 (dk_at dksX9_term1_0 1 rfl rfl)
theorem dX9_term1_4 : decode cX9_term1 4 = .ok (.istore_n 1, 1) := dk_60 (dk_at dksX9_term1_0 4 rfl rfl)
theorem dX9_term1_5 : decode cX9_term1 5 = .ok (.aload_n 0, 1) := dk_42 (dk_at dksX9_term1_0 5 rfl rfl)
theorem dX9_term1_6 : decode cX9_term1 6 = .ok (.bipush 42, 2) := dk_16 42 (dk_at dksX9_term1_0 6 rfl rfl)
theorem dX9_term1_8 : decode cX9_term1 8 = .ok (.invokevirtual 195, 3) := dk_182 0 195 (dk_at dksX9_term1_0 8 rfl rfl)
theorem dX9_term1_11 : decode cX9_term1 11 = .ok (.ifCond .eq 17, 3) := dk_153 0 17 (dk_at dksX9_term1_0 11 rfl rfl)
theorem dX9_term1_14 : decode cX9_term1 14 = .ok (.aload_n 0, 1) := dk_42 (dk_at dksX9_term1_0 14 rfl rfl)
theorem dX9_term1_15 : decode cX9_term1 15 = .ok (.invokevirtual 170, 3) := dk_182 0 170 (dk_at dksX9_term1_0 15 rfl rfl)
theorem dX9_term1_18 : decode cX9_term1 18 = .ok (.iload_n 1, 1) := dk_27 (dk_at dksX9_term1_0 18 rfl rfl)
theorem dX9_term1_19 : decode cX9_term1 19 = .ok (.aload_n 0, 1) := dk_42 (dk_at dksX9_term1_0 19 rfl rfl)
theorem dX9_term1_20 : decode cX9_term1 20 = .ok (.invokevirtual 282, 3) := dk_182 1 26 (dk_at dksX9_term1_0 20 rfl rfl)
theorem dX9_term1_23 : decode cX9_term1 23 = .ok (.imul, 1) := dk_104 (dk_at dksX9_term1_0 23 rfl rfl)
theorem dX9_term1_24 : decode cX9_term1 24 = .ok (.istore_n 1, 1) := dk_60 (dk_at dksX9_term1_1 0 rfl rfl)
theorem dX9_term1_25 : decode cX9_term1 25 = .ok (.goto (-20), 3) := dk_167 255 236 (dk_at dksX9_term1_1 1 rfl rfl)
theorem dX9_term1_28 : decode cX9_term1 28 = .ok (.iload_n 1, 1) := dk_27 (dk_at dksX9_term1_1 4 rfl rfl)
theorem dX9_term1_29 : decode cX9_term1 29 = .ok (.ireturn, 1) := dk_172 (dk_at dksX9_term1_1 5 rfl rfl)
abbrev cX9_atom1 : ByteArray := prog_17_method_49_code
def yX9_atom1 : MethodName := ⟨RX9, "atom1", "()I"⟩
def dkwX9_atom1_6 : List UInt8 := [182, 0, 202, 60, 42, 180, 0, 154, 154, 0, 14, 42, 182, 0, 170, 167, 0, 7, 42, 182, 0, 167, 27, 172]
abbrev dktX9_atom1_6 : List UInt8 := dkwX9_atom1_6 ++ []
def dkwX9_atom1_5 : List UInt8 := [182, 0, 170, 167, 0, 41, 42, 180, 0, 154, 154, 0, 30, 42, 180, 0, 139, 4, 160, 0, 22, 42]
abbrev dktX9_atom1_5 : List UInt8 := dkwX9_atom1_5 ++ dktX9_atom1_6
def dkwX9_atom1_4 : List UInt8 := [42, 180, 0, 154, 154, 0, 24, 42, 180, 0, 139, 5, 160, 0, 16, 42, 180, 0, 150, 136, 60, 42]
abbrev dktX9_atom1_4 : List UInt8 := dkwX9_atom1_4 ++ dktX9_atom1_5
def dkwX9_atom1_3 : List UInt8 := [42, 89, 180, 0, 164, 4, 100, 181, 0, 164, 42, 180, 0, 154, 154, 0, 76, 42, 182, 0, 170, 167, 0, 69]
abbrev dktX9_atom1_3 : List UInt8 := dkwX9_atom1_3 ++ dktX9_atom1_4
def dkwX9_atom1_2 : List UInt8 := [182, 0, 198, 153, 0, 111, 42, 182, 1, 23, 60, 42, 16, 41, 182, 0, 195, 154, 0, 7, 42, 182, 0, 167]
abbrev dktX9_atom1_2 : List UInt8 := dkwX9_atom1_2 ++ dktX9_atom1_3
def dkwX9_atom1_1 : List UInt8 := [42, 89, 180, 0, 164, 4, 100, 181, 0, 164, 167, 0, 127, 42, 16, 40, 182, 0, 195, 153, 0, 52, 42]
abbrev dktX9_atom1_1 : List UInt8 := dkwX9_atom1_1 ++ dktX9_atom1_2
def dkwX9_atom1_0 : List UInt8 := [3, 60, 42, 16, 45, 182, 0, 195, 153, 0, 29, 42, 182, 0, 198, 153, 0, 146, 42, 182, 1, 8, 116, 60]
abbrev dktX9_atom1_0 : List UInt8 := dkwX9_atom1_0 ++ dktX9_atom1_1
theorem dksX9_atom1_0 : cX9_atom1.data.toList.drop 0 = dktX9_atom1_0 := by decide +kernel
theorem dksX9_atom1_1 : cX9_atom1.data.toList.drop 24 = dktX9_atom1_1 := dk_seg dksX9_atom1_0 24 rfl rfl
theorem dksX9_atom1_2 : cX9_atom1.data.toList.drop 47 = dktX9_atom1_2 := dk_seg dksX9_atom1_1 23 rfl rfl
theorem dksX9_atom1_3 : cX9_atom1.data.toList.drop 71 = dktX9_atom1_3 := dk_seg dksX9_atom1_2 24 rfl rfl
theorem dksX9_atom1_4 : cX9_atom1.data.toList.drop 95 = dktX9_atom1_4 := dk_seg dksX9_atom1_3 24 rfl rfl
theorem dksX9_atom1_5 : cX9_atom1.data.toList.drop 117 = dktX9_atom1_5 := dk_seg dksX9_atom1_4 22 rfl rfl
theorem dksX9_atom1_6 : cX9_atom1.data.toList.drop 139 = dktX9_atom1_6 := dk_seg dksX9_atom1_5 22 rfl rfl
theorem dX9_atom1_0 : decode cX9_atom1 0 = .ok (.iconst 0, 1) := dk_3 (dk_at dksX9_atom1_0 0 rfl rfl)
theorem dX9_atom1_1 : decode cX9_atom1 1 = .ok (.istore_n 1, 1) := dk_60 (dk_at dksX9_atom1_0 1 rfl rfl)
theorem dX9_atom1_2 : decode cX9_atom1 2 = .ok (.aload_n 0, 1) := dk_42 (dk_at dksX9_atom1_0 2 rfl rfl)
theorem dX9_atom1_3 : decode cX9_atom1 3 = .ok (.bipush 45, 2) := dk_16 45 (dk_at dksX9_atom1_0 3 rfl rfl)
theorem dX9_atom1_5 : decode cX9_atom1 5 = .ok (.invokevirtual 195, 3) := dk_182 0 195 (dk_at dksX9_atom1_0 5 rfl rfl)
theorem dX9_atom1_8 : decode cX9_atom1 8 = .ok (.ifCond .eq 29, 3) := dk_153 0 29 (dk_at dksX9_atom1_0 8 rfl rfl)
theorem dX9_atom1_11 : decode cX9_atom1 11 = .ok (.aload_n 0, 1) := dk_42 (dk_at dksX9_atom1_0 11 rfl rfl)
theorem dX9_atom1_12 : decode cX9_atom1 12 = .ok (.invokevirtual 198, 3) := dk_182 0 198 (dk_at dksX9_atom1_0 12 rfl rfl)
theorem dX9_atom1_15 : decode cX9_atom1 15 = .ok (.ifCond .eq 146, 3) := dk_153 0 146 (dk_at dksX9_atom1_0 15 rfl rfl)
theorem dX9_atom1_18 : decode cX9_atom1 18 = .ok (.aload_n 0, 1) := dk_42 (dk_at dksX9_atom1_0 18 rfl rfl)
theorem dX9_atom1_19 : decode cX9_atom1 19 = .ok (.invokevirtual 264, 3) := dk_182 1 8 (dk_at dksX9_atom1_0 19 rfl rfl)
theorem dX9_atom1_22 : decode cX9_atom1 22 = .ok (.ineg, 1) := dk_116 (dk_at dksX9_atom1_0 22 rfl rfl)
theorem dX9_atom1_23 : decode cX9_atom1 23 = .ok (.istore_n 1, 1) := dk_60 (dk_at dksX9_atom1_0 23 rfl rfl)
theorem dX9_atom1_24 : decode cX9_atom1 24 = .ok (.aload_n 0, 1) := dk_42 (dk_at dksX9_atom1_1 0 rfl rfl)
theorem dX9_atom1_25 : decode cX9_atom1 25 = .ok (.dup, 1) := dk_89 (dk_at dksX9_atom1_1 1 rfl rfl)
theorem dX9_atom1_26 : decode cX9_atom1 26 = .ok (.getfield 164, 3) := dk_180 0 164 (dk_at dksX9_atom1_1 2 rfl rfl)
theorem dX9_atom1_29 : decode cX9_atom1 29 = .ok (.iconst 1, 1) := dk_4 (dk_at dksX9_atom1_1 5 rfl rfl)
theorem dX9_atom1_30 : decode cX9_atom1 30 = .ok (.isub, 1) := dk_100 (dk_at dksX9_atom1_1 6 rfl rfl)
theorem dX9_atom1_31 : decode cX9_atom1 31 = .ok (.putfield 164, 3) := dk_181 0 164 (dk_at dksX9_atom1_1 7 rfl rfl)
theorem dX9_atom1_34 : decode cX9_atom1 34 = .ok (.goto 127, 3) := dk_167 0 127 (dk_at dksX9_atom1_1 10 rfl rfl)
theorem dX9_atom1_37 : decode cX9_atom1 37 = .ok (.aload_n 0, 1) := dk_42 (dk_at dksX9_atom1_1 13 rfl rfl)
theorem dX9_atom1_38 : decode cX9_atom1 38 = .ok (.bipush 40, 2) := dk_16 40 (dk_at dksX9_atom1_1 14 rfl rfl)
theorem dX9_atom1_40 : decode cX9_atom1 40 = .ok (.invokevirtual 195, 3) := dk_182 0 195 (dk_at dksX9_atom1_1 16 rfl rfl)
theorem dX9_atom1_43 : decode cX9_atom1 43 = .ok (.ifCond .eq 52, 3) := dk_153 0 52 (dk_at dksX9_atom1_1 19 rfl rfl)
theorem dX9_atom1_46 : decode cX9_atom1 46 = .ok (.aload_n 0, 1) := dk_42 (dk_at dksX9_atom1_1 22 rfl rfl)
theorem dX9_atom1_47 : decode cX9_atom1 47 = .ok (.invokevirtual 198, 3) := dk_182 0 198 (dk_at dksX9_atom1_2 0 rfl rfl)
theorem dX9_atom1_50 : decode cX9_atom1 50 = .ok (.ifCond .eq 111, 3) := dk_153 0 111 (dk_at dksX9_atom1_2 3 rfl rfl)
theorem dX9_atom1_53 : decode cX9_atom1 53 = .ok (.aload_n 0, 1) := dk_42 (dk_at dksX9_atom1_2 6 rfl rfl)
theorem dX9_atom1_54 : decode cX9_atom1 54 = .ok (.invokevirtual 279, 3) := dk_182 1 23 (dk_at dksX9_atom1_2 7 rfl rfl)
theorem dX9_atom1_57 : decode cX9_atom1 57 = .ok (.istore_n 1, 1) := dk_60 (dk_at dksX9_atom1_2 10 rfl rfl)
theorem dX9_atom1_58 : decode cX9_atom1 58 = .ok (.aload_n 0, 1) := dk_42 (dk_at dksX9_atom1_2 11 rfl rfl)
theorem dX9_atom1_59 : decode cX9_atom1 59 = .ok (.bipush 41, 2) := dk_16 41 (dk_at dksX9_atom1_2 12 rfl rfl)
theorem dX9_atom1_61 : decode cX9_atom1 61 = .ok (.invokevirtual 195, 3) := dk_182 0 195 (dk_at dksX9_atom1_2 14 rfl rfl)
theorem dX9_atom1_64 : decode cX9_atom1 64 = .ok (.ifCond .ne 7, 3) := dk_154 0 7 (dk_at dksX9_atom1_2 17 rfl rfl)
theorem dX9_atom1_67 : decode cX9_atom1 67 = .ok (.aload_n 0, 1) := dk_42 (dk_at dksX9_atom1_2 20 rfl rfl)
theorem dX9_atom1_68 : decode cX9_atom1 68 = .ok (.invokevirtual 167, 3) := dk_182 0 167 (dk_at dksX9_atom1_2 21 rfl rfl)
theorem dX9_atom1_71 : decode cX9_atom1 71 = .ok (.aload_n 0, 1) := dk_42 (dk_at dksX9_atom1_3 0 rfl rfl)
theorem dX9_atom1_72 : decode cX9_atom1 72 = .ok (.dup, 1) := dk_89 (dk_at dksX9_atom1_3 1 rfl rfl)
theorem dX9_atom1_73 : decode cX9_atom1 73 = .ok (.getfield 164, 3) := dk_180 0 164 (dk_at dksX9_atom1_3 2 rfl rfl)
theorem dX9_atom1_76 : decode cX9_atom1 76 = .ok (.iconst 1, 1) := dk_4 (dk_at dksX9_atom1_3 5 rfl rfl)
theorem dX9_atom1_77 : decode cX9_atom1 77 = .ok (.isub, 1) := dk_100 (dk_at dksX9_atom1_3 6 rfl rfl)
theorem dX9_atom1_78 : decode cX9_atom1 78 = .ok (.putfield 164, 3) := dk_181 0 164 (dk_at dksX9_atom1_3 7 rfl rfl)
theorem dX9_atom1_81 : decode cX9_atom1 81 = .ok (.aload_n 0, 1) := dk_42 (dk_at dksX9_atom1_3 10 rfl rfl)
theorem dX9_atom1_82 : decode cX9_atom1 82 = .ok (.getfield 154, 3) := dk_180 0 154 (dk_at dksX9_atom1_3 11 rfl rfl)
theorem dX9_atom1_85 : decode cX9_atom1 85 = .ok (.ifCond .ne 76, 3) := dk_154 0 76 (dk_at dksX9_atom1_3 14 rfl rfl)
theorem dX9_atom1_88 : decode cX9_atom1 88 = .ok (.aload_n 0, 1) := dk_42 (dk_at dksX9_atom1_3 17 rfl rfl)
theorem dX9_atom1_89 : decode cX9_atom1 89 = .ok (.invokevirtual 170, 3) := dk_182 0 170 (dk_at dksX9_atom1_3 18 rfl rfl)
theorem dX9_atom1_92 : decode cX9_atom1 92 = .ok (.goto 69, 3) := dk_167 0 69 (dk_at dksX9_atom1_3 21 rfl rfl)
theorem dX9_atom1_95 : decode cX9_atom1 95 = .ok (.aload_n 0, 1) := dk_42 (dk_at dksX9_atom1_4 0 rfl rfl)
theorem dX9_atom1_96 : decode cX9_atom1 96 = .ok (.getfield 154, 3) := dk_180 0 154 (dk_at dksX9_atom1_4 1 rfl rfl)
theorem dX9_atom1_99 : decode cX9_atom1 99 = .ok (.ifCond .ne 24, 3) := dk_154 0 24 (dk_at dksX9_atom1_4 4 rfl rfl)
theorem dX9_atom1_102 : decode cX9_atom1 102 = .ok (.aload_n 0, 1) := dk_42 (dk_at dksX9_atom1_4 7 rfl rfl)
theorem dX9_atom1_103 : decode cX9_atom1 103 = .ok (.getfield 139, 3) := dk_180 0 139 (dk_at dksX9_atom1_4 8 rfl rfl)
theorem dX9_atom1_106 : decode cX9_atom1 106 = .ok (.iconst 2, 1) := dk_5 (dk_at dksX9_atom1_4 11 rfl rfl)
theorem dX9_atom1_107 : decode cX9_atom1 107 = .ok (.if_icmp .ne 16, 3) := dk_160 0 16 (dk_at dksX9_atom1_4 12 rfl rfl)
theorem dX9_atom1_110 : decode cX9_atom1 110 = .ok (.aload_n 0, 1) := dk_42 (dk_at dksX9_atom1_4 15 rfl rfl)
theorem dX9_atom1_111 : decode cX9_atom1 111 = .ok (.getfield 150, 3) := dk_180 0 150 (dk_at dksX9_atom1_4 16 rfl rfl)
theorem dX9_atom1_114 : decode cX9_atom1 114 = .ok (.l2i, 1) := dk_136 (dk_at dksX9_atom1_4 19 rfl rfl)
theorem dX9_atom1_115 : decode cX9_atom1 115 = .ok (.istore_n 1, 1) := dk_60 (dk_at dksX9_atom1_4 20 rfl rfl)
theorem dX9_atom1_116 : decode cX9_atom1 116 = .ok (.aload_n 0, 1) := dk_42 (dk_at dksX9_atom1_4 21 rfl rfl)
theorem dX9_atom1_117 : decode cX9_atom1 117 = .ok (.invokevirtual 170, 3) := dk_182 0 170 (dk_at dksX9_atom1_5 0 rfl rfl)
theorem dX9_atom1_120 : decode cX9_atom1 120 = .ok (.goto 41, 3) := dk_167 0 41 (dk_at dksX9_atom1_5 3 rfl rfl)
theorem dX9_atom1_123 : decode cX9_atom1 123 = .ok (.aload_n 0, 1) := dk_42 (dk_at dksX9_atom1_5 6 rfl rfl)
theorem dX9_atom1_124 : decode cX9_atom1 124 = .ok (.getfield 154, 3) := dk_180 0 154 (dk_at dksX9_atom1_5 7 rfl rfl)
theorem dX9_atom1_127 : decode cX9_atom1 127 = .ok (.ifCond .ne 30, 3) := dk_154 0 30 (dk_at dksX9_atom1_5 10 rfl rfl)
theorem dX9_atom1_130 : decode cX9_atom1 130 = .ok (.aload_n 0, 1) := dk_42 (dk_at dksX9_atom1_5 13 rfl rfl)
theorem dX9_atom1_131 : decode cX9_atom1 131 = .ok (.getfield 139, 3) := dk_180 0 139 (dk_at dksX9_atom1_5 14 rfl rfl)
theorem dX9_atom1_134 : decode cX9_atom1 134 = .ok (.iconst 1, 1) := dk_4 (dk_at dksX9_atom1_5 17 rfl rfl)
theorem dX9_atom1_135 : decode cX9_atom1 135 = .ok (.if_icmp .ne 22, 3) := dk_160 0 22 (dk_at dksX9_atom1_5 18 rfl rfl)
theorem dX9_atom1_138 : decode cX9_atom1 138 = .ok (.aload_n 0, 1) := dk_42 (dk_at dksX9_atom1_5 21 rfl rfl)
theorem dX9_atom1_139 : decode cX9_atom1 139 = .ok (.invokevirtual 202, 3) := dk_182 0 202 (dk_at dksX9_atom1_6 0 rfl rfl)
theorem dX9_atom1_142 : decode cX9_atom1 142 = .ok (.istore_n 1, 1) := dk_60 (dk_at dksX9_atom1_6 3 rfl rfl)
theorem dX9_atom1_143 : decode cX9_atom1 143 = .ok (.aload_n 0, 1) := dk_42 (dk_at dksX9_atom1_6 4 rfl rfl)
theorem dX9_atom1_144 : decode cX9_atom1 144 = .ok (.getfield 154, 3) := dk_180 0 154 (dk_at dksX9_atom1_6 5 rfl rfl)
theorem dX9_atom1_147 : decode cX9_atom1 147 = .ok (.ifCond .ne 14, 3) := dk_154 0 14 (dk_at dksX9_atom1_6 8 rfl rfl)
theorem dX9_atom1_150 : decode cX9_atom1 150 = .ok (.aload_n 0, 1) := dk_42 (dk_at dksX9_atom1_6 11 rfl rfl)
theorem dX9_atom1_151 : decode cX9_atom1 151 = .ok (.invokevirtual 170, 3) := dk_182 0 170 (dk_at dksX9_atom1_6 12 rfl rfl)
theorem dX9_atom1_154 : decode cX9_atom1 154 = .ok (.goto 7, 3) := dk_167 0 7 (dk_at dksX9_atom1_6 15 rfl rfl)
theorem dX9_atom1_157 : decode cX9_atom1 157 = .ok (.aload_n 0, 1) := dk_42 (dk_at dksX9_atom1_6 18 rfl rfl)
theorem dX9_atom1_158 : decode cX9_atom1 158 = .ok (.invokevirtual 167, 3) := dk_182 0 167 (dk_at dksX9_atom1_6 19 rfl rfl)
theorem dX9_atom1_161 : decode cX9_atom1 161 = .ok (.iload_n 1, 1) := dk_27 (dk_at dksX9_atom1_6 22 rfl rfl)
theorem dX9_atom1_162 : decode cX9_atom1 162 = .ok (.ireturn, 1) := dk_172 (dk_at dksX9_atom1_6 23 rfl rfl)
abbrev cX9_either2 : ByteArray := prog_17_method_48_code
def yX9_either2 : MethodName := ⟨RX9, "either2", "()I"⟩
def dkwX9_either2_2 : List UInt8 := [167, 255, 216, 27, 172]
abbrev dktX9_either2_2 : List UInt8 := dkwX9_either2_2 ++ []
def dkwX9_either2_1 : List UInt8 := [182, 0, 170, 42, 182, 1, 20, 61, 27, 154, 0, 7, 28, 153, 0, 7, 4, 167, 0, 4, 3, 60]
abbrev dktX9_either2_1 : List UInt8 := dkwX9_either2_1 ++ dktX9_either2_2
def dkwX9_either2_0 : List UInt8 := [42, 182, 1, 20, 60, 42, 16, 111, 16, 114, 3, 3, 3, 3, 3, 3, 182, 0, 173, 153, 0, 29, 42]
abbrev dktX9_either2_0 : List UInt8 := dkwX9_either2_0 ++ dktX9_either2_1
theorem dksX9_either2_0 : cX9_either2.data.toList.drop 0 = dktX9_either2_0 := by decide +kernel
theorem dksX9_either2_1 : cX9_either2.data.toList.drop 23 = dktX9_either2_1 := dk_seg dksX9_either2_0 23 rfl rfl
theorem dksX9_either2_2 : cX9_either2.data.toList.drop 45 = dktX9_either2_2 := dk_seg dksX9_either2_1 22 rfl rfl
theorem dX9_either2_0 : decode cX9_either2 0 = .ok (.aload_n 0, 1) := dk_42 (dk_at dksX9_either2_0 0 rfl rfl)
theorem dX9_either2_1 : decode cX9_either2 1 = .ok (.invokevirtual 276, 3) := dk_182 1 20 (dk_at dksX9_either2_0 1 rfl rfl)
theorem dX9_either2_4 : decode cX9_either2 4 = .ok (.istore_n 1, 1) := dk_60 (dk_at dksX9_either2_0 4 rfl rfl)
theorem dX9_either2_5 : decode cX9_either2 5 = .ok (.aload_n 0, 1) := dk_42 (dk_at dksX9_either2_0 5 rfl rfl)
theorem dX9_either2_6 : decode cX9_either2 6 = .ok (.bipush 111, 2) := dk_16 111 (dk_at dksX9_either2_0 6 rfl rfl)
theorem dX9_either2_8 : decode cX9_either2 8 = .ok (.bipush 114, 2) := dk_16 114 (dk_at dksX9_either2_0 8 rfl rfl)
theorem dX9_either2_10 : decode cX9_either2 10 = .ok (.iconst 0, 1) := dk_3 (dk_at dksX9_either2_0 10 rfl rfl)
theorem dX9_either2_11 : decode cX9_either2 11 = .ok (.iconst 0, 1) := dk_3 (dk_at dksX9_either2_0 11 rfl rfl)
theorem dX9_either2_12 : decode cX9_either2 12 = .ok (.iconst 0, 1) := dk_3 (dk_at dksX9_either2_0 12 rfl rfl)
theorem dX9_either2_13 : decode cX9_either2 13 = .ok (.iconst 0, 1) := dk_3 (dk_at dksX9_either2_0 13 rfl rfl)
theorem dX9_either2_14 : decode cX9_either2 14 = .ok (.iconst 0, 1) := dk_3 (dk_at dksX9_either2_0 14 rfl rfl)
theorem dX9_either2_15 : decode cX9_either2 15 = .ok (.iconst 0, 1) := dk_3 (dk_at dksX9_either2_0 15 rfl rfl)
theorem dX9_either2_16 : decode cX9_either2 16 = .ok (.invokevirtual 173, 3) := dk_182 0 173 (dk_at dksX9_either2_0 16 rfl rfl)
theorem dX9_either2_19 : decode cX9_either2 19 = .ok (.ifCond .eq 29, 3) := dk_153 0 29 (dk_at dksX9_either2_0 19 rfl rfl)
theorem dX9_either2_22 : decode cX9_either2 22 = .ok (.aload_n 0, 1) := dk_42 (dk_at dksX9_either2_0 22 rfl rfl)
theorem dX9_either2_23 : decode cX9_either2 23 = .ok (.invokevirtual 170, 3) := dk_182 0 170 (dk_at dksX9_either2_1 0 rfl rfl)
theorem dX9_either2_26 : decode cX9_either2 26 = .ok (.aload_n 0, 1) := dk_42 (dk_at dksX9_either2_1 3 rfl rfl)
theorem dX9_either2_27 : decode cX9_either2 27 = .ok (.invokevirtual 276, 3) := dk_182 1 20 (dk_at dksX9_either2_1 4 rfl rfl)
theorem dX9_either2_30 : decode cX9_either2 30 = .ok (.istore_n 2, 1) := dk_61 (dk_at dksX9_either2_1 7 rfl rfl)
theorem dX9_either2_31 : decode cX9_either2 31 = .ok (.iload_n 1, 1) := dk_27 (dk_at dksX9_either2_1 8 rfl rfl)
theorem dX9_either2_32 : decode cX9_either2 32 = .ok (.ifCond .ne 7, 3) := dk_154 0 7 (dk_at dksX9_either2_1 9 rfl rfl)
theorem dX9_either2_35 : decode cX9_either2 35 = .ok (.iload_n 2, 1) := dk_28 (dk_at dksX9_either2_1 12 rfl rfl)
theorem dX9_either2_36 : decode cX9_either2 36 = .ok (.ifCond .eq 7, 3) := dk_153 0 7 (dk_at dksX9_either2_1 13 rfl rfl)
theorem dX9_either2_39 : decode cX9_either2 39 = .ok (.iconst 1, 1) := dk_4 (dk_at dksX9_either2_1 16 rfl rfl)
theorem dX9_either2_40 : decode cX9_either2 40 = .ok (.goto 4, 3) := dk_167 0 4 (dk_at dksX9_either2_1 17 rfl rfl)
theorem dX9_either2_43 : decode cX9_either2 43 = .ok (.iconst 0, 1) := dk_3 (dk_at dksX9_either2_1 20 rfl rfl)
theorem dX9_either2_44 : decode cX9_either2 44 = .ok (.istore_n 1, 1) := dk_60 (dk_at dksX9_either2_1 21 rfl rfl)
theorem dX9_either2_45 : decode cX9_either2 45 = .ok (.goto (-40), 3) := dk_167 255 216 (dk_at dksX9_either2_2 0 rfl rfl)
theorem dX9_either2_48 : decode cX9_either2 48 = .ok (.iload_n 1, 1) := dk_27 (dk_at dksX9_either2_2 3 rfl rfl)
theorem dX9_either2_49 : decode cX9_either2 49 = .ok (.ireturn, 1) := dk_172 (dk_at dksX9_either2_2 4 rfl rfl)
abbrev cX9_both2 : ByteArray := prog_17_method_47_code
def yX9_both2 : MethodName := ⟨RX9, "both2", "()I"⟩
def dkwX9_both2_2 : List UInt8 := [167, 255, 215, 27, 172]
abbrev dktX9_both2_2 : List UInt8 := dkwX9_both2_2 ++ []
def dkwX9_both2_1 : List UInt8 := [182, 0, 170, 42, 182, 1, 17, 61, 27, 153, 0, 11, 28, 153, 0, 7, 4, 167, 0, 4, 3, 60]
abbrev dktX9_both2_1 : List UInt8 := dkwX9_both2_1 ++ dktX9_both2_2
def dkwX9_both2_0 : List UInt8 := [42, 182, 1, 17, 60, 42, 16, 97, 16, 110, 16, 100, 3, 3, 3, 3, 3, 182, 0, 173, 153, 0, 29, 42]
abbrev dktX9_both2_0 : List UInt8 := dkwX9_both2_0 ++ dktX9_both2_1
theorem dksX9_both2_0 : cX9_both2.data.toList.drop 0 = dktX9_both2_0 := by decide +kernel
theorem dksX9_both2_1 : cX9_both2.data.toList.drop 24 = dktX9_both2_1 := dk_seg dksX9_both2_0 24 rfl rfl
theorem dksX9_both2_2 : cX9_both2.data.toList.drop 46 = dktX9_both2_2 := dk_seg dksX9_both2_1 22 rfl rfl
theorem dX9_both2_0 : decode cX9_both2 0 = .ok (.aload_n 0, 1) := dk_42 (dk_at dksX9_both2_0 0 rfl rfl)
theorem dX9_both2_1 : decode cX9_both2 1 = .ok (.invokevirtual 273, 3) := dk_182 1 17 (dk_at dksX9_both2_0 1 rfl rfl)
theorem dX9_both2_4 : decode cX9_both2 4 = .ok (.istore_n 1, 1) := dk_60 (dk_at dksX9_both2_0 4 rfl rfl)
theorem dX9_both2_5 : decode cX9_both2 5 = .ok (.aload_n 0, 1) := dk_42 (dk_at dksX9_both2_0 5 rfl rfl)
theorem dX9_both2_6 : decode cX9_both2 6 = .ok (.bipush 97, 2) := dk_16 97 (dk_at dksX9_both2_0 6 rfl rfl)
theorem dX9_both2_8 : decode cX9_both2 8 = .ok (.bipush 110, 2) := dk_16 110 (dk_at dksX9_both2_0 8 rfl rfl)
theorem dX9_both2_10 : decode cX9_both2 10 = .ok (.bipush 100, 2) := dk_16 100 (dk_at dksX9_both2_0 10 rfl rfl)
theorem dX9_both2_12 : decode cX9_both2 12 = .ok (.iconst 0, 1) := dk_3 (dk_at dksX9_both2_0 12 rfl rfl)
theorem dX9_both2_13 : decode cX9_both2 13 = .ok (.iconst 0, 1) := dk_3 (dk_at dksX9_both2_0 13 rfl rfl)
theorem dX9_both2_14 : decode cX9_both2 14 = .ok (.iconst 0, 1) := dk_3 (dk_at dksX9_both2_0 14 rfl rfl)
theorem dX9_both2_15 : decode cX9_both2 15 = .ok (.iconst 0, 1) := dk_3 (dk_at dksX9_both2_0 15 rfl rfl)
theorem dX9_both2_16 : decode cX9_both2 16 = .ok (.iconst 0, 1) := dk_3 (dk_at dksX9_both2_0 16 rfl rfl)
theorem dX9_both2_17 : decode cX9_both2 17 = .ok (.invokevirtual 173, 3) := dk_182 0 173 (dk_at dksX9_both2_0 17 rfl rfl)
theorem dX9_both2_20 : decode cX9_both2 20 = .ok (.ifCond .eq 29, 3) := dk_153 0 29 (dk_at dksX9_both2_0 20 rfl rfl)
theorem dX9_both2_23 : decode cX9_both2 23 = .ok (.aload_n 0, 1) := dk_42 (dk_at dksX9_both2_0 23 rfl rfl)
theorem dX9_both2_24 : decode cX9_both2 24 = .ok (.invokevirtual 170, 3) := dk_182 0 170 (dk_at dksX9_both2_1 0 rfl rfl)
theorem dX9_both2_27 : decode cX9_both2 27 = .ok (.aload_n 0, 1) := dk_42 (dk_at dksX9_both2_1 3 rfl rfl)
theorem dX9_both2_28 : decode cX9_both2 28 = .ok (.invokevirtual 273, 3) := dk_182 1 17 (dk_at dksX9_both2_1 4 rfl rfl)
theorem dX9_both2_31 : decode cX9_both2 31 = .ok (.istore_n 2, 1) := dk_61 (dk_at dksX9_both2_1 7 rfl rfl)
theorem dX9_both2_32 : decode cX9_both2 32 = .ok (.iload_n 1, 1) := dk_27 (dk_at dksX9_both2_1 8 rfl rfl)
theorem dX9_both2_33 : decode cX9_both2 33 = .ok (.ifCond .eq 11, 3) := dk_153 0 11 (dk_at dksX9_both2_1 9 rfl rfl)
theorem dX9_both2_36 : decode cX9_both2 36 = .ok (.iload_n 2, 1) := dk_28 (dk_at dksX9_both2_1 12 rfl rfl)
theorem dX9_both2_37 : decode cX9_both2 37 = .ok (.ifCond .eq 7, 3) := dk_153 0 7 (dk_at dksX9_both2_1 13 rfl rfl)
theorem dX9_both2_40 : decode cX9_both2 40 = .ok (.iconst 1, 1) := dk_4 (dk_at dksX9_both2_1 16 rfl rfl)
theorem dX9_both2_41 : decode cX9_both2 41 = .ok (.goto 4, 3) := dk_167 0 4 (dk_at dksX9_both2_1 17 rfl rfl)
theorem dX9_both2_44 : decode cX9_both2 44 = .ok (.iconst 0, 1) := dk_3 (dk_at dksX9_both2_1 20 rfl rfl)
theorem dX9_both2_45 : decode cX9_both2 45 = .ok (.istore_n 1, 1) := dk_60 (dk_at dksX9_both2_1 21 rfl rfl)
theorem dX9_both2_46 : decode cX9_both2 46 = .ok (.goto (-41), 3) := dk_167 255 215 (dk_at dksX9_both2_2 0 rfl rfl)
theorem dX9_both2_49 : decode cX9_both2 49 = .ok (.iload_n 1, 1) := dk_27 (dk_at dksX9_both2_2 3 rfl rfl)
theorem dX9_both2_50 : decode cX9_both2 50 = .ok (.ireturn, 1) := dk_172 (dk_at dksX9_both2_2 4 rfl rfl)
abbrev cX9_added0 : ByteArray := prog_17_method_57_code
def yX9_added0 : MethodName := ⟨RX9, "added0", "()I"⟩
def dkwX9_added0_2 : List UInt8 := [62, 28, 153, 0, 9, 27, 29, 96, 167, 0, 6, 27, 29, 100, 60, 167, 255, 198, 27, 172]
abbrev dktX9_added0_2 : List UInt8 := dkwX9_added0_2 ++ []
def dkwX9_added0_1 : List UInt8 := [180, 0, 150, 20, 0, 212, 148, 154, 0, 7, 4, 167, 0, 4, 3, 61, 42, 182, 0, 170, 42, 182, 1, 47]
abbrev dktX9_added0_1 : List UInt8 := dkwX9_added0_1 ++ dktX9_added0_2
def dkwX9_added0_0 : List UInt8 := [42, 182, 1, 47, 60, 42, 16, 43, 182, 0, 195, 154, 0, 12, 42, 16, 45, 182, 0, 195, 153, 0, 46, 42]
abbrev dktX9_added0_0 : List UInt8 := dkwX9_added0_0 ++ dktX9_added0_1
theorem dksX9_added0_0 : cX9_added0.data.toList.drop 0 = dktX9_added0_0 := by decide +kernel
theorem dksX9_added0_1 : cX9_added0.data.toList.drop 24 = dktX9_added0_1 := dk_seg dksX9_added0_0 24 rfl rfl
theorem dksX9_added0_2 : cX9_added0.data.toList.drop 48 = dktX9_added0_2 := dk_seg dksX9_added0_1 24 rfl rfl
theorem dX9_added0_0 : decode cX9_added0 0 = .ok (.aload_n 0, 1) := dk_42 (dk_at dksX9_added0_0 0 rfl rfl)
theorem dX9_added0_1 : decode cX9_added0 1 = .ok (.invokevirtual 303, 3) := dk_182 1 47 (dk_at dksX9_added0_0 1 rfl rfl)
theorem dX9_added0_4 : decode cX9_added0 4 = .ok (.istore_n 1, 1) := dk_60 (dk_at dksX9_added0_0 4 rfl rfl)
theorem dX9_added0_5 : decode cX9_added0 5 = .ok (.aload_n 0, 1) := dk_42 (dk_at dksX9_added0_0 5 rfl rfl)
theorem dX9_added0_6 : decode cX9_added0 6 = .ok (.bipush 43, 2) := dk_16 43 (dk_at dksX9_added0_0 6 rfl rfl)
theorem dX9_added0_8 : decode cX9_added0 8 = .ok (.invokevirtual 195, 3) := dk_182 0 195 (dk_at dksX9_added0_0 8 rfl rfl)
theorem dX9_added0_11 : decode cX9_added0 11 = .ok (.ifCond .ne 12, 3) := dk_154 0 12 (dk_at dksX9_added0_0 11 rfl rfl)
theorem dX9_added0_14 : decode cX9_added0 14 = .ok (.aload_n 0, 1) := dk_42 (dk_at dksX9_added0_0 14 rfl rfl)
theorem dX9_added0_15 : decode cX9_added0 15 = .ok (.bipush 45, 2) := dk_16 45 (dk_at dksX9_added0_0 15 rfl rfl)
theorem dX9_added0_17 : decode cX9_added0 17 = .ok (.invokevirtual 195, 3) := dk_182 0 195 (dk_at dksX9_added0_0 17 rfl rfl)
theorem dX9_added0_20 : decode cX9_added0 20 = .ok (.ifCond .eq 46, 3) := dk_153 0 46 (dk_at dksX9_added0_0 20 rfl rfl)
theorem dX9_added0_23 : decode cX9_added0 23 = .ok (.aload_n 0, 1) := dk_42 (dk_at dksX9_added0_0 23 rfl rfl)
theorem dX9_added0_24 : decode cX9_added0 24 = .ok (.getfield 150, 3) := dk_180 0 150 (dk_at dksX9_added0_1 0 rfl rfl)
theorem dX9_added0_27 : decode cX9_added0 27 = .ok (.ldc2_w 212, 3) := dk_20 0 212 (dk_at dksX9_added0_1 3 rfl rfl)
theorem dX9_added0_30 : decode cX9_added0 30 = .ok (.lcmp, 1) := dk_148 (dk_at dksX9_added0_1 6 rfl rfl)
theorem dX9_added0_31 : decode cX9_added0 31 = .ok (.ifCond .ne 7, 3) := dk_154 0 7 (dk_at dksX9_added0_1 7 rfl rfl)
theorem dX9_added0_34 : decode cX9_added0 34 = .ok (.iconst 1, 1) := dk_4 (dk_at dksX9_added0_1 10 rfl rfl)
theorem dX9_added0_35 : decode cX9_added0 35 = .ok (.goto 4, 3) := dk_167 0 4 (dk_at dksX9_added0_1 11 rfl rfl)
theorem dX9_added0_38 : decode cX9_added0 38 = .ok (.iconst 0, 1) := dk_3 (dk_at dksX9_added0_1 14 rfl rfl)
theorem dX9_added0_39 : decode cX9_added0 39 = .ok (.istore_n 2, 1) := dk_61 (dk_at dksX9_added0_1 15 rfl rfl)
theorem dX9_added0_40 : decode cX9_added0 40 = .ok (.aload_n 0, 1) := dk_42 (dk_at dksX9_added0_1 16 rfl rfl)
theorem dX9_added0_41 : decode cX9_added0 41 = .ok (.invokevirtual 170, 3) := dk_182 0 170 (dk_at dksX9_added0_1 17 rfl rfl)
theorem dX9_added0_44 : decode cX9_added0 44 = .ok (.aload_n 0, 1) := dk_42 (dk_at dksX9_added0_1 20 rfl rfl)
theorem dX9_added0_45 : decode cX9_added0 45 = .ok (.invokevirtual 303, 3) := dk_182 1 47 (dk_at dksX9_added0_1 21 rfl rfl)
theorem dX9_added0_48 : decode cX9_added0 48 = .ok (.istore_n 3, 1) := dk_62 (dk_at dksX9_added0_2 0 rfl rfl)
theorem dX9_added0_49 : decode cX9_added0 49 = .ok (.iload_n 2, 1) := dk_28 (dk_at dksX9_added0_2 1 rfl rfl)
theorem dX9_added0_50 : decode cX9_added0 50 = .ok (.ifCond .eq 9, 3) := dk_153 0 9 (dk_at dksX9_added0_2 2 rfl rfl)
theorem dX9_added0_53 : decode cX9_added0 53 = .ok (.iload_n 1, 1) := dk_27 (dk_at dksX9_added0_2 5 rfl rfl)
theorem dX9_added0_54 : decode cX9_added0 54 = .ok (.iload_n 3, 1) := dk_29 (dk_at dksX9_added0_2 6 rfl rfl)
theorem dX9_added0_55 : decode cX9_added0 55 = .ok (.iadd, 1) := dk_96 (dk_at dksX9_added0_2 7 rfl rfl)
theorem dX9_added0_56 : decode cX9_added0 56 = .ok (.goto 6, 3) := dk_167 0 6 (dk_at dksX9_added0_2 8 rfl rfl)
theorem dX9_added0_59 : decode cX9_added0 59 = .ok (.iload_n 1, 1) := dk_27 (dk_at dksX9_added0_2 11 rfl rfl)
theorem dX9_added0_60 : decode cX9_added0 60 = .ok (.iload_n 3, 1) := dk_29 (dk_at dksX9_added0_2 12 rfl rfl)
theorem dX9_added0_61 : decode cX9_added0 61 = .ok (.isub, 1) := dk_100 (dk_at dksX9_added0_2 13 rfl rfl)
theorem dX9_added0_62 : decode cX9_added0 62 = .ok (.istore_n 1, 1) := dk_60 (dk_at dksX9_added0_2 14 rfl rfl)
theorem dX9_added0_63 : decode cX9_added0 63 = .ok (.goto (-58), 3) := dk_167 255 198 (dk_at dksX9_added0_2 15 rfl rfl)
theorem dX9_added0_66 : decode cX9_added0 66 = .ok (.iload_n 1, 1) := dk_27 (dk_at dksX9_added0_2 18 rfl rfl)
theorem dX9_added0_67 : decode cX9_added0 67 = .ok (.ireturn, 1) := dk_172 (dk_at dksX9_added0_2 19 rfl rfl)
abbrev cX9_term0 : ByteArray := prog_17_method_56_code
def yX9_term0 : MethodName := ⟨RX9, "term0", "()I"⟩
def dkwX9_term0_1 : List UInt8 := [60, 167, 255, 236, 27, 172]
abbrev dktX9_term0_1 : List UInt8 := dkwX9_term0_1 ++ []
def dkwX9_term0_0 : List UInt8 := [42, 182, 1, 44, 60, 42, 16, 42, 182, 0, 195, 153, 0, 17, 42, 182, 0, 170, 27, 42, 182, 1, 44, 104]
abbrev dktX9_term0_0 : List UInt8 := dkwX9_term0_0 ++ dktX9_term0_1
theorem dksX9_term0_0 : cX9_term0.data.toList.drop 0 = dktX9_term0_0 := by decide +kernel
theorem dksX9_term0_1 : cX9_term0.data.toList.drop 24 = dktX9_term0_1 := dk_seg dksX9_term0_0 24 rfl rfl
theorem dX9_term0_0 : decode cX9_term0 0 = .ok (.aload_n 0, 1) := dk_42 (dk_at dksX9_term0_0 0 rfl rfl)
theorem dX9_term0_1 : decode cX9_term0 1 = .ok (.invokevirtual 300, 3) := dk_182 1 44 (dk_at dksX9_term0_0 1 rfl rfl)
theorem dX9_term0_4 : decode cX9_term0 4 = .ok (.istore_n 1, 1) := dk_60 (dk_at dksX9_term0_0 4 rfl rfl)
theorem dX9_term0_5 : decode cX9_term0 5 = .ok (.aload_n 0, 1) := dk_42 (dk_at dksX9_term0_0 5 rfl rfl)
theorem dX9_term0_6 : decode cX9_term0 6 = .ok (.bipush 42, 2) := dk_16 42 (dk_at dksX9_term0_0 6 rfl rfl)
theorem dX9_term0_8 : decode cX9_term0 8 = .ok (.invokevirtual 195, 3) := dk_182 0 195 (dk_at dksX9_term0_0 8 rfl rfl)
theorem dX9_term0_11 : decode cX9_term0 11 = .ok (.ifCond .eq 17, 3) := dk_153 0 17 (dk_at dksX9_term0_0 11 rfl rfl)
theorem dX9_term0_14 : decode cX9_term0 14 = .ok (.aload_n 0, 1) := dk_42 (dk_at dksX9_term0_0 14 rfl rfl)
theorem dX9_term0_15 : decode cX9_term0 15 = .ok (.invokevirtual 170, 3) := dk_182 0 170 (dk_at dksX9_term0_0 15 rfl rfl)
theorem dX9_term0_18 : decode cX9_term0 18 = .ok (.iload_n 1, 1) := dk_27 (dk_at dksX9_term0_0 18 rfl rfl)
theorem dX9_term0_19 : decode cX9_term0 19 = .ok (.aload_n 0, 1) := dk_42 (dk_at dksX9_term0_0 19 rfl rfl)
theorem dX9_term0_20 : decode cX9_term0 20 = .ok (.invokevirtual 300, 3) := dk_182 1 44 (dk_at dksX9_term0_0 20 rfl rfl)
theorem dX9_term0_23 : decode cX9_term0 23 = .ok (.imul, 1) := dk_104 (dk_at dksX9_term0_0 23 rfl rfl)
theorem dX9_term0_24 : decode cX9_term0 24 = .ok (.istore_n 1, 1) := dk_60 (dk_at dksX9_term0_1 0 rfl rfl)
theorem dX9_term0_25 : decode cX9_term0 25 = .ok (.goto (-20), 3) := dk_167 255 236 (dk_at dksX9_term0_1 1 rfl rfl)
theorem dX9_term0_28 : decode cX9_term0 28 = .ok (.iload_n 1, 1) := dk_27 (dk_at dksX9_term0_1 4 rfl rfl)
theorem dX9_term0_29 : decode cX9_term0 29 = .ok (.ireturn, 1) := dk_172 (dk_at dksX9_term0_1 5 rfl rfl)
abbrev cX9_atom0 : ByteArray := prog_17_method_55_code
def yX9_atom0 : MethodName := ⟨RX9, "atom0", "()I"⟩
def dkwX9_atom0_6 : List UInt8 := [182, 0, 202, 60, 42, 180, 0, 154, 154, 0, 14, 42, 182, 0, 170, 167, 0, 7, 42, 182, 0, 167, 27, 172]
abbrev dktX9_atom0_6 : List UInt8 := dkwX9_atom0_6 ++ []
def dkwX9_atom0_5 : List UInt8 := [182, 0, 170, 167, 0, 41, 42, 180, 0, 154, 154, 0, 30, 42, 180, 0, 139, 4, 160, 0, 22, 42]
abbrev dktX9_atom0_5 : List UInt8 := dkwX9_atom0_5 ++ dktX9_atom0_6
def dkwX9_atom0_4 : List UInt8 := [42, 180, 0, 154, 154, 0, 24, 42, 180, 0, 139, 5, 160, 0, 16, 42, 180, 0, 150, 136, 60, 42]
abbrev dktX9_atom0_4 : List UInt8 := dkwX9_atom0_4 ++ dktX9_atom0_5
def dkwX9_atom0_3 : List UInt8 := [42, 89, 180, 0, 164, 4, 100, 181, 0, 164, 42, 180, 0, 154, 154, 0, 76, 42, 182, 0, 170, 167, 0, 69]
abbrev dktX9_atom0_3 : List UInt8 := dkwX9_atom0_3 ++ dktX9_atom0_4
def dkwX9_atom0_2 : List UInt8 := [182, 0, 198, 153, 0, 111, 42, 182, 1, 41, 60, 42, 16, 41, 182, 0, 195, 154, 0, 7, 42, 182, 0, 167]
abbrev dktX9_atom0_2 : List UInt8 := dkwX9_atom0_2 ++ dktX9_atom0_3
def dkwX9_atom0_1 : List UInt8 := [42, 89, 180, 0, 164, 4, 100, 181, 0, 164, 167, 0, 127, 42, 16, 40, 182, 0, 195, 153, 0, 52, 42]
abbrev dktX9_atom0_1 : List UInt8 := dkwX9_atom0_1 ++ dktX9_atom0_2
def dkwX9_atom0_0 : List UInt8 := [3, 60, 42, 16, 45, 182, 0, 195, 153, 0, 29, 42, 182, 0, 198, 153, 0, 146, 42, 182, 1, 26, 116, 60]
abbrev dktX9_atom0_0 : List UInt8 := dkwX9_atom0_0 ++ dktX9_atom0_1
theorem dksX9_atom0_0 : cX9_atom0.data.toList.drop 0 = dktX9_atom0_0 := by decide +kernel
theorem dksX9_atom0_1 : cX9_atom0.data.toList.drop 24 = dktX9_atom0_1 := dk_seg dksX9_atom0_0 24 rfl rfl
theorem dksX9_atom0_2 : cX9_atom0.data.toList.drop 47 = dktX9_atom0_2 := dk_seg dksX9_atom0_1 23 rfl rfl
theorem dksX9_atom0_3 : cX9_atom0.data.toList.drop 71 = dktX9_atom0_3 := dk_seg dksX9_atom0_2 24 rfl rfl
theorem dksX9_atom0_4 : cX9_atom0.data.toList.drop 95 = dktX9_atom0_4 := dk_seg dksX9_atom0_3 24 rfl rfl
theorem dksX9_atom0_5 : cX9_atom0.data.toList.drop 117 = dktX9_atom0_5 := dk_seg dksX9_atom0_4 22 rfl rfl
theorem dksX9_atom0_6 : cX9_atom0.data.toList.drop 139 = dktX9_atom0_6 := dk_seg dksX9_atom0_5 22 rfl rfl
theorem dX9_atom0_0 : decode cX9_atom0 0 = .ok (.iconst 0, 1) := dk_3 (dk_at dksX9_atom0_0 0 rfl rfl)
theorem dX9_atom0_1 : decode cX9_atom0 1 = .ok (.istore_n 1, 1) := dk_60 (dk_at dksX9_atom0_0 1 rfl rfl)
theorem dX9_atom0_2 : decode cX9_atom0 2 = .ok (.aload_n 0, 1) := dk_42 (dk_at dksX9_atom0_0 2 rfl rfl)
theorem dX9_atom0_3 : decode cX9_atom0 3 = .ok (.bipush 45, 2) := dk_16 45 (dk_at dksX9_atom0_0 3 rfl rfl)
theorem dX9_atom0_5 : decode cX9_atom0 5 = .ok (.invokevirtual 195, 3) := dk_182 0 195 (dk_at dksX9_atom0_0 5 rfl rfl)
theorem dX9_atom0_8 : decode cX9_atom0 8 = .ok (.ifCond .eq 29, 3) := dk_153 0 29 (dk_at dksX9_atom0_0 8 rfl rfl)
theorem dX9_atom0_11 : decode cX9_atom0 11 = .ok (.aload_n 0, 1) := dk_42 (dk_at dksX9_atom0_0 11 rfl rfl)
theorem dX9_atom0_12 : decode cX9_atom0 12 = .ok (.invokevirtual 198, 3) := dk_182 0 198 (dk_at dksX9_atom0_0 12 rfl rfl)
theorem dX9_atom0_15 : decode cX9_atom0 15 = .ok (.ifCond .eq 146, 3) := dk_153 0 146 (dk_at dksX9_atom0_0 15 rfl rfl)
theorem dX9_atom0_18 : decode cX9_atom0 18 = .ok (.aload_n 0, 1) := dk_42 (dk_at dksX9_atom0_0 18 rfl rfl)
theorem dX9_atom0_19 : decode cX9_atom0 19 = .ok (.invokevirtual 282, 3) := dk_182 1 26 (dk_at dksX9_atom0_0 19 rfl rfl)
theorem dX9_atom0_22 : decode cX9_atom0 22 = .ok (.ineg, 1) := dk_116 (dk_at dksX9_atom0_0 22 rfl rfl)
theorem dX9_atom0_23 : decode cX9_atom0 23 = .ok (.istore_n 1, 1) := dk_60 (dk_at dksX9_atom0_0 23 rfl rfl)
theorem dX9_atom0_24 : decode cX9_atom0 24 = .ok (.aload_n 0, 1) := dk_42 (dk_at dksX9_atom0_1 0 rfl rfl)
theorem dX9_atom0_25 : decode cX9_atom0 25 = .ok (.dup, 1) := dk_89 (dk_at dksX9_atom0_1 1 rfl rfl)
theorem dX9_atom0_26 : decode cX9_atom0 26 = .ok (.getfield 164, 3) := dk_180 0 164 (dk_at dksX9_atom0_1 2 rfl rfl)
theorem dX9_atom0_29 : decode cX9_atom0 29 = .ok (.iconst 1, 1) := dk_4 (dk_at dksX9_atom0_1 5 rfl rfl)
theorem dX9_atom0_30 : decode cX9_atom0 30 = .ok (.isub, 1) := dk_100 (dk_at dksX9_atom0_1 6 rfl rfl)
theorem dX9_atom0_31 : decode cX9_atom0 31 = .ok (.putfield 164, 3) := dk_181 0 164 (dk_at dksX9_atom0_1 7 rfl rfl)
theorem dX9_atom0_34 : decode cX9_atom0 34 = .ok (.goto 127, 3) := dk_167 0 127 (dk_at dksX9_atom0_1 10 rfl rfl)
theorem dX9_atom0_37 : decode cX9_atom0 37 = .ok (.aload_n 0, 1) := dk_42 (dk_at dksX9_atom0_1 13 rfl rfl)
theorem dX9_atom0_38 : decode cX9_atom0 38 = .ok (.bipush 40, 2) := dk_16 40 (dk_at dksX9_atom0_1 14 rfl rfl)
theorem dX9_atom0_40 : decode cX9_atom0 40 = .ok (.invokevirtual 195, 3) := dk_182 0 195 (dk_at dksX9_atom0_1 16 rfl rfl)
theorem dX9_atom0_43 : decode cX9_atom0 43 = .ok (.ifCond .eq 52, 3) := dk_153 0 52 (dk_at dksX9_atom0_1 19 rfl rfl)
theorem dX9_atom0_46 : decode cX9_atom0 46 = .ok (.aload_n 0, 1) := dk_42 (dk_at dksX9_atom0_1 22 rfl rfl)
theorem dX9_atom0_47 : decode cX9_atom0 47 = .ok (.invokevirtual 198, 3) := dk_182 0 198 (dk_at dksX9_atom0_2 0 rfl rfl)
theorem dX9_atom0_50 : decode cX9_atom0 50 = .ok (.ifCond .eq 111, 3) := dk_153 0 111 (dk_at dksX9_atom0_2 3 rfl rfl)
theorem dX9_atom0_53 : decode cX9_atom0 53 = .ok (.aload_n 0, 1) := dk_42 (dk_at dksX9_atom0_2 6 rfl rfl)
theorem dX9_atom0_54 : decode cX9_atom0 54 = .ok (.invokevirtual 297, 3) := dk_182 1 41 (dk_at dksX9_atom0_2 7 rfl rfl)
theorem dX9_atom0_57 : decode cX9_atom0 57 = .ok (.istore_n 1, 1) := dk_60 (dk_at dksX9_atom0_2 10 rfl rfl)
theorem dX9_atom0_58 : decode cX9_atom0 58 = .ok (.aload_n 0, 1) := dk_42 (dk_at dksX9_atom0_2 11 rfl rfl)
theorem dX9_atom0_59 : decode cX9_atom0 59 = .ok (.bipush 41, 2) := dk_16 41 (dk_at dksX9_atom0_2 12 rfl rfl)
theorem dX9_atom0_61 : decode cX9_atom0 61 = .ok (.invokevirtual 195, 3) := dk_182 0 195 (dk_at dksX9_atom0_2 14 rfl rfl)
theorem dX9_atom0_64 : decode cX9_atom0 64 = .ok (.ifCond .ne 7, 3) := dk_154 0 7 (dk_at dksX9_atom0_2 17 rfl rfl)
theorem dX9_atom0_67 : decode cX9_atom0 67 = .ok (.aload_n 0, 1) := dk_42 (dk_at dksX9_atom0_2 20 rfl rfl)
theorem dX9_atom0_68 : decode cX9_atom0 68 = .ok (.invokevirtual 167, 3) := dk_182 0 167 (dk_at dksX9_atom0_2 21 rfl rfl)
theorem dX9_atom0_71 : decode cX9_atom0 71 = .ok (.aload_n 0, 1) := dk_42 (dk_at dksX9_atom0_3 0 rfl rfl)
theorem dX9_atom0_72 : decode cX9_atom0 72 = .ok (.dup, 1) := dk_89 (dk_at dksX9_atom0_3 1 rfl rfl)
theorem dX9_atom0_73 : decode cX9_atom0 73 = .ok (.getfield 164, 3) := dk_180 0 164 (dk_at dksX9_atom0_3 2 rfl rfl)
theorem dX9_atom0_76 : decode cX9_atom0 76 = .ok (.iconst 1, 1) := dk_4 (dk_at dksX9_atom0_3 5 rfl rfl)
theorem dX9_atom0_77 : decode cX9_atom0 77 = .ok (.isub, 1) := dk_100 (dk_at dksX9_atom0_3 6 rfl rfl)
theorem dX9_atom0_78 : decode cX9_atom0 78 = .ok (.putfield 164, 3) := dk_181 0 164 (dk_at dksX9_atom0_3 7 rfl rfl)
theorem dX9_atom0_81 : decode cX9_atom0 81 = .ok (.aload_n 0, 1) := dk_42 (dk_at dksX9_atom0_3 10 rfl rfl)
theorem dX9_atom0_82 : decode cX9_atom0 82 = .ok (.getfield 154, 3) := dk_180 0 154 (dk_at dksX9_atom0_3 11 rfl rfl)
theorem dX9_atom0_85 : decode cX9_atom0 85 = .ok (.ifCond .ne 76, 3) := dk_154 0 76 (dk_at dksX9_atom0_3 14 rfl rfl)
theorem dX9_atom0_88 : decode cX9_atom0 88 = .ok (.aload_n 0, 1) := dk_42 (dk_at dksX9_atom0_3 17 rfl rfl)
theorem dX9_atom0_89 : decode cX9_atom0 89 = .ok (.invokevirtual 170, 3) := dk_182 0 170 (dk_at dksX9_atom0_3 18 rfl rfl)
theorem dX9_atom0_92 : decode cX9_atom0 92 = .ok (.goto 69, 3) := dk_167 0 69 (dk_at dksX9_atom0_3 21 rfl rfl)
theorem dX9_atom0_95 : decode cX9_atom0 95 = .ok (.aload_n 0, 1) := dk_42 (dk_at dksX9_atom0_4 0 rfl rfl)
theorem dX9_atom0_96 : decode cX9_atom0 96 = .ok (.getfield 154, 3) := dk_180 0 154 (dk_at dksX9_atom0_4 1 rfl rfl)
theorem dX9_atom0_99 : decode cX9_atom0 99 = .ok (.ifCond .ne 24, 3) := dk_154 0 24 (dk_at dksX9_atom0_4 4 rfl rfl)
theorem dX9_atom0_102 : decode cX9_atom0 102 = .ok (.aload_n 0, 1) := dk_42 (dk_at dksX9_atom0_4 7 rfl rfl)
theorem dX9_atom0_103 : decode cX9_atom0 103 = .ok (.getfield 139, 3) := dk_180 0 139 (dk_at dksX9_atom0_4 8 rfl rfl)
theorem dX9_atom0_106 : decode cX9_atom0 106 = .ok (.iconst 2, 1) := dk_5 (dk_at dksX9_atom0_4 11 rfl rfl)
theorem dX9_atom0_107 : decode cX9_atom0 107 = .ok (.if_icmp .ne 16, 3) := dk_160 0 16 (dk_at dksX9_atom0_4 12 rfl rfl)
theorem dX9_atom0_110 : decode cX9_atom0 110 = .ok (.aload_n 0, 1) := dk_42 (dk_at dksX9_atom0_4 15 rfl rfl)
theorem dX9_atom0_111 : decode cX9_atom0 111 = .ok (.getfield 150, 3) := dk_180 0 150 (dk_at dksX9_atom0_4 16 rfl rfl)
theorem dX9_atom0_114 : decode cX9_atom0 114 = .ok (.l2i, 1) := dk_136 (dk_at dksX9_atom0_4 19 rfl rfl)
theorem dX9_atom0_115 : decode cX9_atom0 115 = .ok (.istore_n 1, 1) := dk_60 (dk_at dksX9_atom0_4 20 rfl rfl)
theorem dX9_atom0_116 : decode cX9_atom0 116 = .ok (.aload_n 0, 1) := dk_42 (dk_at dksX9_atom0_4 21 rfl rfl)
theorem dX9_atom0_117 : decode cX9_atom0 117 = .ok (.invokevirtual 170, 3) := dk_182 0 170 (dk_at dksX9_atom0_5 0 rfl rfl)
theorem dX9_atom0_120 : decode cX9_atom0 120 = .ok (.goto 41, 3) := dk_167 0 41 (dk_at dksX9_atom0_5 3 rfl rfl)
theorem dX9_atom0_123 : decode cX9_atom0 123 = .ok (.aload_n 0, 1) := dk_42 (dk_at dksX9_atom0_5 6 rfl rfl)
theorem dX9_atom0_124 : decode cX9_atom0 124 = .ok (.getfield 154, 3) := dk_180 0 154 (dk_at dksX9_atom0_5 7 rfl rfl)
theorem dX9_atom0_127 : decode cX9_atom0 127 = .ok (.ifCond .ne 30, 3) := dk_154 0 30 (dk_at dksX9_atom0_5 10 rfl rfl)
theorem dX9_atom0_130 : decode cX9_atom0 130 = .ok (.aload_n 0, 1) := dk_42 (dk_at dksX9_atom0_5 13 rfl rfl)
theorem dX9_atom0_131 : decode cX9_atom0 131 = .ok (.getfield 139, 3) := dk_180 0 139 (dk_at dksX9_atom0_5 14 rfl rfl)
theorem dX9_atom0_134 : decode cX9_atom0 134 = .ok (.iconst 1, 1) := dk_4 (dk_at dksX9_atom0_5 17 rfl rfl)
theorem dX9_atom0_135 : decode cX9_atom0 135 = .ok (.if_icmp .ne 22, 3) := dk_160 0 22 (dk_at dksX9_atom0_5 18 rfl rfl)
theorem dX9_atom0_138 : decode cX9_atom0 138 = .ok (.aload_n 0, 1) := dk_42 (dk_at dksX9_atom0_5 21 rfl rfl)
theorem dX9_atom0_139 : decode cX9_atom0 139 = .ok (.invokevirtual 202, 3) := dk_182 0 202 (dk_at dksX9_atom0_6 0 rfl rfl)
theorem dX9_atom0_142 : decode cX9_atom0 142 = .ok (.istore_n 1, 1) := dk_60 (dk_at dksX9_atom0_6 3 rfl rfl)
theorem dX9_atom0_143 : decode cX9_atom0 143 = .ok (.aload_n 0, 1) := dk_42 (dk_at dksX9_atom0_6 4 rfl rfl)
theorem dX9_atom0_144 : decode cX9_atom0 144 = .ok (.getfield 154, 3) := dk_180 0 154 (dk_at dksX9_atom0_6 5 rfl rfl)
theorem dX9_atom0_147 : decode cX9_atom0 147 = .ok (.ifCond .ne 14, 3) := dk_154 0 14 (dk_at dksX9_atom0_6 8 rfl rfl)
theorem dX9_atom0_150 : decode cX9_atom0 150 = .ok (.aload_n 0, 1) := dk_42 (dk_at dksX9_atom0_6 11 rfl rfl)
theorem dX9_atom0_151 : decode cX9_atom0 151 = .ok (.invokevirtual 170, 3) := dk_182 0 170 (dk_at dksX9_atom0_6 12 rfl rfl)
theorem dX9_atom0_154 : decode cX9_atom0 154 = .ok (.goto 7, 3) := dk_167 0 7 (dk_at dksX9_atom0_6 15 rfl rfl)
theorem dX9_atom0_157 : decode cX9_atom0 157 = .ok (.aload_n 0, 1) := dk_42 (dk_at dksX9_atom0_6 18 rfl rfl)
theorem dX9_atom0_158 : decode cX9_atom0 158 = .ok (.invokevirtual 167, 3) := dk_182 0 167 (dk_at dksX9_atom0_6 19 rfl rfl)
theorem dX9_atom0_161 : decode cX9_atom0 161 = .ok (.iload_n 1, 1) := dk_27 (dk_at dksX9_atom0_6 22 rfl rfl)
theorem dX9_atom0_162 : decode cX9_atom0 162 = .ok (.ireturn, 1) := dk_172 (dk_at dksX9_atom0_6 23 rfl rfl)
abbrev cX9_either1 : ByteArray := prog_17_method_54_code
def yX9_either1 : MethodName := ⟨RX9, "either1", "()I"⟩
def dkwX9_either1_2 : List UInt8 := [167, 255, 216, 27, 172]
abbrev dktX9_either1_2 : List UInt8 := dkwX9_either1_2 ++ []
def dkwX9_either1_1 : List UInt8 := [182, 0, 170, 42, 182, 1, 38, 61, 27, 154, 0, 7, 28, 153, 0, 7, 4, 167, 0, 4, 3, 60]
abbrev dktX9_either1_1 : List UInt8 := dkwX9_either1_1 ++ dktX9_either1_2
def dkwX9_either1_0 : List UInt8 := [42, 182, 1, 38, 60, 42, 16, 111, 16, 114, 3, 3, 3, 3, 3, 3, 182, 0, 173, 153, 0, 29, 42]
abbrev dktX9_either1_0 : List UInt8 := dkwX9_either1_0 ++ dktX9_either1_1
theorem dksX9_either1_0 : cX9_either1.data.toList.drop 0 = dktX9_either1_0 := by decide +kernel
theorem dksX9_either1_1 : cX9_either1.data.toList.drop 23 = dktX9_either1_1 := dk_seg dksX9_either1_0 23 rfl rfl
theorem dksX9_either1_2 : cX9_either1.data.toList.drop 45 = dktX9_either1_2 := dk_seg dksX9_either1_1 22 rfl rfl
theorem dX9_either1_0 : decode cX9_either1 0 = .ok (.aload_n 0, 1) := dk_42 (dk_at dksX9_either1_0 0 rfl rfl)
theorem dX9_either1_1 : decode cX9_either1 1 = .ok (.invokevirtual 294, 3) := dk_182 1 38 (dk_at dksX9_either1_0 1 rfl rfl)
theorem dX9_either1_4 : decode cX9_either1 4 = .ok (.istore_n 1, 1) := dk_60 (dk_at dksX9_either1_0 4 rfl rfl)
theorem dX9_either1_5 : decode cX9_either1 5 = .ok (.aload_n 0, 1) := dk_42 (dk_at dksX9_either1_0 5 rfl rfl)
theorem dX9_either1_6 : decode cX9_either1 6 = .ok (.bipush 111, 2) := dk_16 111 (dk_at dksX9_either1_0 6 rfl rfl)
theorem dX9_either1_8 : decode cX9_either1 8 = .ok (.bipush 114, 2) := dk_16 114 (dk_at dksX9_either1_0 8 rfl rfl)
theorem dX9_either1_10 : decode cX9_either1 10 = .ok (.iconst 0, 1) := dk_3 (dk_at dksX9_either1_0 10 rfl rfl)
theorem dX9_either1_11 : decode cX9_either1 11 = .ok (.iconst 0, 1) := dk_3 (dk_at dksX9_either1_0 11 rfl rfl)
theorem dX9_either1_12 : decode cX9_either1 12 = .ok (.iconst 0, 1) := dk_3 (dk_at dksX9_either1_0 12 rfl rfl)
theorem dX9_either1_13 : decode cX9_either1 13 = .ok (.iconst 0, 1) := dk_3 (dk_at dksX9_either1_0 13 rfl rfl)
theorem dX9_either1_14 : decode cX9_either1 14 = .ok (.iconst 0, 1) := dk_3 (dk_at dksX9_either1_0 14 rfl rfl)
theorem dX9_either1_15 : decode cX9_either1 15 = .ok (.iconst 0, 1) := dk_3 (dk_at dksX9_either1_0 15 rfl rfl)
theorem dX9_either1_16 : decode cX9_either1 16 = .ok (.invokevirtual 173, 3) := dk_182 0 173 (dk_at dksX9_either1_0 16 rfl rfl)
theorem dX9_either1_19 : decode cX9_either1 19 = .ok (.ifCond .eq 29, 3) := dk_153 0 29 (dk_at dksX9_either1_0 19 rfl rfl)
theorem dX9_either1_22 : decode cX9_either1 22 = .ok (.aload_n 0, 1) := dk_42 (dk_at dksX9_either1_0 22 rfl rfl)
theorem dX9_either1_23 : decode cX9_either1 23 = .ok (.invokevirtual 170, 3) := dk_182 0 170 (dk_at dksX9_either1_1 0 rfl rfl)
theorem dX9_either1_26 : decode cX9_either1 26 = .ok (.aload_n 0, 1) := dk_42 (dk_at dksX9_either1_1 3 rfl rfl)
theorem dX9_either1_27 : decode cX9_either1 27 = .ok (.invokevirtual 294, 3) := dk_182 1 38 (dk_at dksX9_either1_1 4 rfl rfl)
theorem dX9_either1_30 : decode cX9_either1 30 = .ok (.istore_n 2, 1) := dk_61 (dk_at dksX9_either1_1 7 rfl rfl)
theorem dX9_either1_31 : decode cX9_either1 31 = .ok (.iload_n 1, 1) := dk_27 (dk_at dksX9_either1_1 8 rfl rfl)
theorem dX9_either1_32 : decode cX9_either1 32 = .ok (.ifCond .ne 7, 3) := dk_154 0 7 (dk_at dksX9_either1_1 9 rfl rfl)
theorem dX9_either1_35 : decode cX9_either1 35 = .ok (.iload_n 2, 1) := dk_28 (dk_at dksX9_either1_1 12 rfl rfl)
theorem dX9_either1_36 : decode cX9_either1 36 = .ok (.ifCond .eq 7, 3) := dk_153 0 7 (dk_at dksX9_either1_1 13 rfl rfl)
theorem dX9_either1_39 : decode cX9_either1 39 = .ok (.iconst 1, 1) := dk_4 (dk_at dksX9_either1_1 16 rfl rfl)
theorem dX9_either1_40 : decode cX9_either1 40 = .ok (.goto 4, 3) := dk_167 0 4 (dk_at dksX9_either1_1 17 rfl rfl)
theorem dX9_either1_43 : decode cX9_either1 43 = .ok (.iconst 0, 1) := dk_3 (dk_at dksX9_either1_1 20 rfl rfl)
theorem dX9_either1_44 : decode cX9_either1 44 = .ok (.istore_n 1, 1) := dk_60 (dk_at dksX9_either1_1 21 rfl rfl)
theorem dX9_either1_45 : decode cX9_either1 45 = .ok (.goto (-40), 3) := dk_167 255 216 (dk_at dksX9_either1_2 0 rfl rfl)
theorem dX9_either1_48 : decode cX9_either1 48 = .ok (.iload_n 1, 1) := dk_27 (dk_at dksX9_either1_2 3 rfl rfl)
theorem dX9_either1_49 : decode cX9_either1 49 = .ok (.ireturn, 1) := dk_172 (dk_at dksX9_either1_2 4 rfl rfl)
abbrev cX9_both1 : ByteArray := prog_17_method_53_code
def yX9_both1 : MethodName := ⟨RX9, "both1", "()I"⟩
def dkwX9_both1_2 : List UInt8 := [167, 255, 215, 27, 172]
abbrev dktX9_both1_2 : List UInt8 := dkwX9_both1_2 ++ []
def dkwX9_both1_1 : List UInt8 := [182, 0, 170, 42, 182, 1, 35, 61, 27, 153, 0, 11, 28, 153, 0, 7, 4, 167, 0, 4, 3, 60]
abbrev dktX9_both1_1 : List UInt8 := dkwX9_both1_1 ++ dktX9_both1_2
def dkwX9_both1_0 : List UInt8 := [42, 182, 1, 35, 60, 42, 16, 97, 16, 110, 16, 100, 3, 3, 3, 3, 3, 182, 0, 173, 153, 0, 29, 42]
abbrev dktX9_both1_0 : List UInt8 := dkwX9_both1_0 ++ dktX9_both1_1
theorem dksX9_both1_0 : cX9_both1.data.toList.drop 0 = dktX9_both1_0 := by decide +kernel
theorem dksX9_both1_1 : cX9_both1.data.toList.drop 24 = dktX9_both1_1 := dk_seg dksX9_both1_0 24 rfl rfl
theorem dksX9_both1_2 : cX9_both1.data.toList.drop 46 = dktX9_both1_2 := dk_seg dksX9_both1_1 22 rfl rfl
theorem dX9_both1_0 : decode cX9_both1 0 = .ok (.aload_n 0, 1) := dk_42 (dk_at dksX9_both1_0 0 rfl rfl)
theorem dX9_both1_1 : decode cX9_both1 1 = .ok (.invokevirtual 291, 3) := dk_182 1 35 (dk_at dksX9_both1_0 1 rfl rfl)
theorem dX9_both1_4 : decode cX9_both1 4 = .ok (.istore_n 1, 1) := dk_60 (dk_at dksX9_both1_0 4 rfl rfl)
theorem dX9_both1_5 : decode cX9_both1 5 = .ok (.aload_n 0, 1) := dk_42 (dk_at dksX9_both1_0 5 rfl rfl)
theorem dX9_both1_6 : decode cX9_both1 6 = .ok (.bipush 97, 2) := dk_16 97 (dk_at dksX9_both1_0 6 rfl rfl)
theorem dX9_both1_8 : decode cX9_both1 8 = .ok (.bipush 110, 2) := dk_16 110 (dk_at dksX9_both1_0 8 rfl rfl)
theorem dX9_both1_10 : decode cX9_both1 10 = .ok (.bipush 100, 2) := dk_16 100 (dk_at dksX9_both1_0 10 rfl rfl)
theorem dX9_both1_12 : decode cX9_both1 12 = .ok (.iconst 0, 1) := dk_3 (dk_at dksX9_both1_0 12 rfl rfl)
theorem dX9_both1_13 : decode cX9_both1 13 = .ok (.iconst 0, 1) := dk_3 (dk_at dksX9_both1_0 13 rfl rfl)
theorem dX9_both1_14 : decode cX9_both1 14 = .ok (.iconst 0, 1) := dk_3 (dk_at dksX9_both1_0 14 rfl rfl)
theorem dX9_both1_15 : decode cX9_both1 15 = .ok (.iconst 0, 1) := dk_3 (dk_at dksX9_both1_0 15 rfl rfl)
theorem dX9_both1_16 : decode cX9_both1 16 = .ok (.iconst 0, 1) := dk_3 (dk_at dksX9_both1_0 16 rfl rfl)
theorem dX9_both1_17 : decode cX9_both1 17 = .ok (.invokevirtual 173, 3) := dk_182 0 173 (dk_at dksX9_both1_0 17 rfl rfl)
theorem dX9_both1_20 : decode cX9_both1 20 = .ok (.ifCond .eq 29, 3) := dk_153 0 29 (dk_at dksX9_both1_0 20 rfl rfl)
theorem dX9_both1_23 : decode cX9_both1 23 = .ok (.aload_n 0, 1) := dk_42 (dk_at dksX9_both1_0 23 rfl rfl)
theorem dX9_both1_24 : decode cX9_both1 24 = .ok (.invokevirtual 170, 3) := dk_182 0 170 (dk_at dksX9_both1_1 0 rfl rfl)
theorem dX9_both1_27 : decode cX9_both1 27 = .ok (.aload_n 0, 1) := dk_42 (dk_at dksX9_both1_1 3 rfl rfl)
theorem dX9_both1_28 : decode cX9_both1 28 = .ok (.invokevirtual 291, 3) := dk_182 1 35 (dk_at dksX9_both1_1 4 rfl rfl)
theorem dX9_both1_31 : decode cX9_both1 31 = .ok (.istore_n 2, 1) := dk_61 (dk_at dksX9_both1_1 7 rfl rfl)
theorem dX9_both1_32 : decode cX9_both1 32 = .ok (.iload_n 1, 1) := dk_27 (dk_at dksX9_both1_1 8 rfl rfl)
theorem dX9_both1_33 : decode cX9_both1 33 = .ok (.ifCond .eq 11, 3) := dk_153 0 11 (dk_at dksX9_both1_1 9 rfl rfl)
theorem dX9_both1_36 : decode cX9_both1 36 = .ok (.iload_n 2, 1) := dk_28 (dk_at dksX9_both1_1 12 rfl rfl)
theorem dX9_both1_37 : decode cX9_both1 37 = .ok (.ifCond .eq 7, 3) := dk_153 0 7 (dk_at dksX9_both1_1 13 rfl rfl)
theorem dX9_both1_40 : decode cX9_both1 40 = .ok (.iconst 1, 1) := dk_4 (dk_at dksX9_both1_1 16 rfl rfl)
theorem dX9_both1_41 : decode cX9_both1 41 = .ok (.goto 4, 3) := dk_167 0 4 (dk_at dksX9_both1_1 17 rfl rfl)
theorem dX9_both1_44 : decode cX9_both1 44 = .ok (.iconst 0, 1) := dk_3 (dk_at dksX9_both1_1 20 rfl rfl)
theorem dX9_both1_45 : decode cX9_both1 45 = .ok (.istore_n 1, 1) := dk_60 (dk_at dksX9_both1_1 21 rfl rfl)
theorem dX9_both1_46 : decode cX9_both1 46 = .ok (.goto (-41), 3) := dk_167 255 215 (dk_at dksX9_both1_2 0 rfl rfl)
theorem dX9_both1_49 : decode cX9_both1 49 = .ok (.iload_n 1, 1) := dk_27 (dk_at dksX9_both1_2 3 rfl rfl)
theorem dX9_both1_50 : decode cX9_both1 50 = .ok (.ireturn, 1) := dk_172 (dk_at dksX9_both1_2 4 rfl rfl)
abbrev cX9_within : ByteArray := prog_17_method_3_code
def yX9_within : MethodName := ⟨RX9, "within", "(III)I"⟩
def dkwX9_within_0 : List UInt8 := [26, 27, 162, 0, 7, 27, 167, 0, 13, 26, 28, 164, 0, 7, 28, 167, 0, 4, 26, 172]
abbrev dktX9_within_0 : List UInt8 := dkwX9_within_0 ++ []
theorem dksX9_within_0 : cX9_within.data.toList.drop 0 = dktX9_within_0 := by decide +kernel
theorem dX9_within_0 : decode cX9_within 0 = .ok (.iload_n 0, 1) := dk_26 (dk_at dksX9_within_0 0 rfl rfl)
theorem dX9_within_1 : decode cX9_within 1 = .ok (.iload_n 1, 1) := dk_27 (dk_at dksX9_within_0 1 rfl rfl)
theorem dX9_within_2 : decode cX9_within 2 = .ok (.if_icmp .ge 7, 3) := dk_162 0 7 (dk_at dksX9_within_0 2 rfl rfl)
theorem dX9_within_5 : decode cX9_within 5 = .ok (.iload_n 1, 1) := dk_27 (dk_at dksX9_within_0 5 rfl rfl)
theorem dX9_within_6 : decode cX9_within 6 = .ok (.goto 13, 3) := dk_167 0 13 (dk_at dksX9_within_0 6 rfl rfl)
theorem dX9_within_9 : decode cX9_within 9 = .ok (.iload_n 0, 1) := dk_26 (dk_at dksX9_within_0 9 rfl rfl)
theorem dX9_within_10 : decode cX9_within 10 = .ok (.iload_n 2, 1) := dk_28 (dk_at dksX9_within_0 10 rfl rfl)
theorem dX9_within_11 : decode cX9_within 11 = .ok (.if_icmp .le 7, 3) := dk_164 0 7 (dk_at dksX9_within_0 11 rfl rfl)
theorem dX9_within_14 : decode cX9_within 14 = .ok (.iload_n 2, 1) := dk_28 (dk_at dksX9_within_0 14 rfl rfl)
theorem dX9_within_15 : decode cX9_within 15 = .ok (.goto 4, 3) := dk_167 0 4 (dk_at dksX9_within_0 15 rfl rfl)
theorem dX9_within_18 : decode cX9_within 18 = .ok (.iload_n 0, 1) := dk_26 (dk_at dksX9_within_0 18 rfl rfl)
theorem dX9_within_19 : decode cX9_within 19 = .ok (.ireturn, 1) := dk_172 (dk_at dksX9_within_0 19 rfl rfl)
abbrev cX9_easedBy : ByteArray := prog_17_method_72_code
def yX9_easedBy : MethodName := ⟨RX9, "easedBy", "(I)I"⟩
def dkwX9_easedBy_3 : List UInt8 := [4, 96, 167, 0, 17, 28, 7, 160, 0, 11, 5, 29, 4, 96, 104, 167, 0, 4, 29, 172]
abbrev dktX9_easedBy_3 : List UInt8 := dkwX9_easedBy_3 ++ []
def dkwX9_easedBy_2 : List UInt8 := [180, 0, 98, 5, 112, 4, 160, 0, 5, 3, 172, 42, 5, 27, 182, 1, 76, 62, 28, 5, 160, 0, 9, 29]
abbrev dktX9_easedBy_2 : List UInt8 := dkwX9_easedBy_2 ++ dktX9_easedBy_3
def dkwX9_easedBy_1 : List UInt8 := [160, 0, 14, 42, 180, 0, 26, 8, 27, 104, 46, 167, 0, 4, 3, 172, 28, 8, 160, 0, 15, 42]
abbrev dktX9_easedBy_1 : List UInt8 := dkwX9_easedBy_1 ++ dktX9_easedBy_2
def dkwX9_easedBy_0 : List UInt8 := [42, 180, 0, 26, 8, 27, 104, 7, 96, 46, 61, 28, 4, 159, 0, 8, 28, 6, 160, 0, 21, 28, 6]
abbrev dktX9_easedBy_0 : List UInt8 := dkwX9_easedBy_0 ++ dktX9_easedBy_1
theorem dksX9_easedBy_0 : cX9_easedBy.data.toList.drop 0 = dktX9_easedBy_0 := by decide +kernel
theorem dksX9_easedBy_1 : cX9_easedBy.data.toList.drop 23 = dktX9_easedBy_1 := dk_seg dksX9_easedBy_0 23 rfl rfl
theorem dksX9_easedBy_2 : cX9_easedBy.data.toList.drop 45 = dktX9_easedBy_2 := dk_seg dksX9_easedBy_1 22 rfl rfl
theorem dksX9_easedBy_3 : cX9_easedBy.data.toList.drop 69 = dktX9_easedBy_3 := dk_seg dksX9_easedBy_2 24 rfl rfl
theorem dX9_easedBy_0 : decode cX9_easedBy 0 = .ok (.aload_n 0, 1) := dk_42 (dk_at dksX9_easedBy_0 0 rfl rfl)
theorem dX9_easedBy_1 : decode cX9_easedBy 1 = .ok (.getfield 26, 3) := dk_180 0 26 (dk_at dksX9_easedBy_0 1 rfl rfl)
theorem dX9_easedBy_4 : decode cX9_easedBy 4 = .ok (.iconst 5, 1) := dk_8 (dk_at dksX9_easedBy_0 4 rfl rfl)
theorem dX9_easedBy_5 : decode cX9_easedBy 5 = .ok (.iload_n 1, 1) := dk_27 (dk_at dksX9_easedBy_0 5 rfl rfl)
theorem dX9_easedBy_6 : decode cX9_easedBy 6 = .ok (.imul, 1) := dk_104 (dk_at dksX9_easedBy_0 6 rfl rfl)
theorem dX9_easedBy_7 : decode cX9_easedBy 7 = .ok (.iconst 4, 1) := dk_7 (dk_at dksX9_easedBy_0 7 rfl rfl)
theorem dX9_easedBy_8 : decode cX9_easedBy 8 = .ok (.iadd, 1) := dk_96 (dk_at dksX9_easedBy_0 8 rfl rfl)
theorem dX9_easedBy_9 : decode cX9_easedBy 9 = .ok (.iaload, 1) := dk_46 (dk_at dksX9_easedBy_0 9 rfl rfl)
theorem dX9_easedBy_10 : decode cX9_easedBy 10 = .ok (.istore_n 2, 1) := dk_61 (dk_at dksX9_easedBy_0 10 rfl rfl)
theorem dX9_easedBy_11 : decode cX9_easedBy 11 = .ok (.iload_n 2, 1) := dk_28 (dk_at dksX9_easedBy_0 11 rfl rfl)
theorem dX9_easedBy_12 : decode cX9_easedBy 12 = .ok (.iconst 1, 1) := dk_4 (dk_at dksX9_easedBy_0 12 rfl rfl)
theorem dX9_easedBy_13 : decode cX9_easedBy 13 = .ok (.if_icmp .eq 8, 3) := dk_159 0 8 (dk_at dksX9_easedBy_0 13 rfl rfl)
theorem dX9_easedBy_16 : decode cX9_easedBy 16 = .ok (.iload_n 2, 1) := dk_28 (dk_at dksX9_easedBy_0 16 rfl rfl)
theorem dX9_easedBy_17 : decode cX9_easedBy 17 = .ok (.iconst 3, 1) := dk_6 (dk_at dksX9_easedBy_0 17 rfl rfl)
theorem dX9_easedBy_18 : decode cX9_easedBy 18 = .ok (.if_icmp .ne 21, 3) := dk_160 0 21 (dk_at dksX9_easedBy_0 18 rfl rfl)
theorem dX9_easedBy_21 : decode cX9_easedBy 21 = .ok (.iload_n 2, 1) := dk_28 (dk_at dksX9_easedBy_0 21 rfl rfl)
theorem dX9_easedBy_22 : decode cX9_easedBy 22 = .ok (.iconst 3, 1) := dk_6 (dk_at dksX9_easedBy_0 22 rfl rfl)
theorem dX9_easedBy_23 : decode cX9_easedBy 23 = .ok (.if_icmp .ne 14, 3) := dk_160 0 14 (dk_at dksX9_easedBy_1 0 rfl rfl)
theorem dX9_easedBy_26 : decode cX9_easedBy 26 = .ok (.aload_n 0, 1) := dk_42 (dk_at dksX9_easedBy_1 3 rfl rfl)
theorem dX9_easedBy_27 : decode cX9_easedBy 27 = .ok (.getfield 26, 3) := dk_180 0 26 (dk_at dksX9_easedBy_1 4 rfl rfl)
theorem dX9_easedBy_30 : decode cX9_easedBy 30 = .ok (.iconst 5, 1) := dk_8 (dk_at dksX9_easedBy_1 7 rfl rfl)
theorem dX9_easedBy_31 : decode cX9_easedBy 31 = .ok (.iload_n 1, 1) := dk_27 (dk_at dksX9_easedBy_1 8 rfl rfl)
theorem dX9_easedBy_32 : decode cX9_easedBy 32 = .ok (.imul, 1) := dk_104 (dk_at dksX9_easedBy_1 9 rfl rfl)
theorem dX9_easedBy_33 : decode cX9_easedBy 33 = .ok (.iaload, 1) := dk_46 (dk_at dksX9_easedBy_1 10 rfl rfl)
theorem dX9_easedBy_34 : decode cX9_easedBy 34 = .ok (.goto 4, 3) := dk_167 0 4 (dk_at dksX9_easedBy_1 11 rfl rfl)
theorem dX9_easedBy_37 : decode cX9_easedBy 37 = .ok (.iconst 0, 1) := dk_3 (dk_at dksX9_easedBy_1 14 rfl rfl)
theorem dX9_easedBy_38 : decode cX9_easedBy 38 = .ok (.ireturn, 1) := dk_172 (dk_at dksX9_easedBy_1 15 rfl rfl)
theorem dX9_easedBy_39 : decode cX9_easedBy 39 = .ok (.iload_n 2, 1) := dk_28 (dk_at dksX9_easedBy_1 16 rfl rfl)
theorem dX9_easedBy_40 : decode cX9_easedBy 40 = .ok (.iconst 5, 1) := dk_8 (dk_at dksX9_easedBy_1 17 rfl rfl)
theorem dX9_easedBy_41 : decode cX9_easedBy 41 = .ok (.if_icmp .ne 15, 3) := dk_160 0 15 (dk_at dksX9_easedBy_1 18 rfl rfl)
theorem dX9_easedBy_44 : decode cX9_easedBy 44 = .ok (.aload_n 0, 1) := dk_42 (dk_at dksX9_easedBy_1 21 rfl rfl)
theorem dX9_easedBy_45 : decode cX9_easedBy 45 = .ok (.getfield 98, 3) := dk_180 0 98 (dk_at dksX9_easedBy_2 0 rfl rfl)
theorem dX9_easedBy_48 : decode cX9_easedBy 48 = .ok (.iconst 2, 1) := dk_5 (dk_at dksX9_easedBy_2 3 rfl rfl)
theorem dX9_easedBy_49 : decode cX9_easedBy 49 = .ok (.irem, 1) := dk_112 (dk_at dksX9_easedBy_2 4 rfl rfl)
theorem dX9_easedBy_50 : decode cX9_easedBy 50 = .ok (.iconst 1, 1) := dk_4 (dk_at dksX9_easedBy_2 5 rfl rfl)
theorem dX9_easedBy_51 : decode cX9_easedBy 51 = .ok (.if_icmp .ne 5, 3) := dk_160 0 5 (dk_at dksX9_easedBy_2 6 rfl rfl)
theorem dX9_easedBy_54 : decode cX9_easedBy 54 = .ok (.iconst 0, 1) := dk_3 (dk_at dksX9_easedBy_2 9 rfl rfl)
theorem dX9_easedBy_55 : decode cX9_easedBy 55 = .ok (.ireturn, 1) := dk_172 (dk_at dksX9_easedBy_2 10 rfl rfl)
theorem dX9_easedBy_56 : decode cX9_easedBy 56 = .ok (.aload_n 0, 1) := dk_42 (dk_at dksX9_easedBy_2 11 rfl rfl)
theorem dX9_easedBy_57 : decode cX9_easedBy 57 = .ok (.iconst 2, 1) := dk_5 (dk_at dksX9_easedBy_2 12 rfl rfl)
theorem dX9_easedBy_58 : decode cX9_easedBy 58 = .ok (.iload_n 1, 1) := dk_27 (dk_at dksX9_easedBy_2 13 rfl rfl)
theorem dX9_easedBy_59 : decode cX9_easedBy 59 = .ok (.invokevirtual 332, 3) := dk_182 1 76 (dk_at dksX9_easedBy_2 14 rfl rfl)
theorem dX9_easedBy_62 : decode cX9_easedBy 62 = .ok (.istore_n 3, 1) := dk_62 (dk_at dksX9_easedBy_2 17 rfl rfl)
theorem dX9_easedBy_63 : decode cX9_easedBy 63 = .ok (.iload_n 2, 1) := dk_28 (dk_at dksX9_easedBy_2 18 rfl rfl)
theorem dX9_easedBy_64 : decode cX9_easedBy 64 = .ok (.iconst 2, 1) := dk_5 (dk_at dksX9_easedBy_2 19 rfl rfl)
theorem dX9_easedBy_65 : decode cX9_easedBy 65 = .ok (.if_icmp .ne 9, 3) := dk_160 0 9 (dk_at dksX9_easedBy_2 20 rfl rfl)
theorem dX9_easedBy_68 : decode cX9_easedBy 68 = .ok (.iload_n 3, 1) := dk_29 (dk_at dksX9_easedBy_2 23 rfl rfl)
theorem dX9_easedBy_69 : decode cX9_easedBy 69 = .ok (.iconst 1, 1) := dk_4 (dk_at dksX9_easedBy_3 0 rfl rfl)
theorem dX9_easedBy_70 : decode cX9_easedBy 70 = .ok (.iadd, 1) := dk_96 (dk_at dksX9_easedBy_3 1 rfl rfl)
theorem dX9_easedBy_71 : decode cX9_easedBy 71 = .ok (.goto 17, 3) := dk_167 0 17 (dk_at dksX9_easedBy_3 2 rfl rfl)
theorem dX9_easedBy_74 : decode cX9_easedBy 74 = .ok (.iload_n 2, 1) := dk_28 (dk_at dksX9_easedBy_3 5 rfl rfl)
theorem dX9_easedBy_75 : decode cX9_easedBy 75 = .ok (.iconst 4, 1) := dk_7 (dk_at dksX9_easedBy_3 6 rfl rfl)
theorem dX9_easedBy_76 : decode cX9_easedBy 76 = .ok (.if_icmp .ne 11, 3) := dk_160 0 11 (dk_at dksX9_easedBy_3 7 rfl rfl)
theorem dX9_easedBy_79 : decode cX9_easedBy 79 = .ok (.iconst 2, 1) := dk_5 (dk_at dksX9_easedBy_3 10 rfl rfl)
theorem dX9_easedBy_80 : decode cX9_easedBy 80 = .ok (.iload_n 3, 1) := dk_29 (dk_at dksX9_easedBy_3 11 rfl rfl)
theorem dX9_easedBy_81 : decode cX9_easedBy 81 = .ok (.iconst 1, 1) := dk_4 (dk_at dksX9_easedBy_3 12 rfl rfl)
theorem dX9_easedBy_82 : decode cX9_easedBy 82 = .ok (.iadd, 1) := dk_96 (dk_at dksX9_easedBy_3 13 rfl rfl)
theorem dX9_easedBy_83 : decode cX9_easedBy 83 = .ok (.imul, 1) := dk_104 (dk_at dksX9_easedBy_3 14 rfl rfl)
theorem dX9_easedBy_84 : decode cX9_easedBy 84 = .ok (.goto 4, 3) := dk_167 0 4 (dk_at dksX9_easedBy_3 15 rfl rfl)
theorem dX9_easedBy_87 : decode cX9_easedBy 87 = .ok (.iload_n 3, 1) := dk_29 (dk_at dksX9_easedBy_3 18 rfl rfl)
theorem dX9_easedBy_88 : decode cX9_easedBy 88 = .ok (.ireturn, 1) := dk_172 (dk_at dksX9_easedBy_3 19 rfl rfl)
abbrev cX9_canLift : ByteArray := prog_17_method_73_code
def yX9_canLift : MethodName := ⟨RX9, "canLift", "(I)Z"⟩
def dkwX9_canLift_1 : List UInt8 := [4, 167, 0, 4, 3, 172]
abbrev dktX9_canLift_1 : List UInt8 := dkwX9_canLift_1 ++ []
def dkwX9_canLift_0 : List UInt8 := [42, 27, 182, 1, 79, 153, 0, 23, 42, 27, 182, 0, 110, 17, 59, 16, 104, 42, 182, 1, 93, 161, 0, 7]
abbrev dktX9_canLift_0 : List UInt8 := dkwX9_canLift_0 ++ dktX9_canLift_1
theorem dksX9_canLift_0 : cX9_canLift.data.toList.drop 0 = dktX9_canLift_0 := by decide +kernel
theorem dksX9_canLift_1 : cX9_canLift.data.toList.drop 24 = dktX9_canLift_1 := dk_seg dksX9_canLift_0 24 rfl rfl
theorem dX9_canLift_0 : decode cX9_canLift 0 = .ok (.aload_n 0, 1) := dk_42 (dk_at dksX9_canLift_0 0 rfl rfl)
theorem dX9_canLift_1 : decode cX9_canLift 1 = .ok (.iload_n 1, 1) := dk_27 (dk_at dksX9_canLift_0 1 rfl rfl)
theorem dX9_canLift_2 : decode cX9_canLift 2 = .ok (.invokevirtual 335, 3) := dk_182 1 79 (dk_at dksX9_canLift_0 2 rfl rfl)
theorem dX9_canLift_5 : decode cX9_canLift 5 = .ok (.ifCond .eq 23, 3) := dk_153 0 23 (dk_at dksX9_canLift_0 5 rfl rfl)
theorem dX9_canLift_8 : decode cX9_canLift 8 = .ok (.aload_n 0, 1) := dk_42 (dk_at dksX9_canLift_0 8 rfl rfl)
theorem dX9_canLift_9 : decode cX9_canLift 9 = .ok (.iload_n 1, 1) := dk_27 (dk_at dksX9_canLift_0 9 rfl rfl)
theorem dX9_canLift_10 : decode cX9_canLift 10 = .ok (.invokevirtual 110, 3) := dk_182 0 110 (dk_at dksX9_canLift_0 10 rfl rfl)
theorem dX9_canLift_13 : decode cX9_canLift 13 = .ok (.sipush 15120, 3) := dk_17 59 16 (dk_at dksX9_canLift_0 13 rfl rfl)
theorem dX9_canLift_16 : decode cX9_canLift 16 = .ok (.imul, 1) := dk_104 (dk_at dksX9_canLift_0 16 rfl rfl)
theorem dX9_canLift_17 : decode cX9_canLift 17 = .ok (.aload_n 0, 1) := dk_42 (dk_at dksX9_canLift_0 17 rfl rfl)
theorem dX9_canLift_18 : decode cX9_canLift 18 = .ok (.invokevirtual 349, 3) := dk_182 1 93 (dk_at dksX9_canLift_0 18 rfl rfl)
theorem dX9_canLift_21 : decode cX9_canLift 21 = .ok (.if_icmp .lt 7, 3) := dk_161 0 7 (dk_at dksX9_canLift_0 21 rfl rfl)
theorem dX9_canLift_24 : decode cX9_canLift 24 = .ok (.iconst 1, 1) := dk_4 (dk_at dksX9_canLift_1 0 rfl rfl)
theorem dX9_canLift_25 : decode cX9_canLift 25 = .ok (.goto 4, 3) := dk_167 0 4 (dk_at dksX9_canLift_1 1 rfl rfl)
theorem dX9_canLift_28 : decode cX9_canLift 28 = .ok (.iconst 0, 1) := dk_3 (dk_at dksX9_canLift_1 4 rfl rfl)
theorem dX9_canLift_29 : decode cX9_canLift 29 = .ok (.ireturn, 1) := dk_172 (dk_at dksX9_canLift_1 5 rfl rfl)
abbrev cX9_isHere : ByteArray := prog_17_method_13_code
def yX9_isHere : MethodName := ⟨RX9, "isHere", "(I)Z"⟩
def dkwX9_isHere_0 : List UInt8 := [42, 180, 0, 26, 8, 27, 104, 6, 96, 46, 4, 160, 0, 7, 4, 167, 0, 4, 3, 172]
abbrev dktX9_isHere_0 : List UInt8 := dkwX9_isHere_0 ++ []
theorem dksX9_isHere_0 : cX9_isHere.data.toList.drop 0 = dktX9_isHere_0 := by decide +kernel
theorem dX9_isHere_0 : decode cX9_isHere 0 = .ok (.aload_n 0, 1) := dk_42 (dk_at dksX9_isHere_0 0 rfl rfl)
theorem dX9_isHere_1 : decode cX9_isHere 1 = .ok (.getfield 26, 3) := dk_180 0 26 (dk_at dksX9_isHere_0 1 rfl rfl)
theorem dX9_isHere_4 : decode cX9_isHere 4 = .ok (.iconst 5, 1) := dk_8 (dk_at dksX9_isHere_0 4 rfl rfl)
theorem dX9_isHere_5 : decode cX9_isHere 5 = .ok (.iload_n 1, 1) := dk_27 (dk_at dksX9_isHere_0 5 rfl rfl)
theorem dX9_isHere_6 : decode cX9_isHere 6 = .ok (.imul, 1) := dk_104 (dk_at dksX9_isHere_0 6 rfl rfl)
theorem dX9_isHere_7 : decode cX9_isHere 7 = .ok (.iconst 3, 1) := dk_6 (dk_at dksX9_isHere_0 7 rfl rfl)
theorem dX9_isHere_8 : decode cX9_isHere 8 = .ok (.iadd, 1) := dk_96 (dk_at dksX9_isHere_0 8 rfl rfl)
theorem dX9_isHere_9 : decode cX9_isHere 9 = .ok (.iaload, 1) := dk_46 (dk_at dksX9_isHere_0 9 rfl rfl)
theorem dX9_isHere_10 : decode cX9_isHere 10 = .ok (.iconst 1, 1) := dk_4 (dk_at dksX9_isHere_0 10 rfl rfl)
theorem dX9_isHere_11 : decode cX9_isHere 11 = .ok (.if_icmp .ne 7, 3) := dk_160 0 7 (dk_at dksX9_isHere_0 11 rfl rfl)
theorem dX9_isHere_14 : decode cX9_isHere 14 = .ok (.iconst 1, 1) := dk_4 (dk_at dksX9_isHere_0 14 rfl rfl)
theorem dX9_isHere_15 : decode cX9_isHere 15 = .ok (.goto 4, 3) := dk_167 0 4 (dk_at dksX9_isHere_0 15 rfl rfl)
theorem dX9_isHere_18 : decode cX9_isHere 18 = .ok (.iconst 0, 1) := dk_3 (dk_at dksX9_isHere_0 18 rfl rfl)
theorem dX9_isHere_19 : decode cX9_isHere 19 = .ok (.ireturn, 1) := dk_172 (dk_at dksX9_isHere_0 19 rfl rfl)
abbrev cX9_weightNow : ByteArray := prog_17_method_67_code
def yX9_weightNow : MethodName := ⟨RX9, "weightNow", "()I"⟩
def dkwX9_weightNow_1 : List UInt8 := [182, 1, 82, 167, 0, 4, 3, 96, 60, 132, 2, 1, 167, 255, 225, 27, 172]
abbrev dktX9_weightNow_1 : List UInt8 := dkwX9_weightNow_1 ++ []
def dkwX9_weightNow_0 : List UInt8 := [3, 60, 3, 61, 28, 42, 180, 0, 64, 162, 0, 29, 27, 42, 28, 182, 1, 79, 153, 0, 11, 42, 28]
abbrev dktX9_weightNow_0 : List UInt8 := dkwX9_weightNow_0 ++ dktX9_weightNow_1
theorem dksX9_weightNow_0 : cX9_weightNow.data.toList.drop 0 = dktX9_weightNow_0 := by decide +kernel
theorem dksX9_weightNow_1 : cX9_weightNow.data.toList.drop 23 = dktX9_weightNow_1 := dk_seg dksX9_weightNow_0 23 rfl rfl
theorem dX9_weightNow_0 : decode cX9_weightNow 0 = .ok (.iconst 0, 1) := dk_3 (dk_at dksX9_weightNow_0 0 rfl rfl)
theorem dX9_weightNow_1 : decode cX9_weightNow 1 = .ok (.istore_n 1, 1) := dk_60 (dk_at dksX9_weightNow_0 1 rfl rfl)
theorem dX9_weightNow_2 : decode cX9_weightNow 2 = .ok (.iconst 0, 1) := dk_3 (dk_at dksX9_weightNow_0 2 rfl rfl)
theorem dX9_weightNow_3 : decode cX9_weightNow 3 = .ok (.istore_n 2, 1) := dk_61 (dk_at dksX9_weightNow_0 3 rfl rfl)
theorem dX9_weightNow_4 : decode cX9_weightNow 4 = .ok (.iload_n 2, 1) := dk_28 (dk_at dksX9_weightNow_0 4 rfl rfl)
theorem dX9_weightNow_5 : decode cX9_weightNow 5 = .ok (.aload_n 0, 1) := dk_42 (dk_at dksX9_weightNow_0 5 rfl rfl)
theorem dX9_weightNow_6 : decode cX9_weightNow 6 = .ok (.getfield 64, 3) := dk_180 0 64 (dk_at dksX9_weightNow_0 6 rfl rfl)
theorem dX9_weightNow_9 : decode cX9_weightNow 9 = .ok (.if_icmp .ge 29, 3) := dk_162 0 29 (dk_at dksX9_weightNow_0 9 rfl rfl)
theorem dX9_weightNow_12 : decode cX9_weightNow 12 = .ok (.iload_n 1, 1) := dk_27 (dk_at dksX9_weightNow_0 12 rfl rfl)
theorem dX9_weightNow_13 : decode cX9_weightNow 13 = .ok (.aload_n 0, 1) := dk_42 (dk_at dksX9_weightNow_0 13 rfl rfl)
theorem dX9_weightNow_14 : decode cX9_weightNow 14 = .ok (.iload_n 2, 1) := dk_28 (dk_at dksX9_weightNow_0 14 rfl rfl)
theorem dX9_weightNow_15 : decode cX9_weightNow 15 = .ok (.invokevirtual 335, 3) := dk_182 1 79 (dk_at dksX9_weightNow_0 15 rfl rfl)
theorem dX9_weightNow_18 : decode cX9_weightNow 18 = .ok (.ifCond .eq 11, 3) := dk_153 0 11 (dk_at dksX9_weightNow_0 18 rfl rfl)
theorem dX9_weightNow_21 : decode cX9_weightNow 21 = .ok (.aload_n 0, 1) := dk_42 (dk_at dksX9_weightNow_0 21 rfl rfl)
theorem dX9_weightNow_22 : decode cX9_weightNow 22 = .ok (.iload_n 2, 1) := dk_28 (dk_at dksX9_weightNow_0 22 rfl rfl)
theorem dX9_weightNow_23 : decode cX9_weightNow 23 = .ok (.invokevirtual 338, 3) := dk_182 1 82 (dk_at dksX9_weightNow_1 0 rfl rfl)
theorem dX9_weightNow_26 : decode cX9_weightNow 26 = .ok (.goto 4, 3) := dk_167 0 4 (dk_at dksX9_weightNow_1 3 rfl rfl)
theorem dX9_weightNow_29 : decode cX9_weightNow 29 = .ok (.iconst 0, 1) := dk_3 (dk_at dksX9_weightNow_1 6 rfl rfl)
theorem dX9_weightNow_30 : decode cX9_weightNow 30 = .ok (.iadd, 1) := dk_96 (dk_at dksX9_weightNow_1 7 rfl rfl)
theorem dX9_weightNow_31 : decode cX9_weightNow 31 = .ok (.istore_n 1, 1) := dk_60 (dk_at dksX9_weightNow_1 8 rfl rfl)
theorem dX9_weightNow_32 : decode cX9_weightNow 32 = .ok (.iinc 2 1, 3) := dk_132 2 1 (dk_at dksX9_weightNow_1 9 rfl rfl)
theorem dX9_weightNow_35 : decode cX9_weightNow 35 = .ok (.goto (-31), 3) := dk_167 255 225 (dk_at dksX9_weightNow_1 12 rfl rfl)
theorem dX9_weightNow_38 : decode cX9_weightNow 38 = .ok (.iload_n 1, 1) := dk_27 (dk_at dksX9_weightNow_1 15 rfl rfl)
theorem dX9_weightNow_39 : decode cX9_weightNow 39 = .ok (.ireturn, 1) := dk_172 (dk_at dksX9_weightNow_1 16 rfl rfl)
abbrev cX9_feelsOf : ByteArray := prog_17_method_66_code
def yX9_feelsOf : MethodName := ⟨RX9, "feelsOf", "(I)I"⟩
def dkwX9_feelsOf_6 : List UInt8 := [17, 59, 16, 104, 167, 0, 14, 21, 5, 156, 0, 7, 3, 167, 0, 5, 21, 5, 172]
abbrev dktX9_feelsOf_6 : List UInt8 := dkwX9_feelsOf_6 ++ []
def dkwX9_feelsOf_5 : List UInt8 := [167, 0, 40, 28, 7, 160, 0, 11, 21, 4, 16, 6, 108, 167, 0, 27, 28, 8, 160, 0, 11, 29]
abbrev dktX9_feelsOf_5 : List UInt8 := dkwX9_feelsOf_5 ++ dktX9_feelsOf_6
def dkwX9_feelsOf_4 : List UInt8 := [167, 0, 64, 28, 4, 160, 0, 10, 5, 21, 4, 104, 167, 0, 52, 28, 5, 160, 0, 10, 21, 4, 5, 108]
abbrev dktX9_feelsOf_4 : List UInt8 := dkwX9_feelsOf_4 ++ dktX9_feelsOf_5
def dkwX9_feelsOf_3 : List UInt8 := [180, 0, 26, 8, 27, 104, 5, 96, 46, 17, 59, 16, 104, 100, 54, 5, 28, 154, 0, 8, 21, 4]
abbrev dktX9_feelsOf_3 : List UInt8 := dkwX9_feelsOf_3 ++ dktX9_feelsOf_4
def dkwX9_feelsOf_2 : List UInt8 := [17, 59, 16, 42, 180, 0, 26, 8, 27, 104, 46, 4, 96, 108, 104, 54, 4, 5, 21, 4, 104, 42]
abbrev dktX9_feelsOf_2 : List UInt8 := dkwX9_feelsOf_2 ++ dktX9_feelsOf_3
def dkwX9_feelsOf_1 : List UInt8 := [180, 0, 26, 8, 27, 104, 4, 96, 46, 16, 9, 162, 0, 5, 3, 172, 42, 3, 27, 182, 1, 76, 62, 29]
abbrev dktX9_feelsOf_1 : List UInt8 := dkwX9_feelsOf_1 ++ dktX9_feelsOf_2
def dkwX9_feelsOf_0 : List UInt8 := [42, 180, 0, 26, 8, 27, 104, 7, 96, 46, 61, 28, 5, 159, 0, 8, 28, 7, 160, 0, 20, 42]
abbrev dktX9_feelsOf_0 : List UInt8 := dkwX9_feelsOf_0 ++ dktX9_feelsOf_1
theorem dksX9_feelsOf_0 : cX9_feelsOf.data.toList.drop 0 = dktX9_feelsOf_0 := by decide +kernel
theorem dksX9_feelsOf_1 : cX9_feelsOf.data.toList.drop 22 = dktX9_feelsOf_1 := dk_seg dksX9_feelsOf_0 22 rfl rfl
theorem dksX9_feelsOf_2 : cX9_feelsOf.data.toList.drop 46 = dktX9_feelsOf_2 := dk_seg dksX9_feelsOf_1 24 rfl rfl
theorem dksX9_feelsOf_3 : cX9_feelsOf.data.toList.drop 68 = dktX9_feelsOf_3 := dk_seg dksX9_feelsOf_2 22 rfl rfl
theorem dksX9_feelsOf_4 : cX9_feelsOf.data.toList.drop 90 = dktX9_feelsOf_4 := dk_seg dksX9_feelsOf_3 22 rfl rfl
theorem dksX9_feelsOf_5 : cX9_feelsOf.data.toList.drop 114 = dktX9_feelsOf_5 := dk_seg dksX9_feelsOf_4 24 rfl rfl
theorem dksX9_feelsOf_6 : cX9_feelsOf.data.toList.drop 136 = dktX9_feelsOf_6 := dk_seg dksX9_feelsOf_5 22 rfl rfl
theorem dX9_feelsOf_0 : decode cX9_feelsOf 0 = .ok (.aload_n 0, 1) := dk_42 (dk_at dksX9_feelsOf_0 0 rfl rfl)
theorem dX9_feelsOf_1 : decode cX9_feelsOf 1 = .ok (.getfield 26, 3) := dk_180 0 26 (dk_at dksX9_feelsOf_0 1 rfl rfl)
theorem dX9_feelsOf_4 : decode cX9_feelsOf 4 = .ok (.iconst 5, 1) := dk_8 (dk_at dksX9_feelsOf_0 4 rfl rfl)
theorem dX9_feelsOf_5 : decode cX9_feelsOf 5 = .ok (.iload_n 1, 1) := dk_27 (dk_at dksX9_feelsOf_0 5 rfl rfl)
theorem dX9_feelsOf_6 : decode cX9_feelsOf 6 = .ok (.imul, 1) := dk_104 (dk_at dksX9_feelsOf_0 6 rfl rfl)
theorem dX9_feelsOf_7 : decode cX9_feelsOf 7 = .ok (.iconst 4, 1) := dk_7 (dk_at dksX9_feelsOf_0 7 rfl rfl)
theorem dX9_feelsOf_8 : decode cX9_feelsOf 8 = .ok (.iadd, 1) := dk_96 (dk_at dksX9_feelsOf_0 8 rfl rfl)
theorem dX9_feelsOf_9 : decode cX9_feelsOf 9 = .ok (.iaload, 1) := dk_46 (dk_at dksX9_feelsOf_0 9 rfl rfl)
theorem dX9_feelsOf_10 : decode cX9_feelsOf 10 = .ok (.istore_n 2, 1) := dk_61 (dk_at dksX9_feelsOf_0 10 rfl rfl)
theorem dX9_feelsOf_11 : decode cX9_feelsOf 11 = .ok (.iload_n 2, 1) := dk_28 (dk_at dksX9_feelsOf_0 11 rfl rfl)
theorem dX9_feelsOf_12 : decode cX9_feelsOf 12 = .ok (.iconst 2, 1) := dk_5 (dk_at dksX9_feelsOf_0 12 rfl rfl)
theorem dX9_feelsOf_13 : decode cX9_feelsOf 13 = .ok (.if_icmp .eq 8, 3) := dk_159 0 8 (dk_at dksX9_feelsOf_0 13 rfl rfl)
theorem dX9_feelsOf_16 : decode cX9_feelsOf 16 = .ok (.iload_n 2, 1) := dk_28 (dk_at dksX9_feelsOf_0 16 rfl rfl)
theorem dX9_feelsOf_17 : decode cX9_feelsOf 17 = .ok (.iconst 4, 1) := dk_7 (dk_at dksX9_feelsOf_0 17 rfl rfl)
theorem dX9_feelsOf_18 : decode cX9_feelsOf 18 = .ok (.if_icmp .ne 20, 3) := dk_160 0 20 (dk_at dksX9_feelsOf_0 18 rfl rfl)
theorem dX9_feelsOf_21 : decode cX9_feelsOf 21 = .ok (.aload_n 0, 1) := dk_42 (dk_at dksX9_feelsOf_0 21 rfl rfl)
theorem dX9_feelsOf_22 : decode cX9_feelsOf 22 = .ok (.getfield 26, 3) := dk_180 0 26 (dk_at dksX9_feelsOf_1 0 rfl rfl)
theorem dX9_feelsOf_25 : decode cX9_feelsOf 25 = .ok (.iconst 5, 1) := dk_8 (dk_at dksX9_feelsOf_1 3 rfl rfl)
theorem dX9_feelsOf_26 : decode cX9_feelsOf 26 = .ok (.iload_n 1, 1) := dk_27 (dk_at dksX9_feelsOf_1 4 rfl rfl)
theorem dX9_feelsOf_27 : decode cX9_feelsOf 27 = .ok (.imul, 1) := dk_104 (dk_at dksX9_feelsOf_1 5 rfl rfl)
theorem dX9_feelsOf_28 : decode cX9_feelsOf 28 = .ok (.iconst 1, 1) := dk_4 (dk_at dksX9_feelsOf_1 6 rfl rfl)
theorem dX9_feelsOf_29 : decode cX9_feelsOf 29 = .ok (.iadd, 1) := dk_96 (dk_at dksX9_feelsOf_1 7 rfl rfl)
theorem dX9_feelsOf_30 : decode cX9_feelsOf 30 = .ok (.iaload, 1) := dk_46 (dk_at dksX9_feelsOf_1 8 rfl rfl)
theorem dX9_feelsOf_31 : decode cX9_feelsOf 31 = .ok (.bipush 9, 2) := dk_16 9 (dk_at dksX9_feelsOf_1 9 rfl rfl)
theorem dX9_feelsOf_33 : decode cX9_feelsOf 33 = .ok (.if_icmp .ge 5, 3) := dk_162 0 5 (dk_at dksX9_feelsOf_1 11 rfl rfl)
theorem dX9_feelsOf_36 : decode cX9_feelsOf 36 = .ok (.iconst 0, 1) := dk_3 (dk_at dksX9_feelsOf_1 14 rfl rfl)
theorem dX9_feelsOf_37 : decode cX9_feelsOf 37 = .ok (.ireturn, 1) := dk_172 (dk_at dksX9_feelsOf_1 15 rfl rfl)
theorem dX9_feelsOf_38 : decode cX9_feelsOf 38 = .ok (.aload_n 0, 1) := dk_42 (dk_at dksX9_feelsOf_1 16 rfl rfl)
theorem dX9_feelsOf_39 : decode cX9_feelsOf 39 = .ok (.iconst 0, 1) := dk_3 (dk_at dksX9_feelsOf_1 17 rfl rfl)
theorem dX9_feelsOf_40 : decode cX9_feelsOf 40 = .ok (.iload_n 1, 1) := dk_27 (dk_at dksX9_feelsOf_1 18 rfl rfl)
theorem dX9_feelsOf_41 : decode cX9_feelsOf 41 = .ok (.invokevirtual 332, 3) := dk_182 1 76 (dk_at dksX9_feelsOf_1 19 rfl rfl)
theorem dX9_feelsOf_44 : decode cX9_feelsOf 44 = .ok (.istore_n 3, 1) := dk_62 (dk_at dksX9_feelsOf_1 22 rfl rfl)
theorem dX9_feelsOf_45 : decode cX9_feelsOf 45 = .ok (.iload_n 3, 1) := dk_29 (dk_at dksX9_feelsOf_1 23 rfl rfl)
theorem dX9_feelsOf_46 : decode cX9_feelsOf 46 = .ok (.sipush 15120, 3) := dk_17 59 16 (dk_at dksX9_feelsOf_2 0 rfl rfl)
theorem dX9_feelsOf_49 : decode cX9_feelsOf 49 = .ok (.aload_n 0, 1) := dk_42 (dk_at dksX9_feelsOf_2 3 rfl rfl)
theorem dX9_feelsOf_50 : decode cX9_feelsOf 50 = .ok (.getfield 26, 3) := dk_180 0 26 (dk_at dksX9_feelsOf_2 4 rfl rfl)
theorem dX9_feelsOf_53 : decode cX9_feelsOf 53 = .ok (.iconst 5, 1) := dk_8 (dk_at dksX9_feelsOf_2 7 rfl rfl)
theorem dX9_feelsOf_54 : decode cX9_feelsOf 54 = .ok (.iload_n 1, 1) := dk_27 (dk_at dksX9_feelsOf_2 8 rfl rfl)
theorem dX9_feelsOf_55 : decode cX9_feelsOf 55 = .ok (.imul, 1) := dk_104 (dk_at dksX9_feelsOf_2 9 rfl rfl)
theorem dX9_feelsOf_56 : decode cX9_feelsOf 56 = .ok (.iaload, 1) := dk_46 (dk_at dksX9_feelsOf_2 10 rfl rfl)
theorem dX9_feelsOf_57 : decode cX9_feelsOf 57 = .ok (.iconst 1, 1) := dk_4 (dk_at dksX9_feelsOf_2 11 rfl rfl)
theorem dX9_feelsOf_58 : decode cX9_feelsOf 58 = .ok (.iadd, 1) := dk_96 (dk_at dksX9_feelsOf_2 12 rfl rfl)
theorem dX9_feelsOf_59 : decode cX9_feelsOf 59 = .ok (.idiv, 1) := dk_108 (dk_at dksX9_feelsOf_2 13 rfl rfl)
theorem dX9_feelsOf_60 : decode cX9_feelsOf 60 = .ok (.imul, 1) := dk_104 (dk_at dksX9_feelsOf_2 14 rfl rfl)
theorem dX9_feelsOf_61 : decode cX9_feelsOf 61 = .ok (.istore 4, 2) := dk_54 4 (dk_at dksX9_feelsOf_2 15 rfl rfl)
theorem dX9_feelsOf_63 : decode cX9_feelsOf 63 = .ok (.iconst 2, 1) := dk_5 (dk_at dksX9_feelsOf_2 17 rfl rfl)
theorem dX9_feelsOf_64 : decode cX9_feelsOf 64 = .ok (.iload 4, 2) := dk_21 4 (dk_at dksX9_feelsOf_2 18 rfl rfl)
theorem dX9_feelsOf_66 : decode cX9_feelsOf 66 = .ok (.imul, 1) := dk_104 (dk_at dksX9_feelsOf_2 20 rfl rfl)
theorem dX9_feelsOf_67 : decode cX9_feelsOf 67 = .ok (.aload_n 0, 1) := dk_42 (dk_at dksX9_feelsOf_2 21 rfl rfl)
theorem dX9_feelsOf_68 : decode cX9_feelsOf 68 = .ok (.getfield 26, 3) := dk_180 0 26 (dk_at dksX9_feelsOf_3 0 rfl rfl)
theorem dX9_feelsOf_71 : decode cX9_feelsOf 71 = .ok (.iconst 5, 1) := dk_8 (dk_at dksX9_feelsOf_3 3 rfl rfl)
theorem dX9_feelsOf_72 : decode cX9_feelsOf 72 = .ok (.iload_n 1, 1) := dk_27 (dk_at dksX9_feelsOf_3 4 rfl rfl)
theorem dX9_feelsOf_73 : decode cX9_feelsOf 73 = .ok (.imul, 1) := dk_104 (dk_at dksX9_feelsOf_3 5 rfl rfl)
theorem dX9_feelsOf_74 : decode cX9_feelsOf 74 = .ok (.iconst 2, 1) := dk_5 (dk_at dksX9_feelsOf_3 6 rfl rfl)
theorem dX9_feelsOf_75 : decode cX9_feelsOf 75 = .ok (.iadd, 1) := dk_96 (dk_at dksX9_feelsOf_3 7 rfl rfl)
theorem dX9_feelsOf_76 : decode cX9_feelsOf 76 = .ok (.iaload, 1) := dk_46 (dk_at dksX9_feelsOf_3 8 rfl rfl)
theorem dX9_feelsOf_77 : decode cX9_feelsOf 77 = .ok (.sipush 15120, 3) := dk_17 59 16 (dk_at dksX9_feelsOf_3 9 rfl rfl)
theorem dX9_feelsOf_80 : decode cX9_feelsOf 80 = .ok (.imul, 1) := dk_104 (dk_at dksX9_feelsOf_3 12 rfl rfl)
theorem dX9_feelsOf_81 : decode cX9_feelsOf 81 = .ok (.isub, 1) := dk_100 (dk_at dksX9_feelsOf_3 13 rfl rfl)
theorem dX9_feelsOf_82 : decode cX9_feelsOf 82 = .ok (.istore 5, 2) := dk_54 5 (dk_at dksX9_feelsOf_3 14 rfl rfl)
theorem dX9_feelsOf_84 : decode cX9_feelsOf 84 = .ok (.iload_n 2, 1) := dk_28 (dk_at dksX9_feelsOf_3 16 rfl rfl)
theorem dX9_feelsOf_85 : decode cX9_feelsOf 85 = .ok (.ifCond .ne 8, 3) := dk_154 0 8 (dk_at dksX9_feelsOf_3 17 rfl rfl)
theorem dX9_feelsOf_88 : decode cX9_feelsOf 88 = .ok (.iload 4, 2) := dk_21 4 (dk_at dksX9_feelsOf_3 20 rfl rfl)
theorem dX9_feelsOf_90 : decode cX9_feelsOf 90 = .ok (.goto 64, 3) := dk_167 0 64 (dk_at dksX9_feelsOf_4 0 rfl rfl)
theorem dX9_feelsOf_93 : decode cX9_feelsOf 93 = .ok (.iload_n 2, 1) := dk_28 (dk_at dksX9_feelsOf_4 3 rfl rfl)
theorem dX9_feelsOf_94 : decode cX9_feelsOf 94 = .ok (.iconst 1, 1) := dk_4 (dk_at dksX9_feelsOf_4 4 rfl rfl)
theorem dX9_feelsOf_95 : decode cX9_feelsOf 95 = .ok (.if_icmp .ne 10, 3) := dk_160 0 10 (dk_at dksX9_feelsOf_4 5 rfl rfl)
theorem dX9_feelsOf_98 : decode cX9_feelsOf 98 = .ok (.iconst 2, 1) := dk_5 (dk_at dksX9_feelsOf_4 8 rfl rfl)
theorem dX9_feelsOf_99 : decode cX9_feelsOf 99 = .ok (.iload 4, 2) := dk_21 4 (dk_at dksX9_feelsOf_4 9 rfl rfl)
theorem dX9_feelsOf_101 : decode cX9_feelsOf 101 = .ok (.imul, 1) := dk_104 (dk_at dksX9_feelsOf_4 11 rfl rfl)
theorem dX9_feelsOf_102 : decode cX9_feelsOf 102 = .ok (.goto 52, 3) := dk_167 0 52 (dk_at dksX9_feelsOf_4 12 rfl rfl)
theorem dX9_feelsOf_105 : decode cX9_feelsOf 105 = .ok (.iload_n 2, 1) := dk_28 (dk_at dksX9_feelsOf_4 15 rfl rfl)
theorem dX9_feelsOf_106 : decode cX9_feelsOf 106 = .ok (.iconst 2, 1) := dk_5 (dk_at dksX9_feelsOf_4 16 rfl rfl)
theorem dX9_feelsOf_107 : decode cX9_feelsOf 107 = .ok (.if_icmp .ne 10, 3) := dk_160 0 10 (dk_at dksX9_feelsOf_4 17 rfl rfl)
theorem dX9_feelsOf_110 : decode cX9_feelsOf 110 = .ok (.iload 4, 2) := dk_21 4 (dk_at dksX9_feelsOf_4 20 rfl rfl)
theorem dX9_feelsOf_112 : decode cX9_feelsOf 112 = .ok (.iconst 2, 1) := dk_5 (dk_at dksX9_feelsOf_4 22 rfl rfl)
theorem dX9_feelsOf_113 : decode cX9_feelsOf 113 = .ok (.idiv, 1) := dk_108 (dk_at dksX9_feelsOf_4 23 rfl rfl)
theorem dX9_feelsOf_114 : decode cX9_feelsOf 114 = .ok (.goto 40, 3) := dk_167 0 40 (dk_at dksX9_feelsOf_5 0 rfl rfl)
theorem dX9_feelsOf_117 : decode cX9_feelsOf 117 = .ok (.iload_n 2, 1) := dk_28 (dk_at dksX9_feelsOf_5 3 rfl rfl)
theorem dX9_feelsOf_118 : decode cX9_feelsOf 118 = .ok (.iconst 4, 1) := dk_7 (dk_at dksX9_feelsOf_5 4 rfl rfl)
theorem dX9_feelsOf_119 : decode cX9_feelsOf 119 = .ok (.if_icmp .ne 11, 3) := dk_160 0 11 (dk_at dksX9_feelsOf_5 5 rfl rfl)
theorem dX9_feelsOf_122 : decode cX9_feelsOf 122 = .ok (.iload 4, 2) := dk_21 4 (dk_at dksX9_feelsOf_5 8 rfl rfl)
theorem dX9_feelsOf_124 : decode cX9_feelsOf 124 = .ok (.bipush 6, 2) := dk_16 6 (dk_at dksX9_feelsOf_5 10 rfl rfl)
theorem dX9_feelsOf_126 : decode cX9_feelsOf 126 = .ok (.idiv, 1) := dk_108 (dk_at dksX9_feelsOf_5 12 rfl rfl)
theorem dX9_feelsOf_127 : decode cX9_feelsOf 127 = .ok (.goto 27, 3) := dk_167 0 27 (dk_at dksX9_feelsOf_5 13 rfl rfl)
theorem dX9_feelsOf_130 : decode cX9_feelsOf 130 = .ok (.iload_n 2, 1) := dk_28 (dk_at dksX9_feelsOf_5 16 rfl rfl)
theorem dX9_feelsOf_131 : decode cX9_feelsOf 131 = .ok (.iconst 5, 1) := dk_8 (dk_at dksX9_feelsOf_5 17 rfl rfl)
theorem dX9_feelsOf_132 : decode cX9_feelsOf 132 = .ok (.if_icmp .ne 11, 3) := dk_160 0 11 (dk_at dksX9_feelsOf_5 18 rfl rfl)
theorem dX9_feelsOf_135 : decode cX9_feelsOf 135 = .ok (.iload_n 3, 1) := dk_29 (dk_at dksX9_feelsOf_5 21 rfl rfl)
theorem dX9_feelsOf_136 : decode cX9_feelsOf 136 = .ok (.sipush 15120, 3) := dk_17 59 16 (dk_at dksX9_feelsOf_6 0 rfl rfl)
theorem dX9_feelsOf_139 : decode cX9_feelsOf 139 = .ok (.imul, 1) := dk_104 (dk_at dksX9_feelsOf_6 3 rfl rfl)
theorem dX9_feelsOf_140 : decode cX9_feelsOf 140 = .ok (.goto 14, 3) := dk_167 0 14 (dk_at dksX9_feelsOf_6 4 rfl rfl)
theorem dX9_feelsOf_143 : decode cX9_feelsOf 143 = .ok (.iload 5, 2) := dk_21 5 (dk_at dksX9_feelsOf_6 7 rfl rfl)
theorem dX9_feelsOf_145 : decode cX9_feelsOf 145 = .ok (.ifCond .ge 7, 3) := dk_156 0 7 (dk_at dksX9_feelsOf_6 9 rfl rfl)
theorem dX9_feelsOf_148 : decode cX9_feelsOf 148 = .ok (.iconst 0, 1) := dk_3 (dk_at dksX9_feelsOf_6 12 rfl rfl)
theorem dX9_feelsOf_149 : decode cX9_feelsOf 149 = .ok (.goto 5, 3) := dk_167 0 5 (dk_at dksX9_feelsOf_6 13 rfl rfl)
theorem dX9_feelsOf_152 : decode cX9_feelsOf 152 = .ok (.iload 5, 2) := dk_21 5 (dk_at dksX9_feelsOf_6 16 rfl rfl)
theorem dX9_feelsOf_154 : decode cX9_feelsOf 154 = .ok (.ireturn, 1) := dk_172 (dk_at dksX9_feelsOf_6 18 rfl rfl)
abbrev cX9_lays : ByteArray := prog_17_method_10_code
def yX9_lays : MethodName := ⟨RX9, "lays", "(III)V"⟩
def dkwX9_lays_3 : List UInt8 := [96, 6, 100, 29, 79, 167, 0, 8, 42, 29, 181, 0, 101, 177]
abbrev dktX9_lays_3 : List UInt8 := dkwX9_lays_3 ++ []
def dkwX9_lays_2 : List UInt8 := [42, 180, 0, 98, 181, 0, 98, 167, 0, 30, 27, 16, 8, 162, 0, 19, 42, 180, 0, 26, 8, 28, 104, 27]
abbrev dktX9_lays_2 : List UInt8 := dkwX9_lays_2 ++ dktX9_lays_3
def dkwX9_lays_1 : List UInt8 := [160, 0, 7, 29, 167, 0, 7, 42, 180, 0, 95, 181, 0, 95, 42, 27, 5, 160, 0, 7, 29, 167, 0, 7]
abbrev dktX9_lays_1 : List UInt8 := dkwX9_lays_1 ++ dktX9_lays_2
def dkwX9_lays_0 : List UInt8 := [27, 154, 0, 13, 42, 180, 0, 23, 28, 29, 79, 167, 0, 72, 27, 6, 162, 0, 40, 42, 27, 4]
abbrev dktX9_lays_0 : List UInt8 := dkwX9_lays_0 ++ dktX9_lays_1
theorem dksX9_lays_0 : cX9_lays.data.toList.drop 0 = dktX9_lays_0 := by decide +kernel
theorem dksX9_lays_1 : cX9_lays.data.toList.drop 22 = dktX9_lays_1 := dk_seg dksX9_lays_0 22 rfl rfl
theorem dksX9_lays_2 : cX9_lays.data.toList.drop 46 = dktX9_lays_2 := dk_seg dksX9_lays_1 24 rfl rfl
theorem dksX9_lays_3 : cX9_lays.data.toList.drop 70 = dktX9_lays_3 := dk_seg dksX9_lays_2 24 rfl rfl
theorem dX9_lays_0 : decode cX9_lays 0 = .ok (.iload_n 1, 1) := dk_27 (dk_at dksX9_lays_0 0 rfl rfl)
theorem dX9_lays_1 : decode cX9_lays 1 = .ok (.ifCond .ne 13, 3) := dk_154 0 13 (dk_at dksX9_lays_0 1 rfl rfl)
theorem dX9_lays_4 : decode cX9_lays 4 = .ok (.aload_n 0, 1) := dk_42 (dk_at dksX9_lays_0 4 rfl rfl)
theorem dX9_lays_5 : decode cX9_lays 5 = .ok (.getfield 23, 3) := dk_180 0 23 (dk_at dksX9_lays_0 5 rfl rfl)
theorem dX9_lays_8 : decode cX9_lays 8 = .ok (.iload_n 2, 1) := dk_28 (dk_at dksX9_lays_0 8 rfl rfl)
theorem dX9_lays_9 : decode cX9_lays 9 = .ok (.iload_n 3, 1) := dk_29 (dk_at dksX9_lays_0 9 rfl rfl)
theorem dX9_lays_10 : decode cX9_lays 10 = .ok (.iastore, 1) := dk_79 (dk_at dksX9_lays_0 10 rfl rfl)
theorem dX9_lays_11 : decode cX9_lays 11 = .ok (.goto 72, 3) := dk_167 0 72 (dk_at dksX9_lays_0 11 rfl rfl)
theorem dX9_lays_14 : decode cX9_lays 14 = .ok (.iload_n 1, 1) := dk_27 (dk_at dksX9_lays_0 14 rfl rfl)
theorem dX9_lays_15 : decode cX9_lays 15 = .ok (.iconst 3, 1) := dk_6 (dk_at dksX9_lays_0 15 rfl rfl)
theorem dX9_lays_16 : decode cX9_lays 16 = .ok (.if_icmp .ge 40, 3) := dk_162 0 40 (dk_at dksX9_lays_0 16 rfl rfl)
theorem dX9_lays_19 : decode cX9_lays 19 = .ok (.aload_n 0, 1) := dk_42 (dk_at dksX9_lays_0 19 rfl rfl)
theorem dX9_lays_20 : decode cX9_lays 20 = .ok (.iload_n 1, 1) := dk_27 (dk_at dksX9_lays_0 20 rfl rfl)
theorem dX9_lays_21 : decode cX9_lays 21 = .ok (.iconst 1, 1) := dk_4 (dk_at dksX9_lays_0 21 rfl rfl)
theorem dX9_lays_22 : decode cX9_lays 22 = .ok (.if_icmp .ne 7, 3) := dk_160 0 7 (dk_at dksX9_lays_1 0 rfl rfl)
theorem dX9_lays_25 : decode cX9_lays 25 = .ok (.iload_n 3, 1) := dk_29 (dk_at dksX9_lays_1 3 rfl rfl)
theorem dX9_lays_26 : decode cX9_lays 26 = .ok (.goto 7, 3) := dk_167 0 7 (dk_at dksX9_lays_1 4 rfl rfl)
theorem dX9_lays_29 : decode cX9_lays 29 = .ok (.aload_n 0, 1) := dk_42 (dk_at dksX9_lays_1 7 rfl rfl)
theorem dX9_lays_30 : decode cX9_lays 30 = .ok (.getfield 95, 3) := dk_180 0 95 (dk_at dksX9_lays_1 8 rfl rfl)
theorem dX9_lays_33 : decode cX9_lays 33 = .ok (.putfield 95, 3) := dk_181 0 95 (dk_at dksX9_lays_1 11 rfl rfl)
theorem dX9_lays_36 : decode cX9_lays 36 = .ok (.aload_n 0, 1) := dk_42 (dk_at dksX9_lays_1 14 rfl rfl)
theorem dX9_lays_37 : decode cX9_lays 37 = .ok (.iload_n 1, 1) := dk_27 (dk_at dksX9_lays_1 15 rfl rfl)
theorem dX9_lays_38 : decode cX9_lays 38 = .ok (.iconst 2, 1) := dk_5 (dk_at dksX9_lays_1 16 rfl rfl)
theorem dX9_lays_39 : decode cX9_lays 39 = .ok (.if_icmp .ne 7, 3) := dk_160 0 7 (dk_at dksX9_lays_1 17 rfl rfl)
theorem dX9_lays_42 : decode cX9_lays 42 = .ok (.iload_n 3, 1) := dk_29 (dk_at dksX9_lays_1 20 rfl rfl)
theorem dX9_lays_43 : decode cX9_lays 43 = .ok (.goto 7, 3) := dk_167 0 7 (dk_at dksX9_lays_1 21 rfl rfl)
theorem dX9_lays_46 : decode cX9_lays 46 = .ok (.aload_n 0, 1) := dk_42 (dk_at dksX9_lays_2 0 rfl rfl)
theorem dX9_lays_47 : decode cX9_lays 47 = .ok (.getfield 98, 3) := dk_180 0 98 (dk_at dksX9_lays_2 1 rfl rfl)
theorem dX9_lays_50 : decode cX9_lays 50 = .ok (.putfield 98, 3) := dk_181 0 98 (dk_at dksX9_lays_2 4 rfl rfl)
theorem dX9_lays_53 : decode cX9_lays 53 = .ok (.goto 30, 3) := dk_167 0 30 (dk_at dksX9_lays_2 7 rfl rfl)
theorem dX9_lays_56 : decode cX9_lays 56 = .ok (.iload_n 1, 1) := dk_27 (dk_at dksX9_lays_2 10 rfl rfl)
theorem dX9_lays_57 : decode cX9_lays 57 = .ok (.bipush 8, 2) := dk_16 8 (dk_at dksX9_lays_2 11 rfl rfl)
theorem dX9_lays_59 : decode cX9_lays 59 = .ok (.if_icmp .ge 19, 3) := dk_162 0 19 (dk_at dksX9_lays_2 13 rfl rfl)
theorem dX9_lays_62 : decode cX9_lays 62 = .ok (.aload_n 0, 1) := dk_42 (dk_at dksX9_lays_2 16 rfl rfl)
theorem dX9_lays_63 : decode cX9_lays 63 = .ok (.getfield 26, 3) := dk_180 0 26 (dk_at dksX9_lays_2 17 rfl rfl)
theorem dX9_lays_66 : decode cX9_lays 66 = .ok (.iconst 5, 1) := dk_8 (dk_at dksX9_lays_2 20 rfl rfl)
theorem dX9_lays_67 : decode cX9_lays 67 = .ok (.iload_n 2, 1) := dk_28 (dk_at dksX9_lays_2 21 rfl rfl)
theorem dX9_lays_68 : decode cX9_lays 68 = .ok (.imul, 1) := dk_104 (dk_at dksX9_lays_2 22 rfl rfl)
theorem dX9_lays_69 : decode cX9_lays 69 = .ok (.iload_n 1, 1) := dk_27 (dk_at dksX9_lays_2 23 rfl rfl)
theorem dX9_lays_70 : decode cX9_lays 70 = .ok (.iadd, 1) := dk_96 (dk_at dksX9_lays_3 0 rfl rfl)
theorem dX9_lays_71 : decode cX9_lays 71 = .ok (.iconst 3, 1) := dk_6 (dk_at dksX9_lays_3 1 rfl rfl)
theorem dX9_lays_72 : decode cX9_lays 72 = .ok (.isub, 1) := dk_100 (dk_at dksX9_lays_3 2 rfl rfl)
theorem dX9_lays_73 : decode cX9_lays 73 = .ok (.iload_n 3, 1) := dk_29 (dk_at dksX9_lays_3 3 rfl rfl)
theorem dX9_lays_74 : decode cX9_lays 74 = .ok (.iastore, 1) := dk_79 (dk_at dksX9_lays_3 4 rfl rfl)
theorem dX9_lays_75 : decode cX9_lays 75 = .ok (.goto 8, 3) := dk_167 0 8 (dk_at dksX9_lays_3 5 rfl rfl)
theorem dX9_lays_78 : decode cX9_lays 78 = .ok (.aload_n 0, 1) := dk_42 (dk_at dksX9_lays_3 8 rfl rfl)
theorem dX9_lays_79 : decode cX9_lays 79 = .ok (.iload_n 3, 1) := dk_29 (dk_at dksX9_lays_3 9 rfl rfl)
theorem dX9_lays_80 : decode cX9_lays 80 = .ok (.putfield 101, 3) := dk_181 0 101 (dk_at dksX9_lays_3 10 rfl rfl)
theorem dX9_lays_83 : decode cX9_lays 83 = .ok (.return_, 1) := dk_177 (dk_at dksX9_lays_3 13 rfl rfl)
abbrev cX9_person : ByteArray := prog_17_method_11_code
def yX9_person : MethodName := ⟨RX9, "person", "(III)I"⟩
def dkwX9_person_5 : List UInt8 := [89, 180, 0, 64, 4, 96, 181, 0, 64, 42, 180, 0, 64, 4, 100, 172]
abbrev dktX9_person_5 : List UInt8 := dkwX9_person_5 ++ []
def dkwX9_person_4 : List UInt8 := [42, 180, 0, 64, 104, 6, 96, 4, 79, 42, 180, 0, 26, 8, 42, 180, 0, 64, 104, 7, 96, 27, 79, 42]
abbrev dktX9_person_4 : List UInt8 := dkwX9_person_4 ++ dktX9_person_5
def dkwX9_person_3 : List UInt8 := [104, 4, 96, 29, 79, 42, 180, 0, 26, 8, 42, 180, 0, 64, 104, 5, 96, 3, 79, 42, 180, 0, 26, 8]
abbrev dktX9_person_3 : List UInt8 := dkwX9_person_3 ++ dktX9_person_4
def dkwX9_person_2 : List UInt8 := [16, 252, 172, 42, 180, 0, 26, 8, 42, 180, 0, 64, 104, 28, 79, 42, 180, 0, 26, 8, 42, 180, 0, 64]
abbrev dktX9_person_2 : List UInt8 := dkwX9_person_2 ++ dktX9_person_3
def dkwX9_person_1 : List UInt8 := [29, 133, 9, 20, 0, 106, 184, 0, 67, 154, 0, 6, 16, 254, 172, 42, 180, 0, 64, 8, 160, 0, 6]
abbrev dktX9_person_1 : List UInt8 := dkwX9_person_1 ++ dktX9_person_2
def dkwX9_person_0 : List UInt8 := [27, 133, 9, 20, 0, 104, 184, 0, 67, 153, 0, 27, 28, 133, 9, 20, 0, 71, 184, 0, 67, 153, 0, 15]
abbrev dktX9_person_0 : List UInt8 := dkwX9_person_0 ++ dktX9_person_1
theorem dksX9_person_0 : cX9_person.data.toList.drop 0 = dktX9_person_0 := by decide +kernel
theorem dksX9_person_1 : cX9_person.data.toList.drop 24 = dktX9_person_1 := dk_seg dksX9_person_0 24 rfl rfl
theorem dksX9_person_2 : cX9_person.data.toList.drop 47 = dktX9_person_2 := dk_seg dksX9_person_1 23 rfl rfl
theorem dksX9_person_3 : cX9_person.data.toList.drop 71 = dktX9_person_3 := dk_seg dksX9_person_2 24 rfl rfl
theorem dksX9_person_4 : cX9_person.data.toList.drop 95 = dktX9_person_4 := dk_seg dksX9_person_3 24 rfl rfl
theorem dksX9_person_5 : cX9_person.data.toList.drop 119 = dktX9_person_5 := dk_seg dksX9_person_4 24 rfl rfl
theorem dX9_person_0 : decode cX9_person 0 = .ok (.iload_n 1, 1) := dk_27 (dk_at dksX9_person_0 0 rfl rfl)
theorem dX9_person_1 : decode cX9_person 1 = .ok (.i2l, 1) := dk_133 (dk_at dksX9_person_0 1 rfl rfl)
theorem dX9_person_2 : decode cX9_person 2 = .ok (.lconst 0, 1) := dk_9 (dk_at dksX9_person_0 2 rfl rfl)
theorem dX9_person_3 : decode cX9_person 3 = .ok (.ldc2_w 104, 3) := dk_20 0 104 (dk_at dksX9_person_0 3 rfl rfl)
theorem dX9_person_6 : decode cX9_person 6 = .ok (.invokestatic 67, 3) := dk_184 0 67 (dk_at dksX9_person_0 6 rfl rfl)
theorem dX9_person_9 : decode cX9_person 9 = .ok (.ifCond .eq 27, 3) := dk_153 0 27 (dk_at dksX9_person_0 9 rfl rfl)
theorem dX9_person_12 : decode cX9_person 12 = .ok (.iload_n 2, 1) := dk_28 (dk_at dksX9_person_0 12 rfl rfl)
theorem dX9_person_13 : decode cX9_person 13 = .ok (.i2l, 1) := dk_133 (dk_at dksX9_person_0 13 rfl rfl)
theorem dX9_person_14 : decode cX9_person 14 = .ok (.lconst 0, 1) := dk_9 (dk_at dksX9_person_0 14 rfl rfl)
theorem dX9_person_15 : decode cX9_person 15 = .ok (.ldc2_w 71, 3) := dk_20 0 71 (dk_at dksX9_person_0 15 rfl rfl)
theorem dX9_person_18 : decode cX9_person 18 = .ok (.invokestatic 67, 3) := dk_184 0 67 (dk_at dksX9_person_0 18 rfl rfl)
theorem dX9_person_21 : decode cX9_person 21 = .ok (.ifCond .eq 15, 3) := dk_153 0 15 (dk_at dksX9_person_0 21 rfl rfl)
theorem dX9_person_24 : decode cX9_person 24 = .ok (.iload_n 3, 1) := dk_29 (dk_at dksX9_person_1 0 rfl rfl)
theorem dX9_person_25 : decode cX9_person 25 = .ok (.i2l, 1) := dk_133 (dk_at dksX9_person_1 1 rfl rfl)
theorem dX9_person_26 : decode cX9_person 26 = .ok (.lconst 0, 1) := dk_9 (dk_at dksX9_person_1 2 rfl rfl)
theorem dX9_person_27 : decode cX9_person 27 = .ok (.ldc2_w 106, 3) := dk_20 0 106 (dk_at dksX9_person_1 3 rfl rfl)
theorem dX9_person_30 : decode cX9_person 30 = .ok (.invokestatic 67, 3) := dk_184 0 67 (dk_at dksX9_person_1 6 rfl rfl)
theorem dX9_person_33 : decode cX9_person 33 = .ok (.ifCond .ne 6, 3) := dk_154 0 6 (dk_at dksX9_person_1 9 rfl rfl)
theorem dX9_person_36 : decode cX9_person 36 = .ok (.bipush (-2), 2) := dk_16 254 (dk_at dksX9_person_1 12 rfl rfl)
theorem dX9_person_38 : decode cX9_person 38 = .ok (.ireturn, 1) := dk_172 (dk_at dksX9_person_1 14 rfl rfl)
theorem dX9_person_39 : decode cX9_person 39 = .ok (.aload_n 0, 1) := dk_42 (dk_at dksX9_person_1 15 rfl rfl)
theorem dX9_person_40 : decode cX9_person 40 = .ok (.getfield 64, 3) := dk_180 0 64 (dk_at dksX9_person_1 16 rfl rfl)
theorem dX9_person_43 : decode cX9_person 43 = .ok (.iconst 5, 1) := dk_8 (dk_at dksX9_person_1 19 rfl rfl)
theorem dX9_person_44 : decode cX9_person 44 = .ok (.if_icmp .ne 6, 3) := dk_160 0 6 (dk_at dksX9_person_1 20 rfl rfl)
theorem dX9_person_47 : decode cX9_person 47 = .ok (.bipush (-4), 2) := dk_16 252 (dk_at dksX9_person_2 0 rfl rfl)
theorem dX9_person_49 : decode cX9_person 49 = .ok (.ireturn, 1) := dk_172 (dk_at dksX9_person_2 2 rfl rfl)
theorem dX9_person_50 : decode cX9_person 50 = .ok (.aload_n 0, 1) := dk_42 (dk_at dksX9_person_2 3 rfl rfl)
theorem dX9_person_51 : decode cX9_person 51 = .ok (.getfield 26, 3) := dk_180 0 26 (dk_at dksX9_person_2 4 rfl rfl)
theorem dX9_person_54 : decode cX9_person 54 = .ok (.iconst 5, 1) := dk_8 (dk_at dksX9_person_2 7 rfl rfl)
theorem dX9_person_55 : decode cX9_person 55 = .ok (.aload_n 0, 1) := dk_42 (dk_at dksX9_person_2 8 rfl rfl)
theorem dX9_person_56 : decode cX9_person 56 = .ok (.getfield 64, 3) := dk_180 0 64 (dk_at dksX9_person_2 9 rfl rfl)
theorem dX9_person_59 : decode cX9_person 59 = .ok (.imul, 1) := dk_104 (dk_at dksX9_person_2 12 rfl rfl)
theorem dX9_person_60 : decode cX9_person 60 = .ok (.iload_n 2, 1) := dk_28 (dk_at dksX9_person_2 13 rfl rfl)
theorem dX9_person_61 : decode cX9_person 61 = .ok (.iastore, 1) := dk_79 (dk_at dksX9_person_2 14 rfl rfl)
theorem dX9_person_62 : decode cX9_person 62 = .ok (.aload_n 0, 1) := dk_42 (dk_at dksX9_person_2 15 rfl rfl)
theorem dX9_person_63 : decode cX9_person 63 = .ok (.getfield 26, 3) := dk_180 0 26 (dk_at dksX9_person_2 16 rfl rfl)
theorem dX9_person_66 : decode cX9_person 66 = .ok (.iconst 5, 1) := dk_8 (dk_at dksX9_person_2 19 rfl rfl)
theorem dX9_person_67 : decode cX9_person 67 = .ok (.aload_n 0, 1) := dk_42 (dk_at dksX9_person_2 20 rfl rfl)
theorem dX9_person_68 : decode cX9_person 68 = .ok (.getfield 64, 3) := dk_180 0 64 (dk_at dksX9_person_2 21 rfl rfl)
theorem dX9_person_71 : decode cX9_person 71 = .ok (.imul, 1) := dk_104 (dk_at dksX9_person_3 0 rfl rfl)
theorem dX9_person_72 : decode cX9_person 72 = .ok (.iconst 1, 1) := dk_4 (dk_at dksX9_person_3 1 rfl rfl)
theorem dX9_person_73 : decode cX9_person 73 = .ok (.iadd, 1) := dk_96 (dk_at dksX9_person_3 2 rfl rfl)
theorem dX9_person_74 : decode cX9_person 74 = .ok (.iload_n 3, 1) := dk_29 (dk_at dksX9_person_3 3 rfl rfl)
theorem dX9_person_75 : decode cX9_person 75 = .ok (.iastore, 1) := dk_79 (dk_at dksX9_person_3 4 rfl rfl)
theorem dX9_person_76 : decode cX9_person 76 = .ok (.aload_n 0, 1) := dk_42 (dk_at dksX9_person_3 5 rfl rfl)
theorem dX9_person_77 : decode cX9_person 77 = .ok (.getfield 26, 3) := dk_180 0 26 (dk_at dksX9_person_3 6 rfl rfl)
theorem dX9_person_80 : decode cX9_person 80 = .ok (.iconst 5, 1) := dk_8 (dk_at dksX9_person_3 9 rfl rfl)
theorem dX9_person_81 : decode cX9_person 81 = .ok (.aload_n 0, 1) := dk_42 (dk_at dksX9_person_3 10 rfl rfl)
theorem dX9_person_82 : decode cX9_person 82 = .ok (.getfield 64, 3) := dk_180 0 64 (dk_at dksX9_person_3 11 rfl rfl)
theorem dX9_person_85 : decode cX9_person 85 = .ok (.imul, 1) := dk_104 (dk_at dksX9_person_3 14 rfl rfl)
theorem dX9_person_86 : decode cX9_person 86 = .ok (.iconst 2, 1) := dk_5 (dk_at dksX9_person_3 15 rfl rfl)
theorem dX9_person_87 : decode cX9_person 87 = .ok (.iadd, 1) := dk_96 (dk_at dksX9_person_3 16 rfl rfl)
theorem dX9_person_88 : decode cX9_person 88 = .ok (.iconst 0, 1) := dk_3 (dk_at dksX9_person_3 17 rfl rfl)
theorem dX9_person_89 : decode cX9_person 89 = .ok (.iastore, 1) := dk_79 (dk_at dksX9_person_3 18 rfl rfl)
theorem dX9_person_90 : decode cX9_person 90 = .ok (.aload_n 0, 1) := dk_42 (dk_at dksX9_person_3 19 rfl rfl)
theorem dX9_person_91 : decode cX9_person 91 = .ok (.getfield 26, 3) := dk_180 0 26 (dk_at dksX9_person_3 20 rfl rfl)
theorem dX9_person_94 : decode cX9_person 94 = .ok (.iconst 5, 1) := dk_8 (dk_at dksX9_person_3 23 rfl rfl)
theorem dX9_person_95 : decode cX9_person 95 = .ok (.aload_n 0, 1) := dk_42 (dk_at dksX9_person_4 0 rfl rfl)
theorem dX9_person_96 : decode cX9_person 96 = .ok (.getfield 64, 3) := dk_180 0 64 (dk_at dksX9_person_4 1 rfl rfl)
theorem dX9_person_99 : decode cX9_person 99 = .ok (.imul, 1) := dk_104 (dk_at dksX9_person_4 4 rfl rfl)
theorem dX9_person_100 : decode cX9_person 100 = .ok (.iconst 3, 1) := dk_6 (dk_at dksX9_person_4 5 rfl rfl)
theorem dX9_person_101 : decode cX9_person 101 = .ok (.iadd, 1) := dk_96 (dk_at dksX9_person_4 6 rfl rfl)
theorem dX9_person_102 : decode cX9_person 102 = .ok (.iconst 1, 1) := dk_4 (dk_at dksX9_person_4 7 rfl rfl)
theorem dX9_person_103 : decode cX9_person 103 = .ok (.iastore, 1) := dk_79 (dk_at dksX9_person_4 8 rfl rfl)
theorem dX9_person_104 : decode cX9_person 104 = .ok (.aload_n 0, 1) := dk_42 (dk_at dksX9_person_4 9 rfl rfl)
theorem dX9_person_105 : decode cX9_person 105 = .ok (.getfield 26, 3) := dk_180 0 26 (dk_at dksX9_person_4 10 rfl rfl)
theorem dX9_person_108 : decode cX9_person 108 = .ok (.iconst 5, 1) := dk_8 (dk_at dksX9_person_4 13 rfl rfl)
theorem dX9_person_109 : decode cX9_person 109 = .ok (.aload_n 0, 1) := dk_42 (dk_at dksX9_person_4 14 rfl rfl)
theorem dX9_person_110 : decode cX9_person 110 = .ok (.getfield 64, 3) := dk_180 0 64 (dk_at dksX9_person_4 15 rfl rfl)
theorem dX9_person_113 : decode cX9_person 113 = .ok (.imul, 1) := dk_104 (dk_at dksX9_person_4 18 rfl rfl)
theorem dX9_person_114 : decode cX9_person 114 = .ok (.iconst 4, 1) := dk_7 (dk_at dksX9_person_4 19 rfl rfl)
theorem dX9_person_115 : decode cX9_person 115 = .ok (.iadd, 1) := dk_96 (dk_at dksX9_person_4 20 rfl rfl)
theorem dX9_person_116 : decode cX9_person 116 = .ok (.iload_n 1, 1) := dk_27 (dk_at dksX9_person_4 21 rfl rfl)
theorem dX9_person_117 : decode cX9_person 117 = .ok (.iastore, 1) := dk_79 (dk_at dksX9_person_4 22 rfl rfl)
theorem dX9_person_118 : decode cX9_person 118 = .ok (.aload_n 0, 1) := dk_42 (dk_at dksX9_person_4 23 rfl rfl)
theorem dX9_person_119 : decode cX9_person 119 = .ok (.dup, 1) := dk_89 (dk_at dksX9_person_5 0 rfl rfl)
theorem dX9_person_120 : decode cX9_person 120 = .ok (.getfield 64, 3) := dk_180 0 64 (dk_at dksX9_person_5 1 rfl rfl)
theorem dX9_person_123 : decode cX9_person 123 = .ok (.iconst 1, 1) := dk_4 (dk_at dksX9_person_5 4 rfl rfl)
theorem dX9_person_124 : decode cX9_person 124 = .ok (.iadd, 1) := dk_96 (dk_at dksX9_person_5 5 rfl rfl)
theorem dX9_person_125 : decode cX9_person 125 = .ok (.putfield 64, 3) := dk_181 0 64 (dk_at dksX9_person_5 6 rfl rfl)
theorem dX9_person_128 : decode cX9_person 128 = .ok (.aload_n 0, 1) := dk_42 (dk_at dksX9_person_5 9 rfl rfl)
theorem dX9_person_129 : decode cX9_person 129 = .ok (.getfield 64, 3) := dk_180 0 64 (dk_at dksX9_person_5 10 rfl rfl)
theorem dX9_person_132 : decode cX9_person 132 = .ok (.iconst 1, 1) := dk_4 (dk_at dksX9_person_5 13 rfl rfl)
theorem dX9_person_133 : decode cX9_person 133 = .ok (.isub, 1) := dk_100 (dk_at dksX9_person_5 14 rfl rfl)
theorem dX9_person_134 : decode cX9_person 134 = .ok (.ireturn, 1) := dk_172 (dk_at dksX9_person_5 15 rfl rfl)
abbrev cX9_feed : ByteArray := prog_17_method_16_code
def yX9_feed : MethodName := ⟨RX9, "feed", "(I)I"⟩
def dkwX9_feed_2 : List UInt8 := [181, 0, 121, 42, 180, 0, 121, 172]
abbrev dktX9_feed_2 : List UInt8 := dkwX9_feed_2 ++ []
def dkwX9_feed_1 : List UInt8 := [160, 0, 6, 16, 252, 172, 42, 180, 0, 20, 42, 180, 0, 121, 27, 79, 42, 89, 180, 0, 121, 4, 96]
abbrev dktX9_feed_1 : List UInt8 := dkwX9_feed_1 ++ dktX9_feed_2
def dkwX9_feed_0 : List UInt8 := [27, 133, 9, 20, 0, 119, 184, 0, 67, 154, 0, 6, 16, 254, 172, 42, 180, 0, 121, 17, 0, 160]
abbrev dktX9_feed_0 : List UInt8 := dkwX9_feed_0 ++ dktX9_feed_1
theorem dksX9_feed_0 : cX9_feed.data.toList.drop 0 = dktX9_feed_0 := by decide +kernel
theorem dksX9_feed_1 : cX9_feed.data.toList.drop 22 = dktX9_feed_1 := dk_seg dksX9_feed_0 22 rfl rfl
theorem dksX9_feed_2 : cX9_feed.data.toList.drop 45 = dktX9_feed_2 := dk_seg dksX9_feed_1 23 rfl rfl
theorem dX9_feed_0 : decode cX9_feed 0 = .ok (.iload_n 1, 1) := dk_27 (dk_at dksX9_feed_0 0 rfl rfl)
theorem dX9_feed_1 : decode cX9_feed 1 = .ok (.i2l, 1) := dk_133 (dk_at dksX9_feed_0 1 rfl rfl)
theorem dX9_feed_2 : decode cX9_feed 2 = .ok (.lconst 0, 1) := dk_9 (dk_at dksX9_feed_0 2 rfl rfl)
theorem dX9_feed_3 : decode cX9_feed 3 = .ok (.ldc2_w 119, 3) := dk_20 0 119 (dk_at dksX9_feed_0 3 rfl rfl)
theorem dX9_feed_6 : decode cX9_feed 6 = .ok (.invokestatic 67, 3) := dk_184 0 67 (dk_at dksX9_feed_0 6 rfl rfl)
theorem dX9_feed_9 : decode cX9_feed 9 = .ok (.ifCond .ne 6, 3) := dk_154 0 6 (dk_at dksX9_feed_0 9 rfl rfl)
theorem dX9_feed_12 : decode cX9_feed 12 = .ok (.bipush (-2), 2) := dk_16 254 (dk_at dksX9_feed_0 12 rfl rfl)
theorem dX9_feed_14 : decode cX9_feed 14 = .ok (.ireturn, 1) := dk_172 (dk_at dksX9_feed_0 14 rfl rfl)
theorem dX9_feed_15 : decode cX9_feed 15 = .ok (.aload_n 0, 1) := dk_42 (dk_at dksX9_feed_0 15 rfl rfl)
theorem dX9_feed_16 : decode cX9_feed 16 = .ok (.getfield 121, 3) := dk_180 0 121 (dk_at dksX9_feed_0 16 rfl rfl)
theorem dX9_feed_19 : decode cX9_feed 19 = .ok (.sipush 160, 3) := dk_17 0 160 (dk_at dksX9_feed_0 19 rfl rfl)
theorem dX9_feed_22 : decode cX9_feed 22 = .ok (.if_icmp .ne 6, 3) := dk_160 0 6 (dk_at dksX9_feed_1 0 rfl rfl)
theorem dX9_feed_25 : decode cX9_feed 25 = .ok (.bipush (-4), 2) := dk_16 252 (dk_at dksX9_feed_1 3 rfl rfl)
theorem dX9_feed_27 : decode cX9_feed 27 = .ok (.ireturn, 1) := dk_172 (dk_at dksX9_feed_1 5 rfl rfl)
theorem dX9_feed_28 : decode cX9_feed 28 = .ok (.aload_n 0, 1) := dk_42 (dk_at dksX9_feed_1 6 rfl rfl)
theorem dX9_feed_29 : decode cX9_feed 29 = .ok (.getfield 20, 3) := dk_180 0 20 (dk_at dksX9_feed_1 7 rfl rfl)
theorem dX9_feed_32 : decode cX9_feed 32 = .ok (.aload_n 0, 1) := dk_42 (dk_at dksX9_feed_1 10 rfl rfl)
theorem dX9_feed_33 : decode cX9_feed 33 = .ok (.getfield 121, 3) := dk_180 0 121 (dk_at dksX9_feed_1 11 rfl rfl)
theorem dX9_feed_36 : decode cX9_feed 36 = .ok (.iload_n 1, 1) := dk_27 (dk_at dksX9_feed_1 14 rfl rfl)
theorem dX9_feed_37 : decode cX9_feed 37 = .ok (.iastore, 1) := dk_79 (dk_at dksX9_feed_1 15 rfl rfl)
theorem dX9_feed_38 : decode cX9_feed 38 = .ok (.aload_n 0, 1) := dk_42 (dk_at dksX9_feed_1 16 rfl rfl)
theorem dX9_feed_39 : decode cX9_feed 39 = .ok (.dup, 1) := dk_89 (dk_at dksX9_feed_1 17 rfl rfl)
theorem dX9_feed_40 : decode cX9_feed 40 = .ok (.getfield 121, 3) := dk_180 0 121 (dk_at dksX9_feed_1 18 rfl rfl)
theorem dX9_feed_43 : decode cX9_feed 43 = .ok (.iconst 1, 1) := dk_4 (dk_at dksX9_feed_1 21 rfl rfl)
theorem dX9_feed_44 : decode cX9_feed 44 = .ok (.iadd, 1) := dk_96 (dk_at dksX9_feed_1 22 rfl rfl)
theorem dX9_feed_45 : decode cX9_feed 45 = .ok (.putfield 121, 3) := dk_181 0 121 (dk_at dksX9_feed_2 0 rfl rfl)
theorem dX9_feed_48 : decode cX9_feed 48 = .ok (.aload_n 0, 1) := dk_42 (dk_at dksX9_feed_2 3 rfl rfl)
theorem dX9_feed_49 : decode cX9_feed 49 = .ok (.getfield 121, 3) := dk_180 0 121 (dk_at dksX9_feed_2 4 rfl rfl)
theorem dX9_feed_52 : decode cX9_feed 52 = .ok (.ireturn, 1) := dk_172 (dk_at dksX9_feed_2 7 rfl rfl)
abbrev cX9_text : ByteArray := prog_17_method_63_code
def yX9_text : MethodName := ⟨RX9, "text", "()I"⟩
def dkwX9_text_4 : List UInt8 := [89, 180, 0, 61, 4, 96, 181, 0, 61, 42, 180, 0, 61, 4, 100, 172]
abbrev dktX9_text_4 : List UInt8 := dkwX9_text_4 ++ []
def dkwX9_text_3 : List UInt8 := [180, 0, 61, 3, 182, 1, 66, 60, 42, 180, 0, 154, 153, 0, 11, 16, 156, 42, 180, 0, 158, 100, 172, 42]
abbrev dktX9_text_3 : List UInt8 := dkwX9_text_3 ++ dktX9_text_4
def dkwX9_text_2 : List UInt8 := [167, 255, 224, 42, 180, 0, 17, 42, 180, 0, 61, 42, 180, 0, 121, 79, 42, 3, 181, 0, 121, 42, 42]
abbrev dktX9_text_2 : List UInt8 := dkwX9_text_2 ++ dktX9_text_3
def dkwX9_text_1 : List UInt8 := [180, 0, 13, 17, 0, 160, 42, 180, 0, 61, 104, 27, 96, 42, 180, 0, 20, 27, 46, 79, 132, 1, 1]
abbrev dktX9_text_1 : List UInt8 := dkwX9_text_1 ++ dktX9_text_2
def dkwX9_text_0 : List UInt8 := [42, 180, 0, 61, 16, 6, 160, 0, 6, 16, 252, 172, 3, 60, 27, 42, 180, 0, 121, 162, 0, 30, 42]
abbrev dktX9_text_0 : List UInt8 := dkwX9_text_0 ++ dktX9_text_1
theorem dksX9_text_0 : cX9_text.data.toList.drop 0 = dktX9_text_0 := by decide +kernel
theorem dksX9_text_1 : cX9_text.data.toList.drop 23 = dktX9_text_1 := dk_seg dksX9_text_0 23 rfl rfl
theorem dksX9_text_2 : cX9_text.data.toList.drop 46 = dktX9_text_2 := dk_seg dksX9_text_1 23 rfl rfl
theorem dksX9_text_3 : cX9_text.data.toList.drop 69 = dktX9_text_3 := dk_seg dksX9_text_2 23 rfl rfl
theorem dksX9_text_4 : cX9_text.data.toList.drop 93 = dktX9_text_4 := dk_seg dksX9_text_3 24 rfl rfl
theorem dX9_text_0 : decode cX9_text 0 = .ok (.aload_n 0, 1) := dk_42 (dk_at dksX9_text_0 0 rfl rfl)
theorem dX9_text_1 : decode cX9_text 1 = .ok (.getfield 61, 3) := dk_180 0 61 (dk_at dksX9_text_0 1 rfl rfl)
theorem dX9_text_4 : decode cX9_text 4 = .ok (.bipush 6, 2) := dk_16 6 (dk_at dksX9_text_0 4 rfl rfl)
theorem dX9_text_6 : decode cX9_text 6 = .ok (.if_icmp .ne 6, 3) := dk_160 0 6 (dk_at dksX9_text_0 6 rfl rfl)
theorem dX9_text_9 : decode cX9_text 9 = .ok (.bipush (-4), 2) := dk_16 252 (dk_at dksX9_text_0 9 rfl rfl)
theorem dX9_text_11 : decode cX9_text 11 = .ok (.ireturn, 1) := dk_172 (dk_at dksX9_text_0 11 rfl rfl)
theorem dX9_text_12 : decode cX9_text 12 = .ok (.iconst 0, 1) := dk_3 (dk_at dksX9_text_0 12 rfl rfl)
theorem dX9_text_13 : decode cX9_text 13 = .ok (.istore_n 1, 1) := dk_60 (dk_at dksX9_text_0 13 rfl rfl)
theorem dX9_text_14 : decode cX9_text 14 = .ok (.iload_n 1, 1) := dk_27 (dk_at dksX9_text_0 14 rfl rfl)
theorem dX9_text_15 : decode cX9_text 15 = .ok (.aload_n 0, 1) := dk_42 (dk_at dksX9_text_0 15 rfl rfl)
theorem dX9_text_16 : decode cX9_text 16 = .ok (.getfield 121, 3) := dk_180 0 121 (dk_at dksX9_text_0 16 rfl rfl)
theorem dX9_text_19 : decode cX9_text 19 = .ok (.if_icmp .ge 30, 3) := dk_162 0 30 (dk_at dksX9_text_0 19 rfl rfl)
theorem dX9_text_22 : decode cX9_text 22 = .ok (.aload_n 0, 1) := dk_42 (dk_at dksX9_text_0 22 rfl rfl)
theorem dX9_text_23 : decode cX9_text 23 = .ok (.getfield 13, 3) := dk_180 0 13 (dk_at dksX9_text_1 0 rfl rfl)
theorem dX9_text_26 : decode cX9_text 26 = .ok (.sipush 160, 3) := dk_17 0 160 (dk_at dksX9_text_1 3 rfl rfl)
theorem dX9_text_29 : decode cX9_text 29 = .ok (.aload_n 0, 1) := dk_42 (dk_at dksX9_text_1 6 rfl rfl)
theorem dX9_text_30 : decode cX9_text 30 = .ok (.getfield 61, 3) := dk_180 0 61 (dk_at dksX9_text_1 7 rfl rfl)
theorem dX9_text_33 : decode cX9_text 33 = .ok (.imul, 1) := dk_104 (dk_at dksX9_text_1 10 rfl rfl)
theorem dX9_text_34 : decode cX9_text 34 = .ok (.iload_n 1, 1) := dk_27 (dk_at dksX9_text_1 11 rfl rfl)
theorem dX9_text_35 : decode cX9_text 35 = .ok (.iadd, 1) := dk_96 (dk_at dksX9_text_1 12 rfl rfl)
theorem dX9_text_36 : decode cX9_text 36 = .ok (.aload_n 0, 1) := dk_42 (dk_at dksX9_text_1 13 rfl rfl)
theorem dX9_text_37 : decode cX9_text 37 = .ok (.getfield 20, 3) := dk_180 0 20 (dk_at dksX9_text_1 14 rfl rfl)
theorem dX9_text_40 : decode cX9_text 40 = .ok (.iload_n 1, 1) := dk_27 (dk_at dksX9_text_1 17 rfl rfl)
theorem dX9_text_41 : decode cX9_text 41 = .ok (.iaload, 1) := dk_46 (dk_at dksX9_text_1 18 rfl rfl)
theorem dX9_text_42 : decode cX9_text 42 = .ok (.iastore, 1) := dk_79 (dk_at dksX9_text_1 19 rfl rfl)
theorem dX9_text_43 : decode cX9_text 43 = .ok (.iinc 1 1, 3) := dk_132 1 1 (dk_at dksX9_text_1 20 rfl rfl)
theorem dX9_text_46 : decode cX9_text 46 = .ok (.goto (-32), 3) := dk_167 255 224 (dk_at dksX9_text_2 0 rfl rfl)
theorem dX9_text_49 : decode cX9_text 49 = .ok (.aload_n 0, 1) := dk_42 (dk_at dksX9_text_2 3 rfl rfl)
theorem dX9_text_50 : decode cX9_text 50 = .ok (.getfield 17, 3) := dk_180 0 17 (dk_at dksX9_text_2 4 rfl rfl)
theorem dX9_text_53 : decode cX9_text 53 = .ok (.aload_n 0, 1) := dk_42 (dk_at dksX9_text_2 7 rfl rfl)
theorem dX9_text_54 : decode cX9_text 54 = .ok (.getfield 61, 3) := dk_180 0 61 (dk_at dksX9_text_2 8 rfl rfl)
theorem dX9_text_57 : decode cX9_text 57 = .ok (.aload_n 0, 1) := dk_42 (dk_at dksX9_text_2 11 rfl rfl)
theorem dX9_text_58 : decode cX9_text 58 = .ok (.getfield 121, 3) := dk_180 0 121 (dk_at dksX9_text_2 12 rfl rfl)
theorem dX9_text_61 : decode cX9_text 61 = .ok (.iastore, 1) := dk_79 (dk_at dksX9_text_2 15 rfl rfl)
theorem dX9_text_62 : decode cX9_text 62 = .ok (.aload_n 0, 1) := dk_42 (dk_at dksX9_text_2 16 rfl rfl)
theorem dX9_text_63 : decode cX9_text 63 = .ok (.iconst 0, 1) := dk_3 (dk_at dksX9_text_2 17 rfl rfl)
theorem dX9_text_64 : decode cX9_text 64 = .ok (.putfield 121, 3) := dk_181 0 121 (dk_at dksX9_text_2 18 rfl rfl)
theorem dX9_text_67 : decode cX9_text 67 = .ok (.aload_n 0, 1) := dk_42 (dk_at dksX9_text_2 21 rfl rfl)
theorem dX9_text_68 : decode cX9_text 68 = .ok (.aload_n 0, 1) := dk_42 (dk_at dksX9_text_2 22 rfl rfl)
theorem dX9_text_69 : decode cX9_text 69 = .ok (.getfield 61, 3) := dk_180 0 61 (dk_at dksX9_text_3 0 rfl rfl)
theorem dX9_text_72 : decode cX9_text 72 = .ok (.iconst 0, 1) := dk_3 (dk_at dksX9_text_3 3 rfl rfl)
theorem dX9_text_73 : decode cX9_text 73 = .ok (.invokevirtual 322, 3) := dk_182 1 66 (dk_at dksX9_text_3 4 rfl rfl)
theorem dX9_text_76 : decode cX9_text 76 = .ok (.istore_n 1, 1) := dk_60 (dk_at dksX9_text_3 7 rfl rfl)
theorem dX9_text_77 : decode cX9_text 77 = .ok (.aload_n 0, 1) := dk_42 (dk_at dksX9_text_3 8 rfl rfl)
theorem dX9_text_78 : decode cX9_text 78 = .ok (.getfield 154, 3) := dk_180 0 154 (dk_at dksX9_text_3 9 rfl rfl)
theorem dX9_text_81 : decode cX9_text 81 = .ok (.ifCond .eq 11, 3) := dk_153 0 11 (dk_at dksX9_text_3 12 rfl rfl)
theorem dX9_text_84 : decode cX9_text 84 = .ok (.bipush (-100), 2) := dk_16 156 (dk_at dksX9_text_3 15 rfl rfl)
theorem dX9_text_86 : decode cX9_text 86 = .ok (.aload_n 0, 1) := dk_42 (dk_at dksX9_text_3 17 rfl rfl)
theorem dX9_text_87 : decode cX9_text 87 = .ok (.getfield 158, 3) := dk_180 0 158 (dk_at dksX9_text_3 18 rfl rfl)
theorem dX9_text_90 : decode cX9_text 90 = .ok (.isub, 1) := dk_100 (dk_at dksX9_text_3 21 rfl rfl)
theorem dX9_text_91 : decode cX9_text 91 = .ok (.ireturn, 1) := dk_172 (dk_at dksX9_text_3 22 rfl rfl)
theorem dX9_text_92 : decode cX9_text 92 = .ok (.aload_n 0, 1) := dk_42 (dk_at dksX9_text_3 23 rfl rfl)
theorem dX9_text_93 : decode cX9_text 93 = .ok (.dup, 1) := dk_89 (dk_at dksX9_text_4 0 rfl rfl)
theorem dX9_text_94 : decode cX9_text 94 = .ok (.getfield 61, 3) := dk_180 0 61 (dk_at dksX9_text_4 1 rfl rfl)
theorem dX9_text_97 : decode cX9_text 97 = .ok (.iconst 1, 1) := dk_4 (dk_at dksX9_text_4 4 rfl rfl)
theorem dX9_text_98 : decode cX9_text 98 = .ok (.iadd, 1) := dk_96 (dk_at dksX9_text_4 5 rfl rfl)
theorem dX9_text_99 : decode cX9_text 99 = .ok (.putfield 61, 3) := dk_181 0 61 (dk_at dksX9_text_4 6 rfl rfl)
theorem dX9_text_102 : decode cX9_text 102 = .ok (.aload_n 0, 1) := dk_42 (dk_at dksX9_text_4 9 rfl rfl)
theorem dX9_text_103 : decode cX9_text 103 = .ok (.getfield 61, 3) := dk_180 0 61 (dk_at dksX9_text_4 10 rfl rfl)
theorem dX9_text_106 : decode cX9_text 106 = .ok (.iconst 1, 1) := dk_4 (dk_at dksX9_text_4 13 rfl rfl)
theorem dX9_text_107 : decode cX9_text 107 = .ok (.isub, 1) := dk_100 (dk_at dksX9_text_4 14 rfl rfl)
theorem dX9_text_108 : decode cX9_text 108 = .ok (.ireturn, 1) := dk_172 (dk_at dksX9_text_4 15 rfl rfl)
abbrev cX9_force : ByteArray := prog_17_method_64_code
def yX9_force : MethodName := ⟨RX9, "force", "(I)I"⟩
def dkwX9_force_1 : List UInt8 := [42, 27, 181, 0, 101, 28, 172]
abbrev dktX9_force_1 : List UInt8 := dkwX9_force_1 ++ []
def dkwX9_force_0 : List UInt8 := [27, 133, 9, 42, 180, 0, 61, 4, 100, 133, 184, 0, 67, 154, 0, 6, 16, 254, 172, 42, 180, 0, 101, 61]
abbrev dktX9_force_0 : List UInt8 := dkwX9_force_0 ++ dktX9_force_1
theorem dksX9_force_0 : cX9_force.data.toList.drop 0 = dktX9_force_0 := by decide +kernel
theorem dksX9_force_1 : cX9_force.data.toList.drop 24 = dktX9_force_1 := dk_seg dksX9_force_0 24 rfl rfl
theorem dX9_force_0 : decode cX9_force 0 = .ok (.iload_n 1, 1) := dk_27 (dk_at dksX9_force_0 0 rfl rfl)
theorem dX9_force_1 : decode cX9_force 1 = .ok (.i2l, 1) := dk_133 (dk_at dksX9_force_0 1 rfl rfl)
theorem dX9_force_2 : decode cX9_force 2 = .ok (.lconst 0, 1) := dk_9 (dk_at dksX9_force_0 2 rfl rfl)
theorem dX9_force_3 : decode cX9_force 3 = .ok (.aload_n 0, 1) := dk_42 (dk_at dksX9_force_0 3 rfl rfl)
theorem dX9_force_4 : decode cX9_force 4 = .ok (.getfield 61, 3) := dk_180 0 61 (dk_at dksX9_force_0 4 rfl rfl)
theorem dX9_force_7 : decode cX9_force 7 = .ok (.iconst 1, 1) := dk_4 (dk_at dksX9_force_0 7 rfl rfl)
theorem dX9_force_8 : decode cX9_force 8 = .ok (.isub, 1) := dk_100 (dk_at dksX9_force_0 8 rfl rfl)
theorem dX9_force_9 : decode cX9_force 9 = .ok (.i2l, 1) := dk_133 (dk_at dksX9_force_0 9 rfl rfl)
theorem dX9_force_10 : decode cX9_force 10 = .ok (.invokestatic 67, 3) := dk_184 0 67 (dk_at dksX9_force_0 10 rfl rfl)
theorem dX9_force_13 : decode cX9_force 13 = .ok (.ifCond .ne 6, 3) := dk_154 0 6 (dk_at dksX9_force_0 13 rfl rfl)
theorem dX9_force_16 : decode cX9_force 16 = .ok (.bipush (-2), 2) := dk_16 254 (dk_at dksX9_force_0 16 rfl rfl)
theorem dX9_force_18 : decode cX9_force 18 = .ok (.ireturn, 1) := dk_172 (dk_at dksX9_force_0 18 rfl rfl)
theorem dX9_force_19 : decode cX9_force 19 = .ok (.aload_n 0, 1) := dk_42 (dk_at dksX9_force_0 19 rfl rfl)
theorem dX9_force_20 : decode cX9_force 20 = .ok (.getfield 101, 3) := dk_180 0 101 (dk_at dksX9_force_0 20 rfl rfl)
theorem dX9_force_23 : decode cX9_force 23 = .ok (.istore_n 2, 1) := dk_61 (dk_at dksX9_force_0 23 rfl rfl)
theorem dX9_force_24 : decode cX9_force 24 = .ok (.aload_n 0, 1) := dk_42 (dk_at dksX9_force_1 0 rfl rfl)
theorem dX9_force_25 : decode cX9_force 25 = .ok (.iload_n 1, 1) := dk_27 (dk_at dksX9_force_1 1 rfl rfl)
theorem dX9_force_26 : decode cX9_force 26 = .ok (.putfield 101, 3) := dk_181 0 101 (dk_at dksX9_force_1 2 rfl rfl)
theorem dX9_force_29 : decode cX9_force 29 = .ok (.iload_n 2, 1) := dk_28 (dk_at dksX9_force_1 5 rfl rfl)
theorem dX9_force_30 : decode cX9_force 30 = .ok (.ireturn, 1) := dk_172 (dk_at dksX9_force_1 6 rfl rfl)
abbrev cX9_feels : ByteArray := prog_17_method_69_code
def yX9_feels : MethodName := ⟨RX9, "feels", "(II)J"⟩
def dkwX9_feels_1 : List UInt8 := [20, 1, 85, 28, 184, 1, 87, 167, 0, 6, 20, 1, 91, 173]
abbrev dktX9_feels_1 : List UInt8 := dkwX9_feels_1 ++ []
def dkwX9_feels_0 : List UInt8 := [42, 27, 182, 0, 73, 153, 0, 29, 28, 133, 9, 10, 184, 0, 67, 153, 0, 19, 42, 27, 182, 1, 82, 133]
abbrev dktX9_feels_0 : List UInt8 := dkwX9_feels_0 ++ dktX9_feels_1
theorem dksX9_feels_0 : cX9_feels.data.toList.drop 0 = dktX9_feels_0 := by decide +kernel
theorem dksX9_feels_1 : cX9_feels.data.toList.drop 24 = dktX9_feels_1 := dk_seg dksX9_feels_0 24 rfl rfl
theorem dX9_feels_0 : decode cX9_feels 0 = .ok (.aload_n 0, 1) := dk_42 (dk_at dksX9_feels_0 0 rfl rfl)
theorem dX9_feels_1 : decode cX9_feels 1 = .ok (.iload_n 1, 1) := dk_27 (dk_at dksX9_feels_0 1 rfl rfl)
theorem dX9_feels_2 : decode cX9_feels 2 = .ok (.invokevirtual 73, 3) := dk_182 0 73 (dk_at dksX9_feels_0 2 rfl rfl)
theorem dX9_feels_5 : decode cX9_feels 5 = .ok (.ifCond .eq 29, 3) := dk_153 0 29 (dk_at dksX9_feels_0 5 rfl rfl)
theorem dX9_feels_8 : decode cX9_feels 8 = .ok (.iload_n 2, 1) := dk_28 (dk_at dksX9_feels_0 8 rfl rfl)
theorem dX9_feels_9 : decode cX9_feels 9 = .ok (.i2l, 1) := dk_133 (dk_at dksX9_feels_0 9 rfl rfl)
theorem dX9_feels_10 : decode cX9_feels 10 = .ok (.lconst 0, 1) := dk_9 (dk_at dksX9_feels_0 10 rfl rfl)
theorem dX9_feels_11 : decode cX9_feels 11 = .ok (.lconst 1, 1) := dk_10 (dk_at dksX9_feels_0 11 rfl rfl)
theorem dX9_feels_12 : decode cX9_feels 12 = .ok (.invokestatic 67, 3) := dk_184 0 67 (dk_at dksX9_feels_0 12 rfl rfl)
theorem dX9_feels_15 : decode cX9_feels 15 = .ok (.ifCond .eq 19, 3) := dk_153 0 19 (dk_at dksX9_feels_0 15 rfl rfl)
theorem dX9_feels_18 : decode cX9_feels 18 = .ok (.aload_n 0, 1) := dk_42 (dk_at dksX9_feels_0 18 rfl rfl)
theorem dX9_feels_19 : decode cX9_feels 19 = .ok (.iload_n 1, 1) := dk_27 (dk_at dksX9_feels_0 19 rfl rfl)
theorem dX9_feels_20 : decode cX9_feels 20 = .ok (.invokevirtual 338, 3) := dk_182 1 82 (dk_at dksX9_feels_0 20 rfl rfl)
theorem dX9_feels_23 : decode cX9_feels 23 = .ok (.i2l, 1) := dk_133 (dk_at dksX9_feels_0 23 rfl rfl)
theorem dX9_feels_24 : decode cX9_feels 24 = .ok (.ldc2_w 341, 3) := dk_20 1 85 (dk_at dksX9_feels_1 0 rfl rfl)
theorem dX9_feels_27 : decode cX9_feels 27 = .ok (.iload_n 2, 1) := dk_28 (dk_at dksX9_feels_1 3 rfl rfl)
theorem dX9_feels_28 : decode cX9_feels 28 = .ok (.invokestatic 343, 3) := dk_184 1 87 (dk_at dksX9_feels_1 4 rfl rfl)
theorem dX9_feels_31 : decode cX9_feels 31 = .ok (.goto 6, 3) := dk_167 0 6 (dk_at dksX9_feels_1 7 rfl rfl)
theorem dX9_feels_34 : decode cX9_feels 34 = .ok (.ldc2_w 347, 3) := dk_20 1 91 (dk_at dksX9_feels_1 10 rfl rfl)
theorem dX9_feels_37 : decode cX9_feels 37 = .ok (.lreturn, 1) := dk_173 (dk_at dksX9_feels_1 13 rfl rfl)
abbrev cX9_lowest : ByteArray := prog_17_method_68_code
def yX9_lowest : MethodName := ⟨RX9, "lowest", "(JJI)J"⟩
def dkwX9_lowest_1 : List UInt8 := [22, 9, 55, 7, 167, 255, 234, 21, 4, 154, 0, 10, 30, 22, 5, 109, 167, 0, 7, 32, 22, 5, 109, 173]
abbrev dktX9_lowest_1 : List UInt8 := dkwX9_lowest_1 ++ []
def dkwX9_lowest_0 : List UInt8 := [30, 55, 5, 32, 55, 7, 22, 7, 9, 148, 153, 0, 21, 22, 5, 22, 7, 113, 55, 9, 22, 7, 55, 5]
abbrev dktX9_lowest_0 : List UInt8 := dkwX9_lowest_0 ++ dktX9_lowest_1
theorem dksX9_lowest_0 : cX9_lowest.data.toList.drop 0 = dktX9_lowest_0 := by decide +kernel
theorem dksX9_lowest_1 : cX9_lowest.data.toList.drop 24 = dktX9_lowest_1 := dk_seg dksX9_lowest_0 24 rfl rfl
theorem dX9_lowest_0 : decode cX9_lowest 0 = .ok (.lload_n 0, 1) := dk_30 (dk_at dksX9_lowest_0 0 rfl rfl)
theorem dX9_lowest_1 : decode cX9_lowest 1 = .ok (.lstore 5, 2) := dk_55 5 (dk_at dksX9_lowest_0 1 rfl rfl)
theorem dX9_lowest_3 : decode cX9_lowest 3 = .ok (.lload_n 2, 1) := dk_32 (dk_at dksX9_lowest_0 3 rfl rfl)
theorem dX9_lowest_4 : decode cX9_lowest 4 = .ok (.lstore 7, 2) := dk_55 7 (dk_at dksX9_lowest_0 4 rfl rfl)
theorem dX9_lowest_6 : decode cX9_lowest 6 = .ok (.lload 7, 2) := dk_22 7 (dk_at dksX9_lowest_0 6 rfl rfl)
theorem dX9_lowest_8 : decode cX9_lowest 8 = .ok (.lconst 0, 1) := dk_9 (dk_at dksX9_lowest_0 8 rfl rfl)
theorem dX9_lowest_9 : decode cX9_lowest 9 = .ok (.lcmp, 1) := dk_148 (dk_at dksX9_lowest_0 9 rfl rfl)
theorem dX9_lowest_10 : decode cX9_lowest 10 = .ok (.ifCond .eq 21, 3) := dk_153 0 21 (dk_at dksX9_lowest_0 10 rfl rfl)
theorem dX9_lowest_13 : decode cX9_lowest 13 = .ok (.lload 5, 2) := dk_22 5 (dk_at dksX9_lowest_0 13 rfl rfl)
theorem dX9_lowest_15 : decode cX9_lowest 15 = .ok (.lload 7, 2) := dk_22 7 (dk_at dksX9_lowest_0 15 rfl rfl)
theorem dX9_lowest_17 : decode cX9_lowest 17 = .ok (.lrem, 1) := dk_113 (dk_at dksX9_lowest_0 17 rfl rfl)
theorem dX9_lowest_18 : decode cX9_lowest 18 = .ok (.lstore 9, 2) := dk_55 9 (dk_at dksX9_lowest_0 18 rfl rfl)
theorem dX9_lowest_20 : decode cX9_lowest 20 = .ok (.lload 7, 2) := dk_22 7 (dk_at dksX9_lowest_0 20 rfl rfl)
theorem dX9_lowest_22 : decode cX9_lowest 22 = .ok (.lstore 5, 2) := dk_55 5 (dk_at dksX9_lowest_0 22 rfl rfl)
theorem dX9_lowest_24 : decode cX9_lowest 24 = .ok (.lload 9, 2) := dk_22 9 (dk_at dksX9_lowest_1 0 rfl rfl)
theorem dX9_lowest_26 : decode cX9_lowest 26 = .ok (.lstore 7, 2) := dk_55 7 (dk_at dksX9_lowest_1 2 rfl rfl)
theorem dX9_lowest_28 : decode cX9_lowest 28 = .ok (.goto (-22), 3) := dk_167 255 234 (dk_at dksX9_lowest_1 4 rfl rfl)
theorem dX9_lowest_31 : decode cX9_lowest 31 = .ok (.iload 4, 2) := dk_21 4 (dk_at dksX9_lowest_1 7 rfl rfl)
theorem dX9_lowest_33 : decode cX9_lowest 33 = .ok (.ifCond .ne 10, 3) := dk_154 0 10 (dk_at dksX9_lowest_1 9 rfl rfl)
theorem dX9_lowest_36 : decode cX9_lowest 36 = .ok (.lload_n 0, 1) := dk_30 (dk_at dksX9_lowest_1 12 rfl rfl)
theorem dX9_lowest_37 : decode cX9_lowest 37 = .ok (.lload 5, 2) := dk_22 5 (dk_at dksX9_lowest_1 13 rfl rfl)
theorem dX9_lowest_39 : decode cX9_lowest 39 = .ok (.ldiv, 1) := dk_109 (dk_at dksX9_lowest_1 15 rfl rfl)
theorem dX9_lowest_40 : decode cX9_lowest 40 = .ok (.goto 7, 3) := dk_167 0 7 (dk_at dksX9_lowest_1 16 rfl rfl)
theorem dX9_lowest_43 : decode cX9_lowest 43 = .ok (.lload_n 2, 1) := dk_32 (dk_at dksX9_lowest_1 19 rfl rfl)
theorem dX9_lowest_44 : decode cX9_lowest 44 = .ok (.lload 5, 2) := dk_22 5 (dk_at dksX9_lowest_1 20 rfl rfl)
theorem dX9_lowest_46 : decode cX9_lowest 46 = .ok (.ldiv, 1) := dk_109 (dk_at dksX9_lowest_1 22 rfl rfl)
theorem dX9_lowest_47 : decode cX9_lowest 47 = .ok (.lreturn, 1) := dk_173 (dk_at dksX9_lowest_1 23 rfl rfl)
abbrev cX9_weight : ByteArray := prog_17_method_70_code
def yX9_weight : MethodName := ⟨RX9, "weight", "(I)J"⟩
def dkwX9_weight_1 : List UInt8 := [167, 0, 6, 20, 1, 91, 173]
abbrev dktX9_weight_1 : List UInt8 := dkwX9_weight_1 ++ []
def dkwX9_weight_0 : List UInt8 := [27, 133, 9, 10, 184, 0, 67, 153, 0, 18, 42, 182, 1, 93, 133, 20, 1, 85, 27, 184, 1, 87]
abbrev dktX9_weight_0 : List UInt8 := dkwX9_weight_0 ++ dktX9_weight_1
theorem dksX9_weight_0 : cX9_weight.data.toList.drop 0 = dktX9_weight_0 := by decide +kernel
theorem dksX9_weight_1 : cX9_weight.data.toList.drop 22 = dktX9_weight_1 := dk_seg dksX9_weight_0 22 rfl rfl
theorem dX9_weight_0 : decode cX9_weight 0 = .ok (.iload_n 1, 1) := dk_27 (dk_at dksX9_weight_0 0 rfl rfl)
theorem dX9_weight_1 : decode cX9_weight 1 = .ok (.i2l, 1) := dk_133 (dk_at dksX9_weight_0 1 rfl rfl)
theorem dX9_weight_2 : decode cX9_weight 2 = .ok (.lconst 0, 1) := dk_9 (dk_at dksX9_weight_0 2 rfl rfl)
theorem dX9_weight_3 : decode cX9_weight 3 = .ok (.lconst 1, 1) := dk_10 (dk_at dksX9_weight_0 3 rfl rfl)
theorem dX9_weight_4 : decode cX9_weight 4 = .ok (.invokestatic 67, 3) := dk_184 0 67 (dk_at dksX9_weight_0 4 rfl rfl)
theorem dX9_weight_7 : decode cX9_weight 7 = .ok (.ifCond .eq 18, 3) := dk_153 0 18 (dk_at dksX9_weight_0 7 rfl rfl)
theorem dX9_weight_10 : decode cX9_weight 10 = .ok (.aload_n 0, 1) := dk_42 (dk_at dksX9_weight_0 10 rfl rfl)
theorem dX9_weight_11 : decode cX9_weight 11 = .ok (.invokevirtual 349, 3) := dk_182 1 93 (dk_at dksX9_weight_0 11 rfl rfl)
theorem dX9_weight_14 : decode cX9_weight 14 = .ok (.i2l, 1) := dk_133 (dk_at dksX9_weight_0 14 rfl rfl)
theorem dX9_weight_15 : decode cX9_weight 15 = .ok (.ldc2_w 341, 3) := dk_20 1 85 (dk_at dksX9_weight_0 15 rfl rfl)
theorem dX9_weight_18 : decode cX9_weight 18 = .ok (.iload_n 1, 1) := dk_27 (dk_at dksX9_weight_0 18 rfl rfl)
theorem dX9_weight_19 : decode cX9_weight 19 = .ok (.invokestatic 343, 3) := dk_184 1 87 (dk_at dksX9_weight_0 19 rfl rfl)
theorem dX9_weight_22 : decode cX9_weight 22 = .ok (.goto 6, 3) := dk_167 0 6 (dk_at dksX9_weight_1 0 rfl rfl)
theorem dX9_weight_25 : decode cX9_weight 25 = .ok (.ldc2_w 347, 3) := dk_20 1 91 (dk_at dksX9_weight_1 3 rfl rfl)
theorem dX9_weight_28 : decode cX9_weight 28 = .ok (.lreturn, 1) := dk_173 (dk_at dksX9_weight_1 6 rfl rfl)
abbrev cX9_year : ByteArray := prog_17_method_75_code
def yX9_year : MethodName := ⟨RX9, "year", "()I"⟩
def dkwX9_year_0 : List UInt8 := [42, 180, 0, 98, 17, 3, 231, 160, 0, 6, 16, 253, 172, 42, 182, 1, 96, 42, 180, 0, 95, 172]
abbrev dktX9_year_0 : List UInt8 := dkwX9_year_0 ++ []
theorem dksX9_year_0 : cX9_year.data.toList.drop 0 = dktX9_year_0 := by decide +kernel
theorem dX9_year_0 : decode cX9_year 0 = .ok (.aload_n 0, 1) := dk_42 (dk_at dksX9_year_0 0 rfl rfl)
theorem dX9_year_1 : decode cX9_year 1 = .ok (.getfield 98, 3) := dk_180 0 98 (dk_at dksX9_year_0 1 rfl rfl)
theorem dX9_year_4 : decode cX9_year 4 = .ok (.sipush 999, 3) := dk_17 3 231 (dk_at dksX9_year_0 4 rfl rfl)
theorem dX9_year_7 : decode cX9_year 7 = .ok (.if_icmp .ne 6, 3) := dk_160 0 6 (dk_at dksX9_year_0 7 rfl rfl)
theorem dX9_year_10 : decode cX9_year 10 = .ok (.bipush (-3), 2) := dk_16 253 (dk_at dksX9_year_0 10 rfl rfl)
theorem dX9_year_12 : decode cX9_year 12 = .ok (.ireturn, 1) := dk_172 (dk_at dksX9_year_0 12 rfl rfl)
theorem dX9_year_13 : decode cX9_year 13 = .ok (.aload_n 0, 1) := dk_42 (dk_at dksX9_year_0 13 rfl rfl)
theorem dX9_year_14 : decode cX9_year 14 = .ok (.invokevirtual 352, 3) := dk_182 1 96 (dk_at dksX9_year_0 14 rfl rfl)
theorem dX9_year_17 : decode cX9_year 17 = .ok (.aload_n 0, 1) := dk_42 (dk_at dksX9_year_0 17 rfl rfl)
theorem dX9_year_18 : decode cX9_year 18 = .ok (.getfield 95, 3) := dk_180 0 95 (dk_at dksX9_year_0 18 rfl rfl)
theorem dX9_year_21 : decode cX9_year 21 = .ok (.ireturn, 1) := dk_172 (dk_at dksX9_year_0 21 rfl rfl)
abbrev cX9_passes : ByteArray := prog_17_method_74_code
def yX9_passes : MethodName := ⟨RX9, "passes", "()V"⟩
def dkwX9_passes_7 : List UInt8 := [181, 0, 95, 42, 89, 180, 0, 98, 4, 96, 181, 0, 98, 177]
abbrev dktX9_passes_7 : List UInt8 := dkwX9_passes_7 ++ []
def dkwX9_passes_6 : List UInt8 := [167, 255, 183, 42, 42, 180, 0, 95, 27, 153, 0, 7, 4, 167, 0, 4, 3, 96, 3, 16, 10, 184, 1, 72]
abbrev dktX9_passes_6 : List UInt8 := dkwX9_passes_6 ++ dktX9_passes_7
def dkwX9_passes_5 : List UInt8 := [42, 180, 0, 26, 8, 28, 104, 4, 96, 46, 4, 96, 3, 17, 3, 231, 184, 1, 72, 79, 132, 2, 1]
abbrev dktX9_passes_5 : List UInt8 := dkwX9_passes_5 ++ dktX9_passes_6
def dkwX9_passes_4 : List UInt8 := [46, 42, 180, 0, 29, 28, 46, 96, 3, 16, 99, 184, 1, 72, 79, 42, 180, 0, 26, 8, 28, 104, 4, 96]
abbrev dktX9_passes_4 : List UInt8 := dkwX9_passes_4 ++ dktX9_passes_5
def dkwX9_passes_3 : List UInt8 := [180, 0, 64, 162, 0, 71, 42, 180, 0, 26, 8, 28, 104, 5, 96, 42, 180, 0, 26, 8, 28, 104, 5, 96]
abbrev dktX9_passes_3 : List UInt8 := dkwX9_passes_3 ++ dktX9_passes_4
def dkwX9_passes_2 : List UInt8 := [153, 0, 11, 42, 28, 182, 0, 113, 167, 0, 4, 3, 79, 132, 2, 1, 167, 255, 222, 3, 61, 28, 42]
abbrev dktX9_passes_2 : List UInt8 := dkwX9_passes_2 ++ dktX9_passes_3
def dkwX9_passes_1 : List UInt8 := [3, 60, 3, 61, 28, 42, 180, 0, 64, 162, 0, 32, 42, 180, 0, 29, 28, 42, 28, 182, 1, 79]
abbrev dktX9_passes_1 : List UInt8 := dkwX9_passes_1 ++ dktX9_passes_2
def dkwX9_passes_0 : List UInt8 := [42, 182, 1, 93, 42, 180, 0, 23, 42, 180, 0, 95, 46, 17, 59, 16, 104, 164, 0, 7, 4, 167, 0, 4]
abbrev dktX9_passes_0 : List UInt8 := dkwX9_passes_0 ++ dktX9_passes_1
theorem dksX9_passes_0 : cX9_passes.data.toList.drop 0 = dktX9_passes_0 := by decide +kernel
theorem dksX9_passes_1 : cX9_passes.data.toList.drop 24 = dktX9_passes_1 := dk_seg dksX9_passes_0 24 rfl rfl
theorem dksX9_passes_2 : cX9_passes.data.toList.drop 46 = dktX9_passes_2 := dk_seg dksX9_passes_1 22 rfl rfl
theorem dksX9_passes_3 : cX9_passes.data.toList.drop 69 = dktX9_passes_3 := dk_seg dksX9_passes_2 23 rfl rfl
theorem dksX9_passes_4 : cX9_passes.data.toList.drop 93 = dktX9_passes_4 := dk_seg dksX9_passes_3 24 rfl rfl
theorem dksX9_passes_5 : cX9_passes.data.toList.drop 117 = dktX9_passes_5 := dk_seg dksX9_passes_4 24 rfl rfl
theorem dksX9_passes_6 : cX9_passes.data.toList.drop 140 = dktX9_passes_6 := dk_seg dksX9_passes_5 23 rfl rfl
theorem dksX9_passes_7 : cX9_passes.data.toList.drop 164 = dktX9_passes_7 := dk_seg dksX9_passes_6 24 rfl rfl
theorem dX9_passes_0 : decode cX9_passes 0 = .ok (.aload_n 0, 1) := dk_42 (dk_at dksX9_passes_0 0 rfl rfl)
theorem dX9_passes_1 : decode cX9_passes 1 = .ok (.invokevirtual 349, 3) := dk_182 1 93 (dk_at dksX9_passes_0 1 rfl rfl)
theorem dX9_passes_4 : decode cX9_passes 4 = .ok (.aload_n 0, 1) := dk_42 (dk_at dksX9_passes_0 4 rfl rfl)
theorem dX9_passes_5 : decode cX9_passes 5 = .ok (.getfield 23, 3) := dk_180 0 23 (dk_at dksX9_passes_0 5 rfl rfl)
theorem dX9_passes_8 : decode cX9_passes 8 = .ok (.aload_n 0, 1) := dk_42 (dk_at dksX9_passes_0 8 rfl rfl)
theorem dX9_passes_9 : decode cX9_passes 9 = .ok (.getfield 95, 3) := dk_180 0 95 (dk_at dksX9_passes_0 9 rfl rfl)
theorem dX9_passes_12 : decode cX9_passes 12 = .ok (.iaload, 1) := dk_46 (dk_at dksX9_passes_0 12 rfl rfl)
theorem dX9_passes_13 : decode cX9_passes 13 = .ok (.sipush 15120, 3) := dk_17 59 16 (dk_at dksX9_passes_0 13 rfl rfl)
theorem dX9_passes_16 : decode cX9_passes 16 = .ok (.imul, 1) := dk_104 (dk_at dksX9_passes_0 16 rfl rfl)
theorem dX9_passes_17 : decode cX9_passes 17 = .ok (.if_icmp .le 7, 3) := dk_164 0 7 (dk_at dksX9_passes_0 17 rfl rfl)
theorem dX9_passes_20 : decode cX9_passes 20 = .ok (.iconst 1, 1) := dk_4 (dk_at dksX9_passes_0 20 rfl rfl)
theorem dX9_passes_21 : decode cX9_passes 21 = .ok (.goto 4, 3) := dk_167 0 4 (dk_at dksX9_passes_0 21 rfl rfl)
theorem dX9_passes_24 : decode cX9_passes 24 = .ok (.iconst 0, 1) := dk_3 (dk_at dksX9_passes_1 0 rfl rfl)
theorem dX9_passes_25 : decode cX9_passes 25 = .ok (.istore_n 1, 1) := dk_60 (dk_at dksX9_passes_1 1 rfl rfl)
theorem dX9_passes_26 : decode cX9_passes 26 = .ok (.iconst 0, 1) := dk_3 (dk_at dksX9_passes_1 2 rfl rfl)
theorem dX9_passes_27 : decode cX9_passes 27 = .ok (.istore_n 2, 1) := dk_61 (dk_at dksX9_passes_1 3 rfl rfl)
theorem dX9_passes_28 : decode cX9_passes 28 = .ok (.iload_n 2, 1) := dk_28 (dk_at dksX9_passes_1 4 rfl rfl)
theorem dX9_passes_29 : decode cX9_passes 29 = .ok (.aload_n 0, 1) := dk_42 (dk_at dksX9_passes_1 5 rfl rfl)
theorem dX9_passes_30 : decode cX9_passes 30 = .ok (.getfield 64, 3) := dk_180 0 64 (dk_at dksX9_passes_1 6 rfl rfl)
theorem dX9_passes_33 : decode cX9_passes 33 = .ok (.if_icmp .ge 32, 3) := dk_162 0 32 (dk_at dksX9_passes_1 9 rfl rfl)
theorem dX9_passes_36 : decode cX9_passes 36 = .ok (.aload_n 0, 1) := dk_42 (dk_at dksX9_passes_1 12 rfl rfl)
theorem dX9_passes_37 : decode cX9_passes 37 = .ok (.getfield 29, 3) := dk_180 0 29 (dk_at dksX9_passes_1 13 rfl rfl)
theorem dX9_passes_40 : decode cX9_passes 40 = .ok (.iload_n 2, 1) := dk_28 (dk_at dksX9_passes_1 16 rfl rfl)
theorem dX9_passes_41 : decode cX9_passes 41 = .ok (.aload_n 0, 1) := dk_42 (dk_at dksX9_passes_1 17 rfl rfl)
theorem dX9_passes_42 : decode cX9_passes 42 = .ok (.iload_n 2, 1) := dk_28 (dk_at dksX9_passes_1 18 rfl rfl)
theorem dX9_passes_43 : decode cX9_passes 43 = .ok (.invokevirtual 335, 3) := dk_182 1 79 (dk_at dksX9_passes_1 19 rfl rfl)
theorem dX9_passes_46 : decode cX9_passes 46 = .ok (.ifCond .eq 11, 3) := dk_153 0 11 (dk_at dksX9_passes_2 0 rfl rfl)
theorem dX9_passes_49 : decode cX9_passes 49 = .ok (.aload_n 0, 1) := dk_42 (dk_at dksX9_passes_2 3 rfl rfl)
theorem dX9_passes_50 : decode cX9_passes 50 = .ok (.iload_n 2, 1) := dk_28 (dk_at dksX9_passes_2 4 rfl rfl)
theorem dX9_passes_51 : decode cX9_passes 51 = .ok (.invokevirtual 113, 3) := dk_182 0 113 (dk_at dksX9_passes_2 5 rfl rfl)
theorem dX9_passes_54 : decode cX9_passes 54 = .ok (.goto 4, 3) := dk_167 0 4 (dk_at dksX9_passes_2 8 rfl rfl)
theorem dX9_passes_57 : decode cX9_passes 57 = .ok (.iconst 0, 1) := dk_3 (dk_at dksX9_passes_2 11 rfl rfl)
theorem dX9_passes_58 : decode cX9_passes 58 = .ok (.iastore, 1) := dk_79 (dk_at dksX9_passes_2 12 rfl rfl)
theorem dX9_passes_59 : decode cX9_passes 59 = .ok (.iinc 2 1, 3) := dk_132 2 1 (dk_at dksX9_passes_2 13 rfl rfl)
theorem dX9_passes_62 : decode cX9_passes 62 = .ok (.goto (-34), 3) := dk_167 255 222 (dk_at dksX9_passes_2 16 rfl rfl)
theorem dX9_passes_65 : decode cX9_passes 65 = .ok (.iconst 0, 1) := dk_3 (dk_at dksX9_passes_2 19 rfl rfl)
theorem dX9_passes_66 : decode cX9_passes 66 = .ok (.istore_n 2, 1) := dk_61 (dk_at dksX9_passes_2 20 rfl rfl)
theorem dX9_passes_67 : decode cX9_passes 67 = .ok (.iload_n 2, 1) := dk_28 (dk_at dksX9_passes_2 21 rfl rfl)
theorem dX9_passes_68 : decode cX9_passes 68 = .ok (.aload_n 0, 1) := dk_42 (dk_at dksX9_passes_2 22 rfl rfl)
theorem dX9_passes_69 : decode cX9_passes 69 = .ok (.getfield 64, 3) := dk_180 0 64 (dk_at dksX9_passes_3 0 rfl rfl)
theorem dX9_passes_72 : decode cX9_passes 72 = .ok (.if_icmp .ge 71, 3) := dk_162 0 71 (dk_at dksX9_passes_3 3 rfl rfl)
theorem dX9_passes_75 : decode cX9_passes 75 = .ok (.aload_n 0, 1) := dk_42 (dk_at dksX9_passes_3 6 rfl rfl)
theorem dX9_passes_76 : decode cX9_passes 76 = .ok (.getfield 26, 3) := dk_180 0 26 (dk_at dksX9_passes_3 7 rfl rfl)
theorem dX9_passes_79 : decode cX9_passes 79 = .ok (.iconst 5, 1) := dk_8 (dk_at dksX9_passes_3 10 rfl rfl)
theorem dX9_passes_80 : decode cX9_passes 80 = .ok (.iload_n 2, 1) := dk_28 (dk_at dksX9_passes_3 11 rfl rfl)
theorem dX9_passes_81 : decode cX9_passes 81 = .ok (.imul, 1) := dk_104 (dk_at dksX9_passes_3 12 rfl rfl)
theorem dX9_passes_82 : decode cX9_passes 82 = .ok (.iconst 2, 1) := dk_5 (dk_at dksX9_passes_3 13 rfl rfl)
theorem dX9_passes_83 : decode cX9_passes 83 = .ok (.iadd, 1) := dk_96 (dk_at dksX9_passes_3 14 rfl rfl)
theorem dX9_passes_84 : decode cX9_passes 84 = .ok (.aload_n 0, 1) := dk_42 (dk_at dksX9_passes_3 15 rfl rfl)
theorem dX9_passes_85 : decode cX9_passes 85 = .ok (.getfield 26, 3) := dk_180 0 26 (dk_at dksX9_passes_3 16 rfl rfl)
theorem dX9_passes_88 : decode cX9_passes 88 = .ok (.iconst 5, 1) := dk_8 (dk_at dksX9_passes_3 19 rfl rfl)
theorem dX9_passes_89 : decode cX9_passes 89 = .ok (.iload_n 2, 1) := dk_28 (dk_at dksX9_passes_3 20 rfl rfl)
theorem dX9_passes_90 : decode cX9_passes 90 = .ok (.imul, 1) := dk_104 (dk_at dksX9_passes_3 21 rfl rfl)
theorem dX9_passes_91 : decode cX9_passes 91 = .ok (.iconst 2, 1) := dk_5 (dk_at dksX9_passes_3 22 rfl rfl)
theorem dX9_passes_92 : decode cX9_passes 92 = .ok (.iadd, 1) := dk_96 (dk_at dksX9_passes_3 23 rfl rfl)
theorem dX9_passes_93 : decode cX9_passes 93 = .ok (.iaload, 1) := dk_46 (dk_at dksX9_passes_4 0 rfl rfl)
theorem dX9_passes_94 : decode cX9_passes 94 = .ok (.aload_n 0, 1) := dk_42 (dk_at dksX9_passes_4 1 rfl rfl)
theorem dX9_passes_95 : decode cX9_passes 95 = .ok (.getfield 29, 3) := dk_180 0 29 (dk_at dksX9_passes_4 2 rfl rfl)
theorem dX9_passes_98 : decode cX9_passes 98 = .ok (.iload_n 2, 1) := dk_28 (dk_at dksX9_passes_4 5 rfl rfl)
theorem dX9_passes_99 : decode cX9_passes 99 = .ok (.iaload, 1) := dk_46 (dk_at dksX9_passes_4 6 rfl rfl)
theorem dX9_passes_100 : decode cX9_passes 100 = .ok (.iadd, 1) := dk_96 (dk_at dksX9_passes_4 7 rfl rfl)
theorem dX9_passes_101 : decode cX9_passes 101 = .ok (.iconst 0, 1) := dk_3 (dk_at dksX9_passes_4 8 rfl rfl)
theorem dX9_passes_102 : decode cX9_passes 102 = .ok (.bipush 99, 2) := dk_16 99 (dk_at dksX9_passes_4 9 rfl rfl)
theorem dX9_passes_104 : decode cX9_passes 104 = .ok (.invokestatic 328, 3) := dk_184 1 72 (dk_at dksX9_passes_4 11 rfl rfl)
theorem dX9_passes_107 : decode cX9_passes 107 = .ok (.iastore, 1) := dk_79 (dk_at dksX9_passes_4 14 rfl rfl)
theorem dX9_passes_108 : decode cX9_passes 108 = .ok (.aload_n 0, 1) := dk_42 (dk_at dksX9_passes_4 15 rfl rfl)
theorem dX9_passes_109 : decode cX9_passes 109 = .ok (.getfield 26, 3) := dk_180 0 26 (dk_at dksX9_passes_4 16 rfl rfl)
theorem dX9_passes_112 : decode cX9_passes 112 = .ok (.iconst 5, 1) := dk_8 (dk_at dksX9_passes_4 19 rfl rfl)
theorem dX9_passes_113 : decode cX9_passes 113 = .ok (.iload_n 2, 1) := dk_28 (dk_at dksX9_passes_4 20 rfl rfl)
theorem dX9_passes_114 : decode cX9_passes 114 = .ok (.imul, 1) := dk_104 (dk_at dksX9_passes_4 21 rfl rfl)
theorem dX9_passes_115 : decode cX9_passes 115 = .ok (.iconst 1, 1) := dk_4 (dk_at dksX9_passes_4 22 rfl rfl)
theorem dX9_passes_116 : decode cX9_passes 116 = .ok (.iadd, 1) := dk_96 (dk_at dksX9_passes_4 23 rfl rfl)
theorem dX9_passes_117 : decode cX9_passes 117 = .ok (.aload_n 0, 1) := dk_42 (dk_at dksX9_passes_5 0 rfl rfl)
theorem dX9_passes_118 : decode cX9_passes 118 = .ok (.getfield 26, 3) := dk_180 0 26 (dk_at dksX9_passes_5 1 rfl rfl)
theorem dX9_passes_121 : decode cX9_passes 121 = .ok (.iconst 5, 1) := dk_8 (dk_at dksX9_passes_5 4 rfl rfl)
theorem dX9_passes_122 : decode cX9_passes 122 = .ok (.iload_n 2, 1) := dk_28 (dk_at dksX9_passes_5 5 rfl rfl)
theorem dX9_passes_123 : decode cX9_passes 123 = .ok (.imul, 1) := dk_104 (dk_at dksX9_passes_5 6 rfl rfl)
theorem dX9_passes_124 : decode cX9_passes 124 = .ok (.iconst 1, 1) := dk_4 (dk_at dksX9_passes_5 7 rfl rfl)
theorem dX9_passes_125 : decode cX9_passes 125 = .ok (.iadd, 1) := dk_96 (dk_at dksX9_passes_5 8 rfl rfl)
theorem dX9_passes_126 : decode cX9_passes 126 = .ok (.iaload, 1) := dk_46 (dk_at dksX9_passes_5 9 rfl rfl)
theorem dX9_passes_127 : decode cX9_passes 127 = .ok (.iconst 1, 1) := dk_4 (dk_at dksX9_passes_5 10 rfl rfl)
theorem dX9_passes_128 : decode cX9_passes 128 = .ok (.iadd, 1) := dk_96 (dk_at dksX9_passes_5 11 rfl rfl)
theorem dX9_passes_129 : decode cX9_passes 129 = .ok (.iconst 0, 1) := dk_3 (dk_at dksX9_passes_5 12 rfl rfl)
theorem dX9_passes_130 : decode cX9_passes 130 = .ok (.sipush 999, 3) := dk_17 3 231 (dk_at dksX9_passes_5 13 rfl rfl)
theorem dX9_passes_133 : decode cX9_passes 133 = .ok (.invokestatic 328, 3) := dk_184 1 72 (dk_at dksX9_passes_5 16 rfl rfl)
theorem dX9_passes_136 : decode cX9_passes 136 = .ok (.iastore, 1) := dk_79 (dk_at dksX9_passes_5 19 rfl rfl)
theorem dX9_passes_137 : decode cX9_passes 137 = .ok (.iinc 2 1, 3) := dk_132 2 1 (dk_at dksX9_passes_5 20 rfl rfl)
theorem dX9_passes_140 : decode cX9_passes 140 = .ok (.goto (-73), 3) := dk_167 255 183 (dk_at dksX9_passes_6 0 rfl rfl)
theorem dX9_passes_143 : decode cX9_passes 143 = .ok (.aload_n 0, 1) := dk_42 (dk_at dksX9_passes_6 3 rfl rfl)
theorem dX9_passes_144 : decode cX9_passes 144 = .ok (.aload_n 0, 1) := dk_42 (dk_at dksX9_passes_6 4 rfl rfl)
theorem dX9_passes_145 : decode cX9_passes 145 = .ok (.getfield 95, 3) := dk_180 0 95 (dk_at dksX9_passes_6 5 rfl rfl)
theorem dX9_passes_148 : decode cX9_passes 148 = .ok (.iload_n 1, 1) := dk_27 (dk_at dksX9_passes_6 8 rfl rfl)
theorem dX9_passes_149 : decode cX9_passes 149 = .ok (.ifCond .eq 7, 3) := dk_153 0 7 (dk_at dksX9_passes_6 9 rfl rfl)
theorem dX9_passes_152 : decode cX9_passes 152 = .ok (.iconst 1, 1) := dk_4 (dk_at dksX9_passes_6 12 rfl rfl)
theorem dX9_passes_153 : decode cX9_passes 153 = .ok (.goto 4, 3) := dk_167 0 4 (dk_at dksX9_passes_6 13 rfl rfl)
theorem dX9_passes_156 : decode cX9_passes 156 = .ok (.iconst 0, 1) := dk_3 (dk_at dksX9_passes_6 16 rfl rfl)
theorem dX9_passes_157 : decode cX9_passes 157 = .ok (.iadd, 1) := dk_96 (dk_at dksX9_passes_6 17 rfl rfl)
theorem dX9_passes_158 : decode cX9_passes 158 = .ok (.iconst 0, 1) := dk_3 (dk_at dksX9_passes_6 18 rfl rfl)
theorem dX9_passes_159 : decode cX9_passes 159 = .ok (.bipush 10, 2) := dk_16 10 (dk_at dksX9_passes_6 19 rfl rfl)
theorem dX9_passes_161 : decode cX9_passes 161 = .ok (.invokestatic 328, 3) := dk_184 1 72 (dk_at dksX9_passes_6 21 rfl rfl)
theorem dX9_passes_164 : decode cX9_passes 164 = .ok (.putfield 95, 3) := dk_181 0 95 (dk_at dksX9_passes_7 0 rfl rfl)
theorem dX9_passes_167 : decode cX9_passes 167 = .ok (.aload_n 0, 1) := dk_42 (dk_at dksX9_passes_7 3 rfl rfl)
theorem dX9_passes_168 : decode cX9_passes 168 = .ok (.dup, 1) := dk_89 (dk_at dksX9_passes_7 4 rfl rfl)
theorem dX9_passes_169 : decode cX9_passes 169 = .ok (.getfield 98, 3) := dk_180 0 98 (dk_at dksX9_passes_7 5 rfl rfl)
theorem dX9_passes_172 : decode cX9_passes 172 = .ok (.iconst 1, 1) := dk_4 (dk_at dksX9_passes_7 8 rfl rfl)
theorem dX9_passes_173 : decode cX9_passes 173 = .ok (.iadd, 1) := dk_96 (dk_at dksX9_passes_7 9 rfl rfl)
theorem dX9_passes_174 : decode cX9_passes 174 = .ok (.putfield 98, 3) := dk_181 0 98 (dk_at dksX9_passes_7 10 rfl rfl)
theorem dX9_passes_177 : decode cX9_passes 177 = .ok (.return_, 1) := dk_177 (dk_at dksX9_passes_7 13 rfl rfl)
abbrev cX9_lift : ByteArray := prog_17_method_76_code
def yX9_lift : MethodName := ⟨RX9, "lift", "(I)I"⟩
def dkwX9_lift_1 : List UInt8 := [180, 0, 95, 61, 42, 3, 181, 0, 95, 28, 172]
abbrev dktX9_lift_1 : List UInt8 := dkwX9_lift_1 ++ []
def dkwX9_lift_0 : List UInt8 := [42, 27, 182, 0, 73, 154, 0, 6, 16, 254, 172, 42, 27, 182, 0, 116, 154, 0, 6, 16, 253, 172, 42]
abbrev dktX9_lift_0 : List UInt8 := dkwX9_lift_0 ++ dktX9_lift_1
theorem dksX9_lift_0 : cX9_lift.data.toList.drop 0 = dktX9_lift_0 := by decide +kernel
theorem dksX9_lift_1 : cX9_lift.data.toList.drop 23 = dktX9_lift_1 := dk_seg dksX9_lift_0 23 rfl rfl
theorem dX9_lift_0 : decode cX9_lift 0 = .ok (.aload_n 0, 1) := dk_42 (dk_at dksX9_lift_0 0 rfl rfl)
theorem dX9_lift_1 : decode cX9_lift 1 = .ok (.iload_n 1, 1) := dk_27 (dk_at dksX9_lift_0 1 rfl rfl)
theorem dX9_lift_2 : decode cX9_lift 2 = .ok (.invokevirtual 73, 3) := dk_182 0 73 (dk_at dksX9_lift_0 2 rfl rfl)
theorem dX9_lift_5 : decode cX9_lift 5 = .ok (.ifCond .ne 6, 3) := dk_154 0 6 (dk_at dksX9_lift_0 5 rfl rfl)
theorem dX9_lift_8 : decode cX9_lift 8 = .ok (.bipush (-2), 2) := dk_16 254 (dk_at dksX9_lift_0 8 rfl rfl)
theorem dX9_lift_10 : decode cX9_lift 10 = .ok (.ireturn, 1) := dk_172 (dk_at dksX9_lift_0 10 rfl rfl)
theorem dX9_lift_11 : decode cX9_lift 11 = .ok (.aload_n 0, 1) := dk_42 (dk_at dksX9_lift_0 11 rfl rfl)
theorem dX9_lift_12 : decode cX9_lift 12 = .ok (.iload_n 1, 1) := dk_27 (dk_at dksX9_lift_0 12 rfl rfl)
theorem dX9_lift_13 : decode cX9_lift 13 = .ok (.invokevirtual 116, 3) := dk_182 0 116 (dk_at dksX9_lift_0 13 rfl rfl)
theorem dX9_lift_16 : decode cX9_lift 16 = .ok (.ifCond .ne 6, 3) := dk_154 0 6 (dk_at dksX9_lift_0 16 rfl rfl)
theorem dX9_lift_19 : decode cX9_lift 19 = .ok (.bipush (-3), 2) := dk_16 253 (dk_at dksX9_lift_0 19 rfl rfl)
theorem dX9_lift_21 : decode cX9_lift 21 = .ok (.ireturn, 1) := dk_172 (dk_at dksX9_lift_0 21 rfl rfl)
theorem dX9_lift_22 : decode cX9_lift 22 = .ok (.aload_n 0, 1) := dk_42 (dk_at dksX9_lift_0 22 rfl rfl)
theorem dX9_lift_23 : decode cX9_lift 23 = .ok (.getfield 95, 3) := dk_180 0 95 (dk_at dksX9_lift_1 0 rfl rfl)
theorem dX9_lift_26 : decode cX9_lift 26 = .ok (.istore_n 2, 1) := dk_61 (dk_at dksX9_lift_1 3 rfl rfl)
theorem dX9_lift_27 : decode cX9_lift 27 = .ok (.aload_n 0, 1) := dk_42 (dk_at dksX9_lift_1 4 rfl rfl)
theorem dX9_lift_28 : decode cX9_lift 28 = .ok (.iconst 0, 1) := dk_3 (dk_at dksX9_lift_1 5 rfl rfl)
theorem dX9_lift_29 : decode cX9_lift 29 = .ok (.putfield 95, 3) := dk_181 0 95 (dk_at dksX9_lift_1 6 rfl rfl)
theorem dX9_lift_32 : decode cX9_lift 32 = .ok (.iload_n 2, 1) := dk_28 (dk_at dksX9_lift_1 9 rfl rfl)
theorem dX9_lift_33 : decode cX9_lift 33 = .ok (.ireturn, 1) := dk_172 (dk_at dksX9_lift_1 10 rfl rfl)
abbrev cX9_run : ByteArray := prog_17_method_81_code
def yX9_run : MethodName := ⟨RX9, "run", "(III)I"⟩
def dkwX9_run_3 : List UInt8 := [172]
abbrev dktX9_run_3 : List UInt8 := dkwX9_run_3 ++ []
def dkwX9_run_2 : List UInt8 := [180, 0, 95, 167, 0, 13, 42, 180, 0, 26, 8, 27, 104, 5, 96, 46, 54, 4, 42, 182, 1, 106, 21, 4]
abbrev dktX9_run_2 : List UInt8 := dkwX9_run_2 ++ dktX9_run_3
def dkwX9_run_1 : List UInt8 := [184, 0, 67, 154, 0, 6, 16, 254, 172, 42, 182, 1, 99, 42, 28, 182, 1, 102, 29, 154, 0, 10, 42]
abbrev dktX9_run_1 : List UInt8 := dkwX9_run_1 ++ dktX9_run_2
def dkwX9_run_0 : List UInt8 := [42, 27, 182, 0, 73, 153, 0, 25, 28, 133, 9, 20, 0, 217, 184, 0, 67, 153, 0, 13, 29, 133, 9, 10]
abbrev dktX9_run_0 : List UInt8 := dkwX9_run_0 ++ dktX9_run_1
theorem dksX9_run_0 : cX9_run.data.toList.drop 0 = dktX9_run_0 := by decide +kernel
theorem dksX9_run_1 : cX9_run.data.toList.drop 24 = dktX9_run_1 := dk_seg dksX9_run_0 24 rfl rfl
theorem dksX9_run_2 : cX9_run.data.toList.drop 47 = dktX9_run_2 := dk_seg dksX9_run_1 23 rfl rfl
theorem dksX9_run_3 : cX9_run.data.toList.drop 71 = dktX9_run_3 := dk_seg dksX9_run_2 24 rfl rfl
theorem dX9_run_0 : decode cX9_run 0 = .ok (.aload_n 0, 1) := dk_42 (dk_at dksX9_run_0 0 rfl rfl)
theorem dX9_run_1 : decode cX9_run 1 = .ok (.iload_n 1, 1) := dk_27 (dk_at dksX9_run_0 1 rfl rfl)
theorem dX9_run_2 : decode cX9_run 2 = .ok (.invokevirtual 73, 3) := dk_182 0 73 (dk_at dksX9_run_0 2 rfl rfl)
theorem dX9_run_5 : decode cX9_run 5 = .ok (.ifCond .eq 25, 3) := dk_153 0 25 (dk_at dksX9_run_0 5 rfl rfl)
theorem dX9_run_8 : decode cX9_run 8 = .ok (.iload_n 2, 1) := dk_28 (dk_at dksX9_run_0 8 rfl rfl)
theorem dX9_run_9 : decode cX9_run 9 = .ok (.i2l, 1) := dk_133 (dk_at dksX9_run_0 9 rfl rfl)
theorem dX9_run_10 : decode cX9_run 10 = .ok (.lconst 0, 1) := dk_9 (dk_at dksX9_run_0 10 rfl rfl)
theorem dX9_run_11 : decode cX9_run 11 = .ok (.ldc2_w 217, 3) := dk_20 0 217 (dk_at dksX9_run_0 11 rfl rfl)
theorem dX9_run_14 : decode cX9_run 14 = .ok (.invokestatic 67, 3) := dk_184 0 67 (dk_at dksX9_run_0 14 rfl rfl)
theorem dX9_run_17 : decode cX9_run 17 = .ok (.ifCond .eq 13, 3) := dk_153 0 13 (dk_at dksX9_run_0 17 rfl rfl)
theorem dX9_run_20 : decode cX9_run 20 = .ok (.iload_n 3, 1) := dk_29 (dk_at dksX9_run_0 20 rfl rfl)
theorem dX9_run_21 : decode cX9_run 21 = .ok (.i2l, 1) := dk_133 (dk_at dksX9_run_0 21 rfl rfl)
theorem dX9_run_22 : decode cX9_run 22 = .ok (.lconst 0, 1) := dk_9 (dk_at dksX9_run_0 22 rfl rfl)
theorem dX9_run_23 : decode cX9_run 23 = .ok (.lconst 1, 1) := dk_10 (dk_at dksX9_run_0 23 rfl rfl)
theorem dX9_run_24 : decode cX9_run 24 = .ok (.invokestatic 67, 3) := dk_184 0 67 (dk_at dksX9_run_1 0 rfl rfl)
theorem dX9_run_27 : decode cX9_run 27 = .ok (.ifCond .ne 6, 3) := dk_154 0 6 (dk_at dksX9_run_1 3 rfl rfl)
theorem dX9_run_30 : decode cX9_run 30 = .ok (.bipush (-2), 2) := dk_16 254 (dk_at dksX9_run_1 6 rfl rfl)
theorem dX9_run_32 : decode cX9_run 32 = .ok (.ireturn, 1) := dk_172 (dk_at dksX9_run_1 8 rfl rfl)
theorem dX9_run_33 : decode cX9_run 33 = .ok (.aload_n 0, 1) := dk_42 (dk_at dksX9_run_1 9 rfl rfl)
theorem dX9_run_34 : decode cX9_run 34 = .ok (.invokevirtual 355, 3) := dk_182 1 99 (dk_at dksX9_run_1 10 rfl rfl)
theorem dX9_run_37 : decode cX9_run 37 = .ok (.aload_n 0, 1) := dk_42 (dk_at dksX9_run_1 13 rfl rfl)
theorem dX9_run_38 : decode cX9_run 38 = .ok (.iload_n 2, 1) := dk_28 (dk_at dksX9_run_1 14 rfl rfl)
theorem dX9_run_39 : decode cX9_run 39 = .ok (.invokevirtual 358, 3) := dk_182 1 102 (dk_at dksX9_run_1 15 rfl rfl)
theorem dX9_run_42 : decode cX9_run 42 = .ok (.iload_n 3, 1) := dk_29 (dk_at dksX9_run_1 18 rfl rfl)
theorem dX9_run_43 : decode cX9_run 43 = .ok (.ifCond .ne 10, 3) := dk_154 0 10 (dk_at dksX9_run_1 19 rfl rfl)
theorem dX9_run_46 : decode cX9_run 46 = .ok (.aload_n 0, 1) := dk_42 (dk_at dksX9_run_1 22 rfl rfl)
theorem dX9_run_47 : decode cX9_run 47 = .ok (.getfield 95, 3) := dk_180 0 95 (dk_at dksX9_run_2 0 rfl rfl)
theorem dX9_run_50 : decode cX9_run 50 = .ok (.goto 13, 3) := dk_167 0 13 (dk_at dksX9_run_2 3 rfl rfl)
theorem dX9_run_53 : decode cX9_run 53 = .ok (.aload_n 0, 1) := dk_42 (dk_at dksX9_run_2 6 rfl rfl)
theorem dX9_run_54 : decode cX9_run 54 = .ok (.getfield 26, 3) := dk_180 0 26 (dk_at dksX9_run_2 7 rfl rfl)
theorem dX9_run_57 : decode cX9_run 57 = .ok (.iconst 5, 1) := dk_8 (dk_at dksX9_run_2 10 rfl rfl)
theorem dX9_run_58 : decode cX9_run 58 = .ok (.iload_n 1, 1) := dk_27 (dk_at dksX9_run_2 11 rfl rfl)
theorem dX9_run_59 : decode cX9_run 59 = .ok (.imul, 1) := dk_104 (dk_at dksX9_run_2 12 rfl rfl)
theorem dX9_run_60 : decode cX9_run 60 = .ok (.iconst 2, 1) := dk_5 (dk_at dksX9_run_2 13 rfl rfl)
theorem dX9_run_61 : decode cX9_run 61 = .ok (.iadd, 1) := dk_96 (dk_at dksX9_run_2 14 rfl rfl)
theorem dX9_run_62 : decode cX9_run 62 = .ok (.iaload, 1) := dk_46 (dk_at dksX9_run_2 15 rfl rfl)
theorem dX9_run_63 : decode cX9_run 63 = .ok (.istore 4, 2) := dk_54 4 (dk_at dksX9_run_2 16 rfl rfl)
theorem dX9_run_65 : decode cX9_run 65 = .ok (.aload_n 0, 1) := dk_42 (dk_at dksX9_run_2 18 rfl rfl)
theorem dX9_run_66 : decode cX9_run 66 = .ok (.invokevirtual 362, 3) := dk_182 1 106 (dk_at dksX9_run_2 19 rfl rfl)
theorem dX9_run_69 : decode cX9_run 69 = .ok (.iload 4, 2) := dk_21 4 (dk_at dksX9_run_2 22 rfl rfl)
theorem dX9_run_71 : decode cX9_run 71 = .ok (.ireturn, 1) := dk_172 (dk_at dksX9_run_3 0 rfl rfl)
abbrev cX9_laysAside : ByteArray := prog_17_method_77_code
def yX9_laysAside : MethodName := ⟨RX9, "laysAside", "()V"⟩
def dkwX9_laysAside_2 : List UInt8 := [79, 177]
abbrev dktX9_laysAside_2 : List UInt8 := dkwX9_laysAside_2 ++ []
def dkwX9_laysAside_1 : List UInt8 := [167, 255, 235, 42, 180, 0, 32, 16, 25, 42, 180, 0, 95, 79, 42, 180, 0, 32, 16, 26, 42, 180, 0, 98]
abbrev dktX9_laysAside_1 : List UInt8 := dkwX9_laysAside_1 ++ dktX9_laysAside_2
def dkwX9_laysAside_0 : List UInt8 := [3, 60, 27, 16, 25, 162, 0, 21, 42, 180, 0, 32, 27, 42, 180, 0, 26, 27, 46, 79, 132, 1, 1]
abbrev dktX9_laysAside_0 : List UInt8 := dkwX9_laysAside_0 ++ dktX9_laysAside_1
theorem dksX9_laysAside_0 : cX9_laysAside.data.toList.drop 0 = dktX9_laysAside_0 := by decide +kernel
theorem dksX9_laysAside_1 : cX9_laysAside.data.toList.drop 23 = dktX9_laysAside_1 := dk_seg dksX9_laysAside_0 23 rfl rfl
theorem dksX9_laysAside_2 : cX9_laysAside.data.toList.drop 47 = dktX9_laysAside_2 := dk_seg dksX9_laysAside_1 24 rfl rfl
theorem dX9_laysAside_0 : decode cX9_laysAside 0 = .ok (.iconst 0, 1) := dk_3 (dk_at dksX9_laysAside_0 0 rfl rfl)
theorem dX9_laysAside_1 : decode cX9_laysAside 1 = .ok (.istore_n 1, 1) := dk_60 (dk_at dksX9_laysAside_0 1 rfl rfl)
theorem dX9_laysAside_2 : decode cX9_laysAside 2 = .ok (.iload_n 1, 1) := dk_27 (dk_at dksX9_laysAside_0 2 rfl rfl)
theorem dX9_laysAside_3 : decode cX9_laysAside 3 = .ok (.bipush 25, 2) := dk_16 25 (dk_at dksX9_laysAside_0 3 rfl rfl)
theorem dX9_laysAside_5 : decode cX9_laysAside 5 = .ok (.if_icmp .ge 21, 3) := dk_162 0 21 (dk_at dksX9_laysAside_0 5 rfl rfl)
theorem dX9_laysAside_8 : decode cX9_laysAside 8 = .ok (.aload_n 0, 1) := dk_42 (dk_at dksX9_laysAside_0 8 rfl rfl)
theorem dX9_laysAside_9 : decode cX9_laysAside 9 = .ok (.getfield 32, 3) := dk_180 0 32 (dk_at dksX9_laysAside_0 9 rfl rfl)
theorem dX9_laysAside_12 : decode cX9_laysAside 12 = .ok (.iload_n 1, 1) := dk_27 (dk_at dksX9_laysAside_0 12 rfl rfl)
theorem dX9_laysAside_13 : decode cX9_laysAside 13 = .ok (.aload_n 0, 1) := dk_42 (dk_at dksX9_laysAside_0 13 rfl rfl)
theorem dX9_laysAside_14 : decode cX9_laysAside 14 = .ok (.getfield 26, 3) := dk_180 0 26 (dk_at dksX9_laysAside_0 14 rfl rfl)
theorem dX9_laysAside_17 : decode cX9_laysAside 17 = .ok (.iload_n 1, 1) := dk_27 (dk_at dksX9_laysAside_0 17 rfl rfl)
theorem dX9_laysAside_18 : decode cX9_laysAside 18 = .ok (.iaload, 1) := dk_46 (dk_at dksX9_laysAside_0 18 rfl rfl)
theorem dX9_laysAside_19 : decode cX9_laysAside 19 = .ok (.iastore, 1) := dk_79 (dk_at dksX9_laysAside_0 19 rfl rfl)
theorem dX9_laysAside_20 : decode cX9_laysAside 20 = .ok (.iinc 1 1, 3) := dk_132 1 1 (dk_at dksX9_laysAside_0 20 rfl rfl)
theorem dX9_laysAside_23 : decode cX9_laysAside 23 = .ok (.goto (-21), 3) := dk_167 255 235 (dk_at dksX9_laysAside_1 0 rfl rfl)
theorem dX9_laysAside_26 : decode cX9_laysAside 26 = .ok (.aload_n 0, 1) := dk_42 (dk_at dksX9_laysAside_1 3 rfl rfl)
theorem dX9_laysAside_27 : decode cX9_laysAside 27 = .ok (.getfield 32, 3) := dk_180 0 32 (dk_at dksX9_laysAside_1 4 rfl rfl)
theorem dX9_laysAside_30 : decode cX9_laysAside 30 = .ok (.bipush 25, 2) := dk_16 25 (dk_at dksX9_laysAside_1 7 rfl rfl)
theorem dX9_laysAside_32 : decode cX9_laysAside 32 = .ok (.aload_n 0, 1) := dk_42 (dk_at dksX9_laysAside_1 9 rfl rfl)
theorem dX9_laysAside_33 : decode cX9_laysAside 33 = .ok (.getfield 95, 3) := dk_180 0 95 (dk_at dksX9_laysAside_1 10 rfl rfl)
theorem dX9_laysAside_36 : decode cX9_laysAside 36 = .ok (.iastore, 1) := dk_79 (dk_at dksX9_laysAside_1 13 rfl rfl)
theorem dX9_laysAside_37 : decode cX9_laysAside 37 = .ok (.aload_n 0, 1) := dk_42 (dk_at dksX9_laysAside_1 14 rfl rfl)
theorem dX9_laysAside_38 : decode cX9_laysAside 38 = .ok (.getfield 32, 3) := dk_180 0 32 (dk_at dksX9_laysAside_1 15 rfl rfl)
theorem dX9_laysAside_41 : decode cX9_laysAside 41 = .ok (.bipush 26, 2) := dk_16 26 (dk_at dksX9_laysAside_1 18 rfl rfl)
theorem dX9_laysAside_43 : decode cX9_laysAside 43 = .ok (.aload_n 0, 1) := dk_42 (dk_at dksX9_laysAside_1 20 rfl rfl)
theorem dX9_laysAside_44 : decode cX9_laysAside 44 = .ok (.getfield 98, 3) := dk_180 0 98 (dk_at dksX9_laysAside_1 21 rfl rfl)
theorem dX9_laysAside_47 : decode cX9_laysAside 47 = .ok (.iastore, 1) := dk_79 (dk_at dksX9_laysAside_2 0 rfl rfl)
theorem dX9_laysAside_48 : decode cX9_laysAside 48 = .ok (.return_, 1) := dk_177 (dk_at dksX9_laysAside_2 1 rfl rfl)
abbrev cX9_go : ByteArray := prog_17_method_79_code
def yX9_go : MethodName := ⟨RX9, "go", "(I)V"⟩
def dkwX9_go_0 : List UInt8 := [3, 61, 28, 27, 162, 0, 13, 42, 182, 1, 96, 132, 2, 1, 167, 255, 244, 177]
abbrev dktX9_go_0 : List UInt8 := dkwX9_go_0 ++ []
theorem dksX9_go_0 : cX9_go.data.toList.drop 0 = dktX9_go_0 := by decide +kernel
theorem dX9_go_0 : decode cX9_go 0 = .ok (.iconst 0, 1) := dk_3 (dk_at dksX9_go_0 0 rfl rfl)
theorem dX9_go_1 : decode cX9_go 1 = .ok (.istore_n 2, 1) := dk_61 (dk_at dksX9_go_0 1 rfl rfl)
theorem dX9_go_2 : decode cX9_go 2 = .ok (.iload_n 2, 1) := dk_28 (dk_at dksX9_go_0 2 rfl rfl)
theorem dX9_go_3 : decode cX9_go 3 = .ok (.iload_n 1, 1) := dk_27 (dk_at dksX9_go_0 3 rfl rfl)
theorem dX9_go_4 : decode cX9_go 4 = .ok (.if_icmp .ge 13, 3) := dk_162 0 13 (dk_at dksX9_go_0 4 rfl rfl)
theorem dX9_go_7 : decode cX9_go 7 = .ok (.aload_n 0, 1) := dk_42 (dk_at dksX9_go_0 7 rfl rfl)
theorem dX9_go_8 : decode cX9_go 8 = .ok (.invokevirtual 352, 3) := dk_182 1 96 (dk_at dksX9_go_0 8 rfl rfl)
theorem dX9_go_11 : decode cX9_go 11 = .ok (.iinc 2 1, 3) := dk_132 2 1 (dk_at dksX9_go_0 11 rfl rfl)
theorem dX9_go_14 : decode cX9_go 14 = .ok (.goto (-12), 3) := dk_167 255 244 (dk_at dksX9_go_0 14 rfl rfl)
theorem dX9_go_17 : decode cX9_go 17 = .ok (.return_, 1) := dk_177 (dk_at dksX9_go_0 17 rfl rfl)
abbrev cX9_laysBack : ByteArray := prog_17_method_78_code
def yX9_laysBack : MethodName := ⟨RX9, "laysBack", "()V"⟩
def dkwX9_laysBack_2 : List UInt8 := [181, 0, 98, 177]
abbrev dktX9_laysBack_2 : List UInt8 := dkwX9_laysBack_2 ++ []
def dkwX9_laysBack_1 : List UInt8 := [167, 255, 235, 42, 42, 180, 0, 32, 16, 25, 46, 181, 0, 95, 42, 42, 180, 0, 32, 16, 26, 46]
abbrev dktX9_laysBack_1 : List UInt8 := dkwX9_laysBack_1 ++ dktX9_laysBack_2
def dkwX9_laysBack_0 : List UInt8 := [3, 60, 27, 16, 25, 162, 0, 21, 42, 180, 0, 26, 27, 42, 180, 0, 32, 27, 46, 79, 132, 1, 1]
abbrev dktX9_laysBack_0 : List UInt8 := dkwX9_laysBack_0 ++ dktX9_laysBack_1
theorem dksX9_laysBack_0 : cX9_laysBack.data.toList.drop 0 = dktX9_laysBack_0 := by decide +kernel
theorem dksX9_laysBack_1 : cX9_laysBack.data.toList.drop 23 = dktX9_laysBack_1 := dk_seg dksX9_laysBack_0 23 rfl rfl
theorem dksX9_laysBack_2 : cX9_laysBack.data.toList.drop 45 = dktX9_laysBack_2 := dk_seg dksX9_laysBack_1 22 rfl rfl
theorem dX9_laysBack_0 : decode cX9_laysBack 0 = .ok (.iconst 0, 1) := dk_3 (dk_at dksX9_laysBack_0 0 rfl rfl)
theorem dX9_laysBack_1 : decode cX9_laysBack 1 = .ok (.istore_n 1, 1) := dk_60 (dk_at dksX9_laysBack_0 1 rfl rfl)
theorem dX9_laysBack_2 : decode cX9_laysBack 2 = .ok (.iload_n 1, 1) := dk_27 (dk_at dksX9_laysBack_0 2 rfl rfl)
theorem dX9_laysBack_3 : decode cX9_laysBack 3 = .ok (.bipush 25, 2) := dk_16 25 (dk_at dksX9_laysBack_0 3 rfl rfl)
theorem dX9_laysBack_5 : decode cX9_laysBack 5 = .ok (.if_icmp .ge 21, 3) := dk_162 0 21 (dk_at dksX9_laysBack_0 5 rfl rfl)
theorem dX9_laysBack_8 : decode cX9_laysBack 8 = .ok (.aload_n 0, 1) := dk_42 (dk_at dksX9_laysBack_0 8 rfl rfl)
theorem dX9_laysBack_9 : decode cX9_laysBack 9 = .ok (.getfield 26, 3) := dk_180 0 26 (dk_at dksX9_laysBack_0 9 rfl rfl)
theorem dX9_laysBack_12 : decode cX9_laysBack 12 = .ok (.iload_n 1, 1) := dk_27 (dk_at dksX9_laysBack_0 12 rfl rfl)
theorem dX9_laysBack_13 : decode cX9_laysBack 13 = .ok (.aload_n 0, 1) := dk_42 (dk_at dksX9_laysBack_0 13 rfl rfl)
theorem dX9_laysBack_14 : decode cX9_laysBack 14 = .ok (.getfield 32, 3) := dk_180 0 32 (dk_at dksX9_laysBack_0 14 rfl rfl)
theorem dX9_laysBack_17 : decode cX9_laysBack 17 = .ok (.iload_n 1, 1) := dk_27 (dk_at dksX9_laysBack_0 17 rfl rfl)
theorem dX9_laysBack_18 : decode cX9_laysBack 18 = .ok (.iaload, 1) := dk_46 (dk_at dksX9_laysBack_0 18 rfl rfl)
theorem dX9_laysBack_19 : decode cX9_laysBack 19 = .ok (.iastore, 1) := dk_79 (dk_at dksX9_laysBack_0 19 rfl rfl)
theorem dX9_laysBack_20 : decode cX9_laysBack 20 = .ok (.iinc 1 1, 3) := dk_132 1 1 (dk_at dksX9_laysBack_0 20 rfl rfl)
theorem dX9_laysBack_23 : decode cX9_laysBack 23 = .ok (.goto (-21), 3) := dk_167 255 235 (dk_at dksX9_laysBack_1 0 rfl rfl)
theorem dX9_laysBack_26 : decode cX9_laysBack 26 = .ok (.aload_n 0, 1) := dk_42 (dk_at dksX9_laysBack_1 3 rfl rfl)
theorem dX9_laysBack_27 : decode cX9_laysBack 27 = .ok (.aload_n 0, 1) := dk_42 (dk_at dksX9_laysBack_1 4 rfl rfl)
theorem dX9_laysBack_28 : decode cX9_laysBack 28 = .ok (.getfield 32, 3) := dk_180 0 32 (dk_at dksX9_laysBack_1 5 rfl rfl)
theorem dX9_laysBack_31 : decode cX9_laysBack 31 = .ok (.bipush 25, 2) := dk_16 25 (dk_at dksX9_laysBack_1 8 rfl rfl)
theorem dX9_laysBack_33 : decode cX9_laysBack 33 = .ok (.iaload, 1) := dk_46 (dk_at dksX9_laysBack_1 10 rfl rfl)
theorem dX9_laysBack_34 : decode cX9_laysBack 34 = .ok (.putfield 95, 3) := dk_181 0 95 (dk_at dksX9_laysBack_1 11 rfl rfl)
theorem dX9_laysBack_37 : decode cX9_laysBack 37 = .ok (.aload_n 0, 1) := dk_42 (dk_at dksX9_laysBack_1 14 rfl rfl)
theorem dX9_laysBack_38 : decode cX9_laysBack 38 = .ok (.aload_n 0, 1) := dk_42 (dk_at dksX9_laysBack_1 15 rfl rfl)
theorem dX9_laysBack_39 : decode cX9_laysBack 39 = .ok (.getfield 32, 3) := dk_180 0 32 (dk_at dksX9_laysBack_1 16 rfl rfl)
theorem dX9_laysBack_42 : decode cX9_laysBack 42 = .ok (.bipush 26, 2) := dk_16 26 (dk_at dksX9_laysBack_1 19 rfl rfl)
theorem dX9_laysBack_44 : decode cX9_laysBack 44 = .ok (.iaload, 1) := dk_46 (dk_at dksX9_laysBack_1 21 rfl rfl)
theorem dX9_laysBack_45 : decode cX9_laysBack 45 = .ok (.putfield 98, 3) := dk_181 0 98 (dk_at dksX9_laysBack_2 0 rfl rfl)
theorem dX9_laysBack_48 : decode cX9_laysBack 48 = .ok (.return_, 1) := dk_177 (dk_at dksX9_laysBack_2 3 rfl rfl)
abbrev cX9_heavy : ByteArray := prog_17_method_82_code
def yX9_heavy : MethodName := ⟨RX9, "heavy", "(II)J"⟩
def dkwX9_heavy_2 : List UInt8 := [184, 1, 87, 66, 42, 182, 1, 106, 33, 173]
abbrev dktX9_heavy_2 : List UInt8 := dkwX9_heavy_2 ++ []
def dkwX9_heavy_1 : List UInt8 := [20, 1, 91, 173, 42, 182, 1, 99, 42, 27, 182, 1, 102, 42, 182, 1, 93, 133, 20, 1, 85, 28]
abbrev dktX9_heavy_1 : List UInt8 := dkwX9_heavy_1 ++ dktX9_heavy_2
def dkwX9_heavy_0 : List UInt8 := [27, 133, 9, 20, 0, 217, 184, 0, 67, 153, 0, 13, 28, 133, 9, 10, 184, 0, 67, 154, 0, 7]
abbrev dktX9_heavy_0 : List UInt8 := dkwX9_heavy_0 ++ dktX9_heavy_1
theorem dksX9_heavy_0 : cX9_heavy.data.toList.drop 0 = dktX9_heavy_0 := by decide +kernel
theorem dksX9_heavy_1 : cX9_heavy.data.toList.drop 22 = dktX9_heavy_1 := dk_seg dksX9_heavy_0 22 rfl rfl
theorem dksX9_heavy_2 : cX9_heavy.data.toList.drop 44 = dktX9_heavy_2 := dk_seg dksX9_heavy_1 22 rfl rfl
theorem dX9_heavy_0 : decode cX9_heavy 0 = .ok (.iload_n 1, 1) := dk_27 (dk_at dksX9_heavy_0 0 rfl rfl)
theorem dX9_heavy_1 : decode cX9_heavy 1 = .ok (.i2l, 1) := dk_133 (dk_at dksX9_heavy_0 1 rfl rfl)
theorem dX9_heavy_2 : decode cX9_heavy 2 = .ok (.lconst 0, 1) := dk_9 (dk_at dksX9_heavy_0 2 rfl rfl)
theorem dX9_heavy_3 : decode cX9_heavy 3 = .ok (.ldc2_w 217, 3) := dk_20 0 217 (dk_at dksX9_heavy_0 3 rfl rfl)
theorem dX9_heavy_6 : decode cX9_heavy 6 = .ok (.invokestatic 67, 3) := dk_184 0 67 (dk_at dksX9_heavy_0 6 rfl rfl)
theorem dX9_heavy_9 : decode cX9_heavy 9 = .ok (.ifCond .eq 13, 3) := dk_153 0 13 (dk_at dksX9_heavy_0 9 rfl rfl)
theorem dX9_heavy_12 : decode cX9_heavy 12 = .ok (.iload_n 2, 1) := dk_28 (dk_at dksX9_heavy_0 12 rfl rfl)
theorem dX9_heavy_13 : decode cX9_heavy 13 = .ok (.i2l, 1) := dk_133 (dk_at dksX9_heavy_0 13 rfl rfl)
theorem dX9_heavy_14 : decode cX9_heavy 14 = .ok (.lconst 0, 1) := dk_9 (dk_at dksX9_heavy_0 14 rfl rfl)
theorem dX9_heavy_15 : decode cX9_heavy 15 = .ok (.lconst 1, 1) := dk_10 (dk_at dksX9_heavy_0 15 rfl rfl)
theorem dX9_heavy_16 : decode cX9_heavy 16 = .ok (.invokestatic 67, 3) := dk_184 0 67 (dk_at dksX9_heavy_0 16 rfl rfl)
theorem dX9_heavy_19 : decode cX9_heavy 19 = .ok (.ifCond .ne 7, 3) := dk_154 0 7 (dk_at dksX9_heavy_0 19 rfl rfl)
theorem dX9_heavy_22 : decode cX9_heavy 22 = .ok (.ldc2_w 347, 3) := dk_20 1 91 (dk_at dksX9_heavy_1 0 rfl rfl)
theorem dX9_heavy_25 : decode cX9_heavy 25 = .ok (.lreturn, 1) := dk_173 (dk_at dksX9_heavy_1 3 rfl rfl)
theorem dX9_heavy_26 : decode cX9_heavy 26 = .ok (.aload_n 0, 1) := dk_42 (dk_at dksX9_heavy_1 4 rfl rfl)
theorem dX9_heavy_27 : decode cX9_heavy 27 = .ok (.invokevirtual 355, 3) := dk_182 1 99 (dk_at dksX9_heavy_1 5 rfl rfl)
theorem dX9_heavy_30 : decode cX9_heavy 30 = .ok (.aload_n 0, 1) := dk_42 (dk_at dksX9_heavy_1 8 rfl rfl)
theorem dX9_heavy_31 : decode cX9_heavy 31 = .ok (.iload_n 1, 1) := dk_27 (dk_at dksX9_heavy_1 9 rfl rfl)
theorem dX9_heavy_32 : decode cX9_heavy 32 = .ok (.invokevirtual 358, 3) := dk_182 1 102 (dk_at dksX9_heavy_1 10 rfl rfl)
theorem dX9_heavy_35 : decode cX9_heavy 35 = .ok (.aload_n 0, 1) := dk_42 (dk_at dksX9_heavy_1 13 rfl rfl)
theorem dX9_heavy_36 : decode cX9_heavy 36 = .ok (.invokevirtual 349, 3) := dk_182 1 93 (dk_at dksX9_heavy_1 14 rfl rfl)
theorem dX9_heavy_39 : decode cX9_heavy 39 = .ok (.i2l, 1) := dk_133 (dk_at dksX9_heavy_1 17 rfl rfl)
theorem dX9_heavy_40 : decode cX9_heavy 40 = .ok (.ldc2_w 341, 3) := dk_20 1 85 (dk_at dksX9_heavy_1 18 rfl rfl)
theorem dX9_heavy_43 : decode cX9_heavy 43 = .ok (.iload_n 2, 1) := dk_28 (dk_at dksX9_heavy_1 21 rfl rfl)
theorem dX9_heavy_44 : decode cX9_heavy 44 = .ok (.invokestatic 343, 3) := dk_184 1 87 (dk_at dksX9_heavy_2 0 rfl rfl)
theorem dX9_heavy_47 : decode cX9_heavy 47 = .ok (.lstore_n 3, 1) := dk_66 (dk_at dksX9_heavy_2 3 rfl rfl)
theorem dX9_heavy_48 : decode cX9_heavy 48 = .ok (.aload_n 0, 1) := dk_42 (dk_at dksX9_heavy_2 4 rfl rfl)
theorem dX9_heavy_49 : decode cX9_heavy 49 = .ok (.invokevirtual 362, 3) := dk_182 1 106 (dk_at dksX9_heavy_2 5 rfl rfl)
theorem dX9_heavy_52 : decode cX9_heavy 52 = .ok (.lload_n 3, 1) := dk_33 (dk_at dksX9_heavy_2 8 rfl rfl)
theorem dX9_heavy_53 : decode cX9_heavy 53 = .ok (.lreturn, 1) := dk_173 (dk_at dksX9_heavy_2 9 rfl rfl)
abbrev cX9_when : ByteArray := prog_17_method_83_code
def yX9_when : MethodName := ⟨RX9, "when", "(II)I"⟩
def dkwX9_when_4 : List UInt8 := [164, 0, 7, 2, 167, 0, 4, 29, 172]
abbrev dktX9_when_4 : List UInt8 := dkwX9_when_4 ++ []
def dkwX9_when_3 : List UInt8 := [180, 0, 95, 27, 162, 0, 13, 42, 182, 1, 96, 132, 3, 1, 167, 255, 220, 42, 182, 1, 106, 29, 16, 60]
abbrev dktX9_when_3 : List UInt8 := dkwX9_when_3 ++ dktX9_when_4
def dkwX9_when_2 : List UInt8 := [29, 16, 60, 163, 0, 36, 28, 154, 0, 14, 42, 27, 182, 0, 116, 153, 0, 14, 167, 0, 21, 42]
abbrev dktX9_when_2 : List UInt8 := dkwX9_when_2 ++ dktX9_when_3
def dkwX9_when_1 : List UInt8 := [167, 0, 15, 27, 133, 9, 20, 0, 108, 184, 0, 67, 154, 0, 6, 16, 254, 172, 42, 182, 1, 99, 3, 62]
abbrev dktX9_when_1 : List UInt8 := dkwX9_when_1 ++ dktX9_when_2
def dkwX9_when_0 : List UInt8 := [28, 133, 9, 10, 184, 0, 67, 153, 0, 30, 28, 154, 0, 14, 42, 27, 182, 0, 73, 154, 0, 21]
abbrev dktX9_when_0 : List UInt8 := dkwX9_when_0 ++ dktX9_when_1
theorem dksX9_when_0 : cX9_when.data.toList.drop 0 = dktX9_when_0 := by decide +kernel
theorem dksX9_when_1 : cX9_when.data.toList.drop 22 = dktX9_when_1 := dk_seg dksX9_when_0 22 rfl rfl
theorem dksX9_when_2 : cX9_when.data.toList.drop 46 = dktX9_when_2 := dk_seg dksX9_when_1 24 rfl rfl
theorem dksX9_when_3 : cX9_when.data.toList.drop 68 = dktX9_when_3 := dk_seg dksX9_when_2 22 rfl rfl
theorem dksX9_when_4 : cX9_when.data.toList.drop 92 = dktX9_when_4 := dk_seg dksX9_when_3 24 rfl rfl
theorem dX9_when_0 : decode cX9_when 0 = .ok (.iload_n 2, 1) := dk_28 (dk_at dksX9_when_0 0 rfl rfl)
theorem dX9_when_1 : decode cX9_when 1 = .ok (.i2l, 1) := dk_133 (dk_at dksX9_when_0 1 rfl rfl)
theorem dX9_when_2 : decode cX9_when 2 = .ok (.lconst 0, 1) := dk_9 (dk_at dksX9_when_0 2 rfl rfl)
theorem dX9_when_3 : decode cX9_when 3 = .ok (.lconst 1, 1) := dk_10 (dk_at dksX9_when_0 3 rfl rfl)
theorem dX9_when_4 : decode cX9_when 4 = .ok (.invokestatic 67, 3) := dk_184 0 67 (dk_at dksX9_when_0 4 rfl rfl)
theorem dX9_when_7 : decode cX9_when 7 = .ok (.ifCond .eq 30, 3) := dk_153 0 30 (dk_at dksX9_when_0 7 rfl rfl)
theorem dX9_when_10 : decode cX9_when 10 = .ok (.iload_n 2, 1) := dk_28 (dk_at dksX9_when_0 10 rfl rfl)
theorem dX9_when_11 : decode cX9_when 11 = .ok (.ifCond .ne 14, 3) := dk_154 0 14 (dk_at dksX9_when_0 11 rfl rfl)
theorem dX9_when_14 : decode cX9_when 14 = .ok (.aload_n 0, 1) := dk_42 (dk_at dksX9_when_0 14 rfl rfl)
theorem dX9_when_15 : decode cX9_when 15 = .ok (.iload_n 1, 1) := dk_27 (dk_at dksX9_when_0 15 rfl rfl)
theorem dX9_when_16 : decode cX9_when 16 = .ok (.invokevirtual 73, 3) := dk_182 0 73 (dk_at dksX9_when_0 16 rfl rfl)
theorem dX9_when_19 : decode cX9_when 19 = .ok (.ifCond .ne 21, 3) := dk_154 0 21 (dk_at dksX9_when_0 19 rfl rfl)
theorem dX9_when_22 : decode cX9_when 22 = .ok (.goto 15, 3) := dk_167 0 15 (dk_at dksX9_when_1 0 rfl rfl)
theorem dX9_when_25 : decode cX9_when 25 = .ok (.iload_n 1, 1) := dk_27 (dk_at dksX9_when_1 3 rfl rfl)
theorem dX9_when_26 : decode cX9_when 26 = .ok (.i2l, 1) := dk_133 (dk_at dksX9_when_1 4 rfl rfl)
theorem dX9_when_27 : decode cX9_when 27 = .ok (.lconst 0, 1) := dk_9 (dk_at dksX9_when_1 5 rfl rfl)
theorem dX9_when_28 : decode cX9_when 28 = .ok (.ldc2_w 108, 3) := dk_20 0 108 (dk_at dksX9_when_1 6 rfl rfl)
theorem dX9_when_31 : decode cX9_when 31 = .ok (.invokestatic 67, 3) := dk_184 0 67 (dk_at dksX9_when_1 9 rfl rfl)
theorem dX9_when_34 : decode cX9_when 34 = .ok (.ifCond .ne 6, 3) := dk_154 0 6 (dk_at dksX9_when_1 12 rfl rfl)
theorem dX9_when_37 : decode cX9_when 37 = .ok (.bipush (-2), 2) := dk_16 254 (dk_at dksX9_when_1 15 rfl rfl)
theorem dX9_when_39 : decode cX9_when 39 = .ok (.ireturn, 1) := dk_172 (dk_at dksX9_when_1 17 rfl rfl)
theorem dX9_when_40 : decode cX9_when 40 = .ok (.aload_n 0, 1) := dk_42 (dk_at dksX9_when_1 18 rfl rfl)
theorem dX9_when_41 : decode cX9_when 41 = .ok (.invokevirtual 355, 3) := dk_182 1 99 (dk_at dksX9_when_1 19 rfl rfl)
theorem dX9_when_44 : decode cX9_when 44 = .ok (.iconst 0, 1) := dk_3 (dk_at dksX9_when_1 22 rfl rfl)
theorem dX9_when_45 : decode cX9_when 45 = .ok (.istore_n 3, 1) := dk_62 (dk_at dksX9_when_1 23 rfl rfl)
theorem dX9_when_46 : decode cX9_when 46 = .ok (.iload_n 3, 1) := dk_29 (dk_at dksX9_when_2 0 rfl rfl)
theorem dX9_when_47 : decode cX9_when 47 = .ok (.bipush 60, 2) := dk_16 60 (dk_at dksX9_when_2 1 rfl rfl)
theorem dX9_when_49 : decode cX9_when 49 = .ok (.if_icmp .gt 36, 3) := dk_163 0 36 (dk_at dksX9_when_2 3 rfl rfl)
theorem dX9_when_52 : decode cX9_when 52 = .ok (.iload_n 2, 1) := dk_28 (dk_at dksX9_when_2 6 rfl rfl)
theorem dX9_when_53 : decode cX9_when 53 = .ok (.ifCond .ne 14, 3) := dk_154 0 14 (dk_at dksX9_when_2 7 rfl rfl)
theorem dX9_when_56 : decode cX9_when 56 = .ok (.aload_n 0, 1) := dk_42 (dk_at dksX9_when_2 10 rfl rfl)
theorem dX9_when_57 : decode cX9_when 57 = .ok (.iload_n 1, 1) := dk_27 (dk_at dksX9_when_2 11 rfl rfl)
theorem dX9_when_58 : decode cX9_when 58 = .ok (.invokevirtual 116, 3) := dk_182 0 116 (dk_at dksX9_when_2 12 rfl rfl)
theorem dX9_when_61 : decode cX9_when 61 = .ok (.ifCond .eq 14, 3) := dk_153 0 14 (dk_at dksX9_when_2 15 rfl rfl)
theorem dX9_when_64 : decode cX9_when 64 = .ok (.goto 21, 3) := dk_167 0 21 (dk_at dksX9_when_2 18 rfl rfl)
theorem dX9_when_67 : decode cX9_when 67 = .ok (.aload_n 0, 1) := dk_42 (dk_at dksX9_when_2 21 rfl rfl)
theorem dX9_when_68 : decode cX9_when 68 = .ok (.getfield 95, 3) := dk_180 0 95 (dk_at dksX9_when_3 0 rfl rfl)
theorem dX9_when_71 : decode cX9_when 71 = .ok (.iload_n 1, 1) := dk_27 (dk_at dksX9_when_3 3 rfl rfl)
theorem dX9_when_72 : decode cX9_when 72 = .ok (.if_icmp .ge 13, 3) := dk_162 0 13 (dk_at dksX9_when_3 4 rfl rfl)
theorem dX9_when_75 : decode cX9_when 75 = .ok (.aload_n 0, 1) := dk_42 (dk_at dksX9_when_3 7 rfl rfl)
theorem dX9_when_76 : decode cX9_when 76 = .ok (.invokevirtual 352, 3) := dk_182 1 96 (dk_at dksX9_when_3 8 rfl rfl)
theorem dX9_when_79 : decode cX9_when 79 = .ok (.iinc 3 1, 3) := dk_132 3 1 (dk_at dksX9_when_3 11 rfl rfl)
theorem dX9_when_82 : decode cX9_when 82 = .ok (.goto (-36), 3) := dk_167 255 220 (dk_at dksX9_when_3 14 rfl rfl)
theorem dX9_when_85 : decode cX9_when 85 = .ok (.aload_n 0, 1) := dk_42 (dk_at dksX9_when_3 17 rfl rfl)
theorem dX9_when_86 : decode cX9_when 86 = .ok (.invokevirtual 362, 3) := dk_182 1 106 (dk_at dksX9_when_3 18 rfl rfl)
theorem dX9_when_89 : decode cX9_when 89 = .ok (.iload_n 3, 1) := dk_29 (dk_at dksX9_when_3 21 rfl rfl)
theorem dX9_when_90 : decode cX9_when 90 = .ok (.bipush 60, 2) := dk_16 60 (dk_at dksX9_when_3 22 rfl rfl)
theorem dX9_when_92 : decode cX9_when 92 = .ok (.if_icmp .le 7, 3) := dk_164 0 7 (dk_at dksX9_when_4 0 rfl rfl)
theorem dX9_when_95 : decode cX9_when 95 = .ok (.iconst (-1), 1) := dk_2 (dk_at dksX9_when_4 3 rfl rfl)
theorem dX9_when_96 : decode cX9_when 96 = .ok (.goto 4, 3) := dk_167 0 4 (dk_at dksX9_when_4 4 rfl rfl)
theorem dX9_when_99 : decode cX9_when 99 = .ok (.iload_n 3, 1) := dk_29 (dk_at dksX9_when_4 7 rfl rfl)
theorem dX9_when_100 : decode cX9_when 100 = .ok (.ireturn, 1) := dk_172 (dk_at dksX9_when_4 8 rfl rfl)
abbrev cX9_best : ByteArray := prog_17_method_89_code
def yX9_best : MethodName := ⟨RX9, "best", "(I)I"⟩
def dkwX9_best_2 : List UInt8 := [28, 2, 160, 0, 7, 28, 167, 0, 7, 28, 184, 1, 112, 172]
abbrev dktX9_best_2 : List UInt8 := dkwX9_best_2 ++ []
def dkwX9_best_1 : List UInt8 := [160, 0, 10, 42, 182, 1, 123, 167, 0, 7, 42, 182, 1, 109, 172, 42, 182, 1, 126, 61, 27, 153, 0, 8]
abbrev dktX9_best_1 : List UInt8 := dkwX9_best_1 ++ dktX9_best_2
def dkwX9_best_0 : List UInt8 := [27, 133, 9, 20, 1, 121, 184, 0, 67, 154, 0, 6, 16, 254, 172, 27, 4, 164, 0, 20, 27, 5]
abbrev dktX9_best_0 : List UInt8 := dkwX9_best_0 ++ dktX9_best_1
theorem dksX9_best_0 : cX9_best.data.toList.drop 0 = dktX9_best_0 := by decide +kernel
theorem dksX9_best_1 : cX9_best.data.toList.drop 22 = dktX9_best_1 := dk_seg dksX9_best_0 22 rfl rfl
theorem dksX9_best_2 : cX9_best.data.toList.drop 46 = dktX9_best_2 := dk_seg dksX9_best_1 24 rfl rfl
theorem dX9_best_0 : decode cX9_best 0 = .ok (.iload_n 1, 1) := dk_27 (dk_at dksX9_best_0 0 rfl rfl)
theorem dX9_best_1 : decode cX9_best 1 = .ok (.i2l, 1) := dk_133 (dk_at dksX9_best_0 1 rfl rfl)
theorem dX9_best_2 : decode cX9_best 2 = .ok (.lconst 0, 1) := dk_9 (dk_at dksX9_best_0 2 rfl rfl)
theorem dX9_best_3 : decode cX9_best 3 = .ok (.ldc2_w 377, 3) := dk_20 1 121 (dk_at dksX9_best_0 3 rfl rfl)
theorem dX9_best_6 : decode cX9_best 6 = .ok (.invokestatic 67, 3) := dk_184 0 67 (dk_at dksX9_best_0 6 rfl rfl)
theorem dX9_best_9 : decode cX9_best 9 = .ok (.ifCond .ne 6, 3) := dk_154 0 6 (dk_at dksX9_best_0 9 rfl rfl)
theorem dX9_best_12 : decode cX9_best 12 = .ok (.bipush (-2), 2) := dk_16 254 (dk_at dksX9_best_0 12 rfl rfl)
theorem dX9_best_14 : decode cX9_best 14 = .ok (.ireturn, 1) := dk_172 (dk_at dksX9_best_0 14 rfl rfl)
theorem dX9_best_15 : decode cX9_best 15 = .ok (.iload_n 1, 1) := dk_27 (dk_at dksX9_best_0 15 rfl rfl)
theorem dX9_best_16 : decode cX9_best 16 = .ok (.iconst 1, 1) := dk_4 (dk_at dksX9_best_0 16 rfl rfl)
theorem dX9_best_17 : decode cX9_best 17 = .ok (.if_icmp .le 20, 3) := dk_164 0 20 (dk_at dksX9_best_0 17 rfl rfl)
theorem dX9_best_20 : decode cX9_best 20 = .ok (.iload_n 1, 1) := dk_27 (dk_at dksX9_best_0 20 rfl rfl)
theorem dX9_best_21 : decode cX9_best 21 = .ok (.iconst 2, 1) := dk_5 (dk_at dksX9_best_0 21 rfl rfl)
theorem dX9_best_22 : decode cX9_best 22 = .ok (.if_icmp .ne 10, 3) := dk_160 0 10 (dk_at dksX9_best_1 0 rfl rfl)
theorem dX9_best_25 : decode cX9_best 25 = .ok (.aload_n 0, 1) := dk_42 (dk_at dksX9_best_1 3 rfl rfl)
theorem dX9_best_26 : decode cX9_best 26 = .ok (.invokevirtual 379, 3) := dk_182 1 123 (dk_at dksX9_best_1 4 rfl rfl)
theorem dX9_best_29 : decode cX9_best 29 = .ok (.goto 7, 3) := dk_167 0 7 (dk_at dksX9_best_1 7 rfl rfl)
theorem dX9_best_32 : decode cX9_best 32 = .ok (.aload_n 0, 1) := dk_42 (dk_at dksX9_best_1 10 rfl rfl)
theorem dX9_best_33 : decode cX9_best 33 = .ok (.invokevirtual 365, 3) := dk_182 1 109 (dk_at dksX9_best_1 11 rfl rfl)
theorem dX9_best_36 : decode cX9_best 36 = .ok (.ireturn, 1) := dk_172 (dk_at dksX9_best_1 14 rfl rfl)
theorem dX9_best_37 : decode cX9_best 37 = .ok (.aload_n 0, 1) := dk_42 (dk_at dksX9_best_1 15 rfl rfl)
theorem dX9_best_38 : decode cX9_best 38 = .ok (.invokevirtual 382, 3) := dk_182 1 126 (dk_at dksX9_best_1 16 rfl rfl)
theorem dX9_best_41 : decode cX9_best 41 = .ok (.istore_n 2, 1) := dk_61 (dk_at dksX9_best_1 19 rfl rfl)
theorem dX9_best_42 : decode cX9_best 42 = .ok (.iload_n 1, 1) := dk_27 (dk_at dksX9_best_1 20 rfl rfl)
theorem dX9_best_43 : decode cX9_best 43 = .ok (.ifCond .eq 8, 3) := dk_153 0 8 (dk_at dksX9_best_1 21 rfl rfl)
theorem dX9_best_46 : decode cX9_best 46 = .ok (.iload_n 2, 1) := dk_28 (dk_at dksX9_best_2 0 rfl rfl)
theorem dX9_best_47 : decode cX9_best 47 = .ok (.iconst (-1), 1) := dk_2 (dk_at dksX9_best_2 1 rfl rfl)
theorem dX9_best_48 : decode cX9_best 48 = .ok (.if_icmp .ne 7, 3) := dk_160 0 7 (dk_at dksX9_best_2 2 rfl rfl)
theorem dX9_best_51 : decode cX9_best 51 = .ok (.iload_n 2, 1) := dk_28 (dk_at dksX9_best_2 5 rfl rfl)
theorem dX9_best_52 : decode cX9_best 52 = .ok (.goto 7, 3) := dk_167 0 7 (dk_at dksX9_best_2 6 rfl rfl)
theorem dX9_best_55 : decode cX9_best 55 = .ok (.iload_n 2, 1) := dk_28 (dk_at dksX9_best_2 9 rfl rfl)
theorem dX9_best_56 : decode cX9_best 56 = .ok (.invokestatic 368, 3) := dk_184 1 112 (dk_at dksX9_best_2 10 rfl rfl)
theorem dX9_best_59 : decode cX9_best 59 = .ok (.ireturn, 1) := dk_172 (dk_at dksX9_best_2 13 rfl rfl)
abbrev cX9_lightest : ByteArray := prog_17_method_88_code
def yX9_lightest : MethodName := ⟨RX9, "lightest", "()I"⟩
def dkwX9_lightest_3 : List UInt8 := [167, 255, 193, 27, 172]
abbrev dktX9_lightest_3 : List UInt8 := dkwX9_lightest_3 ++ []
def dkwX9_lightest_2 : List UInt8 := [96, 4, 79, 27, 2, 159, 0, 9, 21, 4, 28, 162, 0, 8, 29, 60, 21, 4, 61, 132, 3, 1]
abbrev dktX9_lightest_2 : List UInt8 := dkwX9_lightest_2 ++ dktX9_lightest_3
def dkwX9_lightest_1 : List UInt8 := [180, 0, 26, 8, 29, 104, 6, 96, 3, 79, 42, 182, 1, 93, 54, 4, 42, 180, 0, 26, 8, 29, 104, 6]
abbrev dktX9_lightest_1 : List UInt8 := dkwX9_lightest_1 ++ dktX9_lightest_2
def dkwX9_lightest_0 : List UInt8 := [2, 60, 3, 61, 3, 62, 29, 42, 180, 0, 64, 162, 0, 61, 42, 29, 182, 1, 79, 153, 0, 47, 42]
abbrev dktX9_lightest_0 : List UInt8 := dkwX9_lightest_0 ++ dktX9_lightest_1
theorem dksX9_lightest_0 : cX9_lightest.data.toList.drop 0 = dktX9_lightest_0 := by decide +kernel
theorem dksX9_lightest_1 : cX9_lightest.data.toList.drop 23 = dktX9_lightest_1 := dk_seg dksX9_lightest_0 23 rfl rfl
theorem dksX9_lightest_2 : cX9_lightest.data.toList.drop 47 = dktX9_lightest_2 := dk_seg dksX9_lightest_1 24 rfl rfl
theorem dksX9_lightest_3 : cX9_lightest.data.toList.drop 69 = dktX9_lightest_3 := dk_seg dksX9_lightest_2 22 rfl rfl
theorem dX9_lightest_0 : decode cX9_lightest 0 = .ok (.iconst (-1), 1) := dk_2 (dk_at dksX9_lightest_0 0 rfl rfl)
theorem dX9_lightest_1 : decode cX9_lightest 1 = .ok (.istore_n 1, 1) := dk_60 (dk_at dksX9_lightest_0 1 rfl rfl)
theorem dX9_lightest_2 : decode cX9_lightest 2 = .ok (.iconst 0, 1) := dk_3 (dk_at dksX9_lightest_0 2 rfl rfl)
theorem dX9_lightest_3 : decode cX9_lightest 3 = .ok (.istore_n 2, 1) := dk_61 (dk_at dksX9_lightest_0 3 rfl rfl)
theorem dX9_lightest_4 : decode cX9_lightest 4 = .ok (.iconst 0, 1) := dk_3 (dk_at dksX9_lightest_0 4 rfl rfl)
theorem dX9_lightest_5 : decode cX9_lightest 5 = .ok (.istore_n 3, 1) := dk_62 (dk_at dksX9_lightest_0 5 rfl rfl)
theorem dX9_lightest_6 : decode cX9_lightest 6 = .ok (.iload_n 3, 1) := dk_29 (dk_at dksX9_lightest_0 6 rfl rfl)
theorem dX9_lightest_7 : decode cX9_lightest 7 = .ok (.aload_n 0, 1) := dk_42 (dk_at dksX9_lightest_0 7 rfl rfl)
theorem dX9_lightest_8 : decode cX9_lightest 8 = .ok (.getfield 64, 3) := dk_180 0 64 (dk_at dksX9_lightest_0 8 rfl rfl)
theorem dX9_lightest_11 : decode cX9_lightest 11 = .ok (.if_icmp .ge 61, 3) := dk_162 0 61 (dk_at dksX9_lightest_0 11 rfl rfl)
theorem dX9_lightest_14 : decode cX9_lightest 14 = .ok (.aload_n 0, 1) := dk_42 (dk_at dksX9_lightest_0 14 rfl rfl)
theorem dX9_lightest_15 : decode cX9_lightest 15 = .ok (.iload_n 3, 1) := dk_29 (dk_at dksX9_lightest_0 15 rfl rfl)
theorem dX9_lightest_16 : decode cX9_lightest 16 = .ok (.invokevirtual 335, 3) := dk_182 1 79 (dk_at dksX9_lightest_0 16 rfl rfl)
theorem dX9_lightest_19 : decode cX9_lightest 19 = .ok (.ifCond .eq 47, 3) := dk_153 0 47 (dk_at dksX9_lightest_0 19 rfl rfl)
theorem dX9_lightest_22 : decode cX9_lightest 22 = .ok (.aload_n 0, 1) := dk_42 (dk_at dksX9_lightest_0 22 rfl rfl)
theorem dX9_lightest_23 : decode cX9_lightest 23 = .ok (.getfield 26, 3) := dk_180 0 26 (dk_at dksX9_lightest_1 0 rfl rfl)
theorem dX9_lightest_26 : decode cX9_lightest 26 = .ok (.iconst 5, 1) := dk_8 (dk_at dksX9_lightest_1 3 rfl rfl)
theorem dX9_lightest_27 : decode cX9_lightest 27 = .ok (.iload_n 3, 1) := dk_29 (dk_at dksX9_lightest_1 4 rfl rfl)
theorem dX9_lightest_28 : decode cX9_lightest 28 = .ok (.imul, 1) := dk_104 (dk_at dksX9_lightest_1 5 rfl rfl)
theorem dX9_lightest_29 : decode cX9_lightest 29 = .ok (.iconst 3, 1) := dk_6 (dk_at dksX9_lightest_1 6 rfl rfl)
theorem dX9_lightest_30 : decode cX9_lightest 30 = .ok (.iadd, 1) := dk_96 (dk_at dksX9_lightest_1 7 rfl rfl)
theorem dX9_lightest_31 : decode cX9_lightest 31 = .ok (.iconst 0, 1) := dk_3 (dk_at dksX9_lightest_1 8 rfl rfl)
theorem dX9_lightest_32 : decode cX9_lightest 32 = .ok (.iastore, 1) := dk_79 (dk_at dksX9_lightest_1 9 rfl rfl)
theorem dX9_lightest_33 : decode cX9_lightest 33 = .ok (.aload_n 0, 1) := dk_42 (dk_at dksX9_lightest_1 10 rfl rfl)
theorem dX9_lightest_34 : decode cX9_lightest 34 = .ok (.invokevirtual 349, 3) := dk_182 1 93 (dk_at dksX9_lightest_1 11 rfl rfl)
theorem dX9_lightest_37 : decode cX9_lightest 37 = .ok (.istore 4, 2) := dk_54 4 (dk_at dksX9_lightest_1 14 rfl rfl)
theorem dX9_lightest_39 : decode cX9_lightest 39 = .ok (.aload_n 0, 1) := dk_42 (dk_at dksX9_lightest_1 16 rfl rfl)
theorem dX9_lightest_40 : decode cX9_lightest 40 = .ok (.getfield 26, 3) := dk_180 0 26 (dk_at dksX9_lightest_1 17 rfl rfl)
theorem dX9_lightest_43 : decode cX9_lightest 43 = .ok (.iconst 5, 1) := dk_8 (dk_at dksX9_lightest_1 20 rfl rfl)
theorem dX9_lightest_44 : decode cX9_lightest 44 = .ok (.iload_n 3, 1) := dk_29 (dk_at dksX9_lightest_1 21 rfl rfl)
theorem dX9_lightest_45 : decode cX9_lightest 45 = .ok (.imul, 1) := dk_104 (dk_at dksX9_lightest_1 22 rfl rfl)
theorem dX9_lightest_46 : decode cX9_lightest 46 = .ok (.iconst 3, 1) := dk_6 (dk_at dksX9_lightest_1 23 rfl rfl)
theorem dX9_lightest_47 : decode cX9_lightest 47 = .ok (.iadd, 1) := dk_96 (dk_at dksX9_lightest_2 0 rfl rfl)
theorem dX9_lightest_48 : decode cX9_lightest 48 = .ok (.iconst 1, 1) := dk_4 (dk_at dksX9_lightest_2 1 rfl rfl)
theorem dX9_lightest_49 : decode cX9_lightest 49 = .ok (.iastore, 1) := dk_79 (dk_at dksX9_lightest_2 2 rfl rfl)
theorem dX9_lightest_50 : decode cX9_lightest 50 = .ok (.iload_n 1, 1) := dk_27 (dk_at dksX9_lightest_2 3 rfl rfl)
theorem dX9_lightest_51 : decode cX9_lightest 51 = .ok (.iconst (-1), 1) := dk_2 (dk_at dksX9_lightest_2 4 rfl rfl)
theorem dX9_lightest_52 : decode cX9_lightest 52 = .ok (.if_icmp .eq 9, 3) := dk_159 0 9 (dk_at dksX9_lightest_2 5 rfl rfl)
theorem dX9_lightest_55 : decode cX9_lightest 55 = .ok (.iload 4, 2) := dk_21 4 (dk_at dksX9_lightest_2 8 rfl rfl)
theorem dX9_lightest_57 : decode cX9_lightest 57 = .ok (.iload_n 2, 1) := dk_28 (dk_at dksX9_lightest_2 10 rfl rfl)
theorem dX9_lightest_58 : decode cX9_lightest 58 = .ok (.if_icmp .ge 8, 3) := dk_162 0 8 (dk_at dksX9_lightest_2 11 rfl rfl)
theorem dX9_lightest_61 : decode cX9_lightest 61 = .ok (.iload_n 3, 1) := dk_29 (dk_at dksX9_lightest_2 14 rfl rfl)
theorem dX9_lightest_62 : decode cX9_lightest 62 = .ok (.istore_n 1, 1) := dk_60 (dk_at dksX9_lightest_2 15 rfl rfl)
theorem dX9_lightest_63 : decode cX9_lightest 63 = .ok (.iload 4, 2) := dk_21 4 (dk_at dksX9_lightest_2 16 rfl rfl)
theorem dX9_lightest_65 : decode cX9_lightest 65 = .ok (.istore_n 2, 1) := dk_61 (dk_at dksX9_lightest_2 18 rfl rfl)
theorem dX9_lightest_66 : decode cX9_lightest 66 = .ok (.iinc 3 1, 3) := dk_132 3 1 (dk_at dksX9_lightest_2 19 rfl rfl)
theorem dX9_lightest_69 : decode cX9_lightest 69 = .ok (.goto (-63), 3) := dk_167 255 193 (dk_at dksX9_lightest_3 0 rfl rfl)
theorem dX9_lightest_72 : decode cX9_lightest 72 = .ok (.iload_n 1, 1) := dk_27 (dk_at dksX9_lightest_3 3 rfl rfl)
theorem dX9_lightest_73 : decode cX9_lightest 73 = .ok (.ireturn, 1) := dk_172 (dk_at dksX9_lightest_3 4 rfl rfl)
abbrev cX9_hereSet : ByteArray := prog_17_method_15_code
def yX9_hereSet : MethodName := ⟨RX9, "hereSet", "()I"⟩
def dkwX9_hereSet_1 : List UInt8 := [120, 128, 60, 132, 2, 1, 167, 255, 230, 27, 172]
abbrev dktX9_hereSet_1 : List UInt8 := dkwX9_hereSet_1 ++ []
def dkwX9_hereSet_0 : List UInt8 := [3, 60, 3, 61, 28, 42, 180, 0, 64, 162, 0, 24, 27, 42, 180, 0, 26, 8, 28, 104, 6, 96, 46, 28]
abbrev dktX9_hereSet_0 : List UInt8 := dkwX9_hereSet_0 ++ dktX9_hereSet_1
theorem dksX9_hereSet_0 : cX9_hereSet.data.toList.drop 0 = dktX9_hereSet_0 := by decide +kernel
theorem dksX9_hereSet_1 : cX9_hereSet.data.toList.drop 24 = dktX9_hereSet_1 := dk_seg dksX9_hereSet_0 24 rfl rfl
theorem dX9_hereSet_0 : decode cX9_hereSet 0 = .ok (.iconst 0, 1) := dk_3 (dk_at dksX9_hereSet_0 0 rfl rfl)
theorem dX9_hereSet_1 : decode cX9_hereSet 1 = .ok (.istore_n 1, 1) := dk_60 (dk_at dksX9_hereSet_0 1 rfl rfl)
theorem dX9_hereSet_2 : decode cX9_hereSet 2 = .ok (.iconst 0, 1) := dk_3 (dk_at dksX9_hereSet_0 2 rfl rfl)
theorem dX9_hereSet_3 : decode cX9_hereSet 3 = .ok (.istore_n 2, 1) := dk_61 (dk_at dksX9_hereSet_0 3 rfl rfl)
theorem dX9_hereSet_4 : decode cX9_hereSet 4 = .ok (.iload_n 2, 1) := dk_28 (dk_at dksX9_hereSet_0 4 rfl rfl)
theorem dX9_hereSet_5 : decode cX9_hereSet 5 = .ok (.aload_n 0, 1) := dk_42 (dk_at dksX9_hereSet_0 5 rfl rfl)
theorem dX9_hereSet_6 : decode cX9_hereSet 6 = .ok (.getfield 64, 3) := dk_180 0 64 (dk_at dksX9_hereSet_0 6 rfl rfl)
theorem dX9_hereSet_9 : decode cX9_hereSet 9 = .ok (.if_icmp .ge 24, 3) := dk_162 0 24 (dk_at dksX9_hereSet_0 9 rfl rfl)
theorem dX9_hereSet_12 : decode cX9_hereSet 12 = .ok (.iload_n 1, 1) := dk_27 (dk_at dksX9_hereSet_0 12 rfl rfl)
theorem dX9_hereSet_13 : decode cX9_hereSet 13 = .ok (.aload_n 0, 1) := dk_42 (dk_at dksX9_hereSet_0 13 rfl rfl)
theorem dX9_hereSet_14 : decode cX9_hereSet 14 = .ok (.getfield 26, 3) := dk_180 0 26 (dk_at dksX9_hereSet_0 14 rfl rfl)
theorem dX9_hereSet_17 : decode cX9_hereSet 17 = .ok (.iconst 5, 1) := dk_8 (dk_at dksX9_hereSet_0 17 rfl rfl)
theorem dX9_hereSet_18 : decode cX9_hereSet 18 = .ok (.iload_n 2, 1) := dk_28 (dk_at dksX9_hereSet_0 18 rfl rfl)
theorem dX9_hereSet_19 : decode cX9_hereSet 19 = .ok (.imul, 1) := dk_104 (dk_at dksX9_hereSet_0 19 rfl rfl)
theorem dX9_hereSet_20 : decode cX9_hereSet 20 = .ok (.iconst 3, 1) := dk_6 (dk_at dksX9_hereSet_0 20 rfl rfl)
theorem dX9_hereSet_21 : decode cX9_hereSet 21 = .ok (.iadd, 1) := dk_96 (dk_at dksX9_hereSet_0 21 rfl rfl)
theorem dX9_hereSet_22 : decode cX9_hereSet 22 = .ok (.iaload, 1) := dk_46 (dk_at dksX9_hereSet_0 22 rfl rfl)
theorem dX9_hereSet_23 : decode cX9_hereSet 23 = .ok (.iload_n 2, 1) := dk_28 (dk_at dksX9_hereSet_0 23 rfl rfl)
theorem dX9_hereSet_24 : decode cX9_hereSet 24 = .ok (.ishl, 1) := dk_120 (dk_at dksX9_hereSet_1 0 rfl rfl)
theorem dX9_hereSet_25 : decode cX9_hereSet 25 = .ok (.ior, 1) := dk_128 (dk_at dksX9_hereSet_1 1 rfl rfl)
theorem dX9_hereSet_26 : decode cX9_hereSet 26 = .ok (.istore_n 1, 1) := dk_60 (dk_at dksX9_hereSet_1 2 rfl rfl)
theorem dX9_hereSet_27 : decode cX9_hereSet 27 = .ok (.iinc 2 1, 3) := dk_132 2 1 (dk_at dksX9_hereSet_1 3 rfl rfl)
theorem dX9_hereSet_30 : decode cX9_hereSet 30 = .ok (.goto (-26), 3) := dk_167 255 230 (dk_at dksX9_hereSet_1 6 rfl rfl)
theorem dX9_hereSet_33 : decode cX9_hereSet 33 = .ok (.iload_n 1, 1) := dk_27 (dk_at dksX9_hereSet_1 9 rfl rfl)
theorem dX9_hereSet_34 : decode cX9_hereSet 34 = .ok (.ireturn, 1) := dk_172 (dk_at dksX9_hereSet_1 10 rfl rfl)
abbrev cX9_leaveSet : ByteArray := prog_17_method_87_code
def yX9_leaveSet : MethodName := ⟨RX9, "leaveSet", "()I"⟩
def dkwX9_leaveSet_3 : List UInt8 := [27, 182, 1, 115, 28, 172]
abbrev dktX9_leaveSet_3 : List UInt8 := dkwX9_leaveSet_3 ++ []
def dkwX9_leaveSet_2 : List UInt8 := [126, 182, 1, 115, 42, 182, 1, 118, 153, 0, 7, 29, 167, 0, 4, 28, 61, 132, 3, 1, 167, 255, 197, 42]
abbrev dktX9_leaveSet_2 : List UInt8 := dkwX9_leaveSet_2 ++ dktX9_leaveSet_3
def dkwX9_leaveSet_1 : List UInt8 := [154, 0, 41, 28, 2, 159, 0, 14, 29, 184, 1, 112, 28, 184, 1, 112, 162, 0, 25, 42, 27, 29, 2, 130]
abbrev dktX9_leaveSet_1 : List UInt8 := dkwX9_leaveSet_1 ++ dktX9_leaveSet_2
def dkwX9_leaveSet_0 : List UInt8 := [42, 182, 1, 109, 60, 2, 61, 3, 62, 29, 4, 42, 180, 0, 64, 120, 162, 0, 55, 29, 27, 2, 130, 126]
abbrev dktX9_leaveSet_0 : List UInt8 := dkwX9_leaveSet_0 ++ dktX9_leaveSet_1
theorem dksX9_leaveSet_0 : cX9_leaveSet.data.toList.drop 0 = dktX9_leaveSet_0 := by decide +kernel
theorem dksX9_leaveSet_1 : cX9_leaveSet.data.toList.drop 24 = dktX9_leaveSet_1 := dk_seg dksX9_leaveSet_0 24 rfl rfl
theorem dksX9_leaveSet_2 : cX9_leaveSet.data.toList.drop 48 = dktX9_leaveSet_2 := dk_seg dksX9_leaveSet_1 24 rfl rfl
theorem dksX9_leaveSet_3 : cX9_leaveSet.data.toList.drop 72 = dktX9_leaveSet_3 := dk_seg dksX9_leaveSet_2 24 rfl rfl
theorem dX9_leaveSet_0 : decode cX9_leaveSet 0 = .ok (.aload_n 0, 1) := dk_42 (dk_at dksX9_leaveSet_0 0 rfl rfl)
theorem dX9_leaveSet_1 : decode cX9_leaveSet 1 = .ok (.invokevirtual 365, 3) := dk_182 1 109 (dk_at dksX9_leaveSet_0 1 rfl rfl)
theorem dX9_leaveSet_4 : decode cX9_leaveSet 4 = .ok (.istore_n 1, 1) := dk_60 (dk_at dksX9_leaveSet_0 4 rfl rfl)
theorem dX9_leaveSet_5 : decode cX9_leaveSet 5 = .ok (.iconst (-1), 1) := dk_2 (dk_at dksX9_leaveSet_0 5 rfl rfl)
theorem dX9_leaveSet_6 : decode cX9_leaveSet 6 = .ok (.istore_n 2, 1) := dk_61 (dk_at dksX9_leaveSet_0 6 rfl rfl)
theorem dX9_leaveSet_7 : decode cX9_leaveSet 7 = .ok (.iconst 0, 1) := dk_3 (dk_at dksX9_leaveSet_0 7 rfl rfl)
theorem dX9_leaveSet_8 : decode cX9_leaveSet 8 = .ok (.istore_n 3, 1) := dk_62 (dk_at dksX9_leaveSet_0 8 rfl rfl)
theorem dX9_leaveSet_9 : decode cX9_leaveSet 9 = .ok (.iload_n 3, 1) := dk_29 (dk_at dksX9_leaveSet_0 9 rfl rfl)
theorem dX9_leaveSet_10 : decode cX9_leaveSet 10 = .ok (.iconst 1, 1) := dk_4 (dk_at dksX9_leaveSet_0 10 rfl rfl)
theorem dX9_leaveSet_11 : decode cX9_leaveSet 11 = .ok (.aload_n 0, 1) := dk_42 (dk_at dksX9_leaveSet_0 11 rfl rfl)
theorem dX9_leaveSet_12 : decode cX9_leaveSet 12 = .ok (.getfield 64, 3) := dk_180 0 64 (dk_at dksX9_leaveSet_0 12 rfl rfl)
theorem dX9_leaveSet_15 : decode cX9_leaveSet 15 = .ok (.ishl, 1) := dk_120 (dk_at dksX9_leaveSet_0 15 rfl rfl)
theorem dX9_leaveSet_16 : decode cX9_leaveSet 16 = .ok (.if_icmp .ge 55, 3) := dk_162 0 55 (dk_at dksX9_leaveSet_0 16 rfl rfl)
theorem dX9_leaveSet_19 : decode cX9_leaveSet 19 = .ok (.iload_n 3, 1) := dk_29 (dk_at dksX9_leaveSet_0 19 rfl rfl)
theorem dX9_leaveSet_20 : decode cX9_leaveSet 20 = .ok (.iload_n 1, 1) := dk_27 (dk_at dksX9_leaveSet_0 20 rfl rfl)
theorem dX9_leaveSet_21 : decode cX9_leaveSet 21 = .ok (.iconst (-1), 1) := dk_2 (dk_at dksX9_leaveSet_0 21 rfl rfl)
theorem dX9_leaveSet_22 : decode cX9_leaveSet 22 = .ok (.ixor, 1) := dk_130 (dk_at dksX9_leaveSet_0 22 rfl rfl)
theorem dX9_leaveSet_23 : decode cX9_leaveSet 23 = .ok (.iand, 1) := dk_126 (dk_at dksX9_leaveSet_0 23 rfl rfl)
theorem dX9_leaveSet_24 : decode cX9_leaveSet 24 = .ok (.ifCond .ne 41, 3) := dk_154 0 41 (dk_at dksX9_leaveSet_1 0 rfl rfl)
theorem dX9_leaveSet_27 : decode cX9_leaveSet 27 = .ok (.iload_n 2, 1) := dk_28 (dk_at dksX9_leaveSet_1 3 rfl rfl)
theorem dX9_leaveSet_28 : decode cX9_leaveSet 28 = .ok (.iconst (-1), 1) := dk_2 (dk_at dksX9_leaveSet_1 4 rfl rfl)
theorem dX9_leaveSet_29 : decode cX9_leaveSet 29 = .ok (.if_icmp .eq 14, 3) := dk_159 0 14 (dk_at dksX9_leaveSet_1 5 rfl rfl)
theorem dX9_leaveSet_32 : decode cX9_leaveSet 32 = .ok (.iload_n 3, 1) := dk_29 (dk_at dksX9_leaveSet_1 8 rfl rfl)
theorem dX9_leaveSet_33 : decode cX9_leaveSet 33 = .ok (.invokestatic 368, 3) := dk_184 1 112 (dk_at dksX9_leaveSet_1 9 rfl rfl)
theorem dX9_leaveSet_36 : decode cX9_leaveSet 36 = .ok (.iload_n 2, 1) := dk_28 (dk_at dksX9_leaveSet_1 12 rfl rfl)
theorem dX9_leaveSet_37 : decode cX9_leaveSet 37 = .ok (.invokestatic 368, 3) := dk_184 1 112 (dk_at dksX9_leaveSet_1 13 rfl rfl)
theorem dX9_leaveSet_40 : decode cX9_leaveSet 40 = .ok (.if_icmp .ge 25, 3) := dk_162 0 25 (dk_at dksX9_leaveSet_1 16 rfl rfl)
theorem dX9_leaveSet_43 : decode cX9_leaveSet 43 = .ok (.aload_n 0, 1) := dk_42 (dk_at dksX9_leaveSet_1 19 rfl rfl)
theorem dX9_leaveSet_44 : decode cX9_leaveSet 44 = .ok (.iload_n 1, 1) := dk_27 (dk_at dksX9_leaveSet_1 20 rfl rfl)
theorem dX9_leaveSet_45 : decode cX9_leaveSet 45 = .ok (.iload_n 3, 1) := dk_29 (dk_at dksX9_leaveSet_1 21 rfl rfl)
theorem dX9_leaveSet_46 : decode cX9_leaveSet 46 = .ok (.iconst (-1), 1) := dk_2 (dk_at dksX9_leaveSet_1 22 rfl rfl)
theorem dX9_leaveSet_47 : decode cX9_leaveSet 47 = .ok (.ixor, 1) := dk_130 (dk_at dksX9_leaveSet_1 23 rfl rfl)
theorem dX9_leaveSet_48 : decode cX9_leaveSet 48 = .ok (.iand, 1) := dk_126 (dk_at dksX9_leaveSet_2 0 rfl rfl)
theorem dX9_leaveSet_49 : decode cX9_leaveSet 49 = .ok (.invokevirtual 371, 3) := dk_182 1 115 (dk_at dksX9_leaveSet_2 1 rfl rfl)
theorem dX9_leaveSet_52 : decode cX9_leaveSet 52 = .ok (.aload_n 0, 1) := dk_42 (dk_at dksX9_leaveSet_2 4 rfl rfl)
theorem dX9_leaveSet_53 : decode cX9_leaveSet 53 = .ok (.invokevirtual 374, 3) := dk_182 1 118 (dk_at dksX9_leaveSet_2 5 rfl rfl)
theorem dX9_leaveSet_56 : decode cX9_leaveSet 56 = .ok (.ifCond .eq 7, 3) := dk_153 0 7 (dk_at dksX9_leaveSet_2 8 rfl rfl)
theorem dX9_leaveSet_59 : decode cX9_leaveSet 59 = .ok (.iload_n 3, 1) := dk_29 (dk_at dksX9_leaveSet_2 11 rfl rfl)
theorem dX9_leaveSet_60 : decode cX9_leaveSet 60 = .ok (.goto 4, 3) := dk_167 0 4 (dk_at dksX9_leaveSet_2 12 rfl rfl)
theorem dX9_leaveSet_63 : decode cX9_leaveSet 63 = .ok (.iload_n 2, 1) := dk_28 (dk_at dksX9_leaveSet_2 15 rfl rfl)
theorem dX9_leaveSet_64 : decode cX9_leaveSet 64 = .ok (.istore_n 2, 1) := dk_61 (dk_at dksX9_leaveSet_2 16 rfl rfl)
theorem dX9_leaveSet_65 : decode cX9_leaveSet 65 = .ok (.iinc 3 1, 3) := dk_132 3 1 (dk_at dksX9_leaveSet_2 17 rfl rfl)
theorem dX9_leaveSet_68 : decode cX9_leaveSet 68 = .ok (.goto (-59), 3) := dk_167 255 197 (dk_at dksX9_leaveSet_2 20 rfl rfl)
theorem dX9_leaveSet_71 : decode cX9_leaveSet 71 = .ok (.aload_n 0, 1) := dk_42 (dk_at dksX9_leaveSet_2 23 rfl rfl)
theorem dX9_leaveSet_72 : decode cX9_leaveSet 72 = .ok (.iload_n 1, 1) := dk_27 (dk_at dksX9_leaveSet_3 0 rfl rfl)
theorem dX9_leaveSet_73 : decode cX9_leaveSet 73 = .ok (.invokevirtual 371, 3) := dk_182 1 115 (dk_at dksX9_leaveSet_3 1 rfl rfl)
theorem dX9_leaveSet_76 : decode cX9_leaveSet 76 = .ok (.iload_n 2, 1) := dk_28 (dk_at dksX9_leaveSet_3 4 rfl rfl)
theorem dX9_leaveSet_77 : decode cX9_leaveSet 77 = .ok (.ireturn, 1) := dk_172 (dk_at dksX9_leaveSet_3 5 rfl rfl)
abbrev cX9_bitsOf : ByteArray := prog_17_method_84_code
def yX9_bitsOf : MethodName := ⟨RX9, "bitsOf", "(I)I"⟩
def dkwX9_bitsOf_0 : List UInt8 := [3, 60, 26, 61, 28, 153, 0, 15, 132, 1, 1, 28, 28, 4, 100, 126, 61, 167, 255, 243, 27, 172]
abbrev dktX9_bitsOf_0 : List UInt8 := dkwX9_bitsOf_0 ++ []
theorem dksX9_bitsOf_0 : cX9_bitsOf.data.toList.drop 0 = dktX9_bitsOf_0 := by decide +kernel
theorem dX9_bitsOf_0 : decode cX9_bitsOf 0 = .ok (.iconst 0, 1) := dk_3 (dk_at dksX9_bitsOf_0 0 rfl rfl)
theorem dX9_bitsOf_1 : decode cX9_bitsOf 1 = .ok (.istore_n 1, 1) := dk_60 (dk_at dksX9_bitsOf_0 1 rfl rfl)
theorem dX9_bitsOf_2 : decode cX9_bitsOf 2 = .ok (.iload_n 0, 1) := dk_26 (dk_at dksX9_bitsOf_0 2 rfl rfl)
theorem dX9_bitsOf_3 : decode cX9_bitsOf 3 = .ok (.istore_n 2, 1) := dk_61 (dk_at dksX9_bitsOf_0 3 rfl rfl)
theorem dX9_bitsOf_4 : decode cX9_bitsOf 4 = .ok (.iload_n 2, 1) := dk_28 (dk_at dksX9_bitsOf_0 4 rfl rfl)
theorem dX9_bitsOf_5 : decode cX9_bitsOf 5 = .ok (.ifCond .eq 15, 3) := dk_153 0 15 (dk_at dksX9_bitsOf_0 5 rfl rfl)
theorem dX9_bitsOf_8 : decode cX9_bitsOf 8 = .ok (.iinc 1 1, 3) := dk_132 1 1 (dk_at dksX9_bitsOf_0 8 rfl rfl)
theorem dX9_bitsOf_11 : decode cX9_bitsOf 11 = .ok (.iload_n 2, 1) := dk_28 (dk_at dksX9_bitsOf_0 11 rfl rfl)
theorem dX9_bitsOf_12 : decode cX9_bitsOf 12 = .ok (.iload_n 2, 1) := dk_28 (dk_at dksX9_bitsOf_0 12 rfl rfl)
theorem dX9_bitsOf_13 : decode cX9_bitsOf 13 = .ok (.iconst 1, 1) := dk_4 (dk_at dksX9_bitsOf_0 13 rfl rfl)
theorem dX9_bitsOf_14 : decode cX9_bitsOf 14 = .ok (.isub, 1) := dk_100 (dk_at dksX9_bitsOf_0 14 rfl rfl)
theorem dX9_bitsOf_15 : decode cX9_bitsOf 15 = .ok (.iand, 1) := dk_126 (dk_at dksX9_bitsOf_0 15 rfl rfl)
theorem dX9_bitsOf_16 : decode cX9_bitsOf 16 = .ok (.istore_n 2, 1) := dk_61 (dk_at dksX9_bitsOf_0 16 rfl rfl)
theorem dX9_bitsOf_17 : decode cX9_bitsOf 17 = .ok (.goto (-13), 3) := dk_167 255 243 (dk_at dksX9_bitsOf_0 17 rfl rfl)
theorem dX9_bitsOf_20 : decode cX9_bitsOf 20 = .ok (.iload_n 1, 1) := dk_27 (dk_at dksX9_bitsOf_0 20 rfl rfl)
theorem dX9_bitsOf_21 : decode cX9_bitsOf 21 = .ok (.ireturn, 1) := dk_172 (dk_at dksX9_bitsOf_0 21 rfl rfl)
abbrev cX9_hereJust : ByteArray := prog_17_method_85_code
def yX9_hereJust : MethodName := ⟨RX9, "hereJust", "(I)V"⟩
def dkwX9_hereJust_1 : List UInt8 := [79, 132, 2, 1, 167, 255, 230, 177]
abbrev dktX9_hereJust_1 : List UInt8 := dkwX9_hereJust_1 ++ []
def dkwX9_hereJust_0 : List UInt8 := [3, 61, 28, 42, 180, 0, 64, 162, 0, 24, 42, 180, 0, 26, 8, 28, 104, 6, 96, 27, 28, 122, 4, 126]
abbrev dktX9_hereJust_0 : List UInt8 := dkwX9_hereJust_0 ++ dktX9_hereJust_1
theorem dksX9_hereJust_0 : cX9_hereJust.data.toList.drop 0 = dktX9_hereJust_0 := by decide +kernel
theorem dksX9_hereJust_1 : cX9_hereJust.data.toList.drop 24 = dktX9_hereJust_1 := dk_seg dksX9_hereJust_0 24 rfl rfl
theorem dX9_hereJust_0 : decode cX9_hereJust 0 = .ok (.iconst 0, 1) := dk_3 (dk_at dksX9_hereJust_0 0 rfl rfl)
theorem dX9_hereJust_1 : decode cX9_hereJust 1 = .ok (.istore_n 2, 1) := dk_61 (dk_at dksX9_hereJust_0 1 rfl rfl)
theorem dX9_hereJust_2 : decode cX9_hereJust 2 = .ok (.iload_n 2, 1) := dk_28 (dk_at dksX9_hereJust_0 2 rfl rfl)
theorem dX9_hereJust_3 : decode cX9_hereJust 3 = .ok (.aload_n 0, 1) := dk_42 (dk_at dksX9_hereJust_0 3 rfl rfl)
theorem dX9_hereJust_4 : decode cX9_hereJust 4 = .ok (.getfield 64, 3) := dk_180 0 64 (dk_at dksX9_hereJust_0 4 rfl rfl)
theorem dX9_hereJust_7 : decode cX9_hereJust 7 = .ok (.if_icmp .ge 24, 3) := dk_162 0 24 (dk_at dksX9_hereJust_0 7 rfl rfl)
theorem dX9_hereJust_10 : decode cX9_hereJust 10 = .ok (.aload_n 0, 1) := dk_42 (dk_at dksX9_hereJust_0 10 rfl rfl)
theorem dX9_hereJust_11 : decode cX9_hereJust 11 = .ok (.getfield 26, 3) := dk_180 0 26 (dk_at dksX9_hereJust_0 11 rfl rfl)
theorem dX9_hereJust_14 : decode cX9_hereJust 14 = .ok (.iconst 5, 1) := dk_8 (dk_at dksX9_hereJust_0 14 rfl rfl)
theorem dX9_hereJust_15 : decode cX9_hereJust 15 = .ok (.iload_n 2, 1) := dk_28 (dk_at dksX9_hereJust_0 15 rfl rfl)
theorem dX9_hereJust_16 : decode cX9_hereJust 16 = .ok (.imul, 1) := dk_104 (dk_at dksX9_hereJust_0 16 rfl rfl)
theorem dX9_hereJust_17 : decode cX9_hereJust 17 = .ok (.iconst 3, 1) := dk_6 (dk_at dksX9_hereJust_0 17 rfl rfl)
theorem dX9_hereJust_18 : decode cX9_hereJust 18 = .ok (.iadd, 1) := dk_96 (dk_at dksX9_hereJust_0 18 rfl rfl)
theorem dX9_hereJust_19 : decode cX9_hereJust 19 = .ok (.iload_n 1, 1) := dk_27 (dk_at dksX9_hereJust_0 19 rfl rfl)
theorem dX9_hereJust_20 : decode cX9_hereJust 20 = .ok (.iload_n 2, 1) := dk_28 (dk_at dksX9_hereJust_0 20 rfl rfl)
theorem dX9_hereJust_21 : decode cX9_hereJust 21 = .ok (.ishr, 1) := dk_122 (dk_at dksX9_hereJust_0 21 rfl rfl)
theorem dX9_hereJust_22 : decode cX9_hereJust 22 = .ok (.iconst 1, 1) := dk_4 (dk_at dksX9_hereJust_0 22 rfl rfl)
theorem dX9_hereJust_23 : decode cX9_hereJust 23 = .ok (.iand, 1) := dk_126 (dk_at dksX9_hereJust_0 23 rfl rfl)
theorem dX9_hereJust_24 : decode cX9_hereJust 24 = .ok (.iastore, 1) := dk_79 (dk_at dksX9_hereJust_1 0 rfl rfl)
theorem dX9_hereJust_25 : decode cX9_hereJust 25 = .ok (.iinc 2 1, 3) := dk_132 2 1 (dk_at dksX9_hereJust_1 1 rfl rfl)
theorem dX9_hereJust_28 : decode cX9_hereJust 28 = .ok (.goto (-26), 3) := dk_167 255 230 (dk_at dksX9_hereJust_1 4 rfl rfl)
theorem dX9_hereJust_31 : decode cX9_hereJust 31 = .ok (.return_, 1) := dk_177 (dk_at dksX9_hereJust_1 7 rfl rfl)
abbrev cX9_anyCan : ByteArray := prog_17_method_86_code
def yX9_anyCan : MethodName := ⟨RX9, "anyCan", "()Z"⟩
def dkwX9_anyCan_1 : List UInt8 := [132, 2, 1, 167, 255, 235, 27, 172]
abbrev dktX9_anyCan_1 : List UInt8 := dkwX9_anyCan_1 ++ []
def dkwX9_anyCan_0 : List UInt8 := [3, 60, 3, 61, 28, 42, 180, 0, 64, 162, 0, 19, 27, 154, 0, 15, 42, 28, 182, 0, 116, 60]
abbrev dktX9_anyCan_0 : List UInt8 := dkwX9_anyCan_0 ++ dktX9_anyCan_1
theorem dksX9_anyCan_0 : cX9_anyCan.data.toList.drop 0 = dktX9_anyCan_0 := by decide +kernel
theorem dksX9_anyCan_1 : cX9_anyCan.data.toList.drop 22 = dktX9_anyCan_1 := dk_seg dksX9_anyCan_0 22 rfl rfl
theorem dX9_anyCan_0 : decode cX9_anyCan 0 = .ok (.iconst 0, 1) := dk_3 (dk_at dksX9_anyCan_0 0 rfl rfl)
theorem dX9_anyCan_1 : decode cX9_anyCan 1 = .ok (.istore_n 1, 1) := dk_60 (dk_at dksX9_anyCan_0 1 rfl rfl)
theorem dX9_anyCan_2 : decode cX9_anyCan 2 = .ok (.iconst 0, 1) := dk_3 (dk_at dksX9_anyCan_0 2 rfl rfl)
theorem dX9_anyCan_3 : decode cX9_anyCan 3 = .ok (.istore_n 2, 1) := dk_61 (dk_at dksX9_anyCan_0 3 rfl rfl)
theorem dX9_anyCan_4 : decode cX9_anyCan 4 = .ok (.iload_n 2, 1) := dk_28 (dk_at dksX9_anyCan_0 4 rfl rfl)
theorem dX9_anyCan_5 : decode cX9_anyCan 5 = .ok (.aload_n 0, 1) := dk_42 (dk_at dksX9_anyCan_0 5 rfl rfl)
theorem dX9_anyCan_6 : decode cX9_anyCan 6 = .ok (.getfield 64, 3) := dk_180 0 64 (dk_at dksX9_anyCan_0 6 rfl rfl)
theorem dX9_anyCan_9 : decode cX9_anyCan 9 = .ok (.if_icmp .ge 19, 3) := dk_162 0 19 (dk_at dksX9_anyCan_0 9 rfl rfl)
theorem dX9_anyCan_12 : decode cX9_anyCan 12 = .ok (.iload_n 1, 1) := dk_27 (dk_at dksX9_anyCan_0 12 rfl rfl)
theorem dX9_anyCan_13 : decode cX9_anyCan 13 = .ok (.ifCond .ne 15, 3) := dk_154 0 15 (dk_at dksX9_anyCan_0 13 rfl rfl)
theorem dX9_anyCan_16 : decode cX9_anyCan 16 = .ok (.aload_n 0, 1) := dk_42 (dk_at dksX9_anyCan_0 16 rfl rfl)
theorem dX9_anyCan_17 : decode cX9_anyCan 17 = .ok (.iload_n 2, 1) := dk_28 (dk_at dksX9_anyCan_0 17 rfl rfl)
theorem dX9_anyCan_18 : decode cX9_anyCan 18 = .ok (.invokevirtual 116, 3) := dk_182 0 116 (dk_at dksX9_anyCan_0 18 rfl rfl)
theorem dX9_anyCan_21 : decode cX9_anyCan 21 = .ok (.istore_n 1, 1) := dk_60 (dk_at dksX9_anyCan_0 21 rfl rfl)
theorem dX9_anyCan_22 : decode cX9_anyCan 22 = .ok (.iinc 2 1, 3) := dk_132 2 1 (dk_at dksX9_anyCan_1 0 rfl rfl)
theorem dX9_anyCan_25 : decode cX9_anyCan 25 = .ok (.goto (-21), 3) := dk_167 255 235 (dk_at dksX9_anyCan_1 3 rfl rfl)
theorem dX9_anyCan_28 : decode cX9_anyCan 28 = .ok (.iload_n 1, 1) := dk_27 (dk_at dksX9_anyCan_1 6 rfl rfl)
theorem dX9_anyCan_29 : decode cX9_anyCan 29 = .ok (.ireturn, 1) := dk_172 (dk_at dksX9_anyCan_1 7 rfl rfl)
abbrev cX9_prop : ByteArray := prog_17_method_90_code
def yX9_prop : MethodName := ⟨RX9, "prop", "(III)I"⟩
def dkwX9_prop_5 : List UInt8 := [167, 255, 188, 29, 154, 0, 8, 21, 4, 167, 0, 5, 21, 5, 172]
abbrev dktX9_prop_5 : List UInt8 := dkwX9_prop_5 ++ []
def dkwX9_prop_4 : List UInt8 := [21, 6, 21, 7, 79, 21, 8, 21, 5, 162, 0, 11, 21, 6, 54, 4, 21, 8, 54, 5, 132, 6, 1]
abbrev dktX9_prop_4 : List UInt8 := dkwX9_prop_4 ++ dktX9_prop_5
def dkwX9_prop_3 : List UInt8 := [21, 7, 28, 96, 3, 17, 3, 231, 184, 1, 72, 79, 42, 27, 182, 1, 133, 54, 8, 42, 180, 0, 23]
abbrev dktX9_prop_3 : List UInt8 := dkwX9_prop_3 ++ dktX9_prop_4
def dkwX9_prop_2 : List UInt8 := [54, 6, 21, 6, 16, 10, 162, 0, 67, 42, 180, 0, 23, 21, 6, 46, 54, 7, 42, 180, 0, 23, 21, 6]
abbrev dktX9_prop_2 : List UInt8 := dkwX9_prop_2 ++ dktX9_prop_3
def dkwX9_prop_1 : List UInt8 := [29, 133, 9, 10, 184, 0, 67, 154, 0, 6, 16, 254, 172, 2, 54, 4, 42, 27, 182, 1, 133, 54, 5, 3]
abbrev dktX9_prop_1 : List UInt8 := dkwX9_prop_1 ++ dktX9_prop_2
def dkwX9_prop_0 : List UInt8 := [27, 133, 9, 20, 1, 129, 184, 0, 67, 153, 0, 25, 28, 133, 10, 20, 1, 131, 184, 0, 67, 153, 0, 13]
abbrev dktX9_prop_0 : List UInt8 := dkwX9_prop_0 ++ dktX9_prop_1
theorem dksX9_prop_0 : cX9_prop.data.toList.drop 0 = dktX9_prop_0 := by decide +kernel
theorem dksX9_prop_1 : cX9_prop.data.toList.drop 24 = dktX9_prop_1 := dk_seg dksX9_prop_0 24 rfl rfl
theorem dksX9_prop_2 : cX9_prop.data.toList.drop 48 = dktX9_prop_2 := dk_seg dksX9_prop_1 24 rfl rfl
theorem dksX9_prop_3 : cX9_prop.data.toList.drop 72 = dktX9_prop_3 := dk_seg dksX9_prop_2 24 rfl rfl
theorem dksX9_prop_4 : cX9_prop.data.toList.drop 95 = dktX9_prop_4 := dk_seg dksX9_prop_3 23 rfl rfl
theorem dksX9_prop_5 : cX9_prop.data.toList.drop 118 = dktX9_prop_5 := dk_seg dksX9_prop_4 23 rfl rfl
theorem dX9_prop_0 : decode cX9_prop 0 = .ok (.iload_n 1, 1) := dk_27 (dk_at dksX9_prop_0 0 rfl rfl)
theorem dX9_prop_1 : decode cX9_prop 1 = .ok (.i2l, 1) := dk_133 (dk_at dksX9_prop_0 1 rfl rfl)
theorem dX9_prop_2 : decode cX9_prop 2 = .ok (.lconst 0, 1) := dk_9 (dk_at dksX9_prop_0 2 rfl rfl)
theorem dX9_prop_3 : decode cX9_prop 3 = .ok (.ldc2_w 385, 3) := dk_20 1 129 (dk_at dksX9_prop_0 3 rfl rfl)
theorem dX9_prop_6 : decode cX9_prop 6 = .ok (.invokestatic 67, 3) := dk_184 0 67 (dk_at dksX9_prop_0 6 rfl rfl)
theorem dX9_prop_9 : decode cX9_prop 9 = .ok (.ifCond .eq 25, 3) := dk_153 0 25 (dk_at dksX9_prop_0 9 rfl rfl)
theorem dX9_prop_12 : decode cX9_prop 12 = .ok (.iload_n 2, 1) := dk_28 (dk_at dksX9_prop_0 12 rfl rfl)
theorem dX9_prop_13 : decode cX9_prop 13 = .ok (.i2l, 1) := dk_133 (dk_at dksX9_prop_0 13 rfl rfl)
theorem dX9_prop_14 : decode cX9_prop 14 = .ok (.lconst 1, 1) := dk_10 (dk_at dksX9_prop_0 14 rfl rfl)
theorem dX9_prop_15 : decode cX9_prop 15 = .ok (.ldc2_w 387, 3) := dk_20 1 131 (dk_at dksX9_prop_0 15 rfl rfl)
theorem dX9_prop_18 : decode cX9_prop 18 = .ok (.invokestatic 67, 3) := dk_184 0 67 (dk_at dksX9_prop_0 18 rfl rfl)
theorem dX9_prop_21 : decode cX9_prop 21 = .ok (.ifCond .eq 13, 3) := dk_153 0 13 (dk_at dksX9_prop_0 21 rfl rfl)
theorem dX9_prop_24 : decode cX9_prop 24 = .ok (.iload_n 3, 1) := dk_29 (dk_at dksX9_prop_1 0 rfl rfl)
theorem dX9_prop_25 : decode cX9_prop 25 = .ok (.i2l, 1) := dk_133 (dk_at dksX9_prop_1 1 rfl rfl)
theorem dX9_prop_26 : decode cX9_prop 26 = .ok (.lconst 0, 1) := dk_9 (dk_at dksX9_prop_1 2 rfl rfl)
theorem dX9_prop_27 : decode cX9_prop 27 = .ok (.lconst 1, 1) := dk_10 (dk_at dksX9_prop_1 3 rfl rfl)
theorem dX9_prop_28 : decode cX9_prop 28 = .ok (.invokestatic 67, 3) := dk_184 0 67 (dk_at dksX9_prop_1 4 rfl rfl)
theorem dX9_prop_31 : decode cX9_prop 31 = .ok (.ifCond .ne 6, 3) := dk_154 0 6 (dk_at dksX9_prop_1 7 rfl rfl)
theorem dX9_prop_34 : decode cX9_prop 34 = .ok (.bipush (-2), 2) := dk_16 254 (dk_at dksX9_prop_1 10 rfl rfl)
theorem dX9_prop_36 : decode cX9_prop 36 = .ok (.ireturn, 1) := dk_172 (dk_at dksX9_prop_1 12 rfl rfl)
theorem dX9_prop_37 : decode cX9_prop 37 = .ok (.iconst (-1), 1) := dk_2 (dk_at dksX9_prop_1 13 rfl rfl)
theorem dX9_prop_38 : decode cX9_prop 38 = .ok (.istore 4, 2) := dk_54 4 (dk_at dksX9_prop_1 14 rfl rfl)
theorem dX9_prop_40 : decode cX9_prop 40 = .ok (.aload_n 0, 1) := dk_42 (dk_at dksX9_prop_1 16 rfl rfl)
theorem dX9_prop_41 : decode cX9_prop 41 = .ok (.iload_n 1, 1) := dk_27 (dk_at dksX9_prop_1 17 rfl rfl)
theorem dX9_prop_42 : decode cX9_prop 42 = .ok (.invokevirtual 389, 3) := dk_182 1 133 (dk_at dksX9_prop_1 18 rfl rfl)
theorem dX9_prop_45 : decode cX9_prop 45 = .ok (.istore 5, 2) := dk_54 5 (dk_at dksX9_prop_1 21 rfl rfl)
theorem dX9_prop_47 : decode cX9_prop 47 = .ok (.iconst 0, 1) := dk_3 (dk_at dksX9_prop_1 23 rfl rfl)
theorem dX9_prop_48 : decode cX9_prop 48 = .ok (.istore 6, 2) := dk_54 6 (dk_at dksX9_prop_2 0 rfl rfl)
theorem dX9_prop_50 : decode cX9_prop 50 = .ok (.iload 6, 2) := dk_21 6 (dk_at dksX9_prop_2 2 rfl rfl)
theorem dX9_prop_52 : decode cX9_prop 52 = .ok (.bipush 10, 2) := dk_16 10 (dk_at dksX9_prop_2 4 rfl rfl)
theorem dX9_prop_54 : decode cX9_prop 54 = .ok (.if_icmp .ge 67, 3) := dk_162 0 67 (dk_at dksX9_prop_2 6 rfl rfl)
theorem dX9_prop_57 : decode cX9_prop 57 = .ok (.aload_n 0, 1) := dk_42 (dk_at dksX9_prop_2 9 rfl rfl)
theorem dX9_prop_58 : decode cX9_prop 58 = .ok (.getfield 23, 3) := dk_180 0 23 (dk_at dksX9_prop_2 10 rfl rfl)
theorem dX9_prop_61 : decode cX9_prop 61 = .ok (.iload 6, 2) := dk_21 6 (dk_at dksX9_prop_2 13 rfl rfl)
theorem dX9_prop_63 : decode cX9_prop 63 = .ok (.iaload, 1) := dk_46 (dk_at dksX9_prop_2 15 rfl rfl)
theorem dX9_prop_64 : decode cX9_prop 64 = .ok (.istore 7, 2) := dk_54 7 (dk_at dksX9_prop_2 16 rfl rfl)
theorem dX9_prop_66 : decode cX9_prop 66 = .ok (.aload_n 0, 1) := dk_42 (dk_at dksX9_prop_2 18 rfl rfl)
theorem dX9_prop_67 : decode cX9_prop 67 = .ok (.getfield 23, 3) := dk_180 0 23 (dk_at dksX9_prop_2 19 rfl rfl)
theorem dX9_prop_70 : decode cX9_prop 70 = .ok (.iload 6, 2) := dk_21 6 (dk_at dksX9_prop_2 22 rfl rfl)
theorem dX9_prop_72 : decode cX9_prop 72 = .ok (.iload 7, 2) := dk_21 7 (dk_at dksX9_prop_3 0 rfl rfl)
theorem dX9_prop_74 : decode cX9_prop 74 = .ok (.iload_n 2, 1) := dk_28 (dk_at dksX9_prop_3 2 rfl rfl)
theorem dX9_prop_75 : decode cX9_prop 75 = .ok (.iadd, 1) := dk_96 (dk_at dksX9_prop_3 3 rfl rfl)
theorem dX9_prop_76 : decode cX9_prop 76 = .ok (.iconst 0, 1) := dk_3 (dk_at dksX9_prop_3 4 rfl rfl)
theorem dX9_prop_77 : decode cX9_prop 77 = .ok (.sipush 999, 3) := dk_17 3 231 (dk_at dksX9_prop_3 5 rfl rfl)
theorem dX9_prop_80 : decode cX9_prop 80 = .ok (.invokestatic 328, 3) := dk_184 1 72 (dk_at dksX9_prop_3 8 rfl rfl)
theorem dX9_prop_83 : decode cX9_prop 83 = .ok (.iastore, 1) := dk_79 (dk_at dksX9_prop_3 11 rfl rfl)
theorem dX9_prop_84 : decode cX9_prop 84 = .ok (.aload_n 0, 1) := dk_42 (dk_at dksX9_prop_3 12 rfl rfl)
theorem dX9_prop_85 : decode cX9_prop 85 = .ok (.iload_n 1, 1) := dk_27 (dk_at dksX9_prop_3 13 rfl rfl)
theorem dX9_prop_86 : decode cX9_prop 86 = .ok (.invokevirtual 389, 3) := dk_182 1 133 (dk_at dksX9_prop_3 14 rfl rfl)
theorem dX9_prop_89 : decode cX9_prop 89 = .ok (.istore 8, 2) := dk_54 8 (dk_at dksX9_prop_3 17 rfl rfl)
theorem dX9_prop_91 : decode cX9_prop 91 = .ok (.aload_n 0, 1) := dk_42 (dk_at dksX9_prop_3 19 rfl rfl)
theorem dX9_prop_92 : decode cX9_prop 92 = .ok (.getfield 23, 3) := dk_180 0 23 (dk_at dksX9_prop_3 20 rfl rfl)
theorem dX9_prop_95 : decode cX9_prop 95 = .ok (.iload 6, 2) := dk_21 6 (dk_at dksX9_prop_4 0 rfl rfl)
theorem dX9_prop_97 : decode cX9_prop 97 = .ok (.iload 7, 2) := dk_21 7 (dk_at dksX9_prop_4 2 rfl rfl)
theorem dX9_prop_99 : decode cX9_prop 99 = .ok (.iastore, 1) := dk_79 (dk_at dksX9_prop_4 4 rfl rfl)
theorem dX9_prop_100 : decode cX9_prop 100 = .ok (.iload 8, 2) := dk_21 8 (dk_at dksX9_prop_4 5 rfl rfl)
theorem dX9_prop_102 : decode cX9_prop 102 = .ok (.iload 5, 2) := dk_21 5 (dk_at dksX9_prop_4 7 rfl rfl)
theorem dX9_prop_104 : decode cX9_prop 104 = .ok (.if_icmp .ge 11, 3) := dk_162 0 11 (dk_at dksX9_prop_4 9 rfl rfl)
theorem dX9_prop_107 : decode cX9_prop 107 = .ok (.iload 6, 2) := dk_21 6 (dk_at dksX9_prop_4 12 rfl rfl)
theorem dX9_prop_109 : decode cX9_prop 109 = .ok (.istore 4, 2) := dk_54 4 (dk_at dksX9_prop_4 14 rfl rfl)
theorem dX9_prop_111 : decode cX9_prop 111 = .ok (.iload 8, 2) := dk_21 8 (dk_at dksX9_prop_4 16 rfl rfl)
theorem dX9_prop_113 : decode cX9_prop 113 = .ok (.istore 5, 2) := dk_54 5 (dk_at dksX9_prop_4 18 rfl rfl)
theorem dX9_prop_115 : decode cX9_prop 115 = .ok (.iinc 6 1, 3) := dk_132 6 1 (dk_at dksX9_prop_4 20 rfl rfl)
theorem dX9_prop_118 : decode cX9_prop 118 = .ok (.goto (-68), 3) := dk_167 255 188 (dk_at dksX9_prop_5 0 rfl rfl)
theorem dX9_prop_121 : decode cX9_prop 121 = .ok (.iload_n 3, 1) := dk_29 (dk_at dksX9_prop_5 3 rfl rfl)
theorem dX9_prop_122 : decode cX9_prop 122 = .ok (.ifCond .ne 8, 3) := dk_154 0 8 (dk_at dksX9_prop_5 4 rfl rfl)
theorem dX9_prop_125 : decode cX9_prop 125 = .ok (.iload 4, 2) := dk_21 4 (dk_at dksX9_prop_5 7 rfl rfl)
theorem dX9_prop_127 : decode cX9_prop 127 = .ok (.goto 5, 3) := dk_167 0 5 (dk_at dksX9_prop_5 9 rfl rfl)
theorem dX9_prop_130 : decode cX9_prop 130 = .ok (.iload 5, 2) := dk_21 5 (dk_at dksX9_prop_5 12 rfl rfl)
theorem dX9_prop_132 : decode cX9_prop 132 = .ok (.ireturn, 1) := dk_172 (dk_at dksX9_prop_5 14 rfl rfl)
abbrev cX9_floorBehind : ByteArray := prog_17_method_80_code
def yX9_floorBehind : MethodName := ⟨RX9, "floorBehind", "(I)I"⟩
def dkwX9_floorBehind_0 : List UInt8 := [42, 182, 1, 99, 42, 27, 182, 1, 102, 42, 180, 0, 95, 61, 42, 182, 1, 106, 28, 172]
abbrev dktX9_floorBehind_0 : List UInt8 := dkwX9_floorBehind_0 ++ []
theorem dksX9_floorBehind_0 : cX9_floorBehind.data.toList.drop 0 = dktX9_floorBehind_0 := by decide +kernel
theorem dX9_floorBehind_0 : decode cX9_floorBehind 0 = .ok (.aload_n 0, 1) := dk_42 (dk_at dksX9_floorBehind_0 0 rfl rfl)
theorem dX9_floorBehind_1 : decode cX9_floorBehind 1 = .ok (.invokevirtual 355, 3) := dk_182 1 99 (dk_at dksX9_floorBehind_0 1 rfl rfl)
theorem dX9_floorBehind_4 : decode cX9_floorBehind 4 = .ok (.aload_n 0, 1) := dk_42 (dk_at dksX9_floorBehind_0 4 rfl rfl)
theorem dX9_floorBehind_5 : decode cX9_floorBehind 5 = .ok (.iload_n 1, 1) := dk_27 (dk_at dksX9_floorBehind_0 5 rfl rfl)
theorem dX9_floorBehind_6 : decode cX9_floorBehind 6 = .ok (.invokevirtual 358, 3) := dk_182 1 102 (dk_at dksX9_floorBehind_0 6 rfl rfl)
theorem dX9_floorBehind_9 : decode cX9_floorBehind 9 = .ok (.aload_n 0, 1) := dk_42 (dk_at dksX9_floorBehind_0 9 rfl rfl)
theorem dX9_floorBehind_10 : decode cX9_floorBehind 10 = .ok (.getfield 95, 3) := dk_180 0 95 (dk_at dksX9_floorBehind_0 10 rfl rfl)
theorem dX9_floorBehind_13 : decode cX9_floorBehind 13 = .ok (.istore_n 2, 1) := dk_61 (dk_at dksX9_floorBehind_0 13 rfl rfl)
theorem dX9_floorBehind_14 : decode cX9_floorBehind 14 = .ok (.aload_n 0, 1) := dk_42 (dk_at dksX9_floorBehind_0 14 rfl rfl)
theorem dX9_floorBehind_15 : decode cX9_floorBehind 15 = .ok (.invokevirtual 362, 3) := dk_182 1 106 (dk_at dksX9_floorBehind_0 15 rfl rfl)
theorem dX9_floorBehind_18 : decode cX9_floorBehind 18 = .ok (.iload_n 2, 1) := dk_28 (dk_at dksX9_floorBehind_0 18 rfl rfl)
theorem dX9_floorBehind_19 : decode cX9_floorBehind 19 = .ok (.ireturn, 1) := dk_172 (dk_at dksX9_floorBehind_0 19 rfl rfl)
abbrev cX9_sit : ByteArray := prog_17_method_91_code
def yX9_sit : MethodName := ⟨RX9, "sit", "(II)I"⟩
def dkwX9_sit_4 : List UInt8 := [21, 5, 62, 21, 6, 54, 4, 132, 5, 1, 167, 255, 185, 28, 154, 0, 7, 29, 167, 0, 5, 21, 4, 172]
abbrev dktX9_sit_4 : List UInt8 := dkwX9_sit_4 ++ []
def dkwX9_sit_3 : List UInt8 := [180, 0, 26, 8, 21, 5, 104, 6, 96, 3, 79, 29, 2, 159, 0, 10, 21, 6, 21, 4, 162, 0, 10]
abbrev dktX9_sit_3 : List UInt8 := dkwX9_sit_3 ++ dktX9_sit_4
def dkwX9_sit_2 : List UInt8 := [154, 0, 53, 42, 180, 0, 26, 8, 21, 5, 104, 6, 96, 4, 79, 42, 27, 182, 1, 133, 54, 6, 42]
abbrev dktX9_sit_2 : List UInt8 := dkwX9_sit_2 ++ dktX9_sit_3
def dkwX9_sit_1 : List UInt8 := [172, 2, 62, 2, 54, 4, 3, 54, 5, 21, 5, 42, 180, 0, 64, 162, 0, 68, 42, 21, 5, 182, 1, 79]
abbrev dktX9_sit_1 : List UInt8 := dkwX9_sit_1 ++ dktX9_sit_2
def dkwX9_sit_0 : List UInt8 := [27, 133, 9, 20, 1, 129, 184, 0, 67, 153, 0, 13, 28, 133, 9, 10, 184, 0, 67, 154, 0, 6, 16, 254]
abbrev dktX9_sit_0 : List UInt8 := dkwX9_sit_0 ++ dktX9_sit_1
theorem dksX9_sit_0 : cX9_sit.data.toList.drop 0 = dktX9_sit_0 := by decide +kernel
theorem dksX9_sit_1 : cX9_sit.data.toList.drop 24 = dktX9_sit_1 := dk_seg dksX9_sit_0 24 rfl rfl
theorem dksX9_sit_2 : cX9_sit.data.toList.drop 48 = dktX9_sit_2 := dk_seg dksX9_sit_1 24 rfl rfl
theorem dksX9_sit_3 : cX9_sit.data.toList.drop 71 = dktX9_sit_3 := dk_seg dksX9_sit_2 23 rfl rfl
theorem dksX9_sit_4 : cX9_sit.data.toList.drop 94 = dktX9_sit_4 := dk_seg dksX9_sit_3 23 rfl rfl
theorem dX9_sit_0 : decode cX9_sit 0 = .ok (.iload_n 1, 1) := dk_27 (dk_at dksX9_sit_0 0 rfl rfl)
theorem dX9_sit_1 : decode cX9_sit 1 = .ok (.i2l, 1) := dk_133 (dk_at dksX9_sit_0 1 rfl rfl)
theorem dX9_sit_2 : decode cX9_sit 2 = .ok (.lconst 0, 1) := dk_9 (dk_at dksX9_sit_0 2 rfl rfl)
theorem dX9_sit_3 : decode cX9_sit 3 = .ok (.ldc2_w 385, 3) := dk_20 1 129 (dk_at dksX9_sit_0 3 rfl rfl)
theorem dX9_sit_6 : decode cX9_sit 6 = .ok (.invokestatic 67, 3) := dk_184 0 67 (dk_at dksX9_sit_0 6 rfl rfl)
theorem dX9_sit_9 : decode cX9_sit 9 = .ok (.ifCond .eq 13, 3) := dk_153 0 13 (dk_at dksX9_sit_0 9 rfl rfl)
theorem dX9_sit_12 : decode cX9_sit 12 = .ok (.iload_n 2, 1) := dk_28 (dk_at dksX9_sit_0 12 rfl rfl)
theorem dX9_sit_13 : decode cX9_sit 13 = .ok (.i2l, 1) := dk_133 (dk_at dksX9_sit_0 13 rfl rfl)
theorem dX9_sit_14 : decode cX9_sit 14 = .ok (.lconst 0, 1) := dk_9 (dk_at dksX9_sit_0 14 rfl rfl)
theorem dX9_sit_15 : decode cX9_sit 15 = .ok (.lconst 1, 1) := dk_10 (dk_at dksX9_sit_0 15 rfl rfl)
theorem dX9_sit_16 : decode cX9_sit 16 = .ok (.invokestatic 67, 3) := dk_184 0 67 (dk_at dksX9_sit_0 16 rfl rfl)
theorem dX9_sit_19 : decode cX9_sit 19 = .ok (.ifCond .ne 6, 3) := dk_154 0 6 (dk_at dksX9_sit_0 19 rfl rfl)
theorem dX9_sit_22 : decode cX9_sit 22 = .ok (.bipush (-2), 2) := dk_16 254 (dk_at dksX9_sit_0 22 rfl rfl)
theorem dX9_sit_24 : decode cX9_sit 24 = .ok (.ireturn, 1) := dk_172 (dk_at dksX9_sit_1 0 rfl rfl)
theorem dX9_sit_25 : decode cX9_sit 25 = .ok (.iconst (-1), 1) := dk_2 (dk_at dksX9_sit_1 1 rfl rfl)
theorem dX9_sit_26 : decode cX9_sit 26 = .ok (.istore_n 3, 1) := dk_62 (dk_at dksX9_sit_1 2 rfl rfl)
theorem dX9_sit_27 : decode cX9_sit 27 = .ok (.iconst (-1), 1) := dk_2 (dk_at dksX9_sit_1 3 rfl rfl)
theorem dX9_sit_28 : decode cX9_sit 28 = .ok (.istore 4, 2) := dk_54 4 (dk_at dksX9_sit_1 4 rfl rfl)
theorem dX9_sit_30 : decode cX9_sit 30 = .ok (.iconst 0, 1) := dk_3 (dk_at dksX9_sit_1 6 rfl rfl)
theorem dX9_sit_31 : decode cX9_sit 31 = .ok (.istore 5, 2) := dk_54 5 (dk_at dksX9_sit_1 7 rfl rfl)
theorem dX9_sit_33 : decode cX9_sit 33 = .ok (.iload 5, 2) := dk_21 5 (dk_at dksX9_sit_1 9 rfl rfl)
theorem dX9_sit_35 : decode cX9_sit 35 = .ok (.aload_n 0, 1) := dk_42 (dk_at dksX9_sit_1 11 rfl rfl)
theorem dX9_sit_36 : decode cX9_sit 36 = .ok (.getfield 64, 3) := dk_180 0 64 (dk_at dksX9_sit_1 12 rfl rfl)
theorem dX9_sit_39 : decode cX9_sit 39 = .ok (.if_icmp .ge 68, 3) := dk_162 0 68 (dk_at dksX9_sit_1 15 rfl rfl)
theorem dX9_sit_42 : decode cX9_sit 42 = .ok (.aload_n 0, 1) := dk_42 (dk_at dksX9_sit_1 18 rfl rfl)
theorem dX9_sit_43 : decode cX9_sit 43 = .ok (.iload 5, 2) := dk_21 5 (dk_at dksX9_sit_1 19 rfl rfl)
theorem dX9_sit_45 : decode cX9_sit 45 = .ok (.invokevirtual 335, 3) := dk_182 1 79 (dk_at dksX9_sit_1 21 rfl rfl)
theorem dX9_sit_48 : decode cX9_sit 48 = .ok (.ifCond .ne 53, 3) := dk_154 0 53 (dk_at dksX9_sit_2 0 rfl rfl)
theorem dX9_sit_51 : decode cX9_sit 51 = .ok (.aload_n 0, 1) := dk_42 (dk_at dksX9_sit_2 3 rfl rfl)
theorem dX9_sit_52 : decode cX9_sit 52 = .ok (.getfield 26, 3) := dk_180 0 26 (dk_at dksX9_sit_2 4 rfl rfl)
theorem dX9_sit_55 : decode cX9_sit 55 = .ok (.iconst 5, 1) := dk_8 (dk_at dksX9_sit_2 7 rfl rfl)
theorem dX9_sit_56 : decode cX9_sit 56 = .ok (.iload 5, 2) := dk_21 5 (dk_at dksX9_sit_2 8 rfl rfl)
theorem dX9_sit_58 : decode cX9_sit 58 = .ok (.imul, 1) := dk_104 (dk_at dksX9_sit_2 10 rfl rfl)
theorem dX9_sit_59 : decode cX9_sit 59 = .ok (.iconst 3, 1) := dk_6 (dk_at dksX9_sit_2 11 rfl rfl)
theorem dX9_sit_60 : decode cX9_sit 60 = .ok (.iadd, 1) := dk_96 (dk_at dksX9_sit_2 12 rfl rfl)
theorem dX9_sit_61 : decode cX9_sit 61 = .ok (.iconst 1, 1) := dk_4 (dk_at dksX9_sit_2 13 rfl rfl)
theorem dX9_sit_62 : decode cX9_sit 62 = .ok (.iastore, 1) := dk_79 (dk_at dksX9_sit_2 14 rfl rfl)
theorem dX9_sit_63 : decode cX9_sit 63 = .ok (.aload_n 0, 1) := dk_42 (dk_at dksX9_sit_2 15 rfl rfl)
theorem dX9_sit_64 : decode cX9_sit 64 = .ok (.iload_n 1, 1) := dk_27 (dk_at dksX9_sit_2 16 rfl rfl)
theorem dX9_sit_65 : decode cX9_sit 65 = .ok (.invokevirtual 389, 3) := dk_182 1 133 (dk_at dksX9_sit_2 17 rfl rfl)
theorem dX9_sit_68 : decode cX9_sit 68 = .ok (.istore 6, 2) := dk_54 6 (dk_at dksX9_sit_2 20 rfl rfl)
theorem dX9_sit_70 : decode cX9_sit 70 = .ok (.aload_n 0, 1) := dk_42 (dk_at dksX9_sit_2 22 rfl rfl)
theorem dX9_sit_71 : decode cX9_sit 71 = .ok (.getfield 26, 3) := dk_180 0 26 (dk_at dksX9_sit_3 0 rfl rfl)
theorem dX9_sit_74 : decode cX9_sit 74 = .ok (.iconst 5, 1) := dk_8 (dk_at dksX9_sit_3 3 rfl rfl)
theorem dX9_sit_75 : decode cX9_sit 75 = .ok (.iload 5, 2) := dk_21 5 (dk_at dksX9_sit_3 4 rfl rfl)
theorem dX9_sit_77 : decode cX9_sit 77 = .ok (.imul, 1) := dk_104 (dk_at dksX9_sit_3 6 rfl rfl)
theorem dX9_sit_78 : decode cX9_sit 78 = .ok (.iconst 3, 1) := dk_6 (dk_at dksX9_sit_3 7 rfl rfl)
theorem dX9_sit_79 : decode cX9_sit 79 = .ok (.iadd, 1) := dk_96 (dk_at dksX9_sit_3 8 rfl rfl)
theorem dX9_sit_80 : decode cX9_sit 80 = .ok (.iconst 0, 1) := dk_3 (dk_at dksX9_sit_3 9 rfl rfl)
theorem dX9_sit_81 : decode cX9_sit 81 = .ok (.iastore, 1) := dk_79 (dk_at dksX9_sit_3 10 rfl rfl)
theorem dX9_sit_82 : decode cX9_sit 82 = .ok (.iload_n 3, 1) := dk_29 (dk_at dksX9_sit_3 11 rfl rfl)
theorem dX9_sit_83 : decode cX9_sit 83 = .ok (.iconst (-1), 1) := dk_2 (dk_at dksX9_sit_3 12 rfl rfl)
theorem dX9_sit_84 : decode cX9_sit 84 = .ok (.if_icmp .eq 10, 3) := dk_159 0 10 (dk_at dksX9_sit_3 13 rfl rfl)
theorem dX9_sit_87 : decode cX9_sit 87 = .ok (.iload 6, 2) := dk_21 6 (dk_at dksX9_sit_3 16 rfl rfl)
theorem dX9_sit_89 : decode cX9_sit 89 = .ok (.iload 4, 2) := dk_21 4 (dk_at dksX9_sit_3 18 rfl rfl)
theorem dX9_sit_91 : decode cX9_sit 91 = .ok (.if_icmp .ge 10, 3) := dk_162 0 10 (dk_at dksX9_sit_3 20 rfl rfl)
theorem dX9_sit_94 : decode cX9_sit 94 = .ok (.iload 5, 2) := dk_21 5 (dk_at dksX9_sit_4 0 rfl rfl)
theorem dX9_sit_96 : decode cX9_sit 96 = .ok (.istore_n 3, 1) := dk_62 (dk_at dksX9_sit_4 2 rfl rfl)
theorem dX9_sit_97 : decode cX9_sit 97 = .ok (.iload 6, 2) := dk_21 6 (dk_at dksX9_sit_4 3 rfl rfl)
theorem dX9_sit_99 : decode cX9_sit 99 = .ok (.istore 4, 2) := dk_54 4 (dk_at dksX9_sit_4 5 rfl rfl)
theorem dX9_sit_101 : decode cX9_sit 101 = .ok (.iinc 5 1, 3) := dk_132 5 1 (dk_at dksX9_sit_4 7 rfl rfl)
theorem dX9_sit_104 : decode cX9_sit 104 = .ok (.goto (-71), 3) := dk_167 255 185 (dk_at dksX9_sit_4 10 rfl rfl)
theorem dX9_sit_107 : decode cX9_sit 107 = .ok (.iload_n 2, 1) := dk_28 (dk_at dksX9_sit_4 13 rfl rfl)
theorem dX9_sit_108 : decode cX9_sit 108 = .ok (.ifCond .ne 7, 3) := dk_154 0 7 (dk_at dksX9_sit_4 14 rfl rfl)
theorem dX9_sit_111 : decode cX9_sit 111 = .ok (.iload_n 3, 1) := dk_29 (dk_at dksX9_sit_4 17 rfl rfl)
theorem dX9_sit_112 : decode cX9_sit 112 = .ok (.goto 5, 3) := dk_167 0 5 (dk_at dksX9_sit_4 18 rfl rfl)
theorem dX9_sit_115 : decode cX9_sit 115 = .ok (.iload 4, 2) := dk_21 4 (dk_at dksX9_sit_4 21 rfl rfl)
theorem dX9_sit_117 : decode cX9_sit 117 = .ok (.ireturn, 1) := dk_172 (dk_at dksX9_sit_4 23 rfl rfl)
abbrev cX9_tells : ByteArray := prog_17_method_94_code
def yX9_tells : MethodName := ⟨RX9, "tells", "(III)I"⟩
def dkwX9_tells_12 : List UInt8 := [7, 159, 0, 9, 29, 16, 6, 160, 0, 8, 21, 9, 167, 0, 5, 21, 7, 172]
abbrev dktX9_tells_12 : List UInt8 := dkwX9_tells_12 ++ []
def dkwX9_tells_11 : List UInt8 := [21, 4, 28, 21, 5, 182, 0, 91, 29, 6, 159, 0, 8, 29, 8, 160, 0, 8, 21, 8, 167, 0, 21, 29]
abbrev dktX9_tells_11 : List UInt8 := dkwX9_tells_11 ++ dktX9_tells_12
def dkwX9_tells_10 : List UInt8 := [21, 10, 120, 167, 0, 4, 3, 128, 54, 7, 132, 8, 1, 21, 10, 54, 9, 132, 10, 255, 167, 255, 203, 42]
abbrev dktX9_tells_10 : List UInt8 := dkwX9_tells_10 ++ dktX9_tells_11
def dkwX9_tells_9 : List UInt8 := [21, 10, 182, 0, 91, 42, 27, 182, 1, 136, 2, 160, 0, 30, 21, 7, 21, 10, 16, 10, 162, 0, 10, 4]
abbrev dktX9_tells_9 : List UInt8 := dkwX9_tells_9 ++ dktX9_tells_10
def dkwX9_tells_8 : List UInt8 := [54, 6, 3, 54, 7, 3, 54, 8, 2, 54, 9, 21, 6, 54, 10, 21, 10, 155, 0, 54, 42, 21, 4, 28]
abbrev dktX9_tells_8 : List UInt8 := dkwX9_tells_8 ++ dktX9_tells_9
def dkwX9_tells_7 : List UInt8 := [21, 4, 16, 7, 160, 0, 7, 8, 167, 0, 16, 21, 4, 6, 160, 0, 8, 16, 9, 167, 0, 5, 16, 99]
abbrev dktX9_tells_7 : List UInt8 := dkwX9_tells_7 ++ dktX9_tells_8
def dkwX9_tells_6 : List UInt8 := [21, 4, 182, 0, 87, 54, 5, 21, 4, 16, 8, 160, 0, 12, 42, 180, 0, 61, 4, 100, 167, 0, 27]
abbrev dktX9_tells_6 : List UInt8 := dkwX9_tells_6 ++ dktX9_tells_7
def dkwX9_tells_5 : List UInt8 := [167, 0, 5, 16, 8, 54, 4, 21, 4, 16, 8, 160, 0, 10, 42, 180, 0, 101, 167, 0, 10, 42, 28]
abbrev dktX9_tells_5 : List UInt8 := dkwX9_tells_5 ++ dktX9_tells_6
def dkwX9_tells_4 : List UInt8 := [160, 0, 7, 6, 167, 0, 24, 29, 8, 162, 0, 7, 7, 167, 0, 15, 29, 16, 7, 162, 0, 7, 8]
abbrev dktX9_tells_4 : List UInt8 := dkwX9_tells_4 ++ dktX9_tells_5
def dkwX9_tells_3 : List UInt8 := [182, 1, 136, 167, 0, 8, 42, 27, 182, 1, 144, 172, 29, 4, 160, 0, 8, 16, 7, 167, 0, 33, 29, 5]
abbrev dktX9_tells_3 : List UInt8 := dkwX9_tells_3 ++ dktX9_tells_4
def dkwX9_tells_2 : List UInt8 := [16, 20, 164, 0, 6, 16, 254, 172, 29, 153, 0, 9, 29, 16, 8, 160, 0, 21, 29, 154, 0, 11, 42, 27]
abbrev dktX9_tells_2 : List UInt8 := dkwX9_tells_2 ++ dktX9_tells_3
def dkwX9_tells_1 : List UInt8 := [154, 0, 6, 16, 254, 172, 42, 180, 0, 44, 27, 51, 154, 0, 6, 16, 245, 172, 42, 180, 0, 51, 27, 46]
abbrev dktX9_tells_1 : List UInt8 := dkwX9_tells_1 ++ dktX9_tells_2
def dkwX9_tells_0 : List UInt8 := [27, 184, 1, 139, 153, 0, 23, 42, 28, 182, 0, 73, 153, 0, 15, 29, 133, 9, 20, 1, 142, 184, 0, 67]
abbrev dktX9_tells_0 : List UInt8 := dkwX9_tells_0 ++ dktX9_tells_1
theorem dksX9_tells_0 : cX9_tells.data.toList.drop 0 = dktX9_tells_0 := by decide +kernel
theorem dksX9_tells_1 : cX9_tells.data.toList.drop 24 = dktX9_tells_1 := dk_seg dksX9_tells_0 24 rfl rfl
theorem dksX9_tells_2 : cX9_tells.data.toList.drop 48 = dktX9_tells_2 := dk_seg dksX9_tells_1 24 rfl rfl
theorem dksX9_tells_3 : cX9_tells.data.toList.drop 72 = dktX9_tells_3 := dk_seg dksX9_tells_2 24 rfl rfl
theorem dksX9_tells_4 : cX9_tells.data.toList.drop 96 = dktX9_tells_4 := dk_seg dksX9_tells_3 24 rfl rfl
theorem dksX9_tells_5 : cX9_tells.data.toList.drop 119 = dktX9_tells_5 := dk_seg dksX9_tells_4 23 rfl rfl
theorem dksX9_tells_6 : cX9_tells.data.toList.drop 142 = dktX9_tells_6 := dk_seg dksX9_tells_5 23 rfl rfl
theorem dksX9_tells_7 : cX9_tells.data.toList.drop 165 = dktX9_tells_7 := dk_seg dksX9_tells_6 23 rfl rfl
theorem dksX9_tells_8 : cX9_tells.data.toList.drop 189 = dktX9_tells_8 := dk_seg dksX9_tells_7 24 rfl rfl
theorem dksX9_tells_9 : cX9_tells.data.toList.drop 213 = dktX9_tells_9 := dk_seg dksX9_tells_8 24 rfl rfl
theorem dksX9_tells_10 : cX9_tells.data.toList.drop 237 = dktX9_tells_10 := dk_seg dksX9_tells_9 24 rfl rfl
theorem dksX9_tells_11 : cX9_tells.data.toList.drop 261 = dktX9_tells_11 := dk_seg dksX9_tells_10 24 rfl rfl
theorem dksX9_tells_12 : cX9_tells.data.toList.drop 285 = dktX9_tells_12 := dk_seg dksX9_tells_11 24 rfl rfl
theorem dX9_tells_0 : decode cX9_tells 0 = .ok (.iload_n 1, 1) := dk_27 (dk_at dksX9_tells_0 0 rfl rfl)
theorem dX9_tells_1 : decode cX9_tells 1 = .ok (.invokestatic 395, 3) := dk_184 1 139 (dk_at dksX9_tells_0 1 rfl rfl)
theorem dX9_tells_4 : decode cX9_tells 4 = .ok (.ifCond .eq 23, 3) := dk_153 0 23 (dk_at dksX9_tells_0 4 rfl rfl)
theorem dX9_tells_7 : decode cX9_tells 7 = .ok (.aload_n 0, 1) := dk_42 (dk_at dksX9_tells_0 7 rfl rfl)
theorem dX9_tells_8 : decode cX9_tells 8 = .ok (.iload_n 2, 1) := dk_28 (dk_at dksX9_tells_0 8 rfl rfl)
theorem dX9_tells_9 : decode cX9_tells 9 = .ok (.invokevirtual 73, 3) := dk_182 0 73 (dk_at dksX9_tells_0 9 rfl rfl)
theorem dX9_tells_12 : decode cX9_tells 12 = .ok (.ifCond .eq 15, 3) := dk_153 0 15 (dk_at dksX9_tells_0 12 rfl rfl)
theorem dX9_tells_15 : decode cX9_tells 15 = .ok (.iload_n 3, 1) := dk_29 (dk_at dksX9_tells_0 15 rfl rfl)
theorem dX9_tells_16 : decode cX9_tells 16 = .ok (.i2l, 1) := dk_133 (dk_at dksX9_tells_0 16 rfl rfl)
theorem dX9_tells_17 : decode cX9_tells 17 = .ok (.lconst 0, 1) := dk_9 (dk_at dksX9_tells_0 17 rfl rfl)
theorem dX9_tells_18 : decode cX9_tells 18 = .ok (.ldc2_w 398, 3) := dk_20 1 142 (dk_at dksX9_tells_0 18 rfl rfl)
theorem dX9_tells_21 : decode cX9_tells 21 = .ok (.invokestatic 67, 3) := dk_184 0 67 (dk_at dksX9_tells_0 21 rfl rfl)
theorem dX9_tells_24 : decode cX9_tells 24 = .ok (.ifCond .ne 6, 3) := dk_154 0 6 (dk_at dksX9_tells_1 0 rfl rfl)
theorem dX9_tells_27 : decode cX9_tells 27 = .ok (.bipush (-2), 2) := dk_16 254 (dk_at dksX9_tells_1 3 rfl rfl)
theorem dX9_tells_29 : decode cX9_tells 29 = .ok (.ireturn, 1) := dk_172 (dk_at dksX9_tells_1 5 rfl rfl)
theorem dX9_tells_30 : decode cX9_tells 30 = .ok (.aload_n 0, 1) := dk_42 (dk_at dksX9_tells_1 6 rfl rfl)
theorem dX9_tells_31 : decode cX9_tells 31 = .ok (.getfield 44, 3) := dk_180 0 44 (dk_at dksX9_tells_1 7 rfl rfl)
theorem dX9_tells_34 : decode cX9_tells 34 = .ok (.iload_n 1, 1) := dk_27 (dk_at dksX9_tells_1 10 rfl rfl)
theorem dX9_tells_35 : decode cX9_tells 35 = .ok (.baload, 1) := dk_51 (dk_at dksX9_tells_1 11 rfl rfl)
theorem dX9_tells_36 : decode cX9_tells 36 = .ok (.ifCond .ne 6, 3) := dk_154 0 6 (dk_at dksX9_tells_1 12 rfl rfl)
theorem dX9_tells_39 : decode cX9_tells 39 = .ok (.bipush (-11), 2) := dk_16 245 (dk_at dksX9_tells_1 15 rfl rfl)
theorem dX9_tells_41 : decode cX9_tells 41 = .ok (.ireturn, 1) := dk_172 (dk_at dksX9_tells_1 17 rfl rfl)
theorem dX9_tells_42 : decode cX9_tells 42 = .ok (.aload_n 0, 1) := dk_42 (dk_at dksX9_tells_1 18 rfl rfl)
theorem dX9_tells_43 : decode cX9_tells 43 = .ok (.getfield 51, 3) := dk_180 0 51 (dk_at dksX9_tells_1 19 rfl rfl)
theorem dX9_tells_46 : decode cX9_tells 46 = .ok (.iload_n 1, 1) := dk_27 (dk_at dksX9_tells_1 22 rfl rfl)
theorem dX9_tells_47 : decode cX9_tells 47 = .ok (.iaload, 1) := dk_46 (dk_at dksX9_tells_1 23 rfl rfl)
theorem dX9_tells_48 : decode cX9_tells 48 = .ok (.bipush 20, 2) := dk_16 20 (dk_at dksX9_tells_2 0 rfl rfl)
theorem dX9_tells_50 : decode cX9_tells 50 = .ok (.if_icmp .le 6, 3) := dk_164 0 6 (dk_at dksX9_tells_2 2 rfl rfl)
theorem dX9_tells_53 : decode cX9_tells 53 = .ok (.bipush (-2), 2) := dk_16 254 (dk_at dksX9_tells_2 5 rfl rfl)
theorem dX9_tells_55 : decode cX9_tells 55 = .ok (.ireturn, 1) := dk_172 (dk_at dksX9_tells_2 7 rfl rfl)
theorem dX9_tells_56 : decode cX9_tells 56 = .ok (.iload_n 3, 1) := dk_29 (dk_at dksX9_tells_2 8 rfl rfl)
theorem dX9_tells_57 : decode cX9_tells 57 = .ok (.ifCond .eq 9, 3) := dk_153 0 9 (dk_at dksX9_tells_2 9 rfl rfl)
theorem dX9_tells_60 : decode cX9_tells 60 = .ok (.iload_n 3, 1) := dk_29 (dk_at dksX9_tells_2 12 rfl rfl)
theorem dX9_tells_61 : decode cX9_tells 61 = .ok (.bipush 8, 2) := dk_16 8 (dk_at dksX9_tells_2 13 rfl rfl)
theorem dX9_tells_63 : decode cX9_tells 63 = .ok (.if_icmp .ne 21, 3) := dk_160 0 21 (dk_at dksX9_tells_2 15 rfl rfl)
theorem dX9_tells_66 : decode cX9_tells 66 = .ok (.iload_n 3, 1) := dk_29 (dk_at dksX9_tells_2 18 rfl rfl)
theorem dX9_tells_67 : decode cX9_tells 67 = .ok (.ifCond .ne 11, 3) := dk_154 0 11 (dk_at dksX9_tells_2 19 rfl rfl)
theorem dX9_tells_70 : decode cX9_tells 70 = .ok (.aload_n 0, 1) := dk_42 (dk_at dksX9_tells_2 22 rfl rfl)
theorem dX9_tells_71 : decode cX9_tells 71 = .ok (.iload_n 1, 1) := dk_27 (dk_at dksX9_tells_2 23 rfl rfl)
theorem dX9_tells_72 : decode cX9_tells 72 = .ok (.invokevirtual 392, 3) := dk_182 1 136 (dk_at dksX9_tells_3 0 rfl rfl)
theorem dX9_tells_75 : decode cX9_tells 75 = .ok (.goto 8, 3) := dk_167 0 8 (dk_at dksX9_tells_3 3 rfl rfl)
theorem dX9_tells_78 : decode cX9_tells 78 = .ok (.aload_n 0, 1) := dk_42 (dk_at dksX9_tells_3 6 rfl rfl)
theorem dX9_tells_79 : decode cX9_tells 79 = .ok (.iload_n 1, 1) := dk_27 (dk_at dksX9_tells_3 7 rfl rfl)
theorem dX9_tells_80 : decode cX9_tells 80 = .ok (.invokevirtual 400, 3) := dk_182 1 144 (dk_at dksX9_tells_3 8 rfl rfl)
theorem dX9_tells_83 : decode cX9_tells 83 = .ok (.ireturn, 1) := dk_172 (dk_at dksX9_tells_3 11 rfl rfl)
theorem dX9_tells_84 : decode cX9_tells 84 = .ok (.iload_n 3, 1) := dk_29 (dk_at dksX9_tells_3 12 rfl rfl)
theorem dX9_tells_85 : decode cX9_tells 85 = .ok (.iconst 1, 1) := dk_4 (dk_at dksX9_tells_3 13 rfl rfl)
theorem dX9_tells_86 : decode cX9_tells 86 = .ok (.if_icmp .ne 8, 3) := dk_160 0 8 (dk_at dksX9_tells_3 14 rfl rfl)
theorem dX9_tells_89 : decode cX9_tells 89 = .ok (.bipush 7, 2) := dk_16 7 (dk_at dksX9_tells_3 17 rfl rfl)
theorem dX9_tells_91 : decode cX9_tells 91 = .ok (.goto 33, 3) := dk_167 0 33 (dk_at dksX9_tells_3 19 rfl rfl)
theorem dX9_tells_94 : decode cX9_tells 94 = .ok (.iload_n 3, 1) := dk_29 (dk_at dksX9_tells_3 22 rfl rfl)
theorem dX9_tells_95 : decode cX9_tells 95 = .ok (.iconst 2, 1) := dk_5 (dk_at dksX9_tells_3 23 rfl rfl)
theorem dX9_tells_96 : decode cX9_tells 96 = .ok (.if_icmp .ne 7, 3) := dk_160 0 7 (dk_at dksX9_tells_4 0 rfl rfl)
theorem dX9_tells_99 : decode cX9_tells 99 = .ok (.iconst 3, 1) := dk_6 (dk_at dksX9_tells_4 3 rfl rfl)
theorem dX9_tells_100 : decode cX9_tells 100 = .ok (.goto 24, 3) := dk_167 0 24 (dk_at dksX9_tells_4 4 rfl rfl)
theorem dX9_tells_103 : decode cX9_tells 103 = .ok (.iload_n 3, 1) := dk_29 (dk_at dksX9_tells_4 7 rfl rfl)
theorem dX9_tells_104 : decode cX9_tells 104 = .ok (.iconst 5, 1) := dk_8 (dk_at dksX9_tells_4 8 rfl rfl)
theorem dX9_tells_105 : decode cX9_tells 105 = .ok (.if_icmp .ge 7, 3) := dk_162 0 7 (dk_at dksX9_tells_4 9 rfl rfl)
theorem dX9_tells_108 : decode cX9_tells 108 = .ok (.iconst 4, 1) := dk_7 (dk_at dksX9_tells_4 12 rfl rfl)
theorem dX9_tells_109 : decode cX9_tells 109 = .ok (.goto 15, 3) := dk_167 0 15 (dk_at dksX9_tells_4 13 rfl rfl)
theorem dX9_tells_112 : decode cX9_tells 112 = .ok (.iload_n 3, 1) := dk_29 (dk_at dksX9_tells_4 16 rfl rfl)
theorem dX9_tells_113 : decode cX9_tells 113 = .ok (.bipush 7, 2) := dk_16 7 (dk_at dksX9_tells_4 17 rfl rfl)
theorem dX9_tells_115 : decode cX9_tells 115 = .ok (.if_icmp .ge 7, 3) := dk_162 0 7 (dk_at dksX9_tells_4 19 rfl rfl)
theorem dX9_tells_118 : decode cX9_tells 118 = .ok (.iconst 5, 1) := dk_8 (dk_at dksX9_tells_4 22 rfl rfl)
theorem dX9_tells_119 : decode cX9_tells 119 = .ok (.goto 5, 3) := dk_167 0 5 (dk_at dksX9_tells_5 0 rfl rfl)
theorem dX9_tells_122 : decode cX9_tells 122 = .ok (.bipush 8, 2) := dk_16 8 (dk_at dksX9_tells_5 3 rfl rfl)
theorem dX9_tells_124 : decode cX9_tells 124 = .ok (.istore 4, 2) := dk_54 4 (dk_at dksX9_tells_5 5 rfl rfl)
theorem dX9_tells_126 : decode cX9_tells 126 = .ok (.iload 4, 2) := dk_21 4 (dk_at dksX9_tells_5 7 rfl rfl)
theorem dX9_tells_128 : decode cX9_tells 128 = .ok (.bipush 8, 2) := dk_16 8 (dk_at dksX9_tells_5 9 rfl rfl)
theorem dX9_tells_130 : decode cX9_tells 130 = .ok (.if_icmp .ne 10, 3) := dk_160 0 10 (dk_at dksX9_tells_5 11 rfl rfl)
theorem dX9_tells_133 : decode cX9_tells 133 = .ok (.aload_n 0, 1) := dk_42 (dk_at dksX9_tells_5 14 rfl rfl)
theorem dX9_tells_134 : decode cX9_tells 134 = .ok (.getfield 101, 3) := dk_180 0 101 (dk_at dksX9_tells_5 15 rfl rfl)
theorem dX9_tells_137 : decode cX9_tells 137 = .ok (.goto 10, 3) := dk_167 0 10 (dk_at dksX9_tells_5 18 rfl rfl)
theorem dX9_tells_140 : decode cX9_tells 140 = .ok (.aload_n 0, 1) := dk_42 (dk_at dksX9_tells_5 21 rfl rfl)
theorem dX9_tells_141 : decode cX9_tells 141 = .ok (.iload_n 2, 1) := dk_28 (dk_at dksX9_tells_5 22 rfl rfl)
theorem dX9_tells_142 : decode cX9_tells 142 = .ok (.iload 4, 2) := dk_21 4 (dk_at dksX9_tells_6 0 rfl rfl)
theorem dX9_tells_144 : decode cX9_tells 144 = .ok (.invokevirtual 87, 3) := dk_182 0 87 (dk_at dksX9_tells_6 2 rfl rfl)
theorem dX9_tells_147 : decode cX9_tells 147 = .ok (.istore 5, 2) := dk_54 5 (dk_at dksX9_tells_6 5 rfl rfl)
theorem dX9_tells_149 : decode cX9_tells 149 = .ok (.iload 4, 2) := dk_21 4 (dk_at dksX9_tells_6 7 rfl rfl)
theorem dX9_tells_151 : decode cX9_tells 151 = .ok (.bipush 8, 2) := dk_16 8 (dk_at dksX9_tells_6 9 rfl rfl)
theorem dX9_tells_153 : decode cX9_tells 153 = .ok (.if_icmp .ne 12, 3) := dk_160 0 12 (dk_at dksX9_tells_6 11 rfl rfl)
theorem dX9_tells_156 : decode cX9_tells 156 = .ok (.aload_n 0, 1) := dk_42 (dk_at dksX9_tells_6 14 rfl rfl)
theorem dX9_tells_157 : decode cX9_tells 157 = .ok (.getfield 61, 3) := dk_180 0 61 (dk_at dksX9_tells_6 15 rfl rfl)
theorem dX9_tells_160 : decode cX9_tells 160 = .ok (.iconst 1, 1) := dk_4 (dk_at dksX9_tells_6 18 rfl rfl)
theorem dX9_tells_161 : decode cX9_tells 161 = .ok (.isub, 1) := dk_100 (dk_at dksX9_tells_6 19 rfl rfl)
theorem dX9_tells_162 : decode cX9_tells 162 = .ok (.goto 27, 3) := dk_167 0 27 (dk_at dksX9_tells_6 20 rfl rfl)
theorem dX9_tells_165 : decode cX9_tells 165 = .ok (.iload 4, 2) := dk_21 4 (dk_at dksX9_tells_7 0 rfl rfl)
theorem dX9_tells_167 : decode cX9_tells 167 = .ok (.bipush 7, 2) := dk_16 7 (dk_at dksX9_tells_7 2 rfl rfl)
theorem dX9_tells_169 : decode cX9_tells 169 = .ok (.if_icmp .ne 7, 3) := dk_160 0 7 (dk_at dksX9_tells_7 4 rfl rfl)
theorem dX9_tells_172 : decode cX9_tells 172 = .ok (.iconst 5, 1) := dk_8 (dk_at dksX9_tells_7 7 rfl rfl)
theorem dX9_tells_173 : decode cX9_tells 173 = .ok (.goto 16, 3) := dk_167 0 16 (dk_at dksX9_tells_7 8 rfl rfl)
theorem dX9_tells_176 : decode cX9_tells 176 = .ok (.iload 4, 2) := dk_21 4 (dk_at dksX9_tells_7 11 rfl rfl)
theorem dX9_tells_178 : decode cX9_tells 178 = .ok (.iconst 3, 1) := dk_6 (dk_at dksX9_tells_7 13 rfl rfl)
theorem dX9_tells_179 : decode cX9_tells 179 = .ok (.if_icmp .ne 8, 3) := dk_160 0 8 (dk_at dksX9_tells_7 14 rfl rfl)
theorem dX9_tells_182 : decode cX9_tells 182 = .ok (.bipush 9, 2) := dk_16 9 (dk_at dksX9_tells_7 17 rfl rfl)
theorem dX9_tells_184 : decode cX9_tells 184 = .ok (.goto 5, 3) := dk_167 0 5 (dk_at dksX9_tells_7 19 rfl rfl)
theorem dX9_tells_187 : decode cX9_tells 187 = .ok (.bipush 99, 2) := dk_16 99 (dk_at dksX9_tells_7 22 rfl rfl)
theorem dX9_tells_189 : decode cX9_tells 189 = .ok (.istore 6, 2) := dk_54 6 (dk_at dksX9_tells_8 0 rfl rfl)
theorem dX9_tells_191 : decode cX9_tells 191 = .ok (.iconst 0, 1) := dk_3 (dk_at dksX9_tells_8 2 rfl rfl)
theorem dX9_tells_192 : decode cX9_tells 192 = .ok (.istore 7, 2) := dk_54 7 (dk_at dksX9_tells_8 3 rfl rfl)
theorem dX9_tells_194 : decode cX9_tells 194 = .ok (.iconst 0, 1) := dk_3 (dk_at dksX9_tells_8 5 rfl rfl)
theorem dX9_tells_195 : decode cX9_tells 195 = .ok (.istore 8, 2) := dk_54 8 (dk_at dksX9_tells_8 6 rfl rfl)
theorem dX9_tells_197 : decode cX9_tells 197 = .ok (.iconst (-1), 1) := dk_2 (dk_at dksX9_tells_8 8 rfl rfl)
theorem dX9_tells_198 : decode cX9_tells 198 = .ok (.istore 9, 2) := dk_54 9 (dk_at dksX9_tells_8 9 rfl rfl)
theorem dX9_tells_200 : decode cX9_tells 200 = .ok (.iload 6, 2) := dk_21 6 (dk_at dksX9_tells_8 11 rfl rfl)
theorem dX9_tells_202 : decode cX9_tells 202 = .ok (.istore 10, 2) := dk_54 10 (dk_at dksX9_tells_8 13 rfl rfl)
theorem dX9_tells_204 : decode cX9_tells 204 = .ok (.iload 10, 2) := dk_21 10 (dk_at dksX9_tells_8 15 rfl rfl)
theorem dX9_tells_206 : decode cX9_tells 206 = .ok (.ifCond .lt 54, 3) := dk_155 0 54 (dk_at dksX9_tells_8 17 rfl rfl)
theorem dX9_tells_209 : decode cX9_tells 209 = .ok (.aload_n 0, 1) := dk_42 (dk_at dksX9_tells_8 20 rfl rfl)
theorem dX9_tells_210 : decode cX9_tells 210 = .ok (.iload 4, 2) := dk_21 4 (dk_at dksX9_tells_8 21 rfl rfl)
theorem dX9_tells_212 : decode cX9_tells 212 = .ok (.iload_n 2, 1) := dk_28 (dk_at dksX9_tells_8 23 rfl rfl)
theorem dX9_tells_213 : decode cX9_tells 213 = .ok (.iload 10, 2) := dk_21 10 (dk_at dksX9_tells_9 0 rfl rfl)
theorem dX9_tells_215 : decode cX9_tells 215 = .ok (.invokevirtual 91, 3) := dk_182 0 91 (dk_at dksX9_tells_9 2 rfl rfl)
theorem dX9_tells_218 : decode cX9_tells 218 = .ok (.aload_n 0, 1) := dk_42 (dk_at dksX9_tells_9 5 rfl rfl)
theorem dX9_tells_219 : decode cX9_tells 219 = .ok (.iload_n 1, 1) := dk_27 (dk_at dksX9_tells_9 6 rfl rfl)
theorem dX9_tells_220 : decode cX9_tells 220 = .ok (.invokevirtual 392, 3) := dk_182 1 136 (dk_at dksX9_tells_9 7 rfl rfl)
theorem dX9_tells_223 : decode cX9_tells 223 = .ok (.iconst (-1), 1) := dk_2 (dk_at dksX9_tells_9 10 rfl rfl)
theorem dX9_tells_224 : decode cX9_tells 224 = .ok (.if_icmp .ne 30, 3) := dk_160 0 30 (dk_at dksX9_tells_9 11 rfl rfl)
theorem dX9_tells_227 : decode cX9_tells 227 = .ok (.iload 7, 2) := dk_21 7 (dk_at dksX9_tells_9 14 rfl rfl)
theorem dX9_tells_229 : decode cX9_tells 229 = .ok (.iload 10, 2) := dk_21 10 (dk_at dksX9_tells_9 16 rfl rfl)
theorem dX9_tells_231 : decode cX9_tells 231 = .ok (.bipush 10, 2) := dk_16 10 (dk_at dksX9_tells_9 18 rfl rfl)
theorem dX9_tells_233 : decode cX9_tells 233 = .ok (.if_icmp .ge 10, 3) := dk_162 0 10 (dk_at dksX9_tells_9 20 rfl rfl)
theorem dX9_tells_236 : decode cX9_tells 236 = .ok (.iconst 1, 1) := dk_4 (dk_at dksX9_tells_9 23 rfl rfl)
theorem dX9_tells_237 : decode cX9_tells 237 = .ok (.iload 10, 2) := dk_21 10 (dk_at dksX9_tells_10 0 rfl rfl)
theorem dX9_tells_239 : decode cX9_tells 239 = .ok (.ishl, 1) := dk_120 (dk_at dksX9_tells_10 2 rfl rfl)
theorem dX9_tells_240 : decode cX9_tells 240 = .ok (.goto 4, 3) := dk_167 0 4 (dk_at dksX9_tells_10 3 rfl rfl)
theorem dX9_tells_243 : decode cX9_tells 243 = .ok (.iconst 0, 1) := dk_3 (dk_at dksX9_tells_10 6 rfl rfl)
theorem dX9_tells_244 : decode cX9_tells 244 = .ok (.ior, 1) := dk_128 (dk_at dksX9_tells_10 7 rfl rfl)
theorem dX9_tells_245 : decode cX9_tells 245 = .ok (.istore 7, 2) := dk_54 7 (dk_at dksX9_tells_10 8 rfl rfl)
theorem dX9_tells_247 : decode cX9_tells 247 = .ok (.iinc 8 1, 3) := dk_132 8 1 (dk_at dksX9_tells_10 10 rfl rfl)
theorem dX9_tells_250 : decode cX9_tells 250 = .ok (.iload 10, 2) := dk_21 10 (dk_at dksX9_tells_10 13 rfl rfl)
theorem dX9_tells_252 : decode cX9_tells 252 = .ok (.istore 9, 2) := dk_54 9 (dk_at dksX9_tells_10 15 rfl rfl)
theorem dX9_tells_254 : decode cX9_tells 254 = .ok (.iinc 10 (-1), 3) := dk_132 10 255 (dk_at dksX9_tells_10 17 rfl rfl)
theorem dX9_tells_257 : decode cX9_tells 257 = .ok (.goto (-53), 3) := dk_167 255 203 (dk_at dksX9_tells_10 20 rfl rfl)
theorem dX9_tells_260 : decode cX9_tells 260 = .ok (.aload_n 0, 1) := dk_42 (dk_at dksX9_tells_10 23 rfl rfl)
theorem dX9_tells_261 : decode cX9_tells 261 = .ok (.iload 4, 2) := dk_21 4 (dk_at dksX9_tells_11 0 rfl rfl)
theorem dX9_tells_263 : decode cX9_tells 263 = .ok (.iload_n 2, 1) := dk_28 (dk_at dksX9_tells_11 2 rfl rfl)
theorem dX9_tells_264 : decode cX9_tells 264 = .ok (.iload 5, 2) := dk_21 5 (dk_at dksX9_tells_11 3 rfl rfl)
theorem dX9_tells_266 : decode cX9_tells 266 = .ok (.invokevirtual 91, 3) := dk_182 0 91 (dk_at dksX9_tells_11 5 rfl rfl)
theorem dX9_tells_269 : decode cX9_tells 269 = .ok (.iload_n 3, 1) := dk_29 (dk_at dksX9_tells_11 8 rfl rfl)
theorem dX9_tells_270 : decode cX9_tells 270 = .ok (.iconst 3, 1) := dk_6 (dk_at dksX9_tells_11 9 rfl rfl)
theorem dX9_tells_271 : decode cX9_tells 271 = .ok (.if_icmp .eq 8, 3) := dk_159 0 8 (dk_at dksX9_tells_11 10 rfl rfl)
theorem dX9_tells_274 : decode cX9_tells 274 = .ok (.iload_n 3, 1) := dk_29 (dk_at dksX9_tells_11 13 rfl rfl)
theorem dX9_tells_275 : decode cX9_tells 275 = .ok (.iconst 5, 1) := dk_8 (dk_at dksX9_tells_11 14 rfl rfl)
theorem dX9_tells_276 : decode cX9_tells 276 = .ok (.if_icmp .ne 8, 3) := dk_160 0 8 (dk_at dksX9_tells_11 15 rfl rfl)
theorem dX9_tells_279 : decode cX9_tells 279 = .ok (.iload 8, 2) := dk_21 8 (dk_at dksX9_tells_11 18 rfl rfl)
theorem dX9_tells_281 : decode cX9_tells 281 = .ok (.goto 21, 3) := dk_167 0 21 (dk_at dksX9_tells_11 20 rfl rfl)
theorem dX9_tells_284 : decode cX9_tells 284 = .ok (.iload_n 3, 1) := dk_29 (dk_at dksX9_tells_11 23 rfl rfl)
theorem dX9_tells_285 : decode cX9_tells 285 = .ok (.iconst 4, 1) := dk_7 (dk_at dksX9_tells_12 0 rfl rfl)
theorem dX9_tells_286 : decode cX9_tells 286 = .ok (.if_icmp .eq 9, 3) := dk_159 0 9 (dk_at dksX9_tells_12 1 rfl rfl)
theorem dX9_tells_289 : decode cX9_tells 289 = .ok (.iload_n 3, 1) := dk_29 (dk_at dksX9_tells_12 4 rfl rfl)
theorem dX9_tells_290 : decode cX9_tells 290 = .ok (.bipush 6, 2) := dk_16 6 (dk_at dksX9_tells_12 5 rfl rfl)
theorem dX9_tells_292 : decode cX9_tells 292 = .ok (.if_icmp .ne 8, 3) := dk_160 0 8 (dk_at dksX9_tells_12 7 rfl rfl)
theorem dX9_tells_295 : decode cX9_tells 295 = .ok (.iload 9, 2) := dk_21 9 (dk_at dksX9_tells_12 10 rfl rfl)
theorem dX9_tells_297 : decode cX9_tells 297 = .ok (.goto 5, 3) := dk_167 0 5 (dk_at dksX9_tells_12 12 rfl rfl)
theorem dX9_tells_300 : decode cX9_tells 300 = .ok (.iload 7, 2) := dk_21 7 (dk_at dksX9_tells_12 15 rfl rfl)
theorem dX9_tells_302 : decode cX9_tells 302 = .ok (.ireturn, 1) := dk_172 (dk_at dksX9_tells_12 17 rfl rfl)
abbrev cX9_isSheet : ByteArray := prog_17_method_102_code
def yX9_isSheet : MethodName := ⟨RX9, "isSheet", "(I)Z"⟩
def dkwX9_isSheet_0 : List UInt8 := [26, 133, 9, 20, 1, 121, 184, 0, 67, 172]
abbrev dktX9_isSheet_0 : List UInt8 := dkwX9_isSheet_0 ++ []
theorem dksX9_isSheet_0 : cX9_isSheet.data.toList.drop 0 = dktX9_isSheet_0 := by decide +kernel
theorem dX9_isSheet_0 : decode cX9_isSheet 0 = .ok (.iload_n 0, 1) := dk_26 (dk_at dksX9_isSheet_0 0 rfl rfl)
theorem dX9_isSheet_1 : decode cX9_isSheet 1 = .ok (.i2l, 1) := dk_133 (dk_at dksX9_isSheet_0 1 rfl rfl)
theorem dX9_isSheet_2 : decode cX9_isSheet 2 = .ok (.lconst 0, 1) := dk_9 (dk_at dksX9_isSheet_0 2 rfl rfl)
theorem dX9_isSheet_3 : decode cX9_isSheet 3 = .ok (.ldc2_w 377, 3) := dk_20 1 121 (dk_at dksX9_isSheet_0 3 rfl rfl)
theorem dX9_isSheet_6 : decode cX9_isSheet 6 = .ok (.invokestatic 67, 3) := dk_184 0 67 (dk_at dksX9_isSheet_0 6 rfl rfl)
theorem dX9_isSheet_9 : decode cX9_isSheet 9 = .ok (.ireturn, 1) := dk_172 (dk_at dksX9_isSheet_0 9 rfl rfl)
abbrev cX9_firstOther : ByteArray := prog_17_method_92_code
def yX9_firstOther : MethodName := ⟨RX9, "firstOther", "(I)I"⟩
def dkwX9_firstOther_2 : List UInt8 := [167, 0, 4, 29, 61, 132, 3, 1, 167, 255, 210, 42, 182, 1, 106, 28, 172]
abbrev dktX9_firstOther_2 : List UInt8 := dkwX9_firstOther_2 ++ []
def dkwX9_firstOther_1 : List UInt8 := [182, 1, 96, 42, 180, 0, 95, 42, 180, 0, 54, 16, 40, 27, 104, 29, 96, 46, 160, 0, 7, 2]
abbrev dktX9_firstOther_1 : List UInt8 := dkwX9_firstOther_1 ++ dktX9_firstOther_2
def dkwX9_firstOther_0 : List UInt8 := [42, 182, 1, 99, 2, 61, 3, 62, 29, 42, 180, 0, 51, 27, 46, 162, 0, 42, 28, 2, 160, 0, 37, 42]
abbrev dktX9_firstOther_0 : List UInt8 := dkwX9_firstOther_0 ++ dktX9_firstOther_1
theorem dksX9_firstOther_0 : cX9_firstOther.data.toList.drop 0 = dktX9_firstOther_0 := by decide +kernel
theorem dksX9_firstOther_1 : cX9_firstOther.data.toList.drop 24 = dktX9_firstOther_1 := dk_seg dksX9_firstOther_0 24 rfl rfl
theorem dksX9_firstOther_2 : cX9_firstOther.data.toList.drop 46 = dktX9_firstOther_2 := dk_seg dksX9_firstOther_1 22 rfl rfl
theorem dX9_firstOther_0 : decode cX9_firstOther 0 = .ok (.aload_n 0, 1) := dk_42 (dk_at dksX9_firstOther_0 0 rfl rfl)
theorem dX9_firstOther_1 : decode cX9_firstOther 1 = .ok (.invokevirtual 355, 3) := dk_182 1 99 (dk_at dksX9_firstOther_0 1 rfl rfl)
theorem dX9_firstOther_4 : decode cX9_firstOther 4 = .ok (.iconst (-1), 1) := dk_2 (dk_at dksX9_firstOther_0 4 rfl rfl)
theorem dX9_firstOther_5 : decode cX9_firstOther 5 = .ok (.istore_n 2, 1) := dk_61 (dk_at dksX9_firstOther_0 5 rfl rfl)
theorem dX9_firstOther_6 : decode cX9_firstOther 6 = .ok (.iconst 0, 1) := dk_3 (dk_at dksX9_firstOther_0 6 rfl rfl)
theorem dX9_firstOther_7 : decode cX9_firstOther 7 = .ok (.istore_n 3, 1) := dk_62 (dk_at dksX9_firstOther_0 7 rfl rfl)
theorem dX9_firstOther_8 : decode cX9_firstOther 8 = .ok (.iload_n 3, 1) := dk_29 (dk_at dksX9_firstOther_0 8 rfl rfl)
theorem dX9_firstOther_9 : decode cX9_firstOther 9 = .ok (.aload_n 0, 1) := dk_42 (dk_at dksX9_firstOther_0 9 rfl rfl)
theorem dX9_firstOther_10 : decode cX9_firstOther 10 = .ok (.getfield 51, 3) := dk_180 0 51 (dk_at dksX9_firstOther_0 10 rfl rfl)
theorem dX9_firstOther_13 : decode cX9_firstOther 13 = .ok (.iload_n 1, 1) := dk_27 (dk_at dksX9_firstOther_0 13 rfl rfl)
theorem dX9_firstOther_14 : decode cX9_firstOther 14 = .ok (.iaload, 1) := dk_46 (dk_at dksX9_firstOther_0 14 rfl rfl)
theorem dX9_firstOther_15 : decode cX9_firstOther 15 = .ok (.if_icmp .ge 42, 3) := dk_162 0 42 (dk_at dksX9_firstOther_0 15 rfl rfl)
theorem dX9_firstOther_18 : decode cX9_firstOther 18 = .ok (.iload_n 2, 1) := dk_28 (dk_at dksX9_firstOther_0 18 rfl rfl)
theorem dX9_firstOther_19 : decode cX9_firstOther 19 = .ok (.iconst (-1), 1) := dk_2 (dk_at dksX9_firstOther_0 19 rfl rfl)
theorem dX9_firstOther_20 : decode cX9_firstOther 20 = .ok (.if_icmp .ne 37, 3) := dk_160 0 37 (dk_at dksX9_firstOther_0 20 rfl rfl)
theorem dX9_firstOther_23 : decode cX9_firstOther 23 = .ok (.aload_n 0, 1) := dk_42 (dk_at dksX9_firstOther_0 23 rfl rfl)
theorem dX9_firstOther_24 : decode cX9_firstOther 24 = .ok (.invokevirtual 352, 3) := dk_182 1 96 (dk_at dksX9_firstOther_1 0 rfl rfl)
theorem dX9_firstOther_27 : decode cX9_firstOther 27 = .ok (.aload_n 0, 1) := dk_42 (dk_at dksX9_firstOther_1 3 rfl rfl)
theorem dX9_firstOther_28 : decode cX9_firstOther 28 = .ok (.getfield 95, 3) := dk_180 0 95 (dk_at dksX9_firstOther_1 4 rfl rfl)
theorem dX9_firstOther_31 : decode cX9_firstOther 31 = .ok (.aload_n 0, 1) := dk_42 (dk_at dksX9_firstOther_1 7 rfl rfl)
theorem dX9_firstOther_32 : decode cX9_firstOther 32 = .ok (.getfield 54, 3) := dk_180 0 54 (dk_at dksX9_firstOther_1 8 rfl rfl)
theorem dX9_firstOther_35 : decode cX9_firstOther 35 = .ok (.bipush 40, 2) := dk_16 40 (dk_at dksX9_firstOther_1 11 rfl rfl)
theorem dX9_firstOther_37 : decode cX9_firstOther 37 = .ok (.iload_n 1, 1) := dk_27 (dk_at dksX9_firstOther_1 13 rfl rfl)
theorem dX9_firstOther_38 : decode cX9_firstOther 38 = .ok (.imul, 1) := dk_104 (dk_at dksX9_firstOther_1 14 rfl rfl)
theorem dX9_firstOther_39 : decode cX9_firstOther 39 = .ok (.iload_n 3, 1) := dk_29 (dk_at dksX9_firstOther_1 15 rfl rfl)
theorem dX9_firstOther_40 : decode cX9_firstOther 40 = .ok (.iadd, 1) := dk_96 (dk_at dksX9_firstOther_1 16 rfl rfl)
theorem dX9_firstOther_41 : decode cX9_firstOther 41 = .ok (.iaload, 1) := dk_46 (dk_at dksX9_firstOther_1 17 rfl rfl)
theorem dX9_firstOther_42 : decode cX9_firstOther 42 = .ok (.if_icmp .ne 7, 3) := dk_160 0 7 (dk_at dksX9_firstOther_1 18 rfl rfl)
theorem dX9_firstOther_45 : decode cX9_firstOther 45 = .ok (.iconst (-1), 1) := dk_2 (dk_at dksX9_firstOther_1 21 rfl rfl)
theorem dX9_firstOther_46 : decode cX9_firstOther 46 = .ok (.goto 4, 3) := dk_167 0 4 (dk_at dksX9_firstOther_2 0 rfl rfl)
theorem dX9_firstOther_49 : decode cX9_firstOther 49 = .ok (.iload_n 3, 1) := dk_29 (dk_at dksX9_firstOther_2 3 rfl rfl)
theorem dX9_firstOther_50 : decode cX9_firstOther 50 = .ok (.istore_n 2, 1) := dk_61 (dk_at dksX9_firstOther_2 4 rfl rfl)
theorem dX9_firstOther_51 : decode cX9_firstOther 51 = .ok (.iinc 3 1, 3) := dk_132 3 1 (dk_at dksX9_firstOther_2 5 rfl rfl)
theorem dX9_firstOther_54 : decode cX9_firstOther 54 = .ok (.goto (-46), 3) := dk_167 255 210 (dk_at dksX9_firstOther_2 8 rfl rfl)
theorem dX9_firstOther_57 : decode cX9_firstOther 57 = .ok (.aload_n 0, 1) := dk_42 (dk_at dksX9_firstOther_2 11 rfl rfl)
theorem dX9_firstOther_58 : decode cX9_firstOther 58 = .ok (.invokevirtual 362, 3) := dk_182 1 106 (dk_at dksX9_firstOther_2 12 rfl rfl)
theorem dX9_firstOther_61 : decode cX9_firstOther 61 = .ok (.iload_n 2, 1) := dk_28 (dk_at dksX9_firstOther_2 15 rfl rfl)
theorem dX9_firstOther_62 : decode cX9_firstOther 62 = .ok (.ireturn, 1) := dk_172 (dk_at dksX9_firstOther_2 16 rfl rfl)
abbrev cX9_turnedSet : ByteArray := prog_17_method_93_code
def yX9_turnedSet : MethodName := ⟨RX9, "turnedSet", "(I)I"⟩
def dkwX9_turnedSet_2 : List UInt8 := [180, 0, 26, 8, 29, 104, 6, 96, 92, 46, 4, 130, 79, 132, 3, 1, 167, 255, 198, 28, 172]
abbrev dktX9_turnedSet_2 : List UInt8 := dkwX9_turnedSet_2 ++ []
def dkwX9_turnedSet_1 : List UInt8 := [130, 79, 28, 42, 27, 182, 1, 136, 2, 160, 0, 7, 4, 167, 0, 4, 3, 29, 120, 128, 61, 42]
abbrev dktX9_turnedSet_1 : List UInt8 := dkwX9_turnedSet_1 ++ dktX9_turnedSet_2
def dkwX9_turnedSet_0 : List UInt8 := [3, 61, 3, 62, 29, 42, 180, 0, 64, 162, 0, 56, 42, 180, 0, 26, 8, 29, 104, 6, 96, 92, 46, 4]
abbrev dktX9_turnedSet_0 : List UInt8 := dkwX9_turnedSet_0 ++ dktX9_turnedSet_1
theorem dksX9_turnedSet_0 : cX9_turnedSet.data.toList.drop 0 = dktX9_turnedSet_0 := by decide +kernel
theorem dksX9_turnedSet_1 : cX9_turnedSet.data.toList.drop 24 = dktX9_turnedSet_1 := dk_seg dksX9_turnedSet_0 24 rfl rfl
theorem dksX9_turnedSet_2 : cX9_turnedSet.data.toList.drop 46 = dktX9_turnedSet_2 := dk_seg dksX9_turnedSet_1 22 rfl rfl
theorem dX9_turnedSet_0 : decode cX9_turnedSet 0 = .ok (.iconst 0, 1) := dk_3 (dk_at dksX9_turnedSet_0 0 rfl rfl)
theorem dX9_turnedSet_1 : decode cX9_turnedSet 1 = .ok (.istore_n 2, 1) := dk_61 (dk_at dksX9_turnedSet_0 1 rfl rfl)
theorem dX9_turnedSet_2 : decode cX9_turnedSet 2 = .ok (.iconst 0, 1) := dk_3 (dk_at dksX9_turnedSet_0 2 rfl rfl)
theorem dX9_turnedSet_3 : decode cX9_turnedSet 3 = .ok (.istore_n 3, 1) := dk_62 (dk_at dksX9_turnedSet_0 3 rfl rfl)
theorem dX9_turnedSet_4 : decode cX9_turnedSet 4 = .ok (.iload_n 3, 1) := dk_29 (dk_at dksX9_turnedSet_0 4 rfl rfl)
theorem dX9_turnedSet_5 : decode cX9_turnedSet 5 = .ok (.aload_n 0, 1) := dk_42 (dk_at dksX9_turnedSet_0 5 rfl rfl)
theorem dX9_turnedSet_6 : decode cX9_turnedSet 6 = .ok (.getfield 64, 3) := dk_180 0 64 (dk_at dksX9_turnedSet_0 6 rfl rfl)
theorem dX9_turnedSet_9 : decode cX9_turnedSet 9 = .ok (.if_icmp .ge 56, 3) := dk_162 0 56 (dk_at dksX9_turnedSet_0 9 rfl rfl)
theorem dX9_turnedSet_12 : decode cX9_turnedSet 12 = .ok (.aload_n 0, 1) := dk_42 (dk_at dksX9_turnedSet_0 12 rfl rfl)
theorem dX9_turnedSet_13 : decode cX9_turnedSet 13 = .ok (.getfield 26, 3) := dk_180 0 26 (dk_at dksX9_turnedSet_0 13 rfl rfl)
theorem dX9_turnedSet_16 : decode cX9_turnedSet 16 = .ok (.iconst 5, 1) := dk_8 (dk_at dksX9_turnedSet_0 16 rfl rfl)
theorem dX9_turnedSet_17 : decode cX9_turnedSet 17 = .ok (.iload_n 3, 1) := dk_29 (dk_at dksX9_turnedSet_0 17 rfl rfl)
theorem dX9_turnedSet_18 : decode cX9_turnedSet 18 = .ok (.imul, 1) := dk_104 (dk_at dksX9_turnedSet_0 18 rfl rfl)
theorem dX9_turnedSet_19 : decode cX9_turnedSet 19 = .ok (.iconst 3, 1) := dk_6 (dk_at dksX9_turnedSet_0 19 rfl rfl)
theorem dX9_turnedSet_20 : decode cX9_turnedSet 20 = .ok (.iadd, 1) := dk_96 (dk_at dksX9_turnedSet_0 20 rfl rfl)
theorem dX9_turnedSet_21 : decode cX9_turnedSet 21 = .ok (.dup2, 1) := dk_92 (dk_at dksX9_turnedSet_0 21 rfl rfl)
theorem dX9_turnedSet_22 : decode cX9_turnedSet 22 = .ok (.iaload, 1) := dk_46 (dk_at dksX9_turnedSet_0 22 rfl rfl)
theorem dX9_turnedSet_23 : decode cX9_turnedSet 23 = .ok (.iconst 1, 1) := dk_4 (dk_at dksX9_turnedSet_0 23 rfl rfl)
theorem dX9_turnedSet_24 : decode cX9_turnedSet 24 = .ok (.ixor, 1) := dk_130 (dk_at dksX9_turnedSet_1 0 rfl rfl)
theorem dX9_turnedSet_25 : decode cX9_turnedSet 25 = .ok (.iastore, 1) := dk_79 (dk_at dksX9_turnedSet_1 1 rfl rfl)
theorem dX9_turnedSet_26 : decode cX9_turnedSet 26 = .ok (.iload_n 2, 1) := dk_28 (dk_at dksX9_turnedSet_1 2 rfl rfl)
theorem dX9_turnedSet_27 : decode cX9_turnedSet 27 = .ok (.aload_n 0, 1) := dk_42 (dk_at dksX9_turnedSet_1 3 rfl rfl)
theorem dX9_turnedSet_28 : decode cX9_turnedSet 28 = .ok (.iload_n 1, 1) := dk_27 (dk_at dksX9_turnedSet_1 4 rfl rfl)
theorem dX9_turnedSet_29 : decode cX9_turnedSet 29 = .ok (.invokevirtual 392, 3) := dk_182 1 136 (dk_at dksX9_turnedSet_1 5 rfl rfl)
theorem dX9_turnedSet_32 : decode cX9_turnedSet 32 = .ok (.iconst (-1), 1) := dk_2 (dk_at dksX9_turnedSet_1 8 rfl rfl)
theorem dX9_turnedSet_33 : decode cX9_turnedSet 33 = .ok (.if_icmp .ne 7, 3) := dk_160 0 7 (dk_at dksX9_turnedSet_1 9 rfl rfl)
theorem dX9_turnedSet_36 : decode cX9_turnedSet 36 = .ok (.iconst 1, 1) := dk_4 (dk_at dksX9_turnedSet_1 12 rfl rfl)
theorem dX9_turnedSet_37 : decode cX9_turnedSet 37 = .ok (.goto 4, 3) := dk_167 0 4 (dk_at dksX9_turnedSet_1 13 rfl rfl)
theorem dX9_turnedSet_40 : decode cX9_turnedSet 40 = .ok (.iconst 0, 1) := dk_3 (dk_at dksX9_turnedSet_1 16 rfl rfl)
theorem dX9_turnedSet_41 : decode cX9_turnedSet 41 = .ok (.iload_n 3, 1) := dk_29 (dk_at dksX9_turnedSet_1 17 rfl rfl)
theorem dX9_turnedSet_42 : decode cX9_turnedSet 42 = .ok (.ishl, 1) := dk_120 (dk_at dksX9_turnedSet_1 18 rfl rfl)
theorem dX9_turnedSet_43 : decode cX9_turnedSet 43 = .ok (.ior, 1) := dk_128 (dk_at dksX9_turnedSet_1 19 rfl rfl)
theorem dX9_turnedSet_44 : decode cX9_turnedSet 44 = .ok (.istore_n 2, 1) := dk_61 (dk_at dksX9_turnedSet_1 20 rfl rfl)
theorem dX9_turnedSet_45 : decode cX9_turnedSet 45 = .ok (.aload_n 0, 1) := dk_42 (dk_at dksX9_turnedSet_1 21 rfl rfl)
theorem dX9_turnedSet_46 : decode cX9_turnedSet 46 = .ok (.getfield 26, 3) := dk_180 0 26 (dk_at dksX9_turnedSet_2 0 rfl rfl)
theorem dX9_turnedSet_49 : decode cX9_turnedSet 49 = .ok (.iconst 5, 1) := dk_8 (dk_at dksX9_turnedSet_2 3 rfl rfl)
theorem dX9_turnedSet_50 : decode cX9_turnedSet 50 = .ok (.iload_n 3, 1) := dk_29 (dk_at dksX9_turnedSet_2 4 rfl rfl)
theorem dX9_turnedSet_51 : decode cX9_turnedSet 51 = .ok (.imul, 1) := dk_104 (dk_at dksX9_turnedSet_2 5 rfl rfl)
theorem dX9_turnedSet_52 : decode cX9_turnedSet 52 = .ok (.iconst 3, 1) := dk_6 (dk_at dksX9_turnedSet_2 6 rfl rfl)
theorem dX9_turnedSet_53 : decode cX9_turnedSet 53 = .ok (.iadd, 1) := dk_96 (dk_at dksX9_turnedSet_2 7 rfl rfl)
theorem dX9_turnedSet_54 : decode cX9_turnedSet 54 = .ok (.dup2, 1) := dk_92 (dk_at dksX9_turnedSet_2 8 rfl rfl)
theorem dX9_turnedSet_55 : decode cX9_turnedSet 55 = .ok (.iaload, 1) := dk_46 (dk_at dksX9_turnedSet_2 9 rfl rfl)
theorem dX9_turnedSet_56 : decode cX9_turnedSet 56 = .ok (.iconst 1, 1) := dk_4 (dk_at dksX9_turnedSet_2 10 rfl rfl)
theorem dX9_turnedSet_57 : decode cX9_turnedSet 57 = .ok (.ixor, 1) := dk_130 (dk_at dksX9_turnedSet_2 11 rfl rfl)
theorem dX9_turnedSet_58 : decode cX9_turnedSet 58 = .ok (.iastore, 1) := dk_79 (dk_at dksX9_turnedSet_2 12 rfl rfl)
theorem dX9_turnedSet_59 : decode cX9_turnedSet 59 = .ok (.iinc 3 1, 3) := dk_132 3 1 (dk_at dksX9_turnedSet_2 13 rfl rfl)
theorem dX9_turnedSet_62 : decode cX9_turnedSet 62 = .ok (.goto (-58), 3) := dk_167 255 198 (dk_at dksX9_turnedSet_2 16 rfl rfl)
theorem dX9_turnedSet_65 : decode cX9_turnedSet 65 = .ok (.iload_n 2, 1) := dk_28 (dk_at dksX9_turnedSet_2 19 rfl rfl)
theorem dX9_turnedSet_66 : decode cX9_turnedSet 66 = .ok (.ireturn, 1) := dk_172 (dk_at dksX9_turnedSet_2 20 rfl rfl)
abbrev cX9_film : ByteArray := prog_17_method_95_code
def yX9_film : MethodName := ⟨RX9, "film", "(II)I"⟩
def dkwX9_film_3 : List UInt8 := [28, 172]
abbrev dktX9_film_3 : List UInt8 := dkwX9_film_3 ++ []
def dkwX9_film_2 : List UInt8 := [180, 0, 54, 16, 40, 27, 104, 29, 96, 42, 180, 0, 95, 79, 132, 3, 1, 167, 255, 229, 42, 182, 1, 106]
abbrev dktX9_film_2 : List UInt8 := dkwX9_film_2 ++ dktX9_film_3
def dkwX9_film_1 : List UInt8 := [3, 28, 182, 1, 149, 87, 42, 182, 1, 99, 3, 62, 29, 28, 162, 0, 28, 42, 182, 1, 96, 42]
abbrev dktX9_film_1 : List UInt8 := dkwX9_film_1 ++ dktX9_film_2
def dkwX9_film_0 : List UInt8 := [27, 184, 1, 139, 153, 0, 15, 28, 133, 9, 20, 1, 147, 184, 0, 67, 154, 0, 6, 16, 254, 172, 42, 27]
abbrev dktX9_film_0 : List UInt8 := dkwX9_film_0 ++ dktX9_film_1
theorem dksX9_film_0 : cX9_film.data.toList.drop 0 = dktX9_film_0 := by decide +kernel
theorem dksX9_film_1 : cX9_film.data.toList.drop 24 = dktX9_film_1 := dk_seg dksX9_film_0 24 rfl rfl
theorem dksX9_film_2 : cX9_film.data.toList.drop 46 = dktX9_film_2 := dk_seg dksX9_film_1 22 rfl rfl
theorem dksX9_film_3 : cX9_film.data.toList.drop 70 = dktX9_film_3 := dk_seg dksX9_film_2 24 rfl rfl
theorem dX9_film_0 : decode cX9_film 0 = .ok (.iload_n 1, 1) := dk_27 (dk_at dksX9_film_0 0 rfl rfl)
theorem dX9_film_1 : decode cX9_film 1 = .ok (.invokestatic 395, 3) := dk_184 1 139 (dk_at dksX9_film_0 1 rfl rfl)
theorem dX9_film_4 : decode cX9_film 4 = .ok (.ifCond .eq 15, 3) := dk_153 0 15 (dk_at dksX9_film_0 4 rfl rfl)
theorem dX9_film_7 : decode cX9_film 7 = .ok (.iload_n 2, 1) := dk_28 (dk_at dksX9_film_0 7 rfl rfl)
theorem dX9_film_8 : decode cX9_film 8 = .ok (.i2l, 1) := dk_133 (dk_at dksX9_film_0 8 rfl rfl)
theorem dX9_film_9 : decode cX9_film 9 = .ok (.lconst 0, 1) := dk_9 (dk_at dksX9_film_0 9 rfl rfl)
theorem dX9_film_10 : decode cX9_film 10 = .ok (.ldc2_w 403, 3) := dk_20 1 147 (dk_at dksX9_film_0 10 rfl rfl)
theorem dX9_film_13 : decode cX9_film 13 = .ok (.invokestatic 67, 3) := dk_184 0 67 (dk_at dksX9_film_0 13 rfl rfl)
theorem dX9_film_16 : decode cX9_film 16 = .ok (.ifCond .ne 6, 3) := dk_154 0 6 (dk_at dksX9_film_0 16 rfl rfl)
theorem dX9_film_19 : decode cX9_film 19 = .ok (.bipush (-2), 2) := dk_16 254 (dk_at dksX9_film_0 19 rfl rfl)
theorem dX9_film_21 : decode cX9_film 21 = .ok (.ireturn, 1) := dk_172 (dk_at dksX9_film_0 21 rfl rfl)
theorem dX9_film_22 : decode cX9_film 22 = .ok (.aload_n 0, 1) := dk_42 (dk_at dksX9_film_0 22 rfl rfl)
theorem dX9_film_23 : decode cX9_film 23 = .ok (.iload_n 1, 1) := dk_27 (dk_at dksX9_film_0 23 rfl rfl)
theorem dX9_film_24 : decode cX9_film 24 = .ok (.iconst 0, 1) := dk_3 (dk_at dksX9_film_1 0 rfl rfl)
theorem dX9_film_25 : decode cX9_film 25 = .ok (.iload_n 2, 1) := dk_28 (dk_at dksX9_film_1 1 rfl rfl)
theorem dX9_film_26 : decode cX9_film 26 = .ok (.invokevirtual 405, 3) := dk_182 1 149 (dk_at dksX9_film_1 2 rfl rfl)
theorem dX9_film_29 : decode cX9_film 29 = .ok (.pop, 1) := dk_87 (dk_at dksX9_film_1 5 rfl rfl)
theorem dX9_film_30 : decode cX9_film 30 = .ok (.aload_n 0, 1) := dk_42 (dk_at dksX9_film_1 6 rfl rfl)
theorem dX9_film_31 : decode cX9_film 31 = .ok (.invokevirtual 355, 3) := dk_182 1 99 (dk_at dksX9_film_1 7 rfl rfl)
theorem dX9_film_34 : decode cX9_film 34 = .ok (.iconst 0, 1) := dk_3 (dk_at dksX9_film_1 10 rfl rfl)
theorem dX9_film_35 : decode cX9_film 35 = .ok (.istore_n 3, 1) := dk_62 (dk_at dksX9_film_1 11 rfl rfl)
theorem dX9_film_36 : decode cX9_film 36 = .ok (.iload_n 3, 1) := dk_29 (dk_at dksX9_film_1 12 rfl rfl)
theorem dX9_film_37 : decode cX9_film 37 = .ok (.iload_n 2, 1) := dk_28 (dk_at dksX9_film_1 13 rfl rfl)
theorem dX9_film_38 : decode cX9_film 38 = .ok (.if_icmp .ge 28, 3) := dk_162 0 28 (dk_at dksX9_film_1 14 rfl rfl)
theorem dX9_film_41 : decode cX9_film 41 = .ok (.aload_n 0, 1) := dk_42 (dk_at dksX9_film_1 17 rfl rfl)
theorem dX9_film_42 : decode cX9_film 42 = .ok (.invokevirtual 352, 3) := dk_182 1 96 (dk_at dksX9_film_1 18 rfl rfl)
theorem dX9_film_45 : decode cX9_film 45 = .ok (.aload_n 0, 1) := dk_42 (dk_at dksX9_film_1 21 rfl rfl)
theorem dX9_film_46 : decode cX9_film 46 = .ok (.getfield 54, 3) := dk_180 0 54 (dk_at dksX9_film_2 0 rfl rfl)
theorem dX9_film_49 : decode cX9_film 49 = .ok (.bipush 40, 2) := dk_16 40 (dk_at dksX9_film_2 3 rfl rfl)
theorem dX9_film_51 : decode cX9_film 51 = .ok (.iload_n 1, 1) := dk_27 (dk_at dksX9_film_2 5 rfl rfl)
theorem dX9_film_52 : decode cX9_film 52 = .ok (.imul, 1) := dk_104 (dk_at dksX9_film_2 6 rfl rfl)
theorem dX9_film_53 : decode cX9_film 53 = .ok (.iload_n 3, 1) := dk_29 (dk_at dksX9_film_2 7 rfl rfl)
theorem dX9_film_54 : decode cX9_film 54 = .ok (.iadd, 1) := dk_96 (dk_at dksX9_film_2 8 rfl rfl)
theorem dX9_film_55 : decode cX9_film 55 = .ok (.aload_n 0, 1) := dk_42 (dk_at dksX9_film_2 9 rfl rfl)
theorem dX9_film_56 : decode cX9_film 56 = .ok (.getfield 95, 3) := dk_180 0 95 (dk_at dksX9_film_2 10 rfl rfl)
theorem dX9_film_59 : decode cX9_film 59 = .ok (.iastore, 1) := dk_79 (dk_at dksX9_film_2 13 rfl rfl)
theorem dX9_film_60 : decode cX9_film 60 = .ok (.iinc 3 1, 3) := dk_132 3 1 (dk_at dksX9_film_2 14 rfl rfl)
theorem dX9_film_63 : decode cX9_film 63 = .ok (.goto (-27), 3) := dk_167 255 229 (dk_at dksX9_film_2 17 rfl rfl)
theorem dX9_film_66 : decode cX9_film 66 = .ok (.aload_n 0, 1) := dk_42 (dk_at dksX9_film_2 20 rfl rfl)
theorem dX9_film_67 : decode cX9_film 67 = .ok (.invokevirtual 362, 3) := dk_182 1 106 (dk_at dksX9_film_2 21 rfl rfl)
theorem dX9_film_70 : decode cX9_film 70 = .ok (.iload_n 2, 1) := dk_28 (dk_at dksX9_film_3 0 rfl rfl)
theorem dX9_film_71 : decode cX9_film 71 = .ok (.ireturn, 1) := dk_172 (dk_at dksX9_film_3 1 rfl rfl)
abbrev cX9_sheet : ByteArray := prog_17_method_103_code
def yX9_sheet : MethodName := ⟨RX9, "sheet", "(III)I"⟩
def dkwX9_sheet_4 : List UInt8 := [16, 40, 27, 104, 21, 4, 96, 3, 79, 132, 4, 1, 167, 255, 230, 4, 172]
abbrev dktX9_sheet_4 : List UInt8 := dkwX9_sheet_4 ++ []
def dkwX9_sheet_3 : List UInt8 := [180, 0, 51, 27, 29, 79, 3, 54, 4, 21, 4, 29, 162, 0, 26, 28, 155, 0, 22, 42, 180, 0, 54]
abbrev dktX9_sheet_3 : List UInt8 := dkwX9_sheet_3 ++ dktX9_sheet_4
def dkwX9_sheet_2 : List UInt8 := [180, 0, 44, 27, 28, 155, 0, 7, 4, 167, 0, 4, 3, 84, 42, 180, 0, 48, 27, 28, 79, 42]
abbrev dktX9_sheet_2 : List UInt8 := dkwX9_sheet_2 ++ dktX9_sheet_3
def dkwX9_sheet_1 : List UInt8 := [155, 0, 12, 29, 16, 40, 164, 0, 6, 16, 254, 172, 28, 155, 0, 10, 29, 156, 0, 6, 16, 242, 172, 42]
abbrev dktX9_sheet_1 : List UInt8 := dkwX9_sheet_1 ++ dktX9_sheet_2
def dkwX9_sheet_0 : List UInt8 := [27, 184, 1, 139, 153, 0, 27, 28, 133, 20, 1, 165, 20, 1, 167, 184, 0, 67, 153, 0, 13, 28]
abbrev dktX9_sheet_0 : List UInt8 := dkwX9_sheet_0 ++ dktX9_sheet_1
theorem dksX9_sheet_0 : cX9_sheet.data.toList.drop 0 = dktX9_sheet_0 := by decide +kernel
theorem dksX9_sheet_1 : cX9_sheet.data.toList.drop 22 = dktX9_sheet_1 := dk_seg dksX9_sheet_0 22 rfl rfl
theorem dksX9_sheet_2 : cX9_sheet.data.toList.drop 46 = dktX9_sheet_2 := dk_seg dksX9_sheet_1 24 rfl rfl
theorem dksX9_sheet_3 : cX9_sheet.data.toList.drop 68 = dktX9_sheet_3 := dk_seg dksX9_sheet_2 22 rfl rfl
theorem dksX9_sheet_4 : cX9_sheet.data.toList.drop 91 = dktX9_sheet_4 := dk_seg dksX9_sheet_3 23 rfl rfl
theorem dX9_sheet_0 : decode cX9_sheet 0 = .ok (.iload_n 1, 1) := dk_27 (dk_at dksX9_sheet_0 0 rfl rfl)
theorem dX9_sheet_1 : decode cX9_sheet 1 = .ok (.invokestatic 395, 3) := dk_184 1 139 (dk_at dksX9_sheet_0 1 rfl rfl)
theorem dX9_sheet_4 : decode cX9_sheet 4 = .ok (.ifCond .eq 27, 3) := dk_153 0 27 (dk_at dksX9_sheet_0 4 rfl rfl)
theorem dX9_sheet_7 : decode cX9_sheet 7 = .ok (.iload_n 2, 1) := dk_28 (dk_at dksX9_sheet_0 7 rfl rfl)
theorem dX9_sheet_8 : decode cX9_sheet 8 = .ok (.i2l, 1) := dk_133 (dk_at dksX9_sheet_0 8 rfl rfl)
theorem dX9_sheet_9 : decode cX9_sheet 9 = .ok (.ldc2_w 421, 3) := dk_20 1 165 (dk_at dksX9_sheet_0 9 rfl rfl)
theorem dX9_sheet_12 : decode cX9_sheet 12 = .ok (.ldc2_w 423, 3) := dk_20 1 167 (dk_at dksX9_sheet_0 12 rfl rfl)
theorem dX9_sheet_15 : decode cX9_sheet 15 = .ok (.invokestatic 67, 3) := dk_184 0 67 (dk_at dksX9_sheet_0 15 rfl rfl)
theorem dX9_sheet_18 : decode cX9_sheet 18 = .ok (.ifCond .eq 13, 3) := dk_153 0 13 (dk_at dksX9_sheet_0 18 rfl rfl)
theorem dX9_sheet_21 : decode cX9_sheet 21 = .ok (.iload_n 2, 1) := dk_28 (dk_at dksX9_sheet_0 21 rfl rfl)
theorem dX9_sheet_22 : decode cX9_sheet 22 = .ok (.ifCond .lt 12, 3) := dk_155 0 12 (dk_at dksX9_sheet_1 0 rfl rfl)
theorem dX9_sheet_25 : decode cX9_sheet 25 = .ok (.iload_n 3, 1) := dk_29 (dk_at dksX9_sheet_1 3 rfl rfl)
theorem dX9_sheet_26 : decode cX9_sheet 26 = .ok (.bipush 40, 2) := dk_16 40 (dk_at dksX9_sheet_1 4 rfl rfl)
theorem dX9_sheet_28 : decode cX9_sheet 28 = .ok (.if_icmp .le 6, 3) := dk_164 0 6 (dk_at dksX9_sheet_1 6 rfl rfl)
theorem dX9_sheet_31 : decode cX9_sheet 31 = .ok (.bipush (-2), 2) := dk_16 254 (dk_at dksX9_sheet_1 9 rfl rfl)
theorem dX9_sheet_33 : decode cX9_sheet 33 = .ok (.ireturn, 1) := dk_172 (dk_at dksX9_sheet_1 11 rfl rfl)
theorem dX9_sheet_34 : decode cX9_sheet 34 = .ok (.iload_n 2, 1) := dk_28 (dk_at dksX9_sheet_1 12 rfl rfl)
theorem dX9_sheet_35 : decode cX9_sheet 35 = .ok (.ifCond .lt 10, 3) := dk_155 0 10 (dk_at dksX9_sheet_1 13 rfl rfl)
theorem dX9_sheet_38 : decode cX9_sheet 38 = .ok (.iload_n 3, 1) := dk_29 (dk_at dksX9_sheet_1 16 rfl rfl)
theorem dX9_sheet_39 : decode cX9_sheet 39 = .ok (.ifCond .ge 6, 3) := dk_156 0 6 (dk_at dksX9_sheet_1 17 rfl rfl)
theorem dX9_sheet_42 : decode cX9_sheet 42 = .ok (.bipush (-14), 2) := dk_16 242 (dk_at dksX9_sheet_1 20 rfl rfl)
theorem dX9_sheet_44 : decode cX9_sheet 44 = .ok (.ireturn, 1) := dk_172 (dk_at dksX9_sheet_1 22 rfl rfl)
theorem dX9_sheet_45 : decode cX9_sheet 45 = .ok (.aload_n 0, 1) := dk_42 (dk_at dksX9_sheet_1 23 rfl rfl)
theorem dX9_sheet_46 : decode cX9_sheet 46 = .ok (.getfield 44, 3) := dk_180 0 44 (dk_at dksX9_sheet_2 0 rfl rfl)
theorem dX9_sheet_49 : decode cX9_sheet 49 = .ok (.iload_n 1, 1) := dk_27 (dk_at dksX9_sheet_2 3 rfl rfl)
theorem dX9_sheet_50 : decode cX9_sheet 50 = .ok (.iload_n 2, 1) := dk_28 (dk_at dksX9_sheet_2 4 rfl rfl)
theorem dX9_sheet_51 : decode cX9_sheet 51 = .ok (.ifCond .lt 7, 3) := dk_155 0 7 (dk_at dksX9_sheet_2 5 rfl rfl)
theorem dX9_sheet_54 : decode cX9_sheet 54 = .ok (.iconst 1, 1) := dk_4 (dk_at dksX9_sheet_2 8 rfl rfl)
theorem dX9_sheet_55 : decode cX9_sheet 55 = .ok (.goto 4, 3) := dk_167 0 4 (dk_at dksX9_sheet_2 9 rfl rfl)
theorem dX9_sheet_58 : decode cX9_sheet 58 = .ok (.iconst 0, 1) := dk_3 (dk_at dksX9_sheet_2 12 rfl rfl)
theorem dX9_sheet_59 : decode cX9_sheet 59 = .ok (.bastore, 1) := dk_84 (dk_at dksX9_sheet_2 13 rfl rfl)
theorem dX9_sheet_60 : decode cX9_sheet 60 = .ok (.aload_n 0, 1) := dk_42 (dk_at dksX9_sheet_2 14 rfl rfl)
theorem dX9_sheet_61 : decode cX9_sheet 61 = .ok (.getfield 48, 3) := dk_180 0 48 (dk_at dksX9_sheet_2 15 rfl rfl)
theorem dX9_sheet_64 : decode cX9_sheet 64 = .ok (.iload_n 1, 1) := dk_27 (dk_at dksX9_sheet_2 18 rfl rfl)
theorem dX9_sheet_65 : decode cX9_sheet 65 = .ok (.iload_n 2, 1) := dk_28 (dk_at dksX9_sheet_2 19 rfl rfl)
theorem dX9_sheet_66 : decode cX9_sheet 66 = .ok (.iastore, 1) := dk_79 (dk_at dksX9_sheet_2 20 rfl rfl)
theorem dX9_sheet_67 : decode cX9_sheet 67 = .ok (.aload_n 0, 1) := dk_42 (dk_at dksX9_sheet_2 21 rfl rfl)
theorem dX9_sheet_68 : decode cX9_sheet 68 = .ok (.getfield 51, 3) := dk_180 0 51 (dk_at dksX9_sheet_3 0 rfl rfl)
theorem dX9_sheet_71 : decode cX9_sheet 71 = .ok (.iload_n 1, 1) := dk_27 (dk_at dksX9_sheet_3 3 rfl rfl)
theorem dX9_sheet_72 : decode cX9_sheet 72 = .ok (.iload_n 3, 1) := dk_29 (dk_at dksX9_sheet_3 4 rfl rfl)
theorem dX9_sheet_73 : decode cX9_sheet 73 = .ok (.iastore, 1) := dk_79 (dk_at dksX9_sheet_3 5 rfl rfl)
theorem dX9_sheet_74 : decode cX9_sheet 74 = .ok (.iconst 0, 1) := dk_3 (dk_at dksX9_sheet_3 6 rfl rfl)
theorem dX9_sheet_75 : decode cX9_sheet 75 = .ok (.istore 4, 2) := dk_54 4 (dk_at dksX9_sheet_3 7 rfl rfl)
theorem dX9_sheet_77 : decode cX9_sheet 77 = .ok (.iload 4, 2) := dk_21 4 (dk_at dksX9_sheet_3 9 rfl rfl)
theorem dX9_sheet_79 : decode cX9_sheet 79 = .ok (.iload_n 3, 1) := dk_29 (dk_at dksX9_sheet_3 11 rfl rfl)
theorem dX9_sheet_80 : decode cX9_sheet 80 = .ok (.if_icmp .ge 26, 3) := dk_162 0 26 (dk_at dksX9_sheet_3 12 rfl rfl)
theorem dX9_sheet_83 : decode cX9_sheet 83 = .ok (.iload_n 2, 1) := dk_28 (dk_at dksX9_sheet_3 15 rfl rfl)
theorem dX9_sheet_84 : decode cX9_sheet 84 = .ok (.ifCond .lt 22, 3) := dk_155 0 22 (dk_at dksX9_sheet_3 16 rfl rfl)
theorem dX9_sheet_87 : decode cX9_sheet 87 = .ok (.aload_n 0, 1) := dk_42 (dk_at dksX9_sheet_3 19 rfl rfl)
theorem dX9_sheet_88 : decode cX9_sheet 88 = .ok (.getfield 54, 3) := dk_180 0 54 (dk_at dksX9_sheet_3 20 rfl rfl)
theorem dX9_sheet_91 : decode cX9_sheet 91 = .ok (.bipush 40, 2) := dk_16 40 (dk_at dksX9_sheet_4 0 rfl rfl)
theorem dX9_sheet_93 : decode cX9_sheet 93 = .ok (.iload_n 1, 1) := dk_27 (dk_at dksX9_sheet_4 2 rfl rfl)
theorem dX9_sheet_94 : decode cX9_sheet 94 = .ok (.imul, 1) := dk_104 (dk_at dksX9_sheet_4 3 rfl rfl)
theorem dX9_sheet_95 : decode cX9_sheet 95 = .ok (.iload 4, 2) := dk_21 4 (dk_at dksX9_sheet_4 4 rfl rfl)
theorem dX9_sheet_97 : decode cX9_sheet 97 = .ok (.iadd, 1) := dk_96 (dk_at dksX9_sheet_4 6 rfl rfl)
theorem dX9_sheet_98 : decode cX9_sheet 98 = .ok (.iconst 0, 1) := dk_3 (dk_at dksX9_sheet_4 7 rfl rfl)
theorem dX9_sheet_99 : decode cX9_sheet 99 = .ok (.iastore, 1) := dk_79 (dk_at dksX9_sheet_4 8 rfl rfl)
theorem dX9_sheet_100 : decode cX9_sheet 100 = .ok (.iinc 4 1, 3) := dk_132 4 1 (dk_at dksX9_sheet_4 9 rfl rfl)
theorem dX9_sheet_103 : decode cX9_sheet 103 = .ok (.goto (-26), 3) := dk_167 255 230 (dk_at dksX9_sheet_4 12 rfl rfl)
theorem dX9_sheet_106 : decode cX9_sheet 106 = .ok (.iconst 1, 1) := dk_4 (dk_at dksX9_sheet_4 15 rfl rfl)
theorem dX9_sheet_107 : decode cX9_sheet 107 = .ok (.ireturn, 1) := dk_172 (dk_at dksX9_sheet_4 16 rfl rfl)
abbrev cX9_drawn : ByteArray := prog_17_method_97_code
def yX9_drawn : MethodName := ⟨RX9, "drawn", "(II)I"⟩
def dkwX9_drawn_0 : List UInt8 := [28, 133, 9, 20, 1, 129, 184, 0, 67, 153, 0, 12, 42, 27, 28, 182, 1, 153, 167, 0, 5, 16, 254, 172]
abbrev dktX9_drawn_0 : List UInt8 := dkwX9_drawn_0 ++ []
theorem dksX9_drawn_0 : cX9_drawn.data.toList.drop 0 = dktX9_drawn_0 := by decide +kernel
theorem dX9_drawn_0 : decode cX9_drawn 0 = .ok (.iload_n 2, 1) := dk_28 (dk_at dksX9_drawn_0 0 rfl rfl)
theorem dX9_drawn_1 : decode cX9_drawn 1 = .ok (.i2l, 1) := dk_133 (dk_at dksX9_drawn_0 1 rfl rfl)
theorem dX9_drawn_2 : decode cX9_drawn 2 = .ok (.lconst 0, 1) := dk_9 (dk_at dksX9_drawn_0 2 rfl rfl)
theorem dX9_drawn_3 : decode cX9_drawn 3 = .ok (.ldc2_w 385, 3) := dk_20 1 129 (dk_at dksX9_drawn_0 3 rfl rfl)
theorem dX9_drawn_6 : decode cX9_drawn 6 = .ok (.invokestatic 67, 3) := dk_184 0 67 (dk_at dksX9_drawn_0 6 rfl rfl)
theorem dX9_drawn_9 : decode cX9_drawn 9 = .ok (.ifCond .eq 12, 3) := dk_153 0 12 (dk_at dksX9_drawn_0 9 rfl rfl)
theorem dX9_drawn_12 : decode cX9_drawn 12 = .ok (.aload_n 0, 1) := dk_42 (dk_at dksX9_drawn_0 12 rfl rfl)
theorem dX9_drawn_13 : decode cX9_drawn 13 = .ok (.iload_n 1, 1) := dk_27 (dk_at dksX9_drawn_0 13 rfl rfl)
theorem dX9_drawn_14 : decode cX9_drawn 14 = .ok (.iload_n 2, 1) := dk_28 (dk_at dksX9_drawn_0 14 rfl rfl)
theorem dX9_drawn_15 : decode cX9_drawn 15 = .ok (.invokevirtual 409, 3) := dk_182 1 153 (dk_at dksX9_drawn_0 15 rfl rfl)
theorem dX9_drawn_18 : decode cX9_drawn 18 = .ok (.goto 5, 3) := dk_167 0 5 (dk_at dksX9_drawn_0 18 rfl rfl)
theorem dX9_drawn_21 : decode cX9_drawn 21 = .ok (.bipush (-2), 2) := dk_16 254 (dk_at dksX9_drawn_0 21 rfl rfl)
theorem dX9_drawn_23 : decode cX9_drawn 23 = .ok (.ireturn, 1) := dk_172 (dk_at dksX9_drawn_0 23 rfl rfl)
abbrev cX9_floorDrawn : ByteArray := prog_17_method_96_code
def yX9_floorDrawn : MethodName := ⟨RX9, "floorDrawn", "(II)I"⟩
def dkwX9_floorDrawn_3 : List UInt8 := [54, 4, 42, 182, 1, 106, 21, 4, 172]
abbrev dktX9_floorDrawn_3 : List UInt8 := dkwX9_floorDrawn_3 ++ []
def dkwX9_floorDrawn_2 : List UInt8 := [21, 5, 104, 6, 96, 92, 46, 4, 130, 79, 42, 182, 1, 96, 132, 4, 1, 167, 255, 200, 42, 180, 0, 95]
abbrev dktX9_floorDrawn_2 : List UInt8 := dkwX9_floorDrawn_2 ++ dktX9_floorDrawn_3
def dkwX9_floorDrawn_1 : List UInt8 := [62, 29, 16, 9, 124, 16, 8, 112, 54, 5, 42, 21, 5, 182, 0, 73, 153, 0, 18, 42, 180, 0, 26, 8]
abbrev dktX9_floorDrawn_1 : List UInt8 := dkwX9_floorDrawn_1 ++ dktX9_floorDrawn_2
def dkwX9_floorDrawn_0 : List UInt8 := [42, 182, 1, 99, 27, 62, 3, 54, 4, 21, 4, 28, 162, 0, 56, 29, 19, 1, 152, 104, 17, 48, 57, 96]
abbrev dktX9_floorDrawn_0 : List UInt8 := dkwX9_floorDrawn_0 ++ dktX9_floorDrawn_1
theorem dksX9_floorDrawn_0 : cX9_floorDrawn.data.toList.drop 0 = dktX9_floorDrawn_0 := by decide +kernel
theorem dksX9_floorDrawn_1 : cX9_floorDrawn.data.toList.drop 24 = dktX9_floorDrawn_1 := dk_seg dksX9_floorDrawn_0 24 rfl rfl
theorem dksX9_floorDrawn_2 : cX9_floorDrawn.data.toList.drop 48 = dktX9_floorDrawn_2 := dk_seg dksX9_floorDrawn_1 24 rfl rfl
theorem dksX9_floorDrawn_3 : cX9_floorDrawn.data.toList.drop 72 = dktX9_floorDrawn_3 := dk_seg dksX9_floorDrawn_2 24 rfl rfl
theorem dX9_floorDrawn_0 : decode cX9_floorDrawn 0 = .ok (.aload_n 0, 1) := dk_42 (dk_at dksX9_floorDrawn_0 0 rfl rfl)
theorem dX9_floorDrawn_1 : decode cX9_floorDrawn 1 = .ok (.invokevirtual 355, 3) := dk_182 1 99 (dk_at dksX9_floorDrawn_0 1 rfl rfl)
theorem dX9_floorDrawn_4 : decode cX9_floorDrawn 4 = .ok (.iload_n 1, 1) := dk_27 (dk_at dksX9_floorDrawn_0 4 rfl rfl)
theorem dX9_floorDrawn_5 : decode cX9_floorDrawn 5 = .ok (.istore_n 3, 1) := dk_62 (dk_at dksX9_floorDrawn_0 5 rfl rfl)
theorem dX9_floorDrawn_6 : decode cX9_floorDrawn 6 = .ok (.iconst 0, 1) := dk_3 (dk_at dksX9_floorDrawn_0 6 rfl rfl)
theorem dX9_floorDrawn_7 : decode cX9_floorDrawn 7 = .ok (.istore 4, 2) := dk_54 4 (dk_at dksX9_floorDrawn_0 7 rfl rfl)
theorem dX9_floorDrawn_9 : decode cX9_floorDrawn 9 = .ok (.iload 4, 2) := dk_21 4 (dk_at dksX9_floorDrawn_0 9 rfl rfl)
theorem dX9_floorDrawn_11 : decode cX9_floorDrawn 11 = .ok (.iload_n 2, 1) := dk_28 (dk_at dksX9_floorDrawn_0 11 rfl rfl)
theorem dX9_floorDrawn_12 : decode cX9_floorDrawn 12 = .ok (.if_icmp .ge 56, 3) := dk_162 0 56 (dk_at dksX9_floorDrawn_0 12 rfl rfl)
theorem dX9_floorDrawn_15 : decode cX9_floorDrawn 15 = .ok (.iload_n 3, 1) := dk_29 (dk_at dksX9_floorDrawn_0 15 rfl rfl)
theorem dX9_floorDrawn_16 : decode cX9_floorDrawn 16 = .ok (.ldc_w 408, 3) := dk_19 1 152 (dk_at dksX9_floorDrawn_0 16 rfl rfl)
theorem dX9_floorDrawn_19 : decode cX9_floorDrawn 19 = .ok (.imul, 1) := dk_104 (dk_at dksX9_floorDrawn_0 19 rfl rfl)
theorem dX9_floorDrawn_20 : decode cX9_floorDrawn 20 = .ok (.sipush 12345, 3) := dk_17 48 57 (dk_at dksX9_floorDrawn_0 20 rfl rfl)
theorem dX9_floorDrawn_23 : decode cX9_floorDrawn 23 = .ok (.iadd, 1) := dk_96 (dk_at dksX9_floorDrawn_0 23 rfl rfl)
theorem dX9_floorDrawn_24 : decode cX9_floorDrawn 24 = .ok (.istore_n 3, 1) := dk_62 (dk_at dksX9_floorDrawn_1 0 rfl rfl)
theorem dX9_floorDrawn_25 : decode cX9_floorDrawn 25 = .ok (.iload_n 3, 1) := dk_29 (dk_at dksX9_floorDrawn_1 1 rfl rfl)
theorem dX9_floorDrawn_26 : decode cX9_floorDrawn 26 = .ok (.bipush 9, 2) := dk_16 9 (dk_at dksX9_floorDrawn_1 2 rfl rfl)
theorem dX9_floorDrawn_28 : decode cX9_floorDrawn 28 = .ok (.iushr, 1) := dk_124 (dk_at dksX9_floorDrawn_1 4 rfl rfl)
theorem dX9_floorDrawn_29 : decode cX9_floorDrawn 29 = .ok (.bipush 8, 2) := dk_16 8 (dk_at dksX9_floorDrawn_1 5 rfl rfl)
theorem dX9_floorDrawn_31 : decode cX9_floorDrawn 31 = .ok (.irem, 1) := dk_112 (dk_at dksX9_floorDrawn_1 7 rfl rfl)
theorem dX9_floorDrawn_32 : decode cX9_floorDrawn 32 = .ok (.istore 5, 2) := dk_54 5 (dk_at dksX9_floorDrawn_1 8 rfl rfl)
theorem dX9_floorDrawn_34 : decode cX9_floorDrawn 34 = .ok (.aload_n 0, 1) := dk_42 (dk_at dksX9_floorDrawn_1 10 rfl rfl)
theorem dX9_floorDrawn_35 : decode cX9_floorDrawn 35 = .ok (.iload 5, 2) := dk_21 5 (dk_at dksX9_floorDrawn_1 11 rfl rfl)
theorem dX9_floorDrawn_37 : decode cX9_floorDrawn 37 = .ok (.invokevirtual 73, 3) := dk_182 0 73 (dk_at dksX9_floorDrawn_1 13 rfl rfl)
theorem dX9_floorDrawn_40 : decode cX9_floorDrawn 40 = .ok (.ifCond .eq 18, 3) := dk_153 0 18 (dk_at dksX9_floorDrawn_1 16 rfl rfl)
theorem dX9_floorDrawn_43 : decode cX9_floorDrawn 43 = .ok (.aload_n 0, 1) := dk_42 (dk_at dksX9_floorDrawn_1 19 rfl rfl)
theorem dX9_floorDrawn_44 : decode cX9_floorDrawn 44 = .ok (.getfield 26, 3) := dk_180 0 26 (dk_at dksX9_floorDrawn_1 20 rfl rfl)
theorem dX9_floorDrawn_47 : decode cX9_floorDrawn 47 = .ok (.iconst 5, 1) := dk_8 (dk_at dksX9_floorDrawn_1 23 rfl rfl)
theorem dX9_floorDrawn_48 : decode cX9_floorDrawn 48 = .ok (.iload 5, 2) := dk_21 5 (dk_at dksX9_floorDrawn_2 0 rfl rfl)
theorem dX9_floorDrawn_50 : decode cX9_floorDrawn 50 = .ok (.imul, 1) := dk_104 (dk_at dksX9_floorDrawn_2 2 rfl rfl)
theorem dX9_floorDrawn_51 : decode cX9_floorDrawn 51 = .ok (.iconst 3, 1) := dk_6 (dk_at dksX9_floorDrawn_2 3 rfl rfl)
theorem dX9_floorDrawn_52 : decode cX9_floorDrawn 52 = .ok (.iadd, 1) := dk_96 (dk_at dksX9_floorDrawn_2 4 rfl rfl)
theorem dX9_floorDrawn_53 : decode cX9_floorDrawn 53 = .ok (.dup2, 1) := dk_92 (dk_at dksX9_floorDrawn_2 5 rfl rfl)
theorem dX9_floorDrawn_54 : decode cX9_floorDrawn 54 = .ok (.iaload, 1) := dk_46 (dk_at dksX9_floorDrawn_2 6 rfl rfl)
theorem dX9_floorDrawn_55 : decode cX9_floorDrawn 55 = .ok (.iconst 1, 1) := dk_4 (dk_at dksX9_floorDrawn_2 7 rfl rfl)
theorem dX9_floorDrawn_56 : decode cX9_floorDrawn 56 = .ok (.ixor, 1) := dk_130 (dk_at dksX9_floorDrawn_2 8 rfl rfl)
theorem dX9_floorDrawn_57 : decode cX9_floorDrawn 57 = .ok (.iastore, 1) := dk_79 (dk_at dksX9_floorDrawn_2 9 rfl rfl)
theorem dX9_floorDrawn_58 : decode cX9_floorDrawn 58 = .ok (.aload_n 0, 1) := dk_42 (dk_at dksX9_floorDrawn_2 10 rfl rfl)
theorem dX9_floorDrawn_59 : decode cX9_floorDrawn 59 = .ok (.invokevirtual 352, 3) := dk_182 1 96 (dk_at dksX9_floorDrawn_2 11 rfl rfl)
theorem dX9_floorDrawn_62 : decode cX9_floorDrawn 62 = .ok (.iinc 4 1, 3) := dk_132 4 1 (dk_at dksX9_floorDrawn_2 14 rfl rfl)
theorem dX9_floorDrawn_65 : decode cX9_floorDrawn 65 = .ok (.goto (-56), 3) := dk_167 255 200 (dk_at dksX9_floorDrawn_2 17 rfl rfl)
theorem dX9_floorDrawn_68 : decode cX9_floorDrawn 68 = .ok (.aload_n 0, 1) := dk_42 (dk_at dksX9_floorDrawn_2 20 rfl rfl)
theorem dX9_floorDrawn_69 : decode cX9_floorDrawn 69 = .ok (.getfield 95, 3) := dk_180 0 95 (dk_at dksX9_floorDrawn_2 21 rfl rfl)
theorem dX9_floorDrawn_72 : decode cX9_floorDrawn 72 = .ok (.istore 4, 2) := dk_54 4 (dk_at dksX9_floorDrawn_3 0 rfl rfl)
theorem dX9_floorDrawn_74 : decode cX9_floorDrawn 74 = .ok (.aload_n 0, 1) := dk_42 (dk_at dksX9_floorDrawn_3 2 rfl rfl)
theorem dX9_floorDrawn_75 : decode cX9_floorDrawn 75 = .ok (.invokevirtual 362, 3) := dk_182 1 106 (dk_at dksX9_floorDrawn_3 3 rfl rfl)
theorem dX9_floorDrawn_78 : decode cX9_floorDrawn 78 = .ok (.iload 4, 2) := dk_21 4 (dk_at dksX9_floorDrawn_3 6 rfl rfl)
theorem dX9_floorDrawn_80 : decode cX9_floorDrawn 80 = .ok (.ireturn, 1) := dk_172 (dk_at dksX9_floorDrawn_3 8 rfl rfl)
abbrev cX9_chance : ByteArray := prog_17_method_98_code
def yX9_chance : MethodName := ⟨RX9, "chance", "(IIII)J"⟩
def dkwX9_chance_3 : List UInt8 := [97, 55, 5, 132, 7, 1, 167, 255, 223, 22, 5, 28, 133, 21, 4, 184, 1, 87, 173]
abbrev dktX9_chance_3 : List UInt8 := dkwX9_chance_3 ++ []
def dkwX9_chance_2 : List UInt8 := [162, 0, 33, 22, 5, 42, 27, 21, 7, 96, 16, 10, 182, 1, 153, 29, 161, 0, 7, 10, 167, 0, 4, 9]
abbrev dktX9_chance_2 : List UInt8 := dkwX9_chance_2 ++ dktX9_chance_3
def dkwX9_chance_1 : List UInt8 := [21, 4, 133, 9, 10, 184, 0, 67, 154, 0, 7, 20, 1, 91, 173, 9, 55, 5, 3, 54, 7, 21, 7, 28]
abbrev dktX9_chance_1 : List UInt8 := dkwX9_chance_1 ++ dktX9_chance_2
def dkwX9_chance_0 : List UInt8 := [28, 133, 10, 20, 1, 147, 184, 0, 67, 153, 0, 26, 29, 133, 9, 20, 0, 108, 184, 0, 67, 153, 0, 14]
abbrev dktX9_chance_0 : List UInt8 := dkwX9_chance_0 ++ dktX9_chance_1
theorem dksX9_chance_0 : cX9_chance.data.toList.drop 0 = dktX9_chance_0 := by decide +kernel
theorem dksX9_chance_1 : cX9_chance.data.toList.drop 24 = dktX9_chance_1 := dk_seg dksX9_chance_0 24 rfl rfl
theorem dksX9_chance_2 : cX9_chance.data.toList.drop 48 = dktX9_chance_2 := dk_seg dksX9_chance_1 24 rfl rfl
theorem dksX9_chance_3 : cX9_chance.data.toList.drop 72 = dktX9_chance_3 := dk_seg dksX9_chance_2 24 rfl rfl
theorem dX9_chance_0 : decode cX9_chance 0 = .ok (.iload_n 2, 1) := dk_28 (dk_at dksX9_chance_0 0 rfl rfl)
theorem dX9_chance_1 : decode cX9_chance 1 = .ok (.i2l, 1) := dk_133 (dk_at dksX9_chance_0 1 rfl rfl)
theorem dX9_chance_2 : decode cX9_chance 2 = .ok (.lconst 1, 1) := dk_10 (dk_at dksX9_chance_0 2 rfl rfl)
theorem dX9_chance_3 : decode cX9_chance 3 = .ok (.ldc2_w 403, 3) := dk_20 1 147 (dk_at dksX9_chance_0 3 rfl rfl)
theorem dX9_chance_6 : decode cX9_chance 6 = .ok (.invokestatic 67, 3) := dk_184 0 67 (dk_at dksX9_chance_0 6 rfl rfl)
theorem dX9_chance_9 : decode cX9_chance 9 = .ok (.ifCond .eq 26, 3) := dk_153 0 26 (dk_at dksX9_chance_0 9 rfl rfl)
theorem dX9_chance_12 : decode cX9_chance 12 = .ok (.iload_n 3, 1) := dk_29 (dk_at dksX9_chance_0 12 rfl rfl)
theorem dX9_chance_13 : decode cX9_chance 13 = .ok (.i2l, 1) := dk_133 (dk_at dksX9_chance_0 13 rfl rfl)
theorem dX9_chance_14 : decode cX9_chance 14 = .ok (.lconst 0, 1) := dk_9 (dk_at dksX9_chance_0 14 rfl rfl)
theorem dX9_chance_15 : decode cX9_chance 15 = .ok (.ldc2_w 108, 3) := dk_20 0 108 (dk_at dksX9_chance_0 15 rfl rfl)
theorem dX9_chance_18 : decode cX9_chance 18 = .ok (.invokestatic 67, 3) := dk_184 0 67 (dk_at dksX9_chance_0 18 rfl rfl)
theorem dX9_chance_21 : decode cX9_chance 21 = .ok (.ifCond .eq 14, 3) := dk_153 0 14 (dk_at dksX9_chance_0 21 rfl rfl)
theorem dX9_chance_24 : decode cX9_chance 24 = .ok (.iload 4, 2) := dk_21 4 (dk_at dksX9_chance_1 0 rfl rfl)
theorem dX9_chance_26 : decode cX9_chance 26 = .ok (.i2l, 1) := dk_133 (dk_at dksX9_chance_1 2 rfl rfl)
theorem dX9_chance_27 : decode cX9_chance 27 = .ok (.lconst 0, 1) := dk_9 (dk_at dksX9_chance_1 3 rfl rfl)
theorem dX9_chance_28 : decode cX9_chance 28 = .ok (.lconst 1, 1) := dk_10 (dk_at dksX9_chance_1 4 rfl rfl)
theorem dX9_chance_29 : decode cX9_chance 29 = .ok (.invokestatic 67, 3) := dk_184 0 67 (dk_at dksX9_chance_1 5 rfl rfl)
theorem dX9_chance_32 : decode cX9_chance 32 = .ok (.ifCond .ne 7, 3) := dk_154 0 7 (dk_at dksX9_chance_1 8 rfl rfl)
theorem dX9_chance_35 : decode cX9_chance 35 = .ok (.ldc2_w 347, 3) := dk_20 1 91 (dk_at dksX9_chance_1 11 rfl rfl)
theorem dX9_chance_38 : decode cX9_chance 38 = .ok (.lreturn, 1) := dk_173 (dk_at dksX9_chance_1 14 rfl rfl)
theorem dX9_chance_39 : decode cX9_chance 39 = .ok (.lconst 0, 1) := dk_9 (dk_at dksX9_chance_1 15 rfl rfl)
theorem dX9_chance_40 : decode cX9_chance 40 = .ok (.lstore 5, 2) := dk_55 5 (dk_at dksX9_chance_1 16 rfl rfl)
theorem dX9_chance_42 : decode cX9_chance 42 = .ok (.iconst 0, 1) := dk_3 (dk_at dksX9_chance_1 18 rfl rfl)
theorem dX9_chance_43 : decode cX9_chance 43 = .ok (.istore 7, 2) := dk_54 7 (dk_at dksX9_chance_1 19 rfl rfl)
theorem dX9_chance_45 : decode cX9_chance 45 = .ok (.iload 7, 2) := dk_21 7 (dk_at dksX9_chance_1 21 rfl rfl)
theorem dX9_chance_47 : decode cX9_chance 47 = .ok (.iload_n 2, 1) := dk_28 (dk_at dksX9_chance_1 23 rfl rfl)
theorem dX9_chance_48 : decode cX9_chance 48 = .ok (.if_icmp .ge 33, 3) := dk_162 0 33 (dk_at dksX9_chance_2 0 rfl rfl)
theorem dX9_chance_51 : decode cX9_chance 51 = .ok (.lload 5, 2) := dk_22 5 (dk_at dksX9_chance_2 3 rfl rfl)
theorem dX9_chance_53 : decode cX9_chance 53 = .ok (.aload_n 0, 1) := dk_42 (dk_at dksX9_chance_2 5 rfl rfl)
theorem dX9_chance_54 : decode cX9_chance 54 = .ok (.iload_n 1, 1) := dk_27 (dk_at dksX9_chance_2 6 rfl rfl)
theorem dX9_chance_55 : decode cX9_chance 55 = .ok (.iload 7, 2) := dk_21 7 (dk_at dksX9_chance_2 7 rfl rfl)
theorem dX9_chance_57 : decode cX9_chance 57 = .ok (.iadd, 1) := dk_96 (dk_at dksX9_chance_2 9 rfl rfl)
theorem dX9_chance_58 : decode cX9_chance 58 = .ok (.bipush 10, 2) := dk_16 10 (dk_at dksX9_chance_2 10 rfl rfl)
theorem dX9_chance_60 : decode cX9_chance 60 = .ok (.invokevirtual 409, 3) := dk_182 1 153 (dk_at dksX9_chance_2 12 rfl rfl)
theorem dX9_chance_63 : decode cX9_chance 63 = .ok (.iload_n 3, 1) := dk_29 (dk_at dksX9_chance_2 15 rfl rfl)
theorem dX9_chance_64 : decode cX9_chance 64 = .ok (.if_icmp .lt 7, 3) := dk_161 0 7 (dk_at dksX9_chance_2 16 rfl rfl)
theorem dX9_chance_67 : decode cX9_chance 67 = .ok (.lconst 1, 1) := dk_10 (dk_at dksX9_chance_2 19 rfl rfl)
theorem dX9_chance_68 : decode cX9_chance 68 = .ok (.goto 4, 3) := dk_167 0 4 (dk_at dksX9_chance_2 20 rfl rfl)
theorem dX9_chance_71 : decode cX9_chance 71 = .ok (.lconst 0, 1) := dk_9 (dk_at dksX9_chance_2 23 rfl rfl)
theorem dX9_chance_72 : decode cX9_chance 72 = .ok (.ladd, 1) := dk_97 (dk_at dksX9_chance_3 0 rfl rfl)
theorem dX9_chance_73 : decode cX9_chance 73 = .ok (.lstore 5, 2) := dk_55 5 (dk_at dksX9_chance_3 1 rfl rfl)
theorem dX9_chance_75 : decode cX9_chance 75 = .ok (.iinc 7 1, 3) := dk_132 7 1 (dk_at dksX9_chance_3 3 rfl rfl)
theorem dX9_chance_78 : decode cX9_chance 78 = .ok (.goto (-33), 3) := dk_167 255 223 (dk_at dksX9_chance_3 6 rfl rfl)
theorem dX9_chance_81 : decode cX9_chance 81 = .ok (.lload 5, 2) := dk_22 5 (dk_at dksX9_chance_3 9 rfl rfl)
theorem dX9_chance_83 : decode cX9_chance 83 = .ok (.iload_n 2, 1) := dk_28 (dk_at dksX9_chance_3 11 rfl rfl)
theorem dX9_chance_84 : decode cX9_chance 84 = .ok (.i2l, 1) := dk_133 (dk_at dksX9_chance_3 12 rfl rfl)
theorem dX9_chance_85 : decode cX9_chance 85 = .ok (.iload 4, 2) := dk_21 4 (dk_at dksX9_chance_3 13 rfl rfl)
theorem dX9_chance_87 : decode cX9_chance 87 = .ok (.invokestatic 343, 3) := dk_184 1 87 (dk_at dksX9_chance_3 15 rfl rfl)
theorem dX9_chance_90 : decode cX9_chance 90 = .ok (.lreturn, 1) := dk_173 (dk_at dksX9_chance_3 18 rfl rfl)
abbrev cX9_image : ByteArray := prog_17_method_99_code
def yX9_image : MethodName := ⟨RX9, "image", "()I"⟩
def dkwX9_image_3 : List UInt8 := [180, 0, 98, 181, 1, 159, 42, 42, 180, 0, 101, 181, 1, 162, 42, 180, 0, 64, 172]
abbrev dktX9_image_3 : List UInt8 := dkwX9_image_3 ++ []
def dkwX9_image_2 : List UInt8 := [132, 1, 1, 167, 255, 235, 42, 42, 180, 0, 64, 181, 0, 41, 42, 42, 180, 0, 95, 181, 1, 156, 42, 42]
abbrev dktX9_image_2 : List UInt8 := dkwX9_image_2 ++ dktX9_image_3
def dkwX9_image_1 : List UInt8 := [167, 255, 235, 3, 60, 27, 16, 25, 162, 0, 21, 42, 180, 0, 38, 27, 42, 180, 0, 26, 27, 46, 79]
abbrev dktX9_image_1 : List UInt8 := dkwX9_image_1 ++ dktX9_image_2
def dkwX9_image_0 : List UInt8 := [3, 60, 27, 16, 10, 162, 0, 21, 42, 180, 0, 35, 27, 42, 180, 0, 23, 27, 46, 79, 132, 1, 1]
abbrev dktX9_image_0 : List UInt8 := dkwX9_image_0 ++ dktX9_image_1
theorem dksX9_image_0 : cX9_image.data.toList.drop 0 = dktX9_image_0 := by decide +kernel
theorem dksX9_image_1 : cX9_image.data.toList.drop 23 = dktX9_image_1 := dk_seg dksX9_image_0 23 rfl rfl
theorem dksX9_image_2 : cX9_image.data.toList.drop 46 = dktX9_image_2 := dk_seg dksX9_image_1 23 rfl rfl
theorem dksX9_image_3 : cX9_image.data.toList.drop 70 = dktX9_image_3 := dk_seg dksX9_image_2 24 rfl rfl
theorem dX9_image_0 : decode cX9_image 0 = .ok (.iconst 0, 1) := dk_3 (dk_at dksX9_image_0 0 rfl rfl)
theorem dX9_image_1 : decode cX9_image 1 = .ok (.istore_n 1, 1) := dk_60 (dk_at dksX9_image_0 1 rfl rfl)
theorem dX9_image_2 : decode cX9_image 2 = .ok (.iload_n 1, 1) := dk_27 (dk_at dksX9_image_0 2 rfl rfl)
theorem dX9_image_3 : decode cX9_image 3 = .ok (.bipush 10, 2) := dk_16 10 (dk_at dksX9_image_0 3 rfl rfl)
theorem dX9_image_5 : decode cX9_image 5 = .ok (.if_icmp .ge 21, 3) := dk_162 0 21 (dk_at dksX9_image_0 5 rfl rfl)
theorem dX9_image_8 : decode cX9_image 8 = .ok (.aload_n 0, 1) := dk_42 (dk_at dksX9_image_0 8 rfl rfl)
theorem dX9_image_9 : decode cX9_image 9 = .ok (.getfield 35, 3) := dk_180 0 35 (dk_at dksX9_image_0 9 rfl rfl)
theorem dX9_image_12 : decode cX9_image 12 = .ok (.iload_n 1, 1) := dk_27 (dk_at dksX9_image_0 12 rfl rfl)
theorem dX9_image_13 : decode cX9_image 13 = .ok (.aload_n 0, 1) := dk_42 (dk_at dksX9_image_0 13 rfl rfl)
theorem dX9_image_14 : decode cX9_image 14 = .ok (.getfield 23, 3) := dk_180 0 23 (dk_at dksX9_image_0 14 rfl rfl)
theorem dX9_image_17 : decode cX9_image 17 = .ok (.iload_n 1, 1) := dk_27 (dk_at dksX9_image_0 17 rfl rfl)
theorem dX9_image_18 : decode cX9_image 18 = .ok (.iaload, 1) := dk_46 (dk_at dksX9_image_0 18 rfl rfl)
theorem dX9_image_19 : decode cX9_image 19 = .ok (.iastore, 1) := dk_79 (dk_at dksX9_image_0 19 rfl rfl)
theorem dX9_image_20 : decode cX9_image 20 = .ok (.iinc 1 1, 3) := dk_132 1 1 (dk_at dksX9_image_0 20 rfl rfl)
theorem dX9_image_23 : decode cX9_image 23 = .ok (.goto (-21), 3) := dk_167 255 235 (dk_at dksX9_image_1 0 rfl rfl)
theorem dX9_image_26 : decode cX9_image 26 = .ok (.iconst 0, 1) := dk_3 (dk_at dksX9_image_1 3 rfl rfl)
theorem dX9_image_27 : decode cX9_image 27 = .ok (.istore_n 1, 1) := dk_60 (dk_at dksX9_image_1 4 rfl rfl)
theorem dX9_image_28 : decode cX9_image 28 = .ok (.iload_n 1, 1) := dk_27 (dk_at dksX9_image_1 5 rfl rfl)
theorem dX9_image_29 : decode cX9_image 29 = .ok (.bipush 25, 2) := dk_16 25 (dk_at dksX9_image_1 6 rfl rfl)
theorem dX9_image_31 : decode cX9_image 31 = .ok (.if_icmp .ge 21, 3) := dk_162 0 21 (dk_at dksX9_image_1 8 rfl rfl)
theorem dX9_image_34 : decode cX9_image 34 = .ok (.aload_n 0, 1) := dk_42 (dk_at dksX9_image_1 11 rfl rfl)
theorem dX9_image_35 : decode cX9_image 35 = .ok (.getfield 38, 3) := dk_180 0 38 (dk_at dksX9_image_1 12 rfl rfl)
theorem dX9_image_38 : decode cX9_image 38 = .ok (.iload_n 1, 1) := dk_27 (dk_at dksX9_image_1 15 rfl rfl)
theorem dX9_image_39 : decode cX9_image 39 = .ok (.aload_n 0, 1) := dk_42 (dk_at dksX9_image_1 16 rfl rfl)
theorem dX9_image_40 : decode cX9_image 40 = .ok (.getfield 26, 3) := dk_180 0 26 (dk_at dksX9_image_1 17 rfl rfl)
theorem dX9_image_43 : decode cX9_image 43 = .ok (.iload_n 1, 1) := dk_27 (dk_at dksX9_image_1 20 rfl rfl)
theorem dX9_image_44 : decode cX9_image 44 = .ok (.iaload, 1) := dk_46 (dk_at dksX9_image_1 21 rfl rfl)
theorem dX9_image_45 : decode cX9_image 45 = .ok (.iastore, 1) := dk_79 (dk_at dksX9_image_1 22 rfl rfl)
theorem dX9_image_46 : decode cX9_image 46 = .ok (.iinc 1 1, 3) := dk_132 1 1 (dk_at dksX9_image_2 0 rfl rfl)
theorem dX9_image_49 : decode cX9_image 49 = .ok (.goto (-21), 3) := dk_167 255 235 (dk_at dksX9_image_2 3 rfl rfl)
theorem dX9_image_52 : decode cX9_image 52 = .ok (.aload_n 0, 1) := dk_42 (dk_at dksX9_image_2 6 rfl rfl)
theorem dX9_image_53 : decode cX9_image 53 = .ok (.aload_n 0, 1) := dk_42 (dk_at dksX9_image_2 7 rfl rfl)
theorem dX9_image_54 : decode cX9_image 54 = .ok (.getfield 64, 3) := dk_180 0 64 (dk_at dksX9_image_2 8 rfl rfl)
theorem dX9_image_57 : decode cX9_image 57 = .ok (.putfield 41, 3) := dk_181 0 41 (dk_at dksX9_image_2 11 rfl rfl)
theorem dX9_image_60 : decode cX9_image 60 = .ok (.aload_n 0, 1) := dk_42 (dk_at dksX9_image_2 14 rfl rfl)
theorem dX9_image_61 : decode cX9_image 61 = .ok (.aload_n 0, 1) := dk_42 (dk_at dksX9_image_2 15 rfl rfl)
theorem dX9_image_62 : decode cX9_image 62 = .ok (.getfield 95, 3) := dk_180 0 95 (dk_at dksX9_image_2 16 rfl rfl)
theorem dX9_image_65 : decode cX9_image 65 = .ok (.putfield 412, 3) := dk_181 1 156 (dk_at dksX9_image_2 19 rfl rfl)
theorem dX9_image_68 : decode cX9_image 68 = .ok (.aload_n 0, 1) := dk_42 (dk_at dksX9_image_2 22 rfl rfl)
theorem dX9_image_69 : decode cX9_image 69 = .ok (.aload_n 0, 1) := dk_42 (dk_at dksX9_image_2 23 rfl rfl)
theorem dX9_image_70 : decode cX9_image 70 = .ok (.getfield 98, 3) := dk_180 0 98 (dk_at dksX9_image_3 0 rfl rfl)
theorem dX9_image_73 : decode cX9_image 73 = .ok (.putfield 415, 3) := dk_181 1 159 (dk_at dksX9_image_3 3 rfl rfl)
theorem dX9_image_76 : decode cX9_image 76 = .ok (.aload_n 0, 1) := dk_42 (dk_at dksX9_image_3 6 rfl rfl)
theorem dX9_image_77 : decode cX9_image 77 = .ok (.aload_n 0, 1) := dk_42 (dk_at dksX9_image_3 7 rfl rfl)
theorem dX9_image_78 : decode cX9_image 78 = .ok (.getfield 101, 3) := dk_180 0 101 (dk_at dksX9_image_3 8 rfl rfl)
theorem dX9_image_81 : decode cX9_image 81 = .ok (.putfield 418, 3) := dk_181 1 162 (dk_at dksX9_image_3 11 rfl rfl)
theorem dX9_image_84 : decode cX9_image 84 = .ok (.aload_n 0, 1) := dk_42 (dk_at dksX9_image_3 14 rfl rfl)
theorem dX9_image_85 : decode cX9_image 85 = .ok (.getfield 64, 3) := dk_180 0 64 (dk_at dksX9_image_3 15 rfl rfl)
theorem dX9_image_88 : decode cX9_image 88 = .ok (.ireturn, 1) := dk_172 (dk_at dksX9_image_3 18 rfl rfl)
abbrev cX9_back : ByteArray := prog_17_method_100_code
def yX9_back : MethodName := ⟨RX9, "back", "()I"⟩
def dkwX9_back_4 : List UInt8 := [181, 0, 101, 42, 180, 0, 64, 172]
abbrev dktX9_back_4 : List UInt8 := dkwX9_back_4 ++ []
def dkwX9_back_3 : List UInt8 := [181, 0, 64, 42, 42, 180, 1, 156, 181, 0, 95, 42, 42, 180, 1, 159, 181, 0, 98, 42, 42, 180, 1, 162]
abbrev dktX9_back_3 : List UInt8 := dkwX9_back_3 ++ dktX9_back_4
def dkwX9_back_2 : List UInt8 := [180, 0, 26, 27, 42, 180, 0, 38, 27, 46, 79, 132, 1, 1, 167, 255, 235, 42, 42, 180, 0, 41]
abbrev dktX9_back_2 : List UInt8 := dkwX9_back_2 ++ dktX9_back_3
def dkwX9_back_1 : List UInt8 := [42, 180, 0, 35, 27, 46, 79, 132, 1, 1, 167, 255, 235, 3, 60, 27, 16, 25, 162, 0, 21, 42]
abbrev dktX9_back_1 : List UInt8 := dkwX9_back_1 ++ dktX9_back_2
def dkwX9_back_0 : List UInt8 := [42, 180, 0, 41, 2, 160, 0, 6, 16, 253, 172, 3, 60, 27, 16, 10, 162, 0, 21, 42, 180, 0, 23, 27]
abbrev dktX9_back_0 : List UInt8 := dkwX9_back_0 ++ dktX9_back_1
theorem dksX9_back_0 : cX9_back.data.toList.drop 0 = dktX9_back_0 := by decide +kernel
theorem dksX9_back_1 : cX9_back.data.toList.drop 24 = dktX9_back_1 := dk_seg dksX9_back_0 24 rfl rfl
theorem dksX9_back_2 : cX9_back.data.toList.drop 46 = dktX9_back_2 := dk_seg dksX9_back_1 22 rfl rfl
theorem dksX9_back_3 : cX9_back.data.toList.drop 68 = dktX9_back_3 := dk_seg dksX9_back_2 22 rfl rfl
theorem dksX9_back_4 : cX9_back.data.toList.drop 92 = dktX9_back_4 := dk_seg dksX9_back_3 24 rfl rfl
theorem dX9_back_0 : decode cX9_back 0 = .ok (.aload_n 0, 1) := dk_42 (dk_at dksX9_back_0 0 rfl rfl)
theorem dX9_back_1 : decode cX9_back 1 = .ok (.getfield 41, 3) := dk_180 0 41 (dk_at dksX9_back_0 1 rfl rfl)
theorem dX9_back_4 : decode cX9_back 4 = .ok (.iconst (-1), 1) := dk_2 (dk_at dksX9_back_0 4 rfl rfl)
theorem dX9_back_5 : decode cX9_back 5 = .ok (.if_icmp .ne 6, 3) := dk_160 0 6 (dk_at dksX9_back_0 5 rfl rfl)
theorem dX9_back_8 : decode cX9_back 8 = .ok (.bipush (-3), 2) := dk_16 253 (dk_at dksX9_back_0 8 rfl rfl)
theorem dX9_back_10 : decode cX9_back 10 = .ok (.ireturn, 1) := dk_172 (dk_at dksX9_back_0 10 rfl rfl)
theorem dX9_back_11 : decode cX9_back 11 = .ok (.iconst 0, 1) := dk_3 (dk_at dksX9_back_0 11 rfl rfl)
theorem dX9_back_12 : decode cX9_back 12 = .ok (.istore_n 1, 1) := dk_60 (dk_at dksX9_back_0 12 rfl rfl)
theorem dX9_back_13 : decode cX9_back 13 = .ok (.iload_n 1, 1) := dk_27 (dk_at dksX9_back_0 13 rfl rfl)
theorem dX9_back_14 : decode cX9_back 14 = .ok (.bipush 10, 2) := dk_16 10 (dk_at dksX9_back_0 14 rfl rfl)
theorem dX9_back_16 : decode cX9_back 16 = .ok (.if_icmp .ge 21, 3) := dk_162 0 21 (dk_at dksX9_back_0 16 rfl rfl)
theorem dX9_back_19 : decode cX9_back 19 = .ok (.aload_n 0, 1) := dk_42 (dk_at dksX9_back_0 19 rfl rfl)
theorem dX9_back_20 : decode cX9_back 20 = .ok (.getfield 23, 3) := dk_180 0 23 (dk_at dksX9_back_0 20 rfl rfl)
theorem dX9_back_23 : decode cX9_back 23 = .ok (.iload_n 1, 1) := dk_27 (dk_at dksX9_back_0 23 rfl rfl)
theorem dX9_back_24 : decode cX9_back 24 = .ok (.aload_n 0, 1) := dk_42 (dk_at dksX9_back_1 0 rfl rfl)
theorem dX9_back_25 : decode cX9_back 25 = .ok (.getfield 35, 3) := dk_180 0 35 (dk_at dksX9_back_1 1 rfl rfl)
theorem dX9_back_28 : decode cX9_back 28 = .ok (.iload_n 1, 1) := dk_27 (dk_at dksX9_back_1 4 rfl rfl)
theorem dX9_back_29 : decode cX9_back 29 = .ok (.iaload, 1) := dk_46 (dk_at dksX9_back_1 5 rfl rfl)
theorem dX9_back_30 : decode cX9_back 30 = .ok (.iastore, 1) := dk_79 (dk_at dksX9_back_1 6 rfl rfl)
theorem dX9_back_31 : decode cX9_back 31 = .ok (.iinc 1 1, 3) := dk_132 1 1 (dk_at dksX9_back_1 7 rfl rfl)
theorem dX9_back_34 : decode cX9_back 34 = .ok (.goto (-21), 3) := dk_167 255 235 (dk_at dksX9_back_1 10 rfl rfl)
theorem dX9_back_37 : decode cX9_back 37 = .ok (.iconst 0, 1) := dk_3 (dk_at dksX9_back_1 13 rfl rfl)
theorem dX9_back_38 : decode cX9_back 38 = .ok (.istore_n 1, 1) := dk_60 (dk_at dksX9_back_1 14 rfl rfl)
theorem dX9_back_39 : decode cX9_back 39 = .ok (.iload_n 1, 1) := dk_27 (dk_at dksX9_back_1 15 rfl rfl)
theorem dX9_back_40 : decode cX9_back 40 = .ok (.bipush 25, 2) := dk_16 25 (dk_at dksX9_back_1 16 rfl rfl)
theorem dX9_back_42 : decode cX9_back 42 = .ok (.if_icmp .ge 21, 3) := dk_162 0 21 (dk_at dksX9_back_1 18 rfl rfl)
theorem dX9_back_45 : decode cX9_back 45 = .ok (.aload_n 0, 1) := dk_42 (dk_at dksX9_back_1 21 rfl rfl)
theorem dX9_back_46 : decode cX9_back 46 = .ok (.getfield 26, 3) := dk_180 0 26 (dk_at dksX9_back_2 0 rfl rfl)
theorem dX9_back_49 : decode cX9_back 49 = .ok (.iload_n 1, 1) := dk_27 (dk_at dksX9_back_2 3 rfl rfl)
theorem dX9_back_50 : decode cX9_back 50 = .ok (.aload_n 0, 1) := dk_42 (dk_at dksX9_back_2 4 rfl rfl)
theorem dX9_back_51 : decode cX9_back 51 = .ok (.getfield 38, 3) := dk_180 0 38 (dk_at dksX9_back_2 5 rfl rfl)
theorem dX9_back_54 : decode cX9_back 54 = .ok (.iload_n 1, 1) := dk_27 (dk_at dksX9_back_2 8 rfl rfl)
theorem dX9_back_55 : decode cX9_back 55 = .ok (.iaload, 1) := dk_46 (dk_at dksX9_back_2 9 rfl rfl)
theorem dX9_back_56 : decode cX9_back 56 = .ok (.iastore, 1) := dk_79 (dk_at dksX9_back_2 10 rfl rfl)
theorem dX9_back_57 : decode cX9_back 57 = .ok (.iinc 1 1, 3) := dk_132 1 1 (dk_at dksX9_back_2 11 rfl rfl)
theorem dX9_back_60 : decode cX9_back 60 = .ok (.goto (-21), 3) := dk_167 255 235 (dk_at dksX9_back_2 14 rfl rfl)
theorem dX9_back_63 : decode cX9_back 63 = .ok (.aload_n 0, 1) := dk_42 (dk_at dksX9_back_2 17 rfl rfl)
theorem dX9_back_64 : decode cX9_back 64 = .ok (.aload_n 0, 1) := dk_42 (dk_at dksX9_back_2 18 rfl rfl)
theorem dX9_back_65 : decode cX9_back 65 = .ok (.getfield 41, 3) := dk_180 0 41 (dk_at dksX9_back_2 19 rfl rfl)
theorem dX9_back_68 : decode cX9_back 68 = .ok (.putfield 64, 3) := dk_181 0 64 (dk_at dksX9_back_3 0 rfl rfl)
theorem dX9_back_71 : decode cX9_back 71 = .ok (.aload_n 0, 1) := dk_42 (dk_at dksX9_back_3 3 rfl rfl)
theorem dX9_back_72 : decode cX9_back 72 = .ok (.aload_n 0, 1) := dk_42 (dk_at dksX9_back_3 4 rfl rfl)
theorem dX9_back_73 : decode cX9_back 73 = .ok (.getfield 412, 3) := dk_180 1 156 (dk_at dksX9_back_3 5 rfl rfl)
theorem dX9_back_76 : decode cX9_back 76 = .ok (.putfield 95, 3) := dk_181 0 95 (dk_at dksX9_back_3 8 rfl rfl)
theorem dX9_back_79 : decode cX9_back 79 = .ok (.aload_n 0, 1) := dk_42 (dk_at dksX9_back_3 11 rfl rfl)
theorem dX9_back_80 : decode cX9_back 80 = .ok (.aload_n 0, 1) := dk_42 (dk_at dksX9_back_3 12 rfl rfl)
theorem dX9_back_81 : decode cX9_back 81 = .ok (.getfield 415, 3) := dk_180 1 159 (dk_at dksX9_back_3 13 rfl rfl)
theorem dX9_back_84 : decode cX9_back 84 = .ok (.putfield 98, 3) := dk_181 0 98 (dk_at dksX9_back_3 16 rfl rfl)
theorem dX9_back_87 : decode cX9_back 87 = .ok (.aload_n 0, 1) := dk_42 (dk_at dksX9_back_3 19 rfl rfl)
theorem dX9_back_88 : decode cX9_back 88 = .ok (.aload_n 0, 1) := dk_42 (dk_at dksX9_back_3 20 rfl rfl)
theorem dX9_back_89 : decode cX9_back 89 = .ok (.getfield 418, 3) := dk_180 1 162 (dk_at dksX9_back_3 21 rfl rfl)
theorem dX9_back_92 : decode cX9_back 92 = .ok (.putfield 101, 3) := dk_181 0 101 (dk_at dksX9_back_4 0 rfl rfl)
theorem dX9_back_95 : decode cX9_back 95 = .ok (.aload_n 0, 1) := dk_42 (dk_at dksX9_back_4 3 rfl rfl)
theorem dX9_back_96 : decode cX9_back 96 = .ok (.getfield 64, 3) := dk_180 0 64 (dk_at dksX9_back_4 4 rfl rfl)
theorem dX9_back_99 : decode cX9_back 99 = .ok (.ireturn, 1) := dk_172 (dk_at dksX9_back_4 7 rfl rfl)
abbrev cX9_count : ByteArray := prog_17_method_101_code
def yX9_count : MethodName := ⟨RX9, "count", "(I)I"⟩
def dkwX9_count_3 : List UInt8 := [167, 0, 7, 42, 180, 0, 101, 172]
abbrev dktX9_count_3 : List UInt8 := dkwX9_count_3 ++ []
def dkwX9_count_2 : List UInt8 := [167, 0, 31, 27, 6, 160, 0, 10, 42, 180, 0, 61, 167, 0, 19, 27, 7, 160, 0, 10, 42, 180, 0, 121]
abbrev dktX9_count_2 : List UInt8 := dkwX9_count_2 ++ dktX9_count_3
def dkwX9_count_1 : List UInt8 := [167, 0, 55, 27, 4, 160, 0, 10, 42, 182, 1, 69, 167, 0, 43, 27, 5, 160, 0, 10, 42, 180, 0, 98]
abbrev dktX9_count_1 : List UInt8 := dkwX9_count_1 ++ dktX9_count_2
def dkwX9_count_0 : List UInt8 := [27, 133, 9, 20, 0, 104, 184, 0, 67, 154, 0, 6, 16, 254, 172, 27, 154, 0, 10, 42, 180, 0, 64]
abbrev dktX9_count_0 : List UInt8 := dkwX9_count_0 ++ dktX9_count_1
theorem dksX9_count_0 : cX9_count.data.toList.drop 0 = dktX9_count_0 := by decide +kernel
theorem dksX9_count_1 : cX9_count.data.toList.drop 23 = dktX9_count_1 := dk_seg dksX9_count_0 23 rfl rfl
theorem dksX9_count_2 : cX9_count.data.toList.drop 47 = dktX9_count_2 := dk_seg dksX9_count_1 24 rfl rfl
theorem dksX9_count_3 : cX9_count.data.toList.drop 71 = dktX9_count_3 := dk_seg dksX9_count_2 24 rfl rfl
theorem dX9_count_0 : decode cX9_count 0 = .ok (.iload_n 1, 1) := dk_27 (dk_at dksX9_count_0 0 rfl rfl)
theorem dX9_count_1 : decode cX9_count 1 = .ok (.i2l, 1) := dk_133 (dk_at dksX9_count_0 1 rfl rfl)
theorem dX9_count_2 : decode cX9_count 2 = .ok (.lconst 0, 1) := dk_9 (dk_at dksX9_count_0 2 rfl rfl)
theorem dX9_count_3 : decode cX9_count 3 = .ok (.ldc2_w 104, 3) := dk_20 0 104 (dk_at dksX9_count_0 3 rfl rfl)
theorem dX9_count_6 : decode cX9_count 6 = .ok (.invokestatic 67, 3) := dk_184 0 67 (dk_at dksX9_count_0 6 rfl rfl)
theorem dX9_count_9 : decode cX9_count 9 = .ok (.ifCond .ne 6, 3) := dk_154 0 6 (dk_at dksX9_count_0 9 rfl rfl)
theorem dX9_count_12 : decode cX9_count 12 = .ok (.bipush (-2), 2) := dk_16 254 (dk_at dksX9_count_0 12 rfl rfl)
theorem dX9_count_14 : decode cX9_count 14 = .ok (.ireturn, 1) := dk_172 (dk_at dksX9_count_0 14 rfl rfl)
theorem dX9_count_15 : decode cX9_count 15 = .ok (.iload_n 1, 1) := dk_27 (dk_at dksX9_count_0 15 rfl rfl)
theorem dX9_count_16 : decode cX9_count 16 = .ok (.ifCond .ne 10, 3) := dk_154 0 10 (dk_at dksX9_count_0 16 rfl rfl)
theorem dX9_count_19 : decode cX9_count 19 = .ok (.aload_n 0, 1) := dk_42 (dk_at dksX9_count_0 19 rfl rfl)
theorem dX9_count_20 : decode cX9_count 20 = .ok (.getfield 64, 3) := dk_180 0 64 (dk_at dksX9_count_0 20 rfl rfl)
theorem dX9_count_23 : decode cX9_count 23 = .ok (.goto 55, 3) := dk_167 0 55 (dk_at dksX9_count_1 0 rfl rfl)
theorem dX9_count_26 : decode cX9_count 26 = .ok (.iload_n 1, 1) := dk_27 (dk_at dksX9_count_1 3 rfl rfl)
theorem dX9_count_27 : decode cX9_count 27 = .ok (.iconst 1, 1) := dk_4 (dk_at dksX9_count_1 4 rfl rfl)
theorem dX9_count_28 : decode cX9_count 28 = .ok (.if_icmp .ne 10, 3) := dk_160 0 10 (dk_at dksX9_count_1 5 rfl rfl)
theorem dX9_count_31 : decode cX9_count 31 = .ok (.aload_n 0, 1) := dk_42 (dk_at dksX9_count_1 8 rfl rfl)
theorem dX9_count_32 : decode cX9_count 32 = .ok (.invokevirtual 325, 3) := dk_182 1 69 (dk_at dksX9_count_1 9 rfl rfl)
theorem dX9_count_35 : decode cX9_count 35 = .ok (.goto 43, 3) := dk_167 0 43 (dk_at dksX9_count_1 12 rfl rfl)
theorem dX9_count_38 : decode cX9_count 38 = .ok (.iload_n 1, 1) := dk_27 (dk_at dksX9_count_1 15 rfl rfl)
theorem dX9_count_39 : decode cX9_count 39 = .ok (.iconst 2, 1) := dk_5 (dk_at dksX9_count_1 16 rfl rfl)
theorem dX9_count_40 : decode cX9_count 40 = .ok (.if_icmp .ne 10, 3) := dk_160 0 10 (dk_at dksX9_count_1 17 rfl rfl)
theorem dX9_count_43 : decode cX9_count 43 = .ok (.aload_n 0, 1) := dk_42 (dk_at dksX9_count_1 20 rfl rfl)
theorem dX9_count_44 : decode cX9_count 44 = .ok (.getfield 98, 3) := dk_180 0 98 (dk_at dksX9_count_1 21 rfl rfl)
theorem dX9_count_47 : decode cX9_count 47 = .ok (.goto 31, 3) := dk_167 0 31 (dk_at dksX9_count_2 0 rfl rfl)
theorem dX9_count_50 : decode cX9_count 50 = .ok (.iload_n 1, 1) := dk_27 (dk_at dksX9_count_2 3 rfl rfl)
theorem dX9_count_51 : decode cX9_count 51 = .ok (.iconst 3, 1) := dk_6 (dk_at dksX9_count_2 4 rfl rfl)
theorem dX9_count_52 : decode cX9_count 52 = .ok (.if_icmp .ne 10, 3) := dk_160 0 10 (dk_at dksX9_count_2 5 rfl rfl)
theorem dX9_count_55 : decode cX9_count 55 = .ok (.aload_n 0, 1) := dk_42 (dk_at dksX9_count_2 8 rfl rfl)
theorem dX9_count_56 : decode cX9_count 56 = .ok (.getfield 61, 3) := dk_180 0 61 (dk_at dksX9_count_2 9 rfl rfl)
theorem dX9_count_59 : decode cX9_count 59 = .ok (.goto 19, 3) := dk_167 0 19 (dk_at dksX9_count_2 12 rfl rfl)
theorem dX9_count_62 : decode cX9_count 62 = .ok (.iload_n 1, 1) := dk_27 (dk_at dksX9_count_2 15 rfl rfl)
theorem dX9_count_63 : decode cX9_count 63 = .ok (.iconst 4, 1) := dk_7 (dk_at dksX9_count_2 16 rfl rfl)
theorem dX9_count_64 : decode cX9_count 64 = .ok (.if_icmp .ne 10, 3) := dk_160 0 10 (dk_at dksX9_count_2 17 rfl rfl)
theorem dX9_count_67 : decode cX9_count 67 = .ok (.aload_n 0, 1) := dk_42 (dk_at dksX9_count_2 20 rfl rfl)
theorem dX9_count_68 : decode cX9_count 68 = .ok (.getfield 121, 3) := dk_180 0 121 (dk_at dksX9_count_2 21 rfl rfl)
theorem dX9_count_71 : decode cX9_count 71 = .ok (.goto 7, 3) := dk_167 0 7 (dk_at dksX9_count_3 0 rfl rfl)
theorem dX9_count_74 : decode cX9_count 74 = .ok (.aload_n 0, 1) := dk_42 (dk_at dksX9_count_3 3 rfl rfl)
theorem dX9_count_75 : decode cX9_count 75 = .ok (.getfield 101, 3) := dk_180 0 101 (dk_at dksX9_count_3 4 rfl rfl)
theorem dX9_count_78 : decode cX9_count 78 = .ok (.ireturn, 1) := dk_172 (dk_at dksX9_count_3 7 rfl rfl)
abbrev cX9_cell : ByteArray := prog_17_method_104_code
def yX9_cell : MethodName := ⟨RX9, "cell", "(III)I"⟩
def dkwX9_cell_3 : List UInt8 := [27, 46, 4, 160, 0, 8, 29, 147, 167, 0, 4, 29, 79, 4, 172]
abbrev dktX9_cell_3 : List UInt8 := dkwX9_cell_3 ++ []
def dkwX9_cell_2 : List UInt8 := [16, 40, 27, 104, 28, 96, 42, 180, 0, 48, 27, 46, 154, 0, 8, 29, 145, 167, 0, 19, 42, 180, 0, 48]
abbrev dktX9_cell_2 : List UInt8 := dkwX9_cell_2 ++ dktX9_cell_3
def dkwX9_cell_1 : List UInt8 := [9, 42, 180, 0, 51, 27, 46, 4, 100, 133, 184, 0, 67, 154, 0, 6, 16, 244, 172, 42, 180, 0, 54]
abbrev dktX9_cell_1 : List UInt8 := dkwX9_cell_1 ++ dktX9_cell_2
def dkwX9_cell_0 : List UInt8 := [27, 184, 1, 139, 154, 0, 6, 16, 254, 172, 42, 180, 0, 44, 27, 51, 154, 0, 6, 16, 245, 172, 28, 133]
abbrev dktX9_cell_0 : List UInt8 := dkwX9_cell_0 ++ dktX9_cell_1
theorem dksX9_cell_0 : cX9_cell.data.toList.drop 0 = dktX9_cell_0 := by decide +kernel
theorem dksX9_cell_1 : cX9_cell.data.toList.drop 24 = dktX9_cell_1 := dk_seg dksX9_cell_0 24 rfl rfl
theorem dksX9_cell_2 : cX9_cell.data.toList.drop 47 = dktX9_cell_2 := dk_seg dksX9_cell_1 23 rfl rfl
theorem dksX9_cell_3 : cX9_cell.data.toList.drop 71 = dktX9_cell_3 := dk_seg dksX9_cell_2 24 rfl rfl
theorem dX9_cell_0 : decode cX9_cell 0 = .ok (.iload_n 1, 1) := dk_27 (dk_at dksX9_cell_0 0 rfl rfl)
theorem dX9_cell_1 : decode cX9_cell 1 = .ok (.invokestatic 395, 3) := dk_184 1 139 (dk_at dksX9_cell_0 1 rfl rfl)
theorem dX9_cell_4 : decode cX9_cell 4 = .ok (.ifCond .ne 6, 3) := dk_154 0 6 (dk_at dksX9_cell_0 4 rfl rfl)
theorem dX9_cell_7 : decode cX9_cell 7 = .ok (.bipush (-2), 2) := dk_16 254 (dk_at dksX9_cell_0 7 rfl rfl)
theorem dX9_cell_9 : decode cX9_cell 9 = .ok (.ireturn, 1) := dk_172 (dk_at dksX9_cell_0 9 rfl rfl)
theorem dX9_cell_10 : decode cX9_cell 10 = .ok (.aload_n 0, 1) := dk_42 (dk_at dksX9_cell_0 10 rfl rfl)
theorem dX9_cell_11 : decode cX9_cell 11 = .ok (.getfield 44, 3) := dk_180 0 44 (dk_at dksX9_cell_0 11 rfl rfl)
theorem dX9_cell_14 : decode cX9_cell 14 = .ok (.iload_n 1, 1) := dk_27 (dk_at dksX9_cell_0 14 rfl rfl)
theorem dX9_cell_15 : decode cX9_cell 15 = .ok (.baload, 1) := dk_51 (dk_at dksX9_cell_0 15 rfl rfl)
theorem dX9_cell_16 : decode cX9_cell 16 = .ok (.ifCond .ne 6, 3) := dk_154 0 6 (dk_at dksX9_cell_0 16 rfl rfl)
theorem dX9_cell_19 : decode cX9_cell 19 = .ok (.bipush (-11), 2) := dk_16 245 (dk_at dksX9_cell_0 19 rfl rfl)
theorem dX9_cell_21 : decode cX9_cell 21 = .ok (.ireturn, 1) := dk_172 (dk_at dksX9_cell_0 21 rfl rfl)
theorem dX9_cell_22 : decode cX9_cell 22 = .ok (.iload_n 2, 1) := dk_28 (dk_at dksX9_cell_0 22 rfl rfl)
theorem dX9_cell_23 : decode cX9_cell 23 = .ok (.i2l, 1) := dk_133 (dk_at dksX9_cell_0 23 rfl rfl)
theorem dX9_cell_24 : decode cX9_cell 24 = .ok (.lconst 0, 1) := dk_9 (dk_at dksX9_cell_1 0 rfl rfl)
theorem dX9_cell_25 : decode cX9_cell 25 = .ok (.aload_n 0, 1) := dk_42 (dk_at dksX9_cell_1 1 rfl rfl)
theorem dX9_cell_26 : decode cX9_cell 26 = .ok (.getfield 51, 3) := dk_180 0 51 (dk_at dksX9_cell_1 2 rfl rfl)
theorem dX9_cell_29 : decode cX9_cell 29 = .ok (.iload_n 1, 1) := dk_27 (dk_at dksX9_cell_1 5 rfl rfl)
theorem dX9_cell_30 : decode cX9_cell 30 = .ok (.iaload, 1) := dk_46 (dk_at dksX9_cell_1 6 rfl rfl)
theorem dX9_cell_31 : decode cX9_cell 31 = .ok (.iconst 1, 1) := dk_4 (dk_at dksX9_cell_1 7 rfl rfl)
theorem dX9_cell_32 : decode cX9_cell 32 = .ok (.isub, 1) := dk_100 (dk_at dksX9_cell_1 8 rfl rfl)
theorem dX9_cell_33 : decode cX9_cell 33 = .ok (.i2l, 1) := dk_133 (dk_at dksX9_cell_1 9 rfl rfl)
theorem dX9_cell_34 : decode cX9_cell 34 = .ok (.invokestatic 67, 3) := dk_184 0 67 (dk_at dksX9_cell_1 10 rfl rfl)
theorem dX9_cell_37 : decode cX9_cell 37 = .ok (.ifCond .ne 6, 3) := dk_154 0 6 (dk_at dksX9_cell_1 13 rfl rfl)
theorem dX9_cell_40 : decode cX9_cell 40 = .ok (.bipush (-12), 2) := dk_16 244 (dk_at dksX9_cell_1 16 rfl rfl)
theorem dX9_cell_42 : decode cX9_cell 42 = .ok (.ireturn, 1) := dk_172 (dk_at dksX9_cell_1 18 rfl rfl)
theorem dX9_cell_43 : decode cX9_cell 43 = .ok (.aload_n 0, 1) := dk_42 (dk_at dksX9_cell_1 19 rfl rfl)
theorem dX9_cell_44 : decode cX9_cell 44 = .ok (.getfield 54, 3) := dk_180 0 54 (dk_at dksX9_cell_1 20 rfl rfl)
theorem dX9_cell_47 : decode cX9_cell 47 = .ok (.bipush 40, 2) := dk_16 40 (dk_at dksX9_cell_2 0 rfl rfl)
theorem dX9_cell_49 : decode cX9_cell 49 = .ok (.iload_n 1, 1) := dk_27 (dk_at dksX9_cell_2 2 rfl rfl)
theorem dX9_cell_50 : decode cX9_cell 50 = .ok (.imul, 1) := dk_104 (dk_at dksX9_cell_2 3 rfl rfl)
theorem dX9_cell_51 : decode cX9_cell 51 = .ok (.iload_n 2, 1) := dk_28 (dk_at dksX9_cell_2 4 rfl rfl)
theorem dX9_cell_52 : decode cX9_cell 52 = .ok (.iadd, 1) := dk_96 (dk_at dksX9_cell_2 5 rfl rfl)
theorem dX9_cell_53 : decode cX9_cell 53 = .ok (.aload_n 0, 1) := dk_42 (dk_at dksX9_cell_2 6 rfl rfl)
theorem dX9_cell_54 : decode cX9_cell 54 = .ok (.getfield 48, 3) := dk_180 0 48 (dk_at dksX9_cell_2 7 rfl rfl)
theorem dX9_cell_57 : decode cX9_cell 57 = .ok (.iload_n 1, 1) := dk_27 (dk_at dksX9_cell_2 10 rfl rfl)
theorem dX9_cell_58 : decode cX9_cell 58 = .ok (.iaload, 1) := dk_46 (dk_at dksX9_cell_2 11 rfl rfl)
theorem dX9_cell_59 : decode cX9_cell 59 = .ok (.ifCond .ne 8, 3) := dk_154 0 8 (dk_at dksX9_cell_2 12 rfl rfl)
theorem dX9_cell_62 : decode cX9_cell 62 = .ok (.iload_n 3, 1) := dk_29 (dk_at dksX9_cell_2 15 rfl rfl)
theorem dX9_cell_63 : decode cX9_cell 63 = .ok (.i2b, 1) := dk_145 (dk_at dksX9_cell_2 16 rfl rfl)
theorem dX9_cell_64 : decode cX9_cell 64 = .ok (.goto 19, 3) := dk_167 0 19 (dk_at dksX9_cell_2 17 rfl rfl)
theorem dX9_cell_67 : decode cX9_cell 67 = .ok (.aload_n 0, 1) := dk_42 (dk_at dksX9_cell_2 20 rfl rfl)
theorem dX9_cell_68 : decode cX9_cell 68 = .ok (.getfield 48, 3) := dk_180 0 48 (dk_at dksX9_cell_2 21 rfl rfl)
theorem dX9_cell_71 : decode cX9_cell 71 = .ok (.iload_n 1, 1) := dk_27 (dk_at dksX9_cell_3 0 rfl rfl)
theorem dX9_cell_72 : decode cX9_cell 72 = .ok (.iaload, 1) := dk_46 (dk_at dksX9_cell_3 1 rfl rfl)
theorem dX9_cell_73 : decode cX9_cell 73 = .ok (.iconst 1, 1) := dk_4 (dk_at dksX9_cell_3 2 rfl rfl)
theorem dX9_cell_74 : decode cX9_cell 74 = .ok (.if_icmp .ne 8, 3) := dk_160 0 8 (dk_at dksX9_cell_3 3 rfl rfl)
theorem dX9_cell_77 : decode cX9_cell 77 = .ok (.iload_n 3, 1) := dk_29 (dk_at dksX9_cell_3 6 rfl rfl)
theorem dX9_cell_78 : decode cX9_cell 78 = .ok (.i2s, 1) := dk_147 (dk_at dksX9_cell_3 7 rfl rfl)
theorem dX9_cell_79 : decode cX9_cell 79 = .ok (.goto 4, 3) := dk_167 0 4 (dk_at dksX9_cell_3 8 rfl rfl)
theorem dX9_cell_82 : decode cX9_cell 82 = .ok (.iload_n 3, 1) := dk_29 (dk_at dksX9_cell_3 11 rfl rfl)
theorem dX9_cell_83 : decode cX9_cell 83 = .ok (.iastore, 1) := dk_79 (dk_at dksX9_cell_3 12 rfl rfl)
theorem dX9_cell_84 : decode cX9_cell 84 = .ok (.iconst 1, 1) := dk_4 (dk_at dksX9_cell_3 13 rfl rfl)
theorem dX9_cell_85 : decode cX9_cell 85 = .ok (.ireturn, 1) := dk_172 (dk_at dksX9_cell_3 14 rfl rfl)
abbrev cX9_copy : ByteArray := prog_17_method_105_code
def yX9_copy : MethodName := ⟨RX9, "copy", "(IIIII)I"⟩
def dkwX9_copy_7 : List UInt8 := [180, 0, 54, 16, 40, 27, 104, 28, 96, 21, 8, 96, 46, 79, 132, 7, 1, 167, 255, 198, 21, 5, 172]
abbrev dktX9_copy_7 : List UInt8 := dkwX9_copy_7 ++ []
def dkwX9_copy_6 : List UInt8 := [100, 167, 0, 5, 21, 7, 54, 8, 42, 180, 0, 54, 16, 40, 29, 104, 21, 4, 96, 21, 8, 96, 42]
abbrev dktX9_copy_6 : List UInt8 := dkwX9_copy_6 ++ dktX9_copy_7
def dkwX9_copy_5 : List UInt8 := [3, 54, 6, 3, 54, 7, 21, 7, 21, 5, 162, 0, 57, 21, 6, 153, 0, 13, 21, 5, 4, 100, 21, 7]
abbrev dktX9_copy_5 : List UInt8 := dkwX9_copy_5 ++ dktX9_copy_6
def dkwX9_copy_4 : List UInt8 := [21, 5, 100, 164, 0, 6, 16, 244, 172, 27, 29, 160, 0, 13, 28, 21, 4, 162, 0, 7, 4, 167, 0, 4]
abbrev dktX9_copy_4 : List UInt8 := dkwX9_copy_4 ++ dktX9_copy_5
def dkwX9_copy_3 : List UInt8 := [155, 0, 30, 28, 42, 180, 0, 51, 27, 46, 21, 5, 100, 163, 0, 17, 21, 4, 42, 180, 0, 51, 29, 46]
abbrev dktX9_copy_3 : List UInt8 := dkwX9_copy_3 ++ dktX9_copy_4
def dkwX9_copy_2 : List UInt8 := [180, 0, 48, 29, 46, 159, 0, 6, 16, 243, 172, 21, 5, 155, 0, 39, 28, 155, 0, 35, 21, 4]
abbrev dktX9_copy_2 : List UInt8 := dkwX9_copy_2 ++ dktX9_copy_3
def dkwX9_copy_1 : List UInt8 := [153, 0, 12, 42, 180, 0, 44, 29, 51, 154, 0, 6, 16, 245, 172, 42, 180, 0, 48, 27, 46, 42]
abbrev dktX9_copy_1 : List UInt8 := dkwX9_copy_1 ++ dktX9_copy_2
def dkwX9_copy_0 : List UInt8 := [27, 184, 1, 139, 153, 0, 10, 29, 184, 1, 139, 154, 0, 6, 16, 254, 172, 42, 180, 0, 44, 27, 51]
abbrev dktX9_copy_0 : List UInt8 := dkwX9_copy_0 ++ dktX9_copy_1
theorem dksX9_copy_0 : cX9_copy.data.toList.drop 0 = dktX9_copy_0 := by decide +kernel
theorem dksX9_copy_1 : cX9_copy.data.toList.drop 23 = dktX9_copy_1 := dk_seg dksX9_copy_0 23 rfl rfl
theorem dksX9_copy_2 : cX9_copy.data.toList.drop 45 = dktX9_copy_2 := dk_seg dksX9_copy_1 22 rfl rfl
theorem dksX9_copy_3 : cX9_copy.data.toList.drop 67 = dktX9_copy_3 := dk_seg dksX9_copy_2 22 rfl rfl
theorem dksX9_copy_4 : cX9_copy.data.toList.drop 91 = dktX9_copy_4 := dk_seg dksX9_copy_3 24 rfl rfl
theorem dksX9_copy_5 : cX9_copy.data.toList.drop 115 = dktX9_copy_5 := dk_seg dksX9_copy_4 24 rfl rfl
theorem dksX9_copy_6 : cX9_copy.data.toList.drop 139 = dktX9_copy_6 := dk_seg dksX9_copy_5 24 rfl rfl
theorem dksX9_copy_7 : cX9_copy.data.toList.drop 162 = dktX9_copy_7 := dk_seg dksX9_copy_6 23 rfl rfl
theorem dX9_copy_0 : decode cX9_copy 0 = .ok (.iload_n 1, 1) := dk_27 (dk_at dksX9_copy_0 0 rfl rfl)
theorem dX9_copy_1 : decode cX9_copy 1 = .ok (.invokestatic 395, 3) := dk_184 1 139 (dk_at dksX9_copy_0 1 rfl rfl)
theorem dX9_copy_4 : decode cX9_copy 4 = .ok (.ifCond .eq 10, 3) := dk_153 0 10 (dk_at dksX9_copy_0 4 rfl rfl)
theorem dX9_copy_7 : decode cX9_copy 7 = .ok (.iload_n 3, 1) := dk_29 (dk_at dksX9_copy_0 7 rfl rfl)
theorem dX9_copy_8 : decode cX9_copy 8 = .ok (.invokestatic 395, 3) := dk_184 1 139 (dk_at dksX9_copy_0 8 rfl rfl)
theorem dX9_copy_11 : decode cX9_copy 11 = .ok (.ifCond .ne 6, 3) := dk_154 0 6 (dk_at dksX9_copy_0 11 rfl rfl)
theorem dX9_copy_14 : decode cX9_copy 14 = .ok (.bipush (-2), 2) := dk_16 254 (dk_at dksX9_copy_0 14 rfl rfl)
theorem dX9_copy_16 : decode cX9_copy 16 = .ok (.ireturn, 1) := dk_172 (dk_at dksX9_copy_0 16 rfl rfl)
theorem dX9_copy_17 : decode cX9_copy 17 = .ok (.aload_n 0, 1) := dk_42 (dk_at dksX9_copy_0 17 rfl rfl)
theorem dX9_copy_18 : decode cX9_copy 18 = .ok (.getfield 44, 3) := dk_180 0 44 (dk_at dksX9_copy_0 18 rfl rfl)
theorem dX9_copy_21 : decode cX9_copy 21 = .ok (.iload_n 1, 1) := dk_27 (dk_at dksX9_copy_0 21 rfl rfl)
theorem dX9_copy_22 : decode cX9_copy 22 = .ok (.baload, 1) := dk_51 (dk_at dksX9_copy_0 22 rfl rfl)
theorem dX9_copy_23 : decode cX9_copy 23 = .ok (.ifCond .eq 12, 3) := dk_153 0 12 (dk_at dksX9_copy_1 0 rfl rfl)
theorem dX9_copy_26 : decode cX9_copy 26 = .ok (.aload_n 0, 1) := dk_42 (dk_at dksX9_copy_1 3 rfl rfl)
theorem dX9_copy_27 : decode cX9_copy 27 = .ok (.getfield 44, 3) := dk_180 0 44 (dk_at dksX9_copy_1 4 rfl rfl)
theorem dX9_copy_30 : decode cX9_copy 30 = .ok (.iload_n 3, 1) := dk_29 (dk_at dksX9_copy_1 7 rfl rfl)
theorem dX9_copy_31 : decode cX9_copy 31 = .ok (.baload, 1) := dk_51 (dk_at dksX9_copy_1 8 rfl rfl)
theorem dX9_copy_32 : decode cX9_copy 32 = .ok (.ifCond .ne 6, 3) := dk_154 0 6 (dk_at dksX9_copy_1 9 rfl rfl)
theorem dX9_copy_35 : decode cX9_copy 35 = .ok (.bipush (-11), 2) := dk_16 245 (dk_at dksX9_copy_1 12 rfl rfl)
theorem dX9_copy_37 : decode cX9_copy 37 = .ok (.ireturn, 1) := dk_172 (dk_at dksX9_copy_1 14 rfl rfl)
theorem dX9_copy_38 : decode cX9_copy 38 = .ok (.aload_n 0, 1) := dk_42 (dk_at dksX9_copy_1 15 rfl rfl)
theorem dX9_copy_39 : decode cX9_copy 39 = .ok (.getfield 48, 3) := dk_180 0 48 (dk_at dksX9_copy_1 16 rfl rfl)
theorem dX9_copy_42 : decode cX9_copy 42 = .ok (.iload_n 1, 1) := dk_27 (dk_at dksX9_copy_1 19 rfl rfl)
theorem dX9_copy_43 : decode cX9_copy 43 = .ok (.iaload, 1) := dk_46 (dk_at dksX9_copy_1 20 rfl rfl)
theorem dX9_copy_44 : decode cX9_copy 44 = .ok (.aload_n 0, 1) := dk_42 (dk_at dksX9_copy_1 21 rfl rfl)
theorem dX9_copy_45 : decode cX9_copy 45 = .ok (.getfield 48, 3) := dk_180 0 48 (dk_at dksX9_copy_2 0 rfl rfl)
theorem dX9_copy_48 : decode cX9_copy 48 = .ok (.iload_n 3, 1) := dk_29 (dk_at dksX9_copy_2 3 rfl rfl)
theorem dX9_copy_49 : decode cX9_copy 49 = .ok (.iaload, 1) := dk_46 (dk_at dksX9_copy_2 4 rfl rfl)
theorem dX9_copy_50 : decode cX9_copy 50 = .ok (.if_icmp .eq 6, 3) := dk_159 0 6 (dk_at dksX9_copy_2 5 rfl rfl)
theorem dX9_copy_53 : decode cX9_copy 53 = .ok (.bipush (-13), 2) := dk_16 243 (dk_at dksX9_copy_2 8 rfl rfl)
theorem dX9_copy_55 : decode cX9_copy 55 = .ok (.ireturn, 1) := dk_172 (dk_at dksX9_copy_2 10 rfl rfl)
theorem dX9_copy_56 : decode cX9_copy 56 = .ok (.iload 5, 2) := dk_21 5 (dk_at dksX9_copy_2 11 rfl rfl)
theorem dX9_copy_58 : decode cX9_copy 58 = .ok (.ifCond .lt 39, 3) := dk_155 0 39 (dk_at dksX9_copy_2 13 rfl rfl)
theorem dX9_copy_61 : decode cX9_copy 61 = .ok (.iload_n 2, 1) := dk_28 (dk_at dksX9_copy_2 16 rfl rfl)
theorem dX9_copy_62 : decode cX9_copy 62 = .ok (.ifCond .lt 35, 3) := dk_155 0 35 (dk_at dksX9_copy_2 17 rfl rfl)
theorem dX9_copy_65 : decode cX9_copy 65 = .ok (.iload 4, 2) := dk_21 4 (dk_at dksX9_copy_2 20 rfl rfl)
theorem dX9_copy_67 : decode cX9_copy 67 = .ok (.ifCond .lt 30, 3) := dk_155 0 30 (dk_at dksX9_copy_3 0 rfl rfl)
theorem dX9_copy_70 : decode cX9_copy 70 = .ok (.iload_n 2, 1) := dk_28 (dk_at dksX9_copy_3 3 rfl rfl)
theorem dX9_copy_71 : decode cX9_copy 71 = .ok (.aload_n 0, 1) := dk_42 (dk_at dksX9_copy_3 4 rfl rfl)
theorem dX9_copy_72 : decode cX9_copy 72 = .ok (.getfield 51, 3) := dk_180 0 51 (dk_at dksX9_copy_3 5 rfl rfl)
theorem dX9_copy_75 : decode cX9_copy 75 = .ok (.iload_n 1, 1) := dk_27 (dk_at dksX9_copy_3 8 rfl rfl)
theorem dX9_copy_76 : decode cX9_copy 76 = .ok (.iaload, 1) := dk_46 (dk_at dksX9_copy_3 9 rfl rfl)
theorem dX9_copy_77 : decode cX9_copy 77 = .ok (.iload 5, 2) := dk_21 5 (dk_at dksX9_copy_3 10 rfl rfl)
theorem dX9_copy_79 : decode cX9_copy 79 = .ok (.isub, 1) := dk_100 (dk_at dksX9_copy_3 12 rfl rfl)
theorem dX9_copy_80 : decode cX9_copy 80 = .ok (.if_icmp .gt 17, 3) := dk_163 0 17 (dk_at dksX9_copy_3 13 rfl rfl)
theorem dX9_copy_83 : decode cX9_copy 83 = .ok (.iload 4, 2) := dk_21 4 (dk_at dksX9_copy_3 16 rfl rfl)
theorem dX9_copy_85 : decode cX9_copy 85 = .ok (.aload_n 0, 1) := dk_42 (dk_at dksX9_copy_3 18 rfl rfl)
theorem dX9_copy_86 : decode cX9_copy 86 = .ok (.getfield 51, 3) := dk_180 0 51 (dk_at dksX9_copy_3 19 rfl rfl)
theorem dX9_copy_89 : decode cX9_copy 89 = .ok (.iload_n 3, 1) := dk_29 (dk_at dksX9_copy_3 22 rfl rfl)
theorem dX9_copy_90 : decode cX9_copy 90 = .ok (.iaload, 1) := dk_46 (dk_at dksX9_copy_3 23 rfl rfl)
theorem dX9_copy_91 : decode cX9_copy 91 = .ok (.iload 5, 2) := dk_21 5 (dk_at dksX9_copy_4 0 rfl rfl)
theorem dX9_copy_93 : decode cX9_copy 93 = .ok (.isub, 1) := dk_100 (dk_at dksX9_copy_4 2 rfl rfl)
theorem dX9_copy_94 : decode cX9_copy 94 = .ok (.if_icmp .le 6, 3) := dk_164 0 6 (dk_at dksX9_copy_4 3 rfl rfl)
theorem dX9_copy_97 : decode cX9_copy 97 = .ok (.bipush (-12), 2) := dk_16 244 (dk_at dksX9_copy_4 6 rfl rfl)
theorem dX9_copy_99 : decode cX9_copy 99 = .ok (.ireturn, 1) := dk_172 (dk_at dksX9_copy_4 8 rfl rfl)
theorem dX9_copy_100 : decode cX9_copy 100 = .ok (.iload_n 1, 1) := dk_27 (dk_at dksX9_copy_4 9 rfl rfl)
theorem dX9_copy_101 : decode cX9_copy 101 = .ok (.iload_n 3, 1) := dk_29 (dk_at dksX9_copy_4 10 rfl rfl)
theorem dX9_copy_102 : decode cX9_copy 102 = .ok (.if_icmp .ne 13, 3) := dk_160 0 13 (dk_at dksX9_copy_4 11 rfl rfl)
theorem dX9_copy_105 : decode cX9_copy 105 = .ok (.iload_n 2, 1) := dk_28 (dk_at dksX9_copy_4 14 rfl rfl)
theorem dX9_copy_106 : decode cX9_copy 106 = .ok (.iload 4, 2) := dk_21 4 (dk_at dksX9_copy_4 15 rfl rfl)
theorem dX9_copy_108 : decode cX9_copy 108 = .ok (.if_icmp .ge 7, 3) := dk_162 0 7 (dk_at dksX9_copy_4 17 rfl rfl)
theorem dX9_copy_111 : decode cX9_copy 111 = .ok (.iconst 1, 1) := dk_4 (dk_at dksX9_copy_4 20 rfl rfl)
theorem dX9_copy_112 : decode cX9_copy 112 = .ok (.goto 4, 3) := dk_167 0 4 (dk_at dksX9_copy_4 21 rfl rfl)
theorem dX9_copy_115 : decode cX9_copy 115 = .ok (.iconst 0, 1) := dk_3 (dk_at dksX9_copy_5 0 rfl rfl)
theorem dX9_copy_116 : decode cX9_copy 116 = .ok (.istore 6, 2) := dk_54 6 (dk_at dksX9_copy_5 1 rfl rfl)
theorem dX9_copy_118 : decode cX9_copy 118 = .ok (.iconst 0, 1) := dk_3 (dk_at dksX9_copy_5 3 rfl rfl)
theorem dX9_copy_119 : decode cX9_copy 119 = .ok (.istore 7, 2) := dk_54 7 (dk_at dksX9_copy_5 4 rfl rfl)
theorem dX9_copy_121 : decode cX9_copy 121 = .ok (.iload 7, 2) := dk_21 7 (dk_at dksX9_copy_5 6 rfl rfl)
theorem dX9_copy_123 : decode cX9_copy 123 = .ok (.iload 5, 2) := dk_21 5 (dk_at dksX9_copy_5 8 rfl rfl)
theorem dX9_copy_125 : decode cX9_copy 125 = .ok (.if_icmp .ge 57, 3) := dk_162 0 57 (dk_at dksX9_copy_5 10 rfl rfl)
theorem dX9_copy_128 : decode cX9_copy 128 = .ok (.iload 6, 2) := dk_21 6 (dk_at dksX9_copy_5 13 rfl rfl)
theorem dX9_copy_130 : decode cX9_copy 130 = .ok (.ifCond .eq 13, 3) := dk_153 0 13 (dk_at dksX9_copy_5 15 rfl rfl)
theorem dX9_copy_133 : decode cX9_copy 133 = .ok (.iload 5, 2) := dk_21 5 (dk_at dksX9_copy_5 18 rfl rfl)
theorem dX9_copy_135 : decode cX9_copy 135 = .ok (.iconst 1, 1) := dk_4 (dk_at dksX9_copy_5 20 rfl rfl)
theorem dX9_copy_136 : decode cX9_copy 136 = .ok (.isub, 1) := dk_100 (dk_at dksX9_copy_5 21 rfl rfl)
theorem dX9_copy_137 : decode cX9_copy 137 = .ok (.iload 7, 2) := dk_21 7 (dk_at dksX9_copy_5 22 rfl rfl)
theorem dX9_copy_139 : decode cX9_copy 139 = .ok (.isub, 1) := dk_100 (dk_at dksX9_copy_6 0 rfl rfl)
theorem dX9_copy_140 : decode cX9_copy 140 = .ok (.goto 5, 3) := dk_167 0 5 (dk_at dksX9_copy_6 1 rfl rfl)
theorem dX9_copy_143 : decode cX9_copy 143 = .ok (.iload 7, 2) := dk_21 7 (dk_at dksX9_copy_6 4 rfl rfl)
theorem dX9_copy_145 : decode cX9_copy 145 = .ok (.istore 8, 2) := dk_54 8 (dk_at dksX9_copy_6 6 rfl rfl)
theorem dX9_copy_147 : decode cX9_copy 147 = .ok (.aload_n 0, 1) := dk_42 (dk_at dksX9_copy_6 8 rfl rfl)
theorem dX9_copy_148 : decode cX9_copy 148 = .ok (.getfield 54, 3) := dk_180 0 54 (dk_at dksX9_copy_6 9 rfl rfl)
theorem dX9_copy_151 : decode cX9_copy 151 = .ok (.bipush 40, 2) := dk_16 40 (dk_at dksX9_copy_6 12 rfl rfl)
theorem dX9_copy_153 : decode cX9_copy 153 = .ok (.iload_n 3, 1) := dk_29 (dk_at dksX9_copy_6 14 rfl rfl)
theorem dX9_copy_154 : decode cX9_copy 154 = .ok (.imul, 1) := dk_104 (dk_at dksX9_copy_6 15 rfl rfl)
theorem dX9_copy_155 : decode cX9_copy 155 = .ok (.iload 4, 2) := dk_21 4 (dk_at dksX9_copy_6 16 rfl rfl)
theorem dX9_copy_157 : decode cX9_copy 157 = .ok (.iadd, 1) := dk_96 (dk_at dksX9_copy_6 18 rfl rfl)
theorem dX9_copy_158 : decode cX9_copy 158 = .ok (.iload 8, 2) := dk_21 8 (dk_at dksX9_copy_6 19 rfl rfl)
theorem dX9_copy_160 : decode cX9_copy 160 = .ok (.iadd, 1) := dk_96 (dk_at dksX9_copy_6 21 rfl rfl)
theorem dX9_copy_161 : decode cX9_copy 161 = .ok (.aload_n 0, 1) := dk_42 (dk_at dksX9_copy_6 22 rfl rfl)
theorem dX9_copy_162 : decode cX9_copy 162 = .ok (.getfield 54, 3) := dk_180 0 54 (dk_at dksX9_copy_7 0 rfl rfl)
theorem dX9_copy_165 : decode cX9_copy 165 = .ok (.bipush 40, 2) := dk_16 40 (dk_at dksX9_copy_7 3 rfl rfl)
theorem dX9_copy_167 : decode cX9_copy 167 = .ok (.iload_n 1, 1) := dk_27 (dk_at dksX9_copy_7 5 rfl rfl)
theorem dX9_copy_168 : decode cX9_copy 168 = .ok (.imul, 1) := dk_104 (dk_at dksX9_copy_7 6 rfl rfl)
theorem dX9_copy_169 : decode cX9_copy 169 = .ok (.iload_n 2, 1) := dk_28 (dk_at dksX9_copy_7 7 rfl rfl)
theorem dX9_copy_170 : decode cX9_copy 170 = .ok (.iadd, 1) := dk_96 (dk_at dksX9_copy_7 8 rfl rfl)
theorem dX9_copy_171 : decode cX9_copy 171 = .ok (.iload 8, 2) := dk_21 8 (dk_at dksX9_copy_7 9 rfl rfl)
theorem dX9_copy_173 : decode cX9_copy 173 = .ok (.iadd, 1) := dk_96 (dk_at dksX9_copy_7 11 rfl rfl)
theorem dX9_copy_174 : decode cX9_copy 174 = .ok (.iaload, 1) := dk_46 (dk_at dksX9_copy_7 12 rfl rfl)
theorem dX9_copy_175 : decode cX9_copy 175 = .ok (.iastore, 1) := dk_79 (dk_at dksX9_copy_7 13 rfl rfl)
theorem dX9_copy_176 : decode cX9_copy 176 = .ok (.iinc 7 1, 3) := dk_132 7 1 (dk_at dksX9_copy_7 14 rfl rfl)
theorem dX9_copy_179 : decode cX9_copy 179 = .ok (.goto (-58), 3) := dk_167 255 198 (dk_at dksX9_copy_7 17 rfl rfl)
theorem dX9_copy_182 : decode cX9_copy 182 = .ok (.iload 5, 2) := dk_21 5 (dk_at dksX9_copy_7 20 rfl rfl)
theorem dX9_copy_184 : decode cX9_copy 184 = .ok (.ireturn, 1) := dk_172 (dk_at dksX9_copy_7 22 rfl rfl)
abbrev cX9_court : ByteArray := prog_17_method_106_code
def yX9_court : MethodName := ⟨RX9, "court", "(IIII)I"⟩
def dkwX9_court_7 : List UInt8 := [132, 6, 1, 167, 255, 167, 21, 5, 172]
abbrev dktX9_court_7 : List UInt8 := dkwX9_court_7 ++ []
def dkwX9_court_6 : List UInt8 := [180, 0, 54, 21, 7, 5, 96, 46, 182, 1, 169, 155, 0, 7, 4, 167, 0, 4, 3, 96, 54, 5]
abbrev dktX9_court_6 : List UInt8 := dkwX9_court_6 ++ dktX9_court_7
def dkwX9_court_5 : List UInt8 := [54, 7, 21, 5, 42, 42, 180, 0, 54, 21, 7, 46, 42, 180, 0, 54, 21, 7, 4, 96, 46, 42]
abbrev dktX9_court_5 : List UInt8 := dkwX9_court_5 ++ dktX9_court_6
def dkwX9_court_4 : List UInt8 := [6, 21, 6, 104, 100, 6, 100, 164, 0, 6, 16, 244, 172, 16, 40, 27, 104, 29, 96, 6, 21, 6, 104, 96]
abbrev dktX9_court_4 : List UInt8 := dkwX9_court_4 ++ dktX9_court_5
def dkwX9_court_3 : List UInt8 := [3, 54, 5, 3, 54, 6, 21, 6, 21, 4, 162, 0, 88, 29, 155, 0, 20, 29, 42, 180, 0, 51, 27, 46]
abbrev dktX9_court_3 : List UInt8 := dkwX9_court_3 ++ dktX9_court_4
def dkwX9_court_2 : List UInt8 := [180, 0, 48, 27, 46, 28, 159, 0, 6, 16, 243, 172, 42, 180, 0, 44, 27, 51, 154, 0, 6, 16, 245, 172]
abbrev dktX9_court_2 : List UInt8 := dkwX9_court_2 ++ dktX9_court_3
def dkwX9_court_1 : List UInt8 := [20, 0, 104, 184, 0, 67, 154, 0, 6, 16, 254, 172, 42, 180, 0, 44, 27, 51, 153, 0, 16, 42]
abbrev dktX9_court_1 : List UInt8 := dkwX9_court_1 ++ dktX9_court_2
def dkwX9_court_0 : List UInt8 := [27, 184, 1, 139, 153, 0, 28, 28, 133, 9, 20, 1, 167, 184, 0, 67, 153, 0, 16, 21, 4, 133, 9]
abbrev dktX9_court_0 : List UInt8 := dkwX9_court_0 ++ dktX9_court_1
theorem dksX9_court_0 : cX9_court.data.toList.drop 0 = dktX9_court_0 := by decide +kernel
theorem dksX9_court_1 : cX9_court.data.toList.drop 23 = dktX9_court_1 := dk_seg dksX9_court_0 23 rfl rfl
theorem dksX9_court_2 : cX9_court.data.toList.drop 45 = dktX9_court_2 := dk_seg dksX9_court_1 22 rfl rfl
theorem dksX9_court_3 : cX9_court.data.toList.drop 69 = dktX9_court_3 := dk_seg dksX9_court_2 24 rfl rfl
theorem dksX9_court_4 : cX9_court.data.toList.drop 93 = dktX9_court_4 := dk_seg dksX9_court_3 24 rfl rfl
theorem dksX9_court_5 : cX9_court.data.toList.drop 117 = dktX9_court_5 := dk_seg dksX9_court_4 24 rfl rfl
theorem dksX9_court_6 : cX9_court.data.toList.drop 139 = dktX9_court_6 := dk_seg dksX9_court_5 22 rfl rfl
theorem dksX9_court_7 : cX9_court.data.toList.drop 161 = dktX9_court_7 := dk_seg dksX9_court_6 22 rfl rfl
theorem dX9_court_0 : decode cX9_court 0 = .ok (.iload_n 1, 1) := dk_27 (dk_at dksX9_court_0 0 rfl rfl)
theorem dX9_court_1 : decode cX9_court 1 = .ok (.invokestatic 395, 3) := dk_184 1 139 (dk_at dksX9_court_0 1 rfl rfl)
theorem dX9_court_4 : decode cX9_court 4 = .ok (.ifCond .eq 28, 3) := dk_153 0 28 (dk_at dksX9_court_0 4 rfl rfl)
theorem dX9_court_7 : decode cX9_court 7 = .ok (.iload_n 2, 1) := dk_28 (dk_at dksX9_court_0 7 rfl rfl)
theorem dX9_court_8 : decode cX9_court 8 = .ok (.i2l, 1) := dk_133 (dk_at dksX9_court_0 8 rfl rfl)
theorem dX9_court_9 : decode cX9_court 9 = .ok (.lconst 0, 1) := dk_9 (dk_at dksX9_court_0 9 rfl rfl)
theorem dX9_court_10 : decode cX9_court 10 = .ok (.ldc2_w 423, 3) := dk_20 1 167 (dk_at dksX9_court_0 10 rfl rfl)
theorem dX9_court_13 : decode cX9_court 13 = .ok (.invokestatic 67, 3) := dk_184 0 67 (dk_at dksX9_court_0 13 rfl rfl)
theorem dX9_court_16 : decode cX9_court 16 = .ok (.ifCond .eq 16, 3) := dk_153 0 16 (dk_at dksX9_court_0 16 rfl rfl)
theorem dX9_court_19 : decode cX9_court 19 = .ok (.iload 4, 2) := dk_21 4 (dk_at dksX9_court_0 19 rfl rfl)
theorem dX9_court_21 : decode cX9_court 21 = .ok (.i2l, 1) := dk_133 (dk_at dksX9_court_0 21 rfl rfl)
theorem dX9_court_22 : decode cX9_court 22 = .ok (.lconst 0, 1) := dk_9 (dk_at dksX9_court_0 22 rfl rfl)
theorem dX9_court_23 : decode cX9_court 23 = .ok (.ldc2_w 104, 3) := dk_20 0 104 (dk_at dksX9_court_1 0 rfl rfl)
theorem dX9_court_26 : decode cX9_court 26 = .ok (.invokestatic 67, 3) := dk_184 0 67 (dk_at dksX9_court_1 3 rfl rfl)
theorem dX9_court_29 : decode cX9_court 29 = .ok (.ifCond .ne 6, 3) := dk_154 0 6 (dk_at dksX9_court_1 6 rfl rfl)
theorem dX9_court_32 : decode cX9_court 32 = .ok (.bipush (-2), 2) := dk_16 254 (dk_at dksX9_court_1 9 rfl rfl)
theorem dX9_court_34 : decode cX9_court 34 = .ok (.ireturn, 1) := dk_172 (dk_at dksX9_court_1 11 rfl rfl)
theorem dX9_court_35 : decode cX9_court 35 = .ok (.aload_n 0, 1) := dk_42 (dk_at dksX9_court_1 12 rfl rfl)
theorem dX9_court_36 : decode cX9_court 36 = .ok (.getfield 44, 3) := dk_180 0 44 (dk_at dksX9_court_1 13 rfl rfl)
theorem dX9_court_39 : decode cX9_court 39 = .ok (.iload_n 1, 1) := dk_27 (dk_at dksX9_court_1 16 rfl rfl)
theorem dX9_court_40 : decode cX9_court 40 = .ok (.baload, 1) := dk_51 (dk_at dksX9_court_1 17 rfl rfl)
theorem dX9_court_41 : decode cX9_court 41 = .ok (.ifCond .eq 16, 3) := dk_153 0 16 (dk_at dksX9_court_1 18 rfl rfl)
theorem dX9_court_44 : decode cX9_court 44 = .ok (.aload_n 0, 1) := dk_42 (dk_at dksX9_court_1 21 rfl rfl)
theorem dX9_court_45 : decode cX9_court 45 = .ok (.getfield 48, 3) := dk_180 0 48 (dk_at dksX9_court_2 0 rfl rfl)
theorem dX9_court_48 : decode cX9_court 48 = .ok (.iload_n 1, 1) := dk_27 (dk_at dksX9_court_2 3 rfl rfl)
theorem dX9_court_49 : decode cX9_court 49 = .ok (.iaload, 1) := dk_46 (dk_at dksX9_court_2 4 rfl rfl)
theorem dX9_court_50 : decode cX9_court 50 = .ok (.iload_n 2, 1) := dk_28 (dk_at dksX9_court_2 5 rfl rfl)
theorem dX9_court_51 : decode cX9_court 51 = .ok (.if_icmp .eq 6, 3) := dk_159 0 6 (dk_at dksX9_court_2 6 rfl rfl)
theorem dX9_court_54 : decode cX9_court 54 = .ok (.bipush (-13), 2) := dk_16 243 (dk_at dksX9_court_2 9 rfl rfl)
theorem dX9_court_56 : decode cX9_court 56 = .ok (.ireturn, 1) := dk_172 (dk_at dksX9_court_2 11 rfl rfl)
theorem dX9_court_57 : decode cX9_court 57 = .ok (.aload_n 0, 1) := dk_42 (dk_at dksX9_court_2 12 rfl rfl)
theorem dX9_court_58 : decode cX9_court 58 = .ok (.getfield 44, 3) := dk_180 0 44 (dk_at dksX9_court_2 13 rfl rfl)
theorem dX9_court_61 : decode cX9_court 61 = .ok (.iload_n 1, 1) := dk_27 (dk_at dksX9_court_2 16 rfl rfl)
theorem dX9_court_62 : decode cX9_court 62 = .ok (.baload, 1) := dk_51 (dk_at dksX9_court_2 17 rfl rfl)
theorem dX9_court_63 : decode cX9_court 63 = .ok (.ifCond .ne 6, 3) := dk_154 0 6 (dk_at dksX9_court_2 18 rfl rfl)
theorem dX9_court_66 : decode cX9_court 66 = .ok (.bipush (-11), 2) := dk_16 245 (dk_at dksX9_court_2 21 rfl rfl)
theorem dX9_court_68 : decode cX9_court 68 = .ok (.ireturn, 1) := dk_172 (dk_at dksX9_court_2 23 rfl rfl)
theorem dX9_court_69 : decode cX9_court 69 = .ok (.iconst 0, 1) := dk_3 (dk_at dksX9_court_3 0 rfl rfl)
theorem dX9_court_70 : decode cX9_court 70 = .ok (.istore 5, 2) := dk_54 5 (dk_at dksX9_court_3 1 rfl rfl)
theorem dX9_court_72 : decode cX9_court 72 = .ok (.iconst 0, 1) := dk_3 (dk_at dksX9_court_3 3 rfl rfl)
theorem dX9_court_73 : decode cX9_court 73 = .ok (.istore 6, 2) := dk_54 6 (dk_at dksX9_court_3 4 rfl rfl)
theorem dX9_court_75 : decode cX9_court 75 = .ok (.iload 6, 2) := dk_21 6 (dk_at dksX9_court_3 6 rfl rfl)
theorem dX9_court_77 : decode cX9_court 77 = .ok (.iload 4, 2) := dk_21 4 (dk_at dksX9_court_3 8 rfl rfl)
theorem dX9_court_79 : decode cX9_court 79 = .ok (.if_icmp .ge 88, 3) := dk_162 0 88 (dk_at dksX9_court_3 10 rfl rfl)
theorem dX9_court_82 : decode cX9_court 82 = .ok (.iload_n 3, 1) := dk_29 (dk_at dksX9_court_3 13 rfl rfl)
theorem dX9_court_83 : decode cX9_court 83 = .ok (.ifCond .lt 20, 3) := dk_155 0 20 (dk_at dksX9_court_3 14 rfl rfl)
theorem dX9_court_86 : decode cX9_court 86 = .ok (.iload_n 3, 1) := dk_29 (dk_at dksX9_court_3 17 rfl rfl)
theorem dX9_court_87 : decode cX9_court 87 = .ok (.aload_n 0, 1) := dk_42 (dk_at dksX9_court_3 18 rfl rfl)
theorem dX9_court_88 : decode cX9_court 88 = .ok (.getfield 51, 3) := dk_180 0 51 (dk_at dksX9_court_3 19 rfl rfl)
theorem dX9_court_91 : decode cX9_court 91 = .ok (.iload_n 1, 1) := dk_27 (dk_at dksX9_court_3 22 rfl rfl)
theorem dX9_court_92 : decode cX9_court 92 = .ok (.iaload, 1) := dk_46 (dk_at dksX9_court_3 23 rfl rfl)
theorem dX9_court_93 : decode cX9_court 93 = .ok (.iconst 3, 1) := dk_6 (dk_at dksX9_court_4 0 rfl rfl)
theorem dX9_court_94 : decode cX9_court 94 = .ok (.iload 6, 2) := dk_21 6 (dk_at dksX9_court_4 1 rfl rfl)
theorem dX9_court_96 : decode cX9_court 96 = .ok (.imul, 1) := dk_104 (dk_at dksX9_court_4 3 rfl rfl)
theorem dX9_court_97 : decode cX9_court 97 = .ok (.isub, 1) := dk_100 (dk_at dksX9_court_4 4 rfl rfl)
theorem dX9_court_98 : decode cX9_court 98 = .ok (.iconst 3, 1) := dk_6 (dk_at dksX9_court_4 5 rfl rfl)
theorem dX9_court_99 : decode cX9_court 99 = .ok (.isub, 1) := dk_100 (dk_at dksX9_court_4 6 rfl rfl)
theorem dX9_court_100 : decode cX9_court 100 = .ok (.if_icmp .le 6, 3) := dk_164 0 6 (dk_at dksX9_court_4 7 rfl rfl)
theorem dX9_court_103 : decode cX9_court 103 = .ok (.bipush (-12), 2) := dk_16 244 (dk_at dksX9_court_4 10 rfl rfl)
theorem dX9_court_105 : decode cX9_court 105 = .ok (.ireturn, 1) := dk_172 (dk_at dksX9_court_4 12 rfl rfl)
theorem dX9_court_106 : decode cX9_court 106 = .ok (.bipush 40, 2) := dk_16 40 (dk_at dksX9_court_4 13 rfl rfl)
theorem dX9_court_108 : decode cX9_court 108 = .ok (.iload_n 1, 1) := dk_27 (dk_at dksX9_court_4 15 rfl rfl)
theorem dX9_court_109 : decode cX9_court 109 = .ok (.imul, 1) := dk_104 (dk_at dksX9_court_4 16 rfl rfl)
theorem dX9_court_110 : decode cX9_court 110 = .ok (.iload_n 3, 1) := dk_29 (dk_at dksX9_court_4 17 rfl rfl)
theorem dX9_court_111 : decode cX9_court 111 = .ok (.iadd, 1) := dk_96 (dk_at dksX9_court_4 18 rfl rfl)
theorem dX9_court_112 : decode cX9_court 112 = .ok (.iconst 3, 1) := dk_6 (dk_at dksX9_court_4 19 rfl rfl)
theorem dX9_court_113 : decode cX9_court 113 = .ok (.iload 6, 2) := dk_21 6 (dk_at dksX9_court_4 20 rfl rfl)
theorem dX9_court_115 : decode cX9_court 115 = .ok (.imul, 1) := dk_104 (dk_at dksX9_court_4 22 rfl rfl)
theorem dX9_court_116 : decode cX9_court 116 = .ok (.iadd, 1) := dk_96 (dk_at dksX9_court_4 23 rfl rfl)
theorem dX9_court_117 : decode cX9_court 117 = .ok (.istore 7, 2) := dk_54 7 (dk_at dksX9_court_5 0 rfl rfl)
theorem dX9_court_119 : decode cX9_court 119 = .ok (.iload 5, 2) := dk_21 5 (dk_at dksX9_court_5 2 rfl rfl)
theorem dX9_court_121 : decode cX9_court 121 = .ok (.aload_n 0, 1) := dk_42 (dk_at dksX9_court_5 4 rfl rfl)
theorem dX9_court_122 : decode cX9_court 122 = .ok (.aload_n 0, 1) := dk_42 (dk_at dksX9_court_5 5 rfl rfl)
theorem dX9_court_123 : decode cX9_court 123 = .ok (.getfield 54, 3) := dk_180 0 54 (dk_at dksX9_court_5 6 rfl rfl)
theorem dX9_court_126 : decode cX9_court 126 = .ok (.iload 7, 2) := dk_21 7 (dk_at dksX9_court_5 9 rfl rfl)
theorem dX9_court_128 : decode cX9_court 128 = .ok (.iaload, 1) := dk_46 (dk_at dksX9_court_5 11 rfl rfl)
theorem dX9_court_129 : decode cX9_court 129 = .ok (.aload_n 0, 1) := dk_42 (dk_at dksX9_court_5 12 rfl rfl)
theorem dX9_court_130 : decode cX9_court 130 = .ok (.getfield 54, 3) := dk_180 0 54 (dk_at dksX9_court_5 13 rfl rfl)
theorem dX9_court_133 : decode cX9_court 133 = .ok (.iload 7, 2) := dk_21 7 (dk_at dksX9_court_5 16 rfl rfl)
theorem dX9_court_135 : decode cX9_court 135 = .ok (.iconst 1, 1) := dk_4 (dk_at dksX9_court_5 18 rfl rfl)
theorem dX9_court_136 : decode cX9_court 136 = .ok (.iadd, 1) := dk_96 (dk_at dksX9_court_5 19 rfl rfl)
theorem dX9_court_137 : decode cX9_court 137 = .ok (.iaload, 1) := dk_46 (dk_at dksX9_court_5 20 rfl rfl)
theorem dX9_court_138 : decode cX9_court 138 = .ok (.aload_n 0, 1) := dk_42 (dk_at dksX9_court_5 21 rfl rfl)
theorem dX9_court_139 : decode cX9_court 139 = .ok (.getfield 54, 3) := dk_180 0 54 (dk_at dksX9_court_6 0 rfl rfl)
theorem dX9_court_142 : decode cX9_court 142 = .ok (.iload 7, 2) := dk_21 7 (dk_at dksX9_court_6 3 rfl rfl)
theorem dX9_court_144 : decode cX9_court 144 = .ok (.iconst 2, 1) := dk_5 (dk_at dksX9_court_6 5 rfl rfl)
theorem dX9_court_145 : decode cX9_court 145 = .ok (.iadd, 1) := dk_96 (dk_at dksX9_court_6 6 rfl rfl)
theorem dX9_court_146 : decode cX9_court 146 = .ok (.iaload, 1) := dk_46 (dk_at dksX9_court_6 7 rfl rfl)
theorem dX9_court_147 : decode cX9_court 147 = .ok (.invokevirtual 425, 3) := dk_182 1 169 (dk_at dksX9_court_6 8 rfl rfl)
theorem dX9_court_150 : decode cX9_court 150 = .ok (.ifCond .lt 7, 3) := dk_155 0 7 (dk_at dksX9_court_6 11 rfl rfl)
theorem dX9_court_153 : decode cX9_court 153 = .ok (.iconst 1, 1) := dk_4 (dk_at dksX9_court_6 14 rfl rfl)
theorem dX9_court_154 : decode cX9_court 154 = .ok (.goto 4, 3) := dk_167 0 4 (dk_at dksX9_court_6 15 rfl rfl)
theorem dX9_court_157 : decode cX9_court 157 = .ok (.iconst 0, 1) := dk_3 (dk_at dksX9_court_6 18 rfl rfl)
theorem dX9_court_158 : decode cX9_court 158 = .ok (.iadd, 1) := dk_96 (dk_at dksX9_court_6 19 rfl rfl)
theorem dX9_court_159 : decode cX9_court 159 = .ok (.istore 5, 2) := dk_54 5 (dk_at dksX9_court_6 20 rfl rfl)
theorem dX9_court_161 : decode cX9_court 161 = .ok (.iinc 6 1, 3) := dk_132 6 1 (dk_at dksX9_court_7 0 rfl rfl)
theorem dX9_court_164 : decode cX9_court 164 = .ok (.goto (-89), 3) := dk_167 255 167 (dk_at dksX9_court_7 3 rfl rfl)
theorem dX9_court_167 : decode cX9_court 167 = .ok (.iload 5, 2) := dk_21 5 (dk_at dksX9_court_7 6 rfl rfl)
theorem dX9_court_169 : decode cX9_court 169 = .ok (.ireturn, 1) := dk_172 (dk_at dksX9_court_7 8 rfl rfl)
abbrev cX9_taken : ByteArray := prog_17_method_108_code
def yX9_taken : MethodName := ⟨RX9, "taken", "(II)I"⟩
def dkwX9_taken_3 : List UInt8 := [16, 243, 172]
abbrev dktX9_taken_3 : List UInt8 := dkwX9_taken_3 ++ []
def dkwX9_taken_2 : List UInt8 := [29, 184, 1, 172, 62, 167, 255, 241, 29, 28, 160, 0, 14, 42, 180, 0, 26, 8, 27, 104, 46, 167, 0, 5]
abbrev dktX9_taken_2 : List UInt8 := dkwX9_taken_2 ++ dktX9_taken_3
def dkwX9_taken_1 : List UInt8 := [16, 245, 172, 42, 180, 0, 26, 8, 27, 104, 7, 96, 46, 62, 29, 2, 159, 0, 16, 29, 28, 159, 0, 11]
abbrev dktX9_taken_1 : List UInt8 := dkwX9_taken_1 ++ dktX9_taken_2
def dkwX9_taken_0 : List UInt8 := [28, 133, 9, 20, 0, 104, 184, 0, 67, 154, 0, 6, 16, 254, 172, 42, 27, 182, 0, 73, 154, 0, 6]
abbrev dktX9_taken_0 : List UInt8 := dkwX9_taken_0 ++ dktX9_taken_1
theorem dksX9_taken_0 : cX9_taken.data.toList.drop 0 = dktX9_taken_0 := by decide +kernel
theorem dksX9_taken_1 : cX9_taken.data.toList.drop 23 = dktX9_taken_1 := dk_seg dksX9_taken_0 23 rfl rfl
theorem dksX9_taken_2 : cX9_taken.data.toList.drop 47 = dktX9_taken_2 := dk_seg dksX9_taken_1 24 rfl rfl
theorem dksX9_taken_3 : cX9_taken.data.toList.drop 71 = dktX9_taken_3 := dk_seg dksX9_taken_2 24 rfl rfl
theorem dX9_taken_0 : decode cX9_taken 0 = .ok (.iload_n 2, 1) := dk_28 (dk_at dksX9_taken_0 0 rfl rfl)
theorem dX9_taken_1 : decode cX9_taken 1 = .ok (.i2l, 1) := dk_133 (dk_at dksX9_taken_0 1 rfl rfl)
theorem dX9_taken_2 : decode cX9_taken 2 = .ok (.lconst 0, 1) := dk_9 (dk_at dksX9_taken_0 2 rfl rfl)
theorem dX9_taken_3 : decode cX9_taken 3 = .ok (.ldc2_w 104, 3) := dk_20 0 104 (dk_at dksX9_taken_0 3 rfl rfl)
theorem dX9_taken_6 : decode cX9_taken 6 = .ok (.invokestatic 67, 3) := dk_184 0 67 (dk_at dksX9_taken_0 6 rfl rfl)
theorem dX9_taken_9 : decode cX9_taken 9 = .ok (.ifCond .ne 6, 3) := dk_154 0 6 (dk_at dksX9_taken_0 9 rfl rfl)
theorem dX9_taken_12 : decode cX9_taken 12 = .ok (.bipush (-2), 2) := dk_16 254 (dk_at dksX9_taken_0 12 rfl rfl)
theorem dX9_taken_14 : decode cX9_taken 14 = .ok (.ireturn, 1) := dk_172 (dk_at dksX9_taken_0 14 rfl rfl)
theorem dX9_taken_15 : decode cX9_taken 15 = .ok (.aload_n 0, 1) := dk_42 (dk_at dksX9_taken_0 15 rfl rfl)
theorem dX9_taken_16 : decode cX9_taken 16 = .ok (.iload_n 1, 1) := dk_27 (dk_at dksX9_taken_0 16 rfl rfl)
theorem dX9_taken_17 : decode cX9_taken 17 = .ok (.invokevirtual 73, 3) := dk_182 0 73 (dk_at dksX9_taken_0 17 rfl rfl)
theorem dX9_taken_20 : decode cX9_taken 20 = .ok (.ifCond .ne 6, 3) := dk_154 0 6 (dk_at dksX9_taken_0 20 rfl rfl)
theorem dX9_taken_23 : decode cX9_taken 23 = .ok (.bipush (-11), 2) := dk_16 245 (dk_at dksX9_taken_1 0 rfl rfl)
theorem dX9_taken_25 : decode cX9_taken 25 = .ok (.ireturn, 1) := dk_172 (dk_at dksX9_taken_1 2 rfl rfl)
theorem dX9_taken_26 : decode cX9_taken 26 = .ok (.aload_n 0, 1) := dk_42 (dk_at dksX9_taken_1 3 rfl rfl)
theorem dX9_taken_27 : decode cX9_taken 27 = .ok (.getfield 26, 3) := dk_180 0 26 (dk_at dksX9_taken_1 4 rfl rfl)
theorem dX9_taken_30 : decode cX9_taken 30 = .ok (.iconst 5, 1) := dk_8 (dk_at dksX9_taken_1 7 rfl rfl)
theorem dX9_taken_31 : decode cX9_taken 31 = .ok (.iload_n 1, 1) := dk_27 (dk_at dksX9_taken_1 8 rfl rfl)
theorem dX9_taken_32 : decode cX9_taken 32 = .ok (.imul, 1) := dk_104 (dk_at dksX9_taken_1 9 rfl rfl)
theorem dX9_taken_33 : decode cX9_taken 33 = .ok (.iconst 4, 1) := dk_7 (dk_at dksX9_taken_1 10 rfl rfl)
theorem dX9_taken_34 : decode cX9_taken 34 = .ok (.iadd, 1) := dk_96 (dk_at dksX9_taken_1 11 rfl rfl)
theorem dX9_taken_35 : decode cX9_taken 35 = .ok (.iaload, 1) := dk_46 (dk_at dksX9_taken_1 12 rfl rfl)
theorem dX9_taken_36 : decode cX9_taken 36 = .ok (.istore_n 3, 1) := dk_62 (dk_at dksX9_taken_1 13 rfl rfl)
theorem dX9_taken_37 : decode cX9_taken 37 = .ok (.iload_n 3, 1) := dk_29 (dk_at dksX9_taken_1 14 rfl rfl)
theorem dX9_taken_38 : decode cX9_taken 38 = .ok (.iconst (-1), 1) := dk_2 (dk_at dksX9_taken_1 15 rfl rfl)
theorem dX9_taken_39 : decode cX9_taken 39 = .ok (.if_icmp .eq 16, 3) := dk_159 0 16 (dk_at dksX9_taken_1 16 rfl rfl)
theorem dX9_taken_42 : decode cX9_taken 42 = .ok (.iload_n 3, 1) := dk_29 (dk_at dksX9_taken_1 19 rfl rfl)
theorem dX9_taken_43 : decode cX9_taken 43 = .ok (.iload_n 2, 1) := dk_28 (dk_at dksX9_taken_1 20 rfl rfl)
theorem dX9_taken_44 : decode cX9_taken 44 = .ok (.if_icmp .eq 11, 3) := dk_159 0 11 (dk_at dksX9_taken_1 21 rfl rfl)
theorem dX9_taken_47 : decode cX9_taken 47 = .ok (.iload_n 3, 1) := dk_29 (dk_at dksX9_taken_2 0 rfl rfl)
theorem dX9_taken_48 : decode cX9_taken 48 = .ok (.invokestatic 428, 3) := dk_184 1 172 (dk_at dksX9_taken_2 1 rfl rfl)
theorem dX9_taken_51 : decode cX9_taken 51 = .ok (.istore_n 3, 1) := dk_62 (dk_at dksX9_taken_2 4 rfl rfl)
theorem dX9_taken_52 : decode cX9_taken 52 = .ok (.goto (-15), 3) := dk_167 255 241 (dk_at dksX9_taken_2 5 rfl rfl)
theorem dX9_taken_55 : decode cX9_taken 55 = .ok (.iload_n 3, 1) := dk_29 (dk_at dksX9_taken_2 8 rfl rfl)
theorem dX9_taken_56 : decode cX9_taken 56 = .ok (.iload_n 2, 1) := dk_28 (dk_at dksX9_taken_2 9 rfl rfl)
theorem dX9_taken_57 : decode cX9_taken 57 = .ok (.if_icmp .ne 14, 3) := dk_160 0 14 (dk_at dksX9_taken_2 10 rfl rfl)
theorem dX9_taken_60 : decode cX9_taken 60 = .ok (.aload_n 0, 1) := dk_42 (dk_at dksX9_taken_2 13 rfl rfl)
theorem dX9_taken_61 : decode cX9_taken 61 = .ok (.getfield 26, 3) := dk_180 0 26 (dk_at dksX9_taken_2 14 rfl rfl)
theorem dX9_taken_64 : decode cX9_taken 64 = .ok (.iconst 5, 1) := dk_8 (dk_at dksX9_taken_2 17 rfl rfl)
theorem dX9_taken_65 : decode cX9_taken 65 = .ok (.iload_n 1, 1) := dk_27 (dk_at dksX9_taken_2 18 rfl rfl)
theorem dX9_taken_66 : decode cX9_taken 66 = .ok (.imul, 1) := dk_104 (dk_at dksX9_taken_2 19 rfl rfl)
theorem dX9_taken_67 : decode cX9_taken 67 = .ok (.iaload, 1) := dk_46 (dk_at dksX9_taken_2 20 rfl rfl)
theorem dX9_taken_68 : decode cX9_taken 68 = .ok (.goto 5, 3) := dk_167 0 5 (dk_at dksX9_taken_2 21 rfl rfl)
theorem dX9_taken_71 : decode cX9_taken 71 = .ok (.bipush (-13), 2) := dk_16 243 (dk_at dksX9_taken_3 0 rfl rfl)
theorem dX9_taken_73 : decode cX9_taken 73 = .ok (.ireturn, 1) := dk_172 (dk_at dksX9_taken_3 2 rfl rfl)
abbrev cX9_over : ByteArray := prog_17_method_107_code
def yX9_over : MethodName := ⟨RX9, "over", "(I)I"⟩
def dkwX9_over_1 : List UInt8 := [167, 0, 4, 3, 172]
abbrev dktX9_over_1 : List UInt8 := dkwX9_over_1 ++ []
def dkwX9_over_0 : List UInt8 := [26, 154, 0, 7, 2, 167, 0, 22, 26, 6, 160, 0, 7, 4, 167, 0, 13, 26, 7, 160, 0, 7, 5]
abbrev dktX9_over_0 : List UInt8 := dkwX9_over_0 ++ dktX9_over_1
theorem dksX9_over_0 : cX9_over.data.toList.drop 0 = dktX9_over_0 := by decide +kernel
theorem dksX9_over_1 : cX9_over.data.toList.drop 23 = dktX9_over_1 := dk_seg dksX9_over_0 23 rfl rfl
theorem dX9_over_0 : decode cX9_over 0 = .ok (.iload_n 0, 1) := dk_26 (dk_at dksX9_over_0 0 rfl rfl)
theorem dX9_over_1 : decode cX9_over 1 = .ok (.ifCond .ne 7, 3) := dk_154 0 7 (dk_at dksX9_over_0 1 rfl rfl)
theorem dX9_over_4 : decode cX9_over 4 = .ok (.iconst (-1), 1) := dk_2 (dk_at dksX9_over_0 4 rfl rfl)
theorem dX9_over_5 : decode cX9_over 5 = .ok (.goto 22, 3) := dk_167 0 22 (dk_at dksX9_over_0 5 rfl rfl)
theorem dX9_over_8 : decode cX9_over 8 = .ok (.iload_n 0, 1) := dk_26 (dk_at dksX9_over_0 8 rfl rfl)
theorem dX9_over_9 : decode cX9_over 9 = .ok (.iconst 3, 1) := dk_6 (dk_at dksX9_over_0 9 rfl rfl)
theorem dX9_over_10 : decode cX9_over 10 = .ok (.if_icmp .ne 7, 3) := dk_160 0 7 (dk_at dksX9_over_0 10 rfl rfl)
theorem dX9_over_13 : decode cX9_over 13 = .ok (.iconst 1, 1) := dk_4 (dk_at dksX9_over_0 13 rfl rfl)
theorem dX9_over_14 : decode cX9_over 14 = .ok (.goto 13, 3) := dk_167 0 13 (dk_at dksX9_over_0 14 rfl rfl)
theorem dX9_over_17 : decode cX9_over 17 = .ok (.iload_n 0, 1) := dk_26 (dk_at dksX9_over_0 17 rfl rfl)
theorem dX9_over_18 : decode cX9_over 18 = .ok (.iconst 4, 1) := dk_7 (dk_at dksX9_over_0 18 rfl rfl)
theorem dX9_over_19 : decode cX9_over 19 = .ok (.if_icmp .ne 7, 3) := dk_160 0 7 (dk_at dksX9_over_0 19 rfl rfl)
theorem dX9_over_22 : decode cX9_over 22 = .ok (.iconst 2, 1) := dk_5 (dk_at dksX9_over_0 22 rfl rfl)
theorem dX9_over_23 : decode cX9_over 23 = .ok (.goto 4, 3) := dk_167 0 4 (dk_at dksX9_over_1 0 rfl rfl)
theorem dX9_over_26 : decode cX9_over 26 = .ok (.iconst 0, 1) := dk_3 (dk_at dksX9_over_1 3 rfl rfl)
theorem dX9_over_27 : decode cX9_over 27 = .ok (.ireturn, 1) := dk_172 (dk_at dksX9_over_1 4 rfl rfl)
theorem q147 : (Jvm.Cond.initialized "NobodyCanLiftItModel") ∈ lw_all := lw_g (lw_at lw_m1 19 rfl) rfl
theorem q1350 : (Jvm.Cond.instantiable "NobodyCanLiftItModel" (39 : Nat)) ∈ lw_all := lw_g (lw_at lw_m6 22 rfl) rfl
theorem q1352 : (Jvm.Cond.instanceMethod ({ cls := "NobodyCanLiftItModel", name := "<init>", desc := "()V" } : Jvm.MethodName)) ∈ lw_all := lw_g (lw_at lw_m6 24 rfl) rfl
theorem q1353 : (Jvm.Cond.code ({ cls := "NobodyCanLiftItModel", name := "<init>", desc := "()V" } : Jvm.MethodName) prog_17_method_4_code (2 : Nat) (Option.none : Option Jvm.ClassFile.FieldType)) ∈ lw_all := lw_g (lw_at lw_m6 25 rfl) rfl
theorem q1354 : (Jvm.Cond.methodLink "NobodyCanLiftItModel" (7 : Nat) ({ cls := "java/lang/Object", name := "<init>", desc := "()V" } : Jvm.MethodName)) ∈ lw_all := lw_g (lw_at lw_m6 26 rfl) rfl
theorem q1355 : (Jvm.Cond.methodLink "NobodyCanLiftItModel" (57 : Nat) ({ cls := "NobodyCanLiftItModel", name := "spell", desc := "(IIIIIIIII)V" } : Jvm.MethodName)) ∈ lw_all := lw_g (lw_at lw_m6 27 rfl) rfl
theorem q1356 : (Jvm.Cond.privateMethod ({ cls := "NobodyCanLiftItModel", name := "spell", desc := "(IIIIIIIII)V" } : Jvm.MethodName)) ∈ lw_tbl := lw_at lw_m6 28 rfl
theorem q1357 : (Jvm.Cond.instanceMethod ({ cls := "NobodyCanLiftItModel", name := "spell", desc := "(IIIIIIIII)V" } : Jvm.MethodName)) ∈ lw_all := lw_g (lw_at lw_m6 29 rfl) rfl
theorem q1358 : (Jvm.Cond.code ({ cls := "NobodyCanLiftItModel", name := "spell", desc := "(IIIIIIIII)V" } : Jvm.MethodName) prog_17_method_5_code (10 : Nat) (Option.none : Option Jvm.ClassFile.FieldType)) ∈ lw_all := lw_g (lw_at lw_m6 30 rfl) rfl
theorem q1359 : (Jvm.Cond.fieldLink "NobodyCanLiftItModel" (13 : Nat) "NobodyCanLiftItModel" "texts" "[I") ∈ lw_all := lw_g (lw_at lw_m6 31 rfl) rfl
theorem q1360 : (Jvm.Cond.fieldLink "NobodyCanLiftItModel" (17 : Nat) "NobodyCanLiftItModel" "textSize" "[I") ∈ lw_all := lw_g (lw_at lw_m6 32 rfl) rfl
theorem q1361 : (Jvm.Cond.fieldLink "NobodyCanLiftItModel" (61 : Nat) "NobodyCanLiftItModel" "textCount" "I") ∈ lw_all := lw_g (lw_at lw_m6 33 rfl) rfl
theorem q1362 : (Jvm.Cond.fieldLink "NobodyCanLiftItModel" (101 : Nat) "NobodyCanLiftItModel" "rule" "I") ∈ lw_all := lw_g (lw_at lw_m6 34 rfl) rfl
theorem q1363 : (Jvm.Cond.fieldLink "NobodyCanLiftItModel" (20 : Nat) "NobodyCanLiftItModel" "tape" "[I") ∈ lw_all := lw_g (lw_at lw_m6 35 rfl) rfl
theorem q1364 : (Jvm.Cond.fieldLink "NobodyCanLiftItModel" (121 : Nat) "NobodyCanLiftItModel" "taped" "I") ∈ lw_all := lw_g (lw_at lw_m6 36 rfl) rfl
theorem q1365 : (Jvm.Cond.fieldLink "NobodyCanLiftItModel" (23 : Nat) "NobodyCanLiftItModel" "loads" "[I") ∈ lw_all := lw_g (lw_at lw_m6 37 rfl) rfl
theorem q1366 : (Jvm.Cond.fieldLink "NobodyCanLiftItModel" (95 : Nat) "NobodyCanLiftItModel" "floorNow" "I") ∈ lw_all := lw_g (lw_at lw_m6 38 rfl) rfl
theorem q1367 : (Jvm.Cond.fieldLink "NobodyCanLiftItModel" (98 : Nat) "NobodyCanLiftItModel" "yearNow" "I") ∈ lw_all := lw_g (lw_at lw_m6 39 rfl) rfl
theorem q1368 : (Jvm.Cond.fieldLink "NobodyCanLiftItModel" (26 : Nat) "NobodyCanLiftItModel" "rows" "[I") ∈ lw_all := lw_g (lw_at lw_m6 40 rfl) rfl
theorem q1369 : (Jvm.Cond.fieldLink "NobodyCanLiftItModel" (64 : Nat) "NobodyCanLiftItModel" "many" "I") ∈ lw_all := lw_g (lw_at lw_m6 41 rfl) rfl
theorem q1370 : (Jvm.Cond.fieldLink "NobodyCanLiftItModel" (177 : Nat) "NobodyCanLiftItModel" "ofAge" "I") ∈ lw_all := lw_g (lw_at lw_m6 42 rfl) rfl
theorem q1371 : (Jvm.Cond.fieldLink "NobodyCanLiftItModel" (180 : Nat) "NobodyCanLiftItModel" "ofNumber" "I") ∈ lw_all := lw_g (lw_at lw_m6 43 rfl) rfl
theorem q1372 : (Jvm.Cond.fieldLink "NobodyCanLiftItModel" (183 : Nat) "NobodyCanLiftItModel" "ofFloor" "I") ∈ lw_all := lw_g (lw_at lw_m6 44 rfl) rfl
theorem q1373 : (Jvm.Cond.fieldLink "NobodyCanLiftItModel" (186 : Nat) "NobodyCanLiftItModel" "ofYear" "I") ∈ lw_all := lw_g (lw_at lw_m6 45 rfl) rfl
theorem q1374 : (Jvm.Cond.fieldLink "NobodyCanLiftItModel" (189 : Nat) "NobodyCanLiftItModel" "ofEase" "I") ∈ lw_all := lw_g (lw_at lw_m6 46 rfl) rfl
theorem q1375 : (Jvm.Cond.fieldLink "NobodyCanLiftItModel" (192 : Nat) "NobodyCanLiftItModel" "ofOthers" "I") ∈ lw_all := lw_g (lw_at lw_m6 47 rfl) rfl
theorem q1376 : (Jvm.Cond.fieldLink "NobodyCanLiftItModel" (127 : Nat) "NobodyCanLiftItModel" "from" "I") ∈ lw_all := lw_g (lw_at lw_m6 48 rfl) rfl
theorem q1377 : (Jvm.Cond.fieldLink "NobodyCanLiftItModel" (124 : Nat) "NobodyCanLiftItModel" "size" "I") ∈ lw_all := lw_g (lw_at lw_m6 49 rfl) rfl
theorem q1378 : (Jvm.Cond.fieldLink "NobodyCanLiftItModel" (130 : Nat) "NobodyCanLiftItModel" "here" "I") ∈ lw_all := lw_g (lw_at lw_m6 50 rfl) rfl
theorem q1379 : (Jvm.Cond.fieldLink "NobodyCanLiftItModel" (139 : Nat) "NobodyCanLiftItModel" "token" "I") ∈ lw_all := lw_g (lw_at lw_m6 51 rfl) rfl
theorem q1380 : (Jvm.Cond.fieldLink "NobodyCanLiftItModel" (136 : Nat) "NobodyCanLiftItModel" "tokenAt" "I") ∈ lw_all := lw_g (lw_at lw_m6 52 rfl) rfl
theorem q1381 : (Jvm.Cond.fieldLink "NobodyCanLiftItModel" (150 : Nat) "NobodyCanLiftItModel" "tokenWorth" "J") ∈ lw_all := lw_g (lw_at lw_m6 53 rfl) rfl
theorem q1382 : (Jvm.Cond.fieldLink "NobodyCanLiftItModel" (164 : Nat) "NobodyCanLiftItModel" "open" "I") ∈ lw_all := lw_g (lw_at lw_m6 54 rfl) rfl
theorem q1383 : (Jvm.Cond.fieldLink "NobodyCanLiftItModel" (154 : Nat) "NobodyCanLiftItModel" "bad" "Z") ∈ lw_all := lw_g (lw_at lw_m6 55 rfl) rfl
theorem q1384 : (Jvm.Cond.fieldLink "NobodyCanLiftItModel" (158 : Nat) "NobodyCanLiftItModel" "fault" "I") ∈ lw_all := lw_g (lw_at lw_m6 56 rfl) rfl
theorem q1385 : (Jvm.Cond.fieldLink "NobodyCanLiftItModel" (29 : Nat) "NobodyCanLiftItModel" "eased" "[I") ∈ lw_all := lw_g (lw_at lw_m6 57 rfl) rfl
theorem q1386 : (Jvm.Cond.fieldLink "NobodyCanLiftItModel" (32 : Nat) "NobodyCanLiftItModel" "was" "[I") ∈ lw_all := lw_g (lw_at lw_m6 58 rfl) rfl
theorem q1387 : (Jvm.Cond.fieldLink "NobodyCanLiftItModel" (35 : Nat) "NobodyCanLiftItModel" "loadsKept" "[I") ∈ lw_all := lw_g (lw_at lw_m6 59 rfl) rfl
theorem q1388 : (Jvm.Cond.fieldLink "NobodyCanLiftItModel" (38 : Nat) "NobodyCanLiftItModel" "rowsKept" "[I") ∈ lw_all := lw_g (lw_at lw_m6 60 rfl) rfl
theorem q1389 : (Jvm.Cond.fieldLink "NobodyCanLiftItModel" (41 : Nat) "NobodyCanLiftItModel" "manyKept" "I") ∈ lw_all := lw_g (lw_at lw_m6 61 rfl) rfl
theorem q1390 : (Jvm.Cond.fieldLink "NobodyCanLiftItModel" (412 : Nat) "NobodyCanLiftItModel" "floorKept" "I") ∈ lw_all := lw_g (lw_at lw_m6 62 rfl) rfl
theorem q1391 : (Jvm.Cond.fieldLink "NobodyCanLiftItModel" (415 : Nat) "NobodyCanLiftItModel" "yearKept" "I") ∈ lw_all := lw_g (lw_at lw_m6 63 rfl) rfl
theorem q1392 : (Jvm.Cond.fieldLink "NobodyCanLiftItModel" (418 : Nat) "NobodyCanLiftItModel" "ruleKept" "I") ∈ lw_all := lw_g (lw_at lw_m6 64 rfl) rfl
theorem q1393 : (Jvm.Cond.fieldLink "NobodyCanLiftItModel" (44 : Nat) "NobodyCanLiftItModel" "isThere" "[Z") ∈ lw_all := lw_g (lw_at lw_m6 65 rfl) rfl
theorem q1394 : (Jvm.Cond.fieldLink "NobodyCanLiftItModel" (48 : Nat) "NobodyCanLiftItModel" "sorts" "[I") ∈ lw_all := lw_g (lw_at lw_m6 66 rfl) rfl
theorem q1395 : (Jvm.Cond.fieldLink "NobodyCanLiftItModel" (51 : Nat) "NobodyCanLiftItModel" "sheetSize" "[I") ∈ lw_all := lw_g (lw_at lw_m6 67 rfl) rfl
theorem q1396 : (Jvm.Cond.fieldLink "NobodyCanLiftItModel" (54 : Nat) "NobodyCanLiftItModel" "items" "[I") ∈ lw_all := lw_g (lw_at lw_m6 68 rfl) rfl
theorem q1397 : (Jvm.Cond.lays "NobodyCanLiftItModel" "NobodyCanLiftItModel" "thrown" "I") ∈ lw_all := lw_g (lw_at lw_m6 69 rfl) rfl
theorem q1398 : (Jvm.Cond.soleField "NobodyCanLiftItModel" "thrown") ∈ lw_all := lw_g (lw_at lw_m6 70 rfl) rfl
theorem q1399 : (Jvm.Cond.laysFinal "NobodyCanLiftItModel" "NobodyCanLiftItModel" "texts" "[I") ∈ lw_all := lw_g (lw_at lw_m6 71 rfl) rfl
theorem q1400 : (Jvm.Cond.soleField "NobodyCanLiftItModel" "texts") ∈ lw_all := lw_g (lw_at lw_m6 72 rfl) rfl
theorem q1401 : (Jvm.Cond.laysFinal "NobodyCanLiftItModel" "NobodyCanLiftItModel" "textSize" "[I") ∈ lw_all := lw_g (lw_at lw_m6 73 rfl) rfl
theorem q1402 : (Jvm.Cond.soleField "NobodyCanLiftItModel" "textSize") ∈ lw_all := lw_g (lw_at lw_m6 74 rfl) rfl
theorem q1403 : (Jvm.Cond.lays "NobodyCanLiftItModel" "NobodyCanLiftItModel" "textCount" "I") ∈ lw_all := lw_g (lw_at lw_m6 75 rfl) rfl
theorem q1404 : (Jvm.Cond.soleField "NobodyCanLiftItModel" "textCount") ∈ lw_all := lw_g (lw_at lw_m6 76 rfl) rfl
theorem q1405 : (Jvm.Cond.lays "NobodyCanLiftItModel" "NobodyCanLiftItModel" "rule" "I") ∈ lw_all := lw_g (lw_at lw_m6 77 rfl) rfl
theorem q1406 : (Jvm.Cond.soleField "NobodyCanLiftItModel" "rule") ∈ lw_all := lw_g (lw_at lw_m6 78 rfl) rfl
theorem q1407 : (Jvm.Cond.laysFinal "NobodyCanLiftItModel" "NobodyCanLiftItModel" "tape" "[I") ∈ lw_all := lw_g (lw_at lw_m6 79 rfl) rfl
theorem q1408 : (Jvm.Cond.soleField "NobodyCanLiftItModel" "tape") ∈ lw_all := lw_g (lw_at lw_m6 80 rfl) rfl
theorem q1409 : (Jvm.Cond.lays "NobodyCanLiftItModel" "NobodyCanLiftItModel" "taped" "I") ∈ lw_all := lw_g (lw_at lw_m6 81 rfl) rfl
theorem q1410 : (Jvm.Cond.soleField "NobodyCanLiftItModel" "taped") ∈ lw_all := lw_g (lw_at lw_m6 82 rfl) rfl
theorem q1411 : (Jvm.Cond.laysFinal "NobodyCanLiftItModel" "NobodyCanLiftItModel" "loads" "[I") ∈ lw_all := lw_g (lw_at lw_m6 83 rfl) rfl
theorem q1412 : (Jvm.Cond.soleField "NobodyCanLiftItModel" "loads") ∈ lw_all := lw_g (lw_at lw_m6 84 rfl) rfl
theorem q1413 : (Jvm.Cond.lays "NobodyCanLiftItModel" "NobodyCanLiftItModel" "floorNow" "I") ∈ lw_all := lw_g (lw_at lw_m6 85 rfl) rfl
theorem q1414 : (Jvm.Cond.soleField "NobodyCanLiftItModel" "floorNow") ∈ lw_all := lw_g (lw_at lw_m6 86 rfl) rfl
theorem q1415 : (Jvm.Cond.lays "NobodyCanLiftItModel" "NobodyCanLiftItModel" "yearNow" "I") ∈ lw_all := lw_g (lw_at lw_m6 87 rfl) rfl
theorem q1416 : (Jvm.Cond.soleField "NobodyCanLiftItModel" "yearNow") ∈ lw_all := lw_g (lw_at lw_m6 88 rfl) rfl
theorem q1417 : (Jvm.Cond.laysFinal "NobodyCanLiftItModel" "NobodyCanLiftItModel" "rows" "[I") ∈ lw_all := lw_g (lw_at lw_m6 89 rfl) rfl
theorem q1418 : (Jvm.Cond.soleField "NobodyCanLiftItModel" "rows") ∈ lw_all := lw_g (lw_at lw_m6 90 rfl) rfl
theorem q1419 : (Jvm.Cond.lays "NobodyCanLiftItModel" "NobodyCanLiftItModel" "many" "I") ∈ lw_all := lw_g (lw_at lw_m6 91 rfl) rfl
theorem q1420 : (Jvm.Cond.soleField "NobodyCanLiftItModel" "many") ∈ lw_all := lw_g (lw_at lw_m6 92 rfl) rfl
theorem q1421 : (Jvm.Cond.lays "NobodyCanLiftItModel" "NobodyCanLiftItModel" "ofAge" "I") ∈ lw_all := lw_g (lw_at lw_m6 93 rfl) rfl
theorem q1422 : (Jvm.Cond.soleField "NobodyCanLiftItModel" "ofAge") ∈ lw_all := lw_g (lw_at lw_m6 94 rfl) rfl
theorem q1423 : (Jvm.Cond.lays "NobodyCanLiftItModel" "NobodyCanLiftItModel" "ofNumber" "I") ∈ lw_all := lw_g (lw_at lw_m6 95 rfl) rfl
theorem q1424 : (Jvm.Cond.soleField "NobodyCanLiftItModel" "ofNumber") ∈ lw_all := lw_g (lw_at lw_m6 96 rfl) rfl
theorem q1425 : (Jvm.Cond.lays "NobodyCanLiftItModel" "NobodyCanLiftItModel" "ofFloor" "I") ∈ lw_all := lw_g (lw_at lw_m6 97 rfl) rfl
theorem q1426 : (Jvm.Cond.soleField "NobodyCanLiftItModel" "ofFloor") ∈ lw_all := lw_g (lw_at lw_m6 98 rfl) rfl
theorem q1427 : (Jvm.Cond.lays "NobodyCanLiftItModel" "NobodyCanLiftItModel" "ofYear" "I") ∈ lw_all := lw_g (lw_at lw_m6 99 rfl) rfl
theorem q1428 : (Jvm.Cond.soleField "NobodyCanLiftItModel" "ofYear") ∈ lw_all := lw_g (lw_at lw_m6 100 rfl) rfl
theorem q1429 : (Jvm.Cond.lays "NobodyCanLiftItModel" "NobodyCanLiftItModel" "ofEase" "I") ∈ lw_all := lw_g (lw_at lw_m6 101 rfl) rfl
theorem q1430 : (Jvm.Cond.soleField "NobodyCanLiftItModel" "ofEase") ∈ lw_all := lw_g (lw_at lw_m6 102 rfl) rfl
theorem q1431 : (Jvm.Cond.lays "NobodyCanLiftItModel" "NobodyCanLiftItModel" "ofOthers" "I") ∈ lw_all := lw_g (lw_at lw_m6 103 rfl) rfl
theorem q1432 : (Jvm.Cond.soleField "NobodyCanLiftItModel" "ofOthers") ∈ lw_all := lw_g (lw_at lw_m6 104 rfl) rfl
theorem q1433 : (Jvm.Cond.lays "NobodyCanLiftItModel" "NobodyCanLiftItModel" "from" "I") ∈ lw_all := lw_g (lw_at lw_m6 105 rfl) rfl
theorem q1434 : (Jvm.Cond.soleField "NobodyCanLiftItModel" "from") ∈ lw_all := lw_g (lw_at lw_m6 106 rfl) rfl
theorem q1435 : (Jvm.Cond.lays "NobodyCanLiftItModel" "NobodyCanLiftItModel" "size" "I") ∈ lw_all := lw_g (lw_at lw_m6 107 rfl) rfl
theorem q1436 : (Jvm.Cond.soleField "NobodyCanLiftItModel" "size") ∈ lw_all := lw_g (lw_at lw_m6 108 rfl) rfl
theorem q1437 : (Jvm.Cond.lays "NobodyCanLiftItModel" "NobodyCanLiftItModel" "here" "I") ∈ lw_all := lw_g (lw_at lw_m6 109 rfl) rfl
theorem q1438 : (Jvm.Cond.soleField "NobodyCanLiftItModel" "here") ∈ lw_all := lw_g (lw_at lw_m6 110 rfl) rfl
theorem q1439 : (Jvm.Cond.lays "NobodyCanLiftItModel" "NobodyCanLiftItModel" "token" "I") ∈ lw_all := lw_g (lw_at lw_m6 111 rfl) rfl
theorem q1440 : (Jvm.Cond.soleField "NobodyCanLiftItModel" "token") ∈ lw_all := lw_g (lw_at lw_m6 112 rfl) rfl
theorem q1441 : (Jvm.Cond.lays "NobodyCanLiftItModel" "NobodyCanLiftItModel" "tokenAt" "I") ∈ lw_all := lw_g (lw_at lw_m6 113 rfl) rfl
theorem q1442 : (Jvm.Cond.soleField "NobodyCanLiftItModel" "tokenAt") ∈ lw_all := lw_g (lw_at lw_m6 114 rfl) rfl
theorem q1443 : (Jvm.Cond.lays "NobodyCanLiftItModel" "NobodyCanLiftItModel" "tokenWorth" "J") ∈ lw_all := lw_g (lw_at lw_m6 115 rfl) rfl
theorem q1444 : (Jvm.Cond.soleField "NobodyCanLiftItModel" "tokenWorth") ∈ lw_all := lw_g (lw_at lw_m6 116 rfl) rfl
theorem q1445 : (Jvm.Cond.lays "NobodyCanLiftItModel" "NobodyCanLiftItModel" "open" "I") ∈ lw_all := lw_g (lw_at lw_m6 117 rfl) rfl
theorem q1446 : (Jvm.Cond.soleField "NobodyCanLiftItModel" "open") ∈ lw_all := lw_g (lw_at lw_m6 118 rfl) rfl
theorem q1447 : (Jvm.Cond.lays "NobodyCanLiftItModel" "NobodyCanLiftItModel" "bad" "Z") ∈ lw_all := lw_g (lw_at lw_m6 119 rfl) rfl
theorem q1448 : (Jvm.Cond.soleField "NobodyCanLiftItModel" "bad") ∈ lw_all := lw_g (lw_at lw_m6 120 rfl) rfl
theorem q1449 : (Jvm.Cond.lays "NobodyCanLiftItModel" "NobodyCanLiftItModel" "fault" "I") ∈ lw_all := lw_g (lw_at lw_m6 121 rfl) rfl
theorem q1450 : (Jvm.Cond.soleField "NobodyCanLiftItModel" "fault") ∈ lw_all := lw_g (lw_at lw_m6 122 rfl) rfl
theorem q1451 : (Jvm.Cond.laysFinal "NobodyCanLiftItModel" "NobodyCanLiftItModel" "eased" "[I") ∈ lw_all := lw_g (lw_at lw_m6 123 rfl) rfl
theorem q1452 : (Jvm.Cond.soleField "NobodyCanLiftItModel" "eased") ∈ lw_all := lw_g (lw_at lw_m6 124 rfl) rfl
theorem q1453 : (Jvm.Cond.laysFinal "NobodyCanLiftItModel" "NobodyCanLiftItModel" "was" "[I") ∈ lw_all := lw_g (lw_at lw_m6 125 rfl) rfl
theorem q1454 : (Jvm.Cond.soleField "NobodyCanLiftItModel" "was") ∈ lw_all := lw_g (lw_at lw_m6 126 rfl) rfl
theorem q1455 : (Jvm.Cond.laysFinal "NobodyCanLiftItModel" "NobodyCanLiftItModel" "loadsKept" "[I") ∈ lw_all := lw_g (lw_at lw_m6 127 rfl) rfl
theorem q1456 : (Jvm.Cond.soleField "NobodyCanLiftItModel" "loadsKept") ∈ lw_all := lw_g (lw_at lw_m6 128 rfl) rfl
theorem q1457 : (Jvm.Cond.laysFinal "NobodyCanLiftItModel" "NobodyCanLiftItModel" "rowsKept" "[I") ∈ lw_all := lw_g (lw_at lw_m6 129 rfl) rfl
theorem q1458 : (Jvm.Cond.soleField "NobodyCanLiftItModel" "rowsKept") ∈ lw_all := lw_g (lw_at lw_m6 130 rfl) rfl
theorem q1459 : (Jvm.Cond.lays "NobodyCanLiftItModel" "NobodyCanLiftItModel" "manyKept" "I") ∈ lw_all := lw_g (lw_at lw_m6 131 rfl) rfl
theorem q1460 : (Jvm.Cond.soleField "NobodyCanLiftItModel" "manyKept") ∈ lw_all := lw_g (lw_at lw_m6 132 rfl) rfl
theorem q1461 : (Jvm.Cond.lays "NobodyCanLiftItModel" "NobodyCanLiftItModel" "floorKept" "I") ∈ lw_all := lw_g (lw_at lw_m6 133 rfl) rfl
theorem q1462 : (Jvm.Cond.soleField "NobodyCanLiftItModel" "floorKept") ∈ lw_all := lw_g (lw_at lw_m6 134 rfl) rfl
theorem q1463 : (Jvm.Cond.lays "NobodyCanLiftItModel" "NobodyCanLiftItModel" "yearKept" "I") ∈ lw_all := lw_g (lw_at lw_m6 135 rfl) rfl
theorem q1464 : (Jvm.Cond.soleField "NobodyCanLiftItModel" "yearKept") ∈ lw_all := lw_g (lw_at lw_m6 136 rfl) rfl
theorem q1465 : (Jvm.Cond.lays "NobodyCanLiftItModel" "NobodyCanLiftItModel" "ruleKept" "I") ∈ lw_all := lw_g (lw_at lw_m6 137 rfl) rfl
theorem q1466 : (Jvm.Cond.soleField "NobodyCanLiftItModel" "ruleKept") ∈ lw_all := lw_g (lw_at lw_m6 138 rfl) rfl
theorem q1467 : (Jvm.Cond.laysFinal "NobodyCanLiftItModel" "NobodyCanLiftItModel" "isThere" "[Z") ∈ lw_all := lw_g (lw_at lw_m6 139 rfl) rfl
theorem q1468 : (Jvm.Cond.soleField "NobodyCanLiftItModel" "isThere") ∈ lw_all := lw_g (lw_at lw_m6 140 rfl) rfl
theorem q1469 : (Jvm.Cond.laysFinal "NobodyCanLiftItModel" "NobodyCanLiftItModel" "sorts" "[I") ∈ lw_all := lw_g (lw_at lw_m6 141 rfl) rfl
theorem q1470 : (Jvm.Cond.soleField "NobodyCanLiftItModel" "sorts") ∈ lw_all := lw_g (lw_at lw_m6 142 rfl) rfl
theorem q1471 : (Jvm.Cond.laysFinal "NobodyCanLiftItModel" "NobodyCanLiftItModel" "sheetSize" "[I") ∈ lw_all := lw_g (lw_at lw_m6 143 rfl) rfl
theorem q1472 : (Jvm.Cond.soleField "NobodyCanLiftItModel" "sheetSize") ∈ lw_all := lw_g (lw_at lw_m6 144 rfl) rfl
theorem q1473 : (Jvm.Cond.laysFinal "NobodyCanLiftItModel" "NobodyCanLiftItModel" "items" "[I") ∈ lw_all := lw_g (lw_at lw_m6 145 rfl) rfl
theorem q1474 : (Jvm.Cond.soleField "NobodyCanLiftItModel" "items") ∈ lw_all := lw_g (lw_at lw_m6 146 rfl) rfl
theorem q1475 : (Jvm.Cond.superclass "NobodyCanLiftItModel" "java/lang/Object") ∈ lw_all := lw_g (lw_at lw_m6 147 rfl) rfl
theorem q1478 : (Jvm.Cond.instanceMethod ({ cls := "NobodyCanLiftItModel", name := "set", desc := "(III)I" } : Jvm.MethodName)) ∈ lw_all := lw_g (lw_at lw_m6 150 rfl) rfl
theorem q1479 : (Jvm.Cond.selects "NobodyCanLiftItModel" ({ cls := "NobodyCanLiftItModel", name := "set", desc := "(III)I" } : Jvm.MethodName) ({ cls := "NobodyCanLiftItModel", name := "set", desc := "(III)I" } : Jvm.MethodName)) ∈ lw_all := lw_g (lw_at lw_m6 151 rfl) rfl
theorem q1480 : (Jvm.Cond.code ({ cls := "NobodyCanLiftItModel", name := "set", desc := "(III)I" } : Jvm.MethodName) prog_17_method_9_code (5 : Nat) (Option.some Jvm.ClassFile.FieldType.int)) ∈ lw_all := lw_g (lw_at lw_m6 152 rfl) rfl
theorem q1481 : (Jvm.Cond.constantLong "NobodyCanLiftItModel" (77 : Nat) (6 : Int64)) ∈ lw_all := lw_g (lw_at lw_m6 153 rfl) rfl
theorem q1482 : (Jvm.Cond.methodLink "NobodyCanLiftItModel" (67 : Nat) ({ cls := "NobodyCanLiftItModel", name := "in", desc := "(JJJ)Z" } : Jvm.MethodName)) ∈ lw_all := lw_g (lw_at lw_m6 154 rfl) rfl
theorem q1483 : (Jvm.Cond.static ({ cls := "NobodyCanLiftItModel", name := "in", desc := "(JJJ)Z" } : Jvm.MethodName)) ∈ lw_all := lw_g (lw_at lw_m6 155 rfl) rfl
theorem q1484 : (Jvm.Cond.code ({ cls := "NobodyCanLiftItModel", name := "in", desc := "(JJJ)Z" } : Jvm.MethodName) prog_17_method_2_code (6 : Nat) (Option.some Jvm.ClassFile.FieldType.boolean)) ∈ lw_all := lw_g (lw_at lw_m6 156 rfl) rfl
theorem q1485 : (Jvm.Cond.methodLink "NobodyCanLiftItModel" (79 : Nat) ({ cls := "NobodyCanLiftItModel", name := "isOf", desc := "(II)Z" } : Jvm.MethodName)) ∈ lw_all := lw_g (lw_at lw_m6 157 rfl) rfl
theorem q1486 : (Jvm.Cond.privateMethod ({ cls := "NobodyCanLiftItModel", name := "isOf", desc := "(II)Z" } : Jvm.MethodName)) ∈ lw_tbl := lw_at lw_m6 158 rfl
theorem q1487 : (Jvm.Cond.instanceMethod ({ cls := "NobodyCanLiftItModel", name := "isOf", desc := "(II)Z" } : Jvm.MethodName)) ∈ lw_all := lw_g (lw_at lw_m6 159 rfl) rfl
theorem q1488 : (Jvm.Cond.code ({ cls := "NobodyCanLiftItModel", name := "isOf", desc := "(II)Z" } : Jvm.MethodName) prog_17_method_7_code (3 : Nat) (Option.some Jvm.ClassFile.FieldType.boolean)) ∈ lw_all := lw_g (lw_at lw_m6 160 rfl) rfl
theorem q1489 : (Jvm.Cond.constantLong "NobodyCanLiftItModel" (71 : Nat) (9 : Int64)) ∈ lw_all := lw_g (lw_at lw_m6 161 rfl) rfl
theorem q1490 : (Jvm.Cond.methodLink "NobodyCanLiftItModel" (73 : Nat) ({ cls := "NobodyCanLiftItModel", name := "isOne", desc := "(I)Z" } : Jvm.MethodName)) ∈ lw_all := lw_g (lw_at lw_m6 162 rfl) rfl
theorem q1491 : (Jvm.Cond.privateMethod ({ cls := "NobodyCanLiftItModel", name := "isOne", desc := "(I)Z" } : Jvm.MethodName)) ∈ lw_tbl := lw_at lw_m6 163 rfl
theorem q1492 : (Jvm.Cond.instanceMethod ({ cls := "NobodyCanLiftItModel", name := "isOne", desc := "(I)Z" } : Jvm.MethodName)) ∈ lw_all := lw_g (lw_at lw_m6 164 rfl) rfl
theorem q1493 : (Jvm.Cond.code ({ cls := "NobodyCanLiftItModel", name := "isOne", desc := "(I)Z" } : Jvm.MethodName) prog_17_method_6_code (2 : Nat) (Option.some Jvm.ClassFile.FieldType.boolean)) ∈ lw_all := lw_g (lw_at lw_m6 165 rfl) rfl
theorem q1494 : (Jvm.Cond.methodLink "NobodyCanLiftItModel" (83 : Nat) ({ cls := "NobodyCanLiftItModel", name := "mostOf", desc := "(I)I" } : Jvm.MethodName)) ∈ lw_all := lw_g (lw_at lw_m6 166 rfl) rfl
theorem q1495 : (Jvm.Cond.static ({ cls := "NobodyCanLiftItModel", name := "mostOf", desc := "(I)I" } : Jvm.MethodName)) ∈ lw_all := lw_g (lw_at lw_m6 167 rfl) rfl
theorem q1496 : (Jvm.Cond.code ({ cls := "NobodyCanLiftItModel", name := "mostOf", desc := "(I)I" } : Jvm.MethodName) prog_17_method_8_code (1 : Nat) (Option.some Jvm.ClassFile.FieldType.int)) ∈ lw_all := lw_g (lw_at lw_m6 168 rfl) rfl
theorem q1497 : (Jvm.Cond.methodLink "NobodyCanLiftItModel" (87 : Nat) ({ cls := "NobodyCanLiftItModel", name := "told", desc := "(II)I" } : Jvm.MethodName)) ∈ lw_all := lw_g (lw_at lw_m6 169 rfl) rfl
theorem q1498 : (Jvm.Cond.instanceMethod ({ cls := "NobodyCanLiftItModel", name := "told", desc := "(II)I" } : Jvm.MethodName)) ∈ lw_all := lw_g (lw_at lw_m6 170 rfl) rfl
theorem q1499 : (Jvm.Cond.selects "NobodyCanLiftItModel" ({ cls := "NobodyCanLiftItModel", name := "told", desc := "(II)I" } : Jvm.MethodName) ({ cls := "NobodyCanLiftItModel", name := "told", desc := "(II)I" } : Jvm.MethodName)) ∈ lw_all := lw_g (lw_at lw_m6 171 rfl) rfl
theorem q1500 : (Jvm.Cond.code ({ cls := "NobodyCanLiftItModel", name := "told", desc := "(II)I" } : Jvm.MethodName) prog_17_method_12_code (3 : Nat) (Option.some Jvm.ClassFile.FieldType.int)) ∈ lw_all := lw_g (lw_at lw_m6 172 rfl) rfl
theorem q1501 : (Jvm.Cond.constantLong "NobodyCanLiftItModel" (108 : Nat) (10 : Int64)) ∈ lw_all := lw_g (lw_at lw_m6 173 rfl) rfl
theorem q1502 : (Jvm.Cond.methodLink "NobodyCanLiftItModel" (110 : Nat) ({ cls := "NobodyCanLiftItModel", name := "strongOf", desc := "(I)I" } : Jvm.MethodName)) ∈ lw_all := lw_g (lw_at lw_m6 174 rfl) rfl
theorem q1503 : (Jvm.Cond.privateMethod ({ cls := "NobodyCanLiftItModel", name := "strongOf", desc := "(I)I" } : Jvm.MethodName)) ∈ lw_tbl := lw_at lw_m6 175 rfl
theorem q1504 : (Jvm.Cond.instanceMethod ({ cls := "NobodyCanLiftItModel", name := "strongOf", desc := "(I)I" } : Jvm.MethodName)) ∈ lw_all := lw_g (lw_at lw_m6 176 rfl) rfl
theorem q1505 : (Jvm.Cond.code ({ cls := "NobodyCanLiftItModel", name := "strongOf", desc := "(I)I" } : Jvm.MethodName) prog_17_method_71_code (6 : Nat) (Option.some Jvm.ClassFile.FieldType.int)) ∈ lw_all := lw_g (lw_at lw_m6 177 rfl) rfl
theorem q1506 : (Jvm.Cond.methodLink "NobodyCanLiftItModel" (332 : Nat) ({ cls := "NobodyCanLiftItModel", name := "says", desc := "(II)I" } : Jvm.MethodName)) ∈ lw_all := lw_g (lw_at lw_m6 178 rfl) rfl
theorem q1507 : (Jvm.Cond.privateMethod ({ cls := "NobodyCanLiftItModel", name := "says", desc := "(II)I" } : Jvm.MethodName)) ∈ lw_tbl := lw_at lw_m6 179 rfl
theorem q1508 : (Jvm.Cond.instanceMethod ({ cls := "NobodyCanLiftItModel", name := "says", desc := "(II)I" } : Jvm.MethodName)) ∈ lw_all := lw_g (lw_at lw_m6 180 rfl) rfl
theorem q1509 : (Jvm.Cond.code ({ cls := "NobodyCanLiftItModel", name := "says", desc := "(II)I" } : Jvm.MethodName) prog_17_method_65_code (3 : Nat) (Option.some Jvm.ClassFile.FieldType.int)) ∈ lw_all := lw_g (lw_at lw_m6 181 rfl) rfl
theorem q1510 : (Jvm.Cond.methodLink "NobodyCanLiftItModel" (325 : Nat) ({ cls := "NobodyCanLiftItModel", name := "hereMany", desc := "()I" } : Jvm.MethodName)) ∈ lw_all := lw_g (lw_at lw_m6 182 rfl) rfl
theorem q1511 : (Jvm.Cond.privateMethod ({ cls := "NobodyCanLiftItModel", name := "hereMany", desc := "()I" } : Jvm.MethodName)) ∈ lw_tbl := lw_at lw_m6 183 rfl
theorem q1512 : (Jvm.Cond.instanceMethod ({ cls := "NobodyCanLiftItModel", name := "hereMany", desc := "()I" } : Jvm.MethodName)) ∈ lw_all := lw_g (lw_at lw_m6 184 rfl) rfl
theorem q1513 : (Jvm.Cond.code ({ cls := "NobodyCanLiftItModel", name := "hereMany", desc := "()I" } : Jvm.MethodName) prog_17_method_14_code (3 : Nat) (Option.some Jvm.ClassFile.FieldType.int)) ∈ lw_all := lw_g (lw_at lw_m6 185 rfl) rfl
theorem q1514 : (Jvm.Cond.methodLink "NobodyCanLiftItModel" (322 : Nat) ({ cls := "NobodyCanLiftItModel", name := "read", desc := "(II)I" } : Jvm.MethodName)) ∈ lw_all := lw_g (lw_at lw_m6 186 rfl) rfl
theorem q1515 : (Jvm.Cond.privateMethod ({ cls := "NobodyCanLiftItModel", name := "read", desc := "(II)I" } : Jvm.MethodName)) ∈ lw_tbl := lw_at lw_m6 187 rfl
theorem q1516 : (Jvm.Cond.instanceMethod ({ cls := "NobodyCanLiftItModel", name := "read", desc := "(II)I" } : Jvm.MethodName)) ∈ lw_all := lw_g (lw_at lw_m6 188 rfl) rfl
theorem q1517 : (Jvm.Cond.code ({ cls := "NobodyCanLiftItModel", name := "read", desc := "(II)I" } : Jvm.MethodName) prog_17_method_62_code (6 : Nat) (Option.some Jvm.ClassFile.FieldType.int)) ∈ lw_all := lw_g (lw_at lw_m6 189 rfl) rfl
theorem q1518 : (Jvm.Cond.methodLink "NobodyCanLiftItModel" (170 : Nat) ({ cls := "NobodyCanLiftItModel", name := "next", desc := "()V" } : Jvm.MethodName)) ∈ lw_all := lw_g (lw_at lw_m6 190 rfl) rfl
theorem q1519 : (Jvm.Cond.privateMethod ({ cls := "NobodyCanLiftItModel", name := "next", desc := "()V" } : Jvm.MethodName)) ∈ lw_tbl := lw_at lw_m6 191 rfl
theorem q1520 : (Jvm.Cond.instanceMethod ({ cls := "NobodyCanLiftItModel", name := "next", desc := "()V" } : Jvm.MethodName)) ∈ lw_all := lw_g (lw_at lw_m6 192 rfl) rfl
theorem q1521 : (Jvm.Cond.code ({ cls := "NobodyCanLiftItModel", name := "next", desc := "()V" } : Jvm.MethodName) prog_17_method_18_code (3 : Nat) (Option.none : Option Jvm.ClassFile.FieldType)) ∈ lw_all := lw_g (lw_at lw_m6 193 rfl) rfl
theorem q1522 : (Jvm.Cond.methodLink "NobodyCanLiftItModel" (133 : Nat) ({ cls := "NobodyCanLiftItModel", name := "byteAt", desc := "(I)I" } : Jvm.MethodName)) ∈ lw_all := lw_g (lw_at lw_m6 194 rfl) rfl
theorem q1523 : (Jvm.Cond.privateMethod ({ cls := "NobodyCanLiftItModel", name := "byteAt", desc := "(I)I" } : Jvm.MethodName)) ∈ lw_tbl := lw_at lw_m6 195 rfl
theorem q1524 : (Jvm.Cond.instanceMethod ({ cls := "NobodyCanLiftItModel", name := "byteAt", desc := "(I)I" } : Jvm.MethodName)) ∈ lw_all := lw_g (lw_at lw_m6 196 rfl) rfl
theorem q1525 : (Jvm.Cond.code ({ cls := "NobodyCanLiftItModel", name := "byteAt", desc := "(I)I" } : Jvm.MethodName) prog_17_method_17_code (2 : Nat) (Option.some Jvm.ClassFile.FieldType.int)) ∈ lw_all := lw_g (lw_at lw_m6 197 rfl) rfl
theorem q1526 : (Jvm.Cond.constantLong "NobodyCanLiftItModel" (142 : Nat) (97 : Int64)) ∈ lw_all := lw_g (lw_at lw_m6 198 rfl) rfl
theorem q1527 : (Jvm.Cond.constantLong "NobodyCanLiftItModel" (144 : Nat) (122 : Int64)) ∈ lw_all := lw_g (lw_at lw_m6 199 rfl) rfl
theorem q1528 : (Jvm.Cond.constantLong "NobodyCanLiftItModel" (146 : Nat) (48 : Int64)) ∈ lw_all := lw_g (lw_at lw_m6 200 rfl) rfl
theorem q1529 : (Jvm.Cond.constantLong "NobodyCanLiftItModel" (148 : Nat) (57 : Int64)) ∈ lw_all := lw_g (lw_at lw_m6 201 rfl) rfl
theorem q1530 : (Jvm.Cond.methodLink "NobodyCanLiftItModel" (173 : Nat) ({ cls := "NobodyCanLiftItModel", name := "isWord", desc := "(IIIIIIII)Z" } : Jvm.MethodName)) ∈ lw_all := lw_g (lw_at lw_m6 202 rfl) rfl
theorem q1531 : (Jvm.Cond.privateMethod ({ cls := "NobodyCanLiftItModel", name := "isWord", desc := "(IIIIIIII)Z" } : Jvm.MethodName)) ∈ lw_tbl := lw_at lw_m6 203 rfl
theorem q1532 : (Jvm.Cond.instanceMethod ({ cls := "NobodyCanLiftItModel", name := "isWord", desc := "(IIIIIIII)Z" } : Jvm.MethodName)) ∈ lw_all := lw_g (lw_at lw_m6 204 rfl) rfl
theorem q1533 : (Jvm.Cond.code ({ cls := "NobodyCanLiftItModel", name := "isWord", desc := "(IIIIIIII)Z" } : Jvm.MethodName) prog_17_method_21_code (9 : Nat) (Option.some Jvm.ClassFile.FieldType.boolean)) ∈ lw_all := lw_g (lw_at lw_m6 205 rfl) rfl
theorem q1534 : (Jvm.Cond.methodLink "NobodyCanLiftItModel" (161 : Nat) ({ cls := "NobodyCanLiftItModel", name := "isLetter", desc := "(II)Z" } : Jvm.MethodName)) ∈ lw_all := lw_g (lw_at lw_m6 206 rfl) rfl
theorem q1535 : (Jvm.Cond.privateMethod ({ cls := "NobodyCanLiftItModel", name := "isLetter", desc := "(II)Z" } : Jvm.MethodName)) ∈ lw_tbl := lw_at lw_m6 207 rfl
theorem q1536 : (Jvm.Cond.instanceMethod ({ cls := "NobodyCanLiftItModel", name := "isLetter", desc := "(II)Z" } : Jvm.MethodName)) ∈ lw_all := lw_g (lw_at lw_m6 208 rfl) rfl
theorem q1537 : (Jvm.Cond.code ({ cls := "NobodyCanLiftItModel", name := "isLetter", desc := "(II)Z" } : Jvm.MethodName) prog_17_method_20_code (3 : Nat) (Option.some Jvm.ClassFile.FieldType.boolean)) ∈ lw_all := lw_g (lw_at lw_m6 209 rfl) rfl
theorem q1538 : (Jvm.Cond.methodLink "NobodyCanLiftItModel" (318 : Nat) ({ cls := "NobodyCanLiftItModel", name := "part", desc := "(Z)I" } : Jvm.MethodName)) ∈ lw_all := lw_g (lw_at lw_m6 210 rfl) rfl
theorem q1539 : (Jvm.Cond.privateMethod ({ cls := "NobodyCanLiftItModel", name := "part", desc := "(Z)I" } : Jvm.MethodName)) ∈ lw_tbl := lw_at lw_m6 211 rfl
theorem q1540 : (Jvm.Cond.instanceMethod ({ cls := "NobodyCanLiftItModel", name := "part", desc := "(Z)I" } : Jvm.MethodName)) ∈ lw_all := lw_g (lw_at lw_m6 212 rfl) rfl
theorem q1541 : (Jvm.Cond.code ({ cls := "NobodyCanLiftItModel", name := "part", desc := "(Z)I" } : Jvm.MethodName) prog_17_method_61_code (3 : Nat) (Option.some Jvm.ClassFile.FieldType.int)) ∈ lw_all := lw_g (lw_at lw_m6 213 rfl) rfl
theorem q1542 : (Jvm.Cond.methodLink "NobodyCanLiftItModel" (167 : Nat) ({ cls := "NobodyCanLiftItModel", name := "fail", desc := "()V" } : Jvm.MethodName)) ∈ lw_all := lw_g (lw_at lw_m6 214 rfl) rfl
theorem q1543 : (Jvm.Cond.privateMethod ({ cls := "NobodyCanLiftItModel", name := "fail", desc := "()V" } : Jvm.MethodName)) ∈ lw_tbl := lw_at lw_m6 215 rfl
theorem q1544 : (Jvm.Cond.instanceMethod ({ cls := "NobodyCanLiftItModel", name := "fail", desc := "()V" } : Jvm.MethodName)) ∈ lw_all := lw_g (lw_at lw_m6 216 rfl) rfl
theorem q1545 : (Jvm.Cond.code ({ cls := "NobodyCanLiftItModel", name := "fail", desc := "()V" } : Jvm.MethodName) prog_17_method_19_code (1 : Nat) (Option.none : Option Jvm.ClassFile.FieldType)) ∈ lw_all := lw_g (lw_at lw_m6 217 rfl) rfl
theorem q1546 : (Jvm.Cond.methodLink "NobodyCanLiftItModel" (315 : Nat) ({ cls := "NobodyCanLiftItModel", name := "either0", desc := "()I" } : Jvm.MethodName)) ∈ lw_all := lw_g (lw_at lw_m6 218 rfl) rfl
theorem q1547 : (Jvm.Cond.privateMethod ({ cls := "NobodyCanLiftItModel", name := "either0", desc := "()I" } : Jvm.MethodName)) ∈ lw_tbl := lw_at lw_m6 219 rfl
theorem q1548 : (Jvm.Cond.instanceMethod ({ cls := "NobodyCanLiftItModel", name := "either0", desc := "()I" } : Jvm.MethodName)) ∈ lw_all := lw_g (lw_at lw_m6 220 rfl) rfl
theorem q1549 : (Jvm.Cond.code ({ cls := "NobodyCanLiftItModel", name := "either0", desc := "()I" } : Jvm.MethodName) prog_17_method_60_code (3 : Nat) (Option.some Jvm.ClassFile.FieldType.int)) ∈ lw_all := lw_g (lw_at lw_m6 221 rfl) rfl
theorem q1550 : (Jvm.Cond.methodLink "NobodyCanLiftItModel" (312 : Nat) ({ cls := "NobodyCanLiftItModel", name := "both0", desc := "()I" } : Jvm.MethodName)) ∈ lw_all := lw_g (lw_at lw_m6 222 rfl) rfl
theorem q1551 : (Jvm.Cond.privateMethod ({ cls := "NobodyCanLiftItModel", name := "both0", desc := "()I" } : Jvm.MethodName)) ∈ lw_tbl := lw_at lw_m6 223 rfl
theorem q1552 : (Jvm.Cond.instanceMethod ({ cls := "NobodyCanLiftItModel", name := "both0", desc := "()I" } : Jvm.MethodName)) ∈ lw_all := lw_g (lw_at lw_m6 224 rfl) rfl
theorem q1553 : (Jvm.Cond.code ({ cls := "NobodyCanLiftItModel", name := "both0", desc := "()I" } : Jvm.MethodName) prog_17_method_59_code (3 : Nat) (Option.some Jvm.ClassFile.FieldType.int)) ∈ lw_all := lw_g (lw_at lw_m6 225 rfl) rfl
theorem q1554 : (Jvm.Cond.methodLink "NobodyCanLiftItModel" (309 : Nat) ({ cls := "NobodyCanLiftItModel", name := "not0", desc := "()I" } : Jvm.MethodName)) ∈ lw_all := lw_g (lw_at lw_m6 226 rfl) rfl
theorem q1555 : (Jvm.Cond.privateMethod ({ cls := "NobodyCanLiftItModel", name := "not0", desc := "()I" } : Jvm.MethodName)) ∈ lw_tbl := lw_at lw_m6 227 rfl
theorem q1556 : (Jvm.Cond.instanceMethod ({ cls := "NobodyCanLiftItModel", name := "not0", desc := "()I" } : Jvm.MethodName)) ∈ lw_all := lw_g (lw_at lw_m6 228 rfl) rfl
theorem q1557 : (Jvm.Cond.code ({ cls := "NobodyCanLiftItModel", name := "not0", desc := "()I" } : Jvm.MethodName) prog_17_method_58_code (4 : Nat) (Option.some Jvm.ClassFile.FieldType.int)) ∈ lw_all := lw_g (lw_at lw_m6 229 rfl) rfl
theorem q1558 : (Jvm.Cond.methodLink "NobodyCanLiftItModel" (198 : Nat) ({ cls := "NobodyCanLiftItModel", name := "opens", desc := "()Z" } : Jvm.MethodName)) ∈ lw_all := lw_g (lw_at lw_m6 230 rfl) rfl
theorem q1559 : (Jvm.Cond.privateMethod ({ cls := "NobodyCanLiftItModel", name := "opens", desc := "()Z" } : Jvm.MethodName)) ∈ lw_tbl := lw_at lw_m6 231 rfl
theorem q1560 : (Jvm.Cond.instanceMethod ({ cls := "NobodyCanLiftItModel", name := "opens", desc := "()Z" } : Jvm.MethodName)) ∈ lw_all := lw_g (lw_at lw_m6 232 rfl) rfl
theorem q1561 : (Jvm.Cond.code ({ cls := "NobodyCanLiftItModel", name := "opens", desc := "()Z" } : Jvm.MethodName) prog_17_method_23_code (1 : Nat) (Option.some Jvm.ClassFile.FieldType.boolean)) ∈ lw_all := lw_g (lw_at lw_m6 233 rfl) rfl
theorem q1562 : (Jvm.Cond.methodLink "NobodyCanLiftItModel" (291 : Nat) ({ cls := "NobodyCanLiftItModel", name := "not1", desc := "()I" } : Jvm.MethodName)) ∈ lw_all := lw_g (lw_at lw_m6 234 rfl) rfl
theorem q1563 : (Jvm.Cond.privateMethod ({ cls := "NobodyCanLiftItModel", name := "not1", desc := "()I" } : Jvm.MethodName)) ∈ lw_tbl := lw_at lw_m6 235 rfl
theorem q1564 : (Jvm.Cond.instanceMethod ({ cls := "NobodyCanLiftItModel", name := "not1", desc := "()I" } : Jvm.MethodName)) ∈ lw_all := lw_g (lw_at lw_m6 236 rfl) rfl
theorem q1565 : (Jvm.Cond.code ({ cls := "NobodyCanLiftItModel", name := "not1", desc := "()I" } : Jvm.MethodName) prog_17_method_52_code (4 : Nat) (Option.some Jvm.ClassFile.FieldType.int)) ∈ lw_all := lw_g (lw_at lw_m6 237 rfl) rfl
theorem q1566 : (Jvm.Cond.methodLink "NobodyCanLiftItModel" (273 : Nat) ({ cls := "NobodyCanLiftItModel", name := "not2", desc := "()I" } : Jvm.MethodName)) ∈ lw_all := lw_g (lw_at lw_m6 238 rfl) rfl
theorem q1567 : (Jvm.Cond.privateMethod ({ cls := "NobodyCanLiftItModel", name := "not2", desc := "()I" } : Jvm.MethodName)) ∈ lw_tbl := lw_at lw_m6 239 rfl
theorem q1568 : (Jvm.Cond.instanceMethod ({ cls := "NobodyCanLiftItModel", name := "not2", desc := "()I" } : Jvm.MethodName)) ∈ lw_all := lw_g (lw_at lw_m7 0 rfl) rfl
theorem q1569 : (Jvm.Cond.code ({ cls := "NobodyCanLiftItModel", name := "not2", desc := "()I" } : Jvm.MethodName) prog_17_method_46_code (4 : Nat) (Option.some Jvm.ClassFile.FieldType.int)) ∈ lw_all := lw_g (lw_at lw_m7 1 rfl) rfl
theorem q1570 : (Jvm.Cond.methodLink "NobodyCanLiftItModel" (255 : Nat) ({ cls := "NobodyCanLiftItModel", name := "not3", desc := "()I" } : Jvm.MethodName)) ∈ lw_all := lw_g (lw_at lw_m7 2 rfl) rfl
theorem q1571 : (Jvm.Cond.privateMethod ({ cls := "NobodyCanLiftItModel", name := "not3", desc := "()I" } : Jvm.MethodName)) ∈ lw_tbl := lw_at lw_m7 3 rfl
theorem q1572 : (Jvm.Cond.instanceMethod ({ cls := "NobodyCanLiftItModel", name := "not3", desc := "()I" } : Jvm.MethodName)) ∈ lw_all := lw_g (lw_at lw_m7 4 rfl) rfl
theorem q1573 : (Jvm.Cond.code ({ cls := "NobodyCanLiftItModel", name := "not3", desc := "()I" } : Jvm.MethodName) prog_17_method_40_code (4 : Nat) (Option.some Jvm.ClassFile.FieldType.int)) ∈ lw_all := lw_g (lw_at lw_m7 5 rfl) rfl
theorem q1574 : (Jvm.Cond.methodLink "NobodyCanLiftItModel" (237 : Nat) ({ cls := "NobodyCanLiftItModel", name := "not4", desc := "()I" } : Jvm.MethodName)) ∈ lw_all := lw_g (lw_at lw_m7 6 rfl) rfl
theorem q1575 : (Jvm.Cond.privateMethod ({ cls := "NobodyCanLiftItModel", name := "not4", desc := "()I" } : Jvm.MethodName)) ∈ lw_tbl := lw_at lw_m7 7 rfl
theorem q1576 : (Jvm.Cond.instanceMethod ({ cls := "NobodyCanLiftItModel", name := "not4", desc := "()I" } : Jvm.MethodName)) ∈ lw_all := lw_g (lw_at lw_m7 8 rfl) rfl
theorem q1577 : (Jvm.Cond.code ({ cls := "NobodyCanLiftItModel", name := "not4", desc := "()I" } : Jvm.MethodName) prog_17_method_34_code (4 : Nat) (Option.some Jvm.ClassFile.FieldType.int)) ∈ lw_all := lw_g (lw_at lw_m7 9 rfl) rfl
theorem q1578 : (Jvm.Cond.methodLink "NobodyCanLiftItModel" (219 : Nat) ({ cls := "NobodyCanLiftItModel", name := "not5", desc := "()I" } : Jvm.MethodName)) ∈ lw_all := lw_g (lw_at lw_m7 10 rfl) rfl
theorem q1579 : (Jvm.Cond.privateMethod ({ cls := "NobodyCanLiftItModel", name := "not5", desc := "()I" } : Jvm.MethodName)) ∈ lw_tbl := lw_at lw_m7 11 rfl
theorem q1580 : (Jvm.Cond.instanceMethod ({ cls := "NobodyCanLiftItModel", name := "not5", desc := "()I" } : Jvm.MethodName)) ∈ lw_all := lw_g (lw_at lw_m7 12 rfl) rfl
theorem q1581 : (Jvm.Cond.code ({ cls := "NobodyCanLiftItModel", name := "not5", desc := "()I" } : Jvm.MethodName) prog_17_method_28_code (4 : Nat) (Option.some Jvm.ClassFile.FieldType.int)) ∈ lw_all := lw_g (lw_at lw_m7 13 rfl) rfl
theorem q1582 : (Jvm.Cond.methodLink "NobodyCanLiftItModel" (214 : Nat) ({ cls := "NobodyCanLiftItModel", name := "added5", desc := "()I" } : Jvm.MethodName)) ∈ lw_all := lw_g (lw_at lw_m7 14 rfl) rfl
theorem q1583 : (Jvm.Cond.privateMethod ({ cls := "NobodyCanLiftItModel", name := "added5", desc := "()I" } : Jvm.MethodName)) ∈ lw_tbl := lw_at lw_m7 15 rfl
theorem q1584 : (Jvm.Cond.instanceMethod ({ cls := "NobodyCanLiftItModel", name := "added5", desc := "()I" } : Jvm.MethodName)) ∈ lw_all := lw_g (lw_at lw_m7 16 rfl) rfl
theorem q1585 : (Jvm.Cond.code ({ cls := "NobodyCanLiftItModel", name := "added5", desc := "()I" } : Jvm.MethodName) prog_17_method_27_code (4 : Nat) (Option.some Jvm.ClassFile.FieldType.int)) ∈ lw_all := lw_g (lw_at lw_m7 17 rfl) rfl
theorem q1586 : (Jvm.Cond.methodLink "NobodyCanLiftItModel" (209 : Nat) ({ cls := "NobodyCanLiftItModel", name := "term5", desc := "()I" } : Jvm.MethodName)) ∈ lw_all := lw_g (lw_at lw_m7 18 rfl) rfl
theorem q1587 : (Jvm.Cond.privateMethod ({ cls := "NobodyCanLiftItModel", name := "term5", desc := "()I" } : Jvm.MethodName)) ∈ lw_tbl := lw_at lw_m7 19 rfl
theorem q1588 : (Jvm.Cond.instanceMethod ({ cls := "NobodyCanLiftItModel", name := "term5", desc := "()I" } : Jvm.MethodName)) ∈ lw_all := lw_g (lw_at lw_m7 20 rfl) rfl
theorem q1589 : (Jvm.Cond.code ({ cls := "NobodyCanLiftItModel", name := "term5", desc := "()I" } : Jvm.MethodName) prog_17_method_26_code (2 : Nat) (Option.some Jvm.ClassFile.FieldType.int)) ∈ lw_all := lw_g (lw_at lw_m7 21 rfl) rfl
theorem q1590 : (Jvm.Cond.methodLink "NobodyCanLiftItModel" (206 : Nat) ({ cls := "NobodyCanLiftItModel", name := "atom5", desc := "()I" } : Jvm.MethodName)) ∈ lw_all := lw_g (lw_at lw_m7 22 rfl) rfl
theorem q1591 : (Jvm.Cond.privateMethod ({ cls := "NobodyCanLiftItModel", name := "atom5", desc := "()I" } : Jvm.MethodName)) ∈ lw_tbl := lw_at lw_m7 23 rfl
theorem q1592 : (Jvm.Cond.instanceMethod ({ cls := "NobodyCanLiftItModel", name := "atom5", desc := "()I" } : Jvm.MethodName)) ∈ lw_all := lw_g (lw_at lw_m7 24 rfl) rfl
theorem q1593 : (Jvm.Cond.code ({ cls := "NobodyCanLiftItModel", name := "atom5", desc := "()I" } : Jvm.MethodName) prog_17_method_25_code (2 : Nat) (Option.some Jvm.ClassFile.FieldType.int)) ∈ lw_all := lw_g (lw_at lw_m7 25 rfl) rfl
theorem q1594 : (Jvm.Cond.methodLink "NobodyCanLiftItModel" (195 : Nat) ({ cls := "NobodyCanLiftItModel", name := "isSign", desc := "(I)Z" } : Jvm.MethodName)) ∈ lw_all := lw_g (lw_at lw_m7 26 rfl) rfl
theorem q1595 : (Jvm.Cond.privateMethod ({ cls := "NobodyCanLiftItModel", name := "isSign", desc := "(I)Z" } : Jvm.MethodName)) ∈ lw_tbl := lw_at lw_m7 27 rfl
theorem q1596 : (Jvm.Cond.instanceMethod ({ cls := "NobodyCanLiftItModel", name := "isSign", desc := "(I)Z" } : Jvm.MethodName)) ∈ lw_all := lw_g (lw_at lw_m7 28 rfl) rfl
theorem q1597 : (Jvm.Cond.code ({ cls := "NobodyCanLiftItModel", name := "isSign", desc := "(I)Z" } : Jvm.MethodName) prog_17_method_22_code (2 : Nat) (Option.some Jvm.ClassFile.FieldType.boolean)) ∈ lw_all := lw_g (lw_at lw_m7 29 rfl) rfl
theorem q1598 : (Jvm.Cond.methodLink "NobodyCanLiftItModel" (202 : Nat) ({ cls := "NobodyCanLiftItModel", name := "name", desc := "()I" } : Jvm.MethodName)) ∈ lw_all := lw_g (lw_at lw_m7 30 rfl) rfl
theorem q1599 : (Jvm.Cond.privateMethod ({ cls := "NobodyCanLiftItModel", name := "name", desc := "()I" } : Jvm.MethodName)) ∈ lw_tbl := lw_at lw_m7 31 rfl
theorem q1600 : (Jvm.Cond.instanceMethod ({ cls := "NobodyCanLiftItModel", name := "name", desc := "()I" } : Jvm.MethodName)) ∈ lw_all := lw_g (lw_at lw_m7 32 rfl) rfl
theorem q1601 : (Jvm.Cond.code ({ cls := "NobodyCanLiftItModel", name := "name", desc := "()I" } : Jvm.MethodName) prog_17_method_24_code (1 : Nat) (Option.some Jvm.ClassFile.FieldType.int)) ∈ lw_all := lw_g (lw_at lw_m7 33 rfl) rfl
theorem q1602 : (Jvm.Cond.constantLong "NobodyCanLiftItModel" (212 : Nat) (43 : Int64)) ∈ lw_all := lw_g (lw_at lw_m7 34 rfl) rfl
theorem q1603 : (Jvm.Cond.constantLong "NobodyCanLiftItModel" (217 : Nat) (60 : Int64)) ∈ lw_all := lw_g (lw_at lw_m7 35 rfl) rfl
theorem q1604 : (Jvm.Cond.methodLink "NobodyCanLiftItModel" (234 : Nat) ({ cls := "NobodyCanLiftItModel", name := "added4", desc := "()I" } : Jvm.MethodName)) ∈ lw_all := lw_g (lw_at lw_m7 36 rfl) rfl
theorem q1605 : (Jvm.Cond.privateMethod ({ cls := "NobodyCanLiftItModel", name := "added4", desc := "()I" } : Jvm.MethodName)) ∈ lw_tbl := lw_at lw_m7 37 rfl
theorem q1606 : (Jvm.Cond.instanceMethod ({ cls := "NobodyCanLiftItModel", name := "added4", desc := "()I" } : Jvm.MethodName)) ∈ lw_all := lw_g (lw_at lw_m7 38 rfl) rfl
theorem q1607 : (Jvm.Cond.code ({ cls := "NobodyCanLiftItModel", name := "added4", desc := "()I" } : Jvm.MethodName) prog_17_method_33_code (4 : Nat) (Option.some Jvm.ClassFile.FieldType.int)) ∈ lw_all := lw_g (lw_at lw_m7 39 rfl) rfl
theorem q1608 : (Jvm.Cond.methodLink "NobodyCanLiftItModel" (231 : Nat) ({ cls := "NobodyCanLiftItModel", name := "term4", desc := "()I" } : Jvm.MethodName)) ∈ lw_all := lw_g (lw_at lw_m7 40 rfl) rfl
theorem q1609 : (Jvm.Cond.privateMethod ({ cls := "NobodyCanLiftItModel", name := "term4", desc := "()I" } : Jvm.MethodName)) ∈ lw_tbl := lw_at lw_m7 41 rfl
theorem q1610 : (Jvm.Cond.instanceMethod ({ cls := "NobodyCanLiftItModel", name := "term4", desc := "()I" } : Jvm.MethodName)) ∈ lw_all := lw_g (lw_at lw_m7 42 rfl) rfl
theorem q1611 : (Jvm.Cond.code ({ cls := "NobodyCanLiftItModel", name := "term4", desc := "()I" } : Jvm.MethodName) prog_17_method_32_code (2 : Nat) (Option.some Jvm.ClassFile.FieldType.int)) ∈ lw_all := lw_g (lw_at lw_m7 43 rfl) rfl
theorem q1612 : (Jvm.Cond.methodLink "NobodyCanLiftItModel" (228 : Nat) ({ cls := "NobodyCanLiftItModel", name := "atom4", desc := "()I" } : Jvm.MethodName)) ∈ lw_all := lw_g (lw_at lw_m7 44 rfl) rfl
theorem q1613 : (Jvm.Cond.privateMethod ({ cls := "NobodyCanLiftItModel", name := "atom4", desc := "()I" } : Jvm.MethodName)) ∈ lw_tbl := lw_at lw_m7 45 rfl
theorem q1614 : (Jvm.Cond.instanceMethod ({ cls := "NobodyCanLiftItModel", name := "atom4", desc := "()I" } : Jvm.MethodName)) ∈ lw_all := lw_g (lw_at lw_m7 46 rfl) rfl
theorem q1615 : (Jvm.Cond.code ({ cls := "NobodyCanLiftItModel", name := "atom4", desc := "()I" } : Jvm.MethodName) prog_17_method_31_code (2 : Nat) (Option.some Jvm.ClassFile.FieldType.int)) ∈ lw_all := lw_g (lw_at lw_m7 47 rfl) rfl
theorem q1616 : (Jvm.Cond.methodLink "NobodyCanLiftItModel" (225 : Nat) ({ cls := "NobodyCanLiftItModel", name := "either5", desc := "()I" } : Jvm.MethodName)) ∈ lw_all := lw_g (lw_at lw_m7 48 rfl) rfl
theorem q1617 : (Jvm.Cond.privateMethod ({ cls := "NobodyCanLiftItModel", name := "either5", desc := "()I" } : Jvm.MethodName)) ∈ lw_tbl := lw_at lw_m7 49 rfl
theorem q1618 : (Jvm.Cond.instanceMethod ({ cls := "NobodyCanLiftItModel", name := "either5", desc := "()I" } : Jvm.MethodName)) ∈ lw_all := lw_g (lw_at lw_m7 50 rfl) rfl
theorem q1619 : (Jvm.Cond.code ({ cls := "NobodyCanLiftItModel", name := "either5", desc := "()I" } : Jvm.MethodName) prog_17_method_30_code (3 : Nat) (Option.some Jvm.ClassFile.FieldType.int)) ∈ lw_all := lw_g (lw_at lw_m7 51 rfl) rfl
theorem q1620 : (Jvm.Cond.methodLink "NobodyCanLiftItModel" (222 : Nat) ({ cls := "NobodyCanLiftItModel", name := "both5", desc := "()I" } : Jvm.MethodName)) ∈ lw_all := lw_g (lw_at lw_m7 52 rfl) rfl
theorem q1621 : (Jvm.Cond.privateMethod ({ cls := "NobodyCanLiftItModel", name := "both5", desc := "()I" } : Jvm.MethodName)) ∈ lw_tbl := lw_at lw_m7 53 rfl
theorem q1622 : (Jvm.Cond.instanceMethod ({ cls := "NobodyCanLiftItModel", name := "both5", desc := "()I" } : Jvm.MethodName)) ∈ lw_all := lw_g (lw_at lw_m7 54 rfl) rfl
theorem q1623 : (Jvm.Cond.code ({ cls := "NobodyCanLiftItModel", name := "both5", desc := "()I" } : Jvm.MethodName) prog_17_method_29_code (3 : Nat) (Option.some Jvm.ClassFile.FieldType.int)) ∈ lw_all := lw_g (lw_at lw_m7 55 rfl) rfl
theorem q1624 : (Jvm.Cond.methodLink "NobodyCanLiftItModel" (252 : Nat) ({ cls := "NobodyCanLiftItModel", name := "added3", desc := "()I" } : Jvm.MethodName)) ∈ lw_all := lw_g (lw_at lw_m7 56 rfl) rfl
theorem q1625 : (Jvm.Cond.privateMethod ({ cls := "NobodyCanLiftItModel", name := "added3", desc := "()I" } : Jvm.MethodName)) ∈ lw_tbl := lw_at lw_m7 57 rfl
theorem q1626 : (Jvm.Cond.instanceMethod ({ cls := "NobodyCanLiftItModel", name := "added3", desc := "()I" } : Jvm.MethodName)) ∈ lw_all := lw_g (lw_at lw_m7 58 rfl) rfl
theorem q1627 : (Jvm.Cond.code ({ cls := "NobodyCanLiftItModel", name := "added3", desc := "()I" } : Jvm.MethodName) prog_17_method_39_code (4 : Nat) (Option.some Jvm.ClassFile.FieldType.int)) ∈ lw_all := lw_g (lw_at lw_m7 59 rfl) rfl
theorem q1628 : (Jvm.Cond.methodLink "NobodyCanLiftItModel" (249 : Nat) ({ cls := "NobodyCanLiftItModel", name := "term3", desc := "()I" } : Jvm.MethodName)) ∈ lw_all := lw_g (lw_at lw_m7 60 rfl) rfl
theorem q1629 : (Jvm.Cond.privateMethod ({ cls := "NobodyCanLiftItModel", name := "term3", desc := "()I" } : Jvm.MethodName)) ∈ lw_tbl := lw_at lw_m7 61 rfl
theorem q1630 : (Jvm.Cond.instanceMethod ({ cls := "NobodyCanLiftItModel", name := "term3", desc := "()I" } : Jvm.MethodName)) ∈ lw_all := lw_g (lw_at lw_m7 62 rfl) rfl
theorem q1631 : (Jvm.Cond.code ({ cls := "NobodyCanLiftItModel", name := "term3", desc := "()I" } : Jvm.MethodName) prog_17_method_38_code (2 : Nat) (Option.some Jvm.ClassFile.FieldType.int)) ∈ lw_all := lw_g (lw_at lw_m7 63 rfl) rfl
theorem q1632 : (Jvm.Cond.methodLink "NobodyCanLiftItModel" (246 : Nat) ({ cls := "NobodyCanLiftItModel", name := "atom3", desc := "()I" } : Jvm.MethodName)) ∈ lw_all := lw_g (lw_at lw_m7 64 rfl) rfl
theorem q1633 : (Jvm.Cond.privateMethod ({ cls := "NobodyCanLiftItModel", name := "atom3", desc := "()I" } : Jvm.MethodName)) ∈ lw_tbl := lw_at lw_m7 65 rfl
theorem q1634 : (Jvm.Cond.instanceMethod ({ cls := "NobodyCanLiftItModel", name := "atom3", desc := "()I" } : Jvm.MethodName)) ∈ lw_all := lw_g (lw_at lw_m7 66 rfl) rfl
theorem q1635 : (Jvm.Cond.code ({ cls := "NobodyCanLiftItModel", name := "atom3", desc := "()I" } : Jvm.MethodName) prog_17_method_37_code (2 : Nat) (Option.some Jvm.ClassFile.FieldType.int)) ∈ lw_all := lw_g (lw_at lw_m7 67 rfl) rfl
theorem q1636 : (Jvm.Cond.methodLink "NobodyCanLiftItModel" (243 : Nat) ({ cls := "NobodyCanLiftItModel", name := "either4", desc := "()I" } : Jvm.MethodName)) ∈ lw_all := lw_g (lw_at lw_m7 68 rfl) rfl
theorem q1637 : (Jvm.Cond.privateMethod ({ cls := "NobodyCanLiftItModel", name := "either4", desc := "()I" } : Jvm.MethodName)) ∈ lw_tbl := lw_at lw_m7 69 rfl
theorem q1638 : (Jvm.Cond.instanceMethod ({ cls := "NobodyCanLiftItModel", name := "either4", desc := "()I" } : Jvm.MethodName)) ∈ lw_all := lw_g (lw_at lw_m7 70 rfl) rfl
theorem q1639 : (Jvm.Cond.code ({ cls := "NobodyCanLiftItModel", name := "either4", desc := "()I" } : Jvm.MethodName) prog_17_method_36_code (3 : Nat) (Option.some Jvm.ClassFile.FieldType.int)) ∈ lw_all := lw_g (lw_at lw_m7 71 rfl) rfl
theorem q1640 : (Jvm.Cond.methodLink "NobodyCanLiftItModel" (240 : Nat) ({ cls := "NobodyCanLiftItModel", name := "both4", desc := "()I" } : Jvm.MethodName)) ∈ lw_all := lw_g (lw_at lw_m7 72 rfl) rfl
theorem q1641 : (Jvm.Cond.privateMethod ({ cls := "NobodyCanLiftItModel", name := "both4", desc := "()I" } : Jvm.MethodName)) ∈ lw_tbl := lw_at lw_m7 73 rfl
theorem q1642 : (Jvm.Cond.instanceMethod ({ cls := "NobodyCanLiftItModel", name := "both4", desc := "()I" } : Jvm.MethodName)) ∈ lw_all := lw_g (lw_at lw_m7 74 rfl) rfl
theorem q1643 : (Jvm.Cond.code ({ cls := "NobodyCanLiftItModel", name := "both4", desc := "()I" } : Jvm.MethodName) prog_17_method_35_code (3 : Nat) (Option.some Jvm.ClassFile.FieldType.int)) ∈ lw_all := lw_g (lw_at lw_m7 75 rfl) rfl
theorem q1644 : (Jvm.Cond.methodLink "NobodyCanLiftItModel" (270 : Nat) ({ cls := "NobodyCanLiftItModel", name := "added2", desc := "()I" } : Jvm.MethodName)) ∈ lw_all := lw_g (lw_at lw_m7 76 rfl) rfl
theorem q1645 : (Jvm.Cond.privateMethod ({ cls := "NobodyCanLiftItModel", name := "added2", desc := "()I" } : Jvm.MethodName)) ∈ lw_tbl := lw_at lw_m7 77 rfl
theorem q1646 : (Jvm.Cond.instanceMethod ({ cls := "NobodyCanLiftItModel", name := "added2", desc := "()I" } : Jvm.MethodName)) ∈ lw_all := lw_g (lw_at lw_m7 78 rfl) rfl
theorem q1647 : (Jvm.Cond.code ({ cls := "NobodyCanLiftItModel", name := "added2", desc := "()I" } : Jvm.MethodName) prog_17_method_45_code (4 : Nat) (Option.some Jvm.ClassFile.FieldType.int)) ∈ lw_all := lw_g (lw_at lw_m7 79 rfl) rfl
theorem q1648 : (Jvm.Cond.methodLink "NobodyCanLiftItModel" (267 : Nat) ({ cls := "NobodyCanLiftItModel", name := "term2", desc := "()I" } : Jvm.MethodName)) ∈ lw_all := lw_g (lw_at lw_m7 80 rfl) rfl
theorem q1649 : (Jvm.Cond.privateMethod ({ cls := "NobodyCanLiftItModel", name := "term2", desc := "()I" } : Jvm.MethodName)) ∈ lw_tbl := lw_at lw_m7 81 rfl
theorem q1650 : (Jvm.Cond.instanceMethod ({ cls := "NobodyCanLiftItModel", name := "term2", desc := "()I" } : Jvm.MethodName)) ∈ lw_all := lw_g (lw_at lw_m7 82 rfl) rfl
theorem q1651 : (Jvm.Cond.code ({ cls := "NobodyCanLiftItModel", name := "term2", desc := "()I" } : Jvm.MethodName) prog_17_method_44_code (2 : Nat) (Option.some Jvm.ClassFile.FieldType.int)) ∈ lw_all := lw_g (lw_at lw_m7 83 rfl) rfl
theorem q1652 : (Jvm.Cond.methodLink "NobodyCanLiftItModel" (264 : Nat) ({ cls := "NobodyCanLiftItModel", name := "atom2", desc := "()I" } : Jvm.MethodName)) ∈ lw_all := lw_g (lw_at lw_m7 84 rfl) rfl
theorem q1653 : (Jvm.Cond.privateMethod ({ cls := "NobodyCanLiftItModel", name := "atom2", desc := "()I" } : Jvm.MethodName)) ∈ lw_tbl := lw_at lw_m7 85 rfl
theorem q1654 : (Jvm.Cond.instanceMethod ({ cls := "NobodyCanLiftItModel", name := "atom2", desc := "()I" } : Jvm.MethodName)) ∈ lw_all := lw_g (lw_at lw_m7 86 rfl) rfl
theorem q1655 : (Jvm.Cond.code ({ cls := "NobodyCanLiftItModel", name := "atom2", desc := "()I" } : Jvm.MethodName) prog_17_method_43_code (2 : Nat) (Option.some Jvm.ClassFile.FieldType.int)) ∈ lw_all := lw_g (lw_at lw_m7 87 rfl) rfl
theorem q1656 : (Jvm.Cond.methodLink "NobodyCanLiftItModel" (261 : Nat) ({ cls := "NobodyCanLiftItModel", name := "either3", desc := "()I" } : Jvm.MethodName)) ∈ lw_all := lw_g (lw_at lw_m7 88 rfl) rfl
theorem q1657 : (Jvm.Cond.privateMethod ({ cls := "NobodyCanLiftItModel", name := "either3", desc := "()I" } : Jvm.MethodName)) ∈ lw_tbl := lw_at lw_m7 89 rfl
theorem q1658 : (Jvm.Cond.instanceMethod ({ cls := "NobodyCanLiftItModel", name := "either3", desc := "()I" } : Jvm.MethodName)) ∈ lw_all := lw_g (lw_at lw_m7 90 rfl) rfl
theorem q1659 : (Jvm.Cond.code ({ cls := "NobodyCanLiftItModel", name := "either3", desc := "()I" } : Jvm.MethodName) prog_17_method_42_code (3 : Nat) (Option.some Jvm.ClassFile.FieldType.int)) ∈ lw_all := lw_g (lw_at lw_m7 91 rfl) rfl
theorem q1660 : (Jvm.Cond.methodLink "NobodyCanLiftItModel" (258 : Nat) ({ cls := "NobodyCanLiftItModel", name := "both3", desc := "()I" } : Jvm.MethodName)) ∈ lw_all := lw_g (lw_at lw_m7 92 rfl) rfl
theorem q1661 : (Jvm.Cond.privateMethod ({ cls := "NobodyCanLiftItModel", name := "both3", desc := "()I" } : Jvm.MethodName)) ∈ lw_tbl := lw_at lw_m7 93 rfl
theorem q1662 : (Jvm.Cond.instanceMethod ({ cls := "NobodyCanLiftItModel", name := "both3", desc := "()I" } : Jvm.MethodName)) ∈ lw_all := lw_g (lw_at lw_m7 94 rfl) rfl
theorem q1663 : (Jvm.Cond.code ({ cls := "NobodyCanLiftItModel", name := "both3", desc := "()I" } : Jvm.MethodName) prog_17_method_41_code (3 : Nat) (Option.some Jvm.ClassFile.FieldType.int)) ∈ lw_all := lw_g (lw_at lw_m7 95 rfl) rfl
theorem q1664 : (Jvm.Cond.methodLink "NobodyCanLiftItModel" (288 : Nat) ({ cls := "NobodyCanLiftItModel", name := "added1", desc := "()I" } : Jvm.MethodName)) ∈ lw_all := lw_g (lw_at lw_m7 96 rfl) rfl
theorem q1665 : (Jvm.Cond.privateMethod ({ cls := "NobodyCanLiftItModel", name := "added1", desc := "()I" } : Jvm.MethodName)) ∈ lw_tbl := lw_at lw_m7 97 rfl
theorem q1666 : (Jvm.Cond.instanceMethod ({ cls := "NobodyCanLiftItModel", name := "added1", desc := "()I" } : Jvm.MethodName)) ∈ lw_all := lw_g (lw_at lw_m7 98 rfl) rfl
theorem q1667 : (Jvm.Cond.code ({ cls := "NobodyCanLiftItModel", name := "added1", desc := "()I" } : Jvm.MethodName) prog_17_method_51_code (4 : Nat) (Option.some Jvm.ClassFile.FieldType.int)) ∈ lw_all := lw_g (lw_at lw_m7 99 rfl) rfl
theorem q1668 : (Jvm.Cond.methodLink "NobodyCanLiftItModel" (285 : Nat) ({ cls := "NobodyCanLiftItModel", name := "term1", desc := "()I" } : Jvm.MethodName)) ∈ lw_all := lw_g (lw_at lw_m7 100 rfl) rfl
theorem q1669 : (Jvm.Cond.privateMethod ({ cls := "NobodyCanLiftItModel", name := "term1", desc := "()I" } : Jvm.MethodName)) ∈ lw_tbl := lw_at lw_m7 101 rfl
theorem q1670 : (Jvm.Cond.instanceMethod ({ cls := "NobodyCanLiftItModel", name := "term1", desc := "()I" } : Jvm.MethodName)) ∈ lw_all := lw_g (lw_at lw_m7 102 rfl) rfl
theorem q1671 : (Jvm.Cond.code ({ cls := "NobodyCanLiftItModel", name := "term1", desc := "()I" } : Jvm.MethodName) prog_17_method_50_code (2 : Nat) (Option.some Jvm.ClassFile.FieldType.int)) ∈ lw_all := lw_g (lw_at lw_m7 103 rfl) rfl
theorem q1672 : (Jvm.Cond.methodLink "NobodyCanLiftItModel" (282 : Nat) ({ cls := "NobodyCanLiftItModel", name := "atom1", desc := "()I" } : Jvm.MethodName)) ∈ lw_all := lw_g (lw_at lw_m7 104 rfl) rfl
theorem q1673 : (Jvm.Cond.privateMethod ({ cls := "NobodyCanLiftItModel", name := "atom1", desc := "()I" } : Jvm.MethodName)) ∈ lw_tbl := lw_at lw_m7 105 rfl
theorem q1674 : (Jvm.Cond.instanceMethod ({ cls := "NobodyCanLiftItModel", name := "atom1", desc := "()I" } : Jvm.MethodName)) ∈ lw_all := lw_g (lw_at lw_m7 106 rfl) rfl
theorem q1675 : (Jvm.Cond.code ({ cls := "NobodyCanLiftItModel", name := "atom1", desc := "()I" } : Jvm.MethodName) prog_17_method_49_code (2 : Nat) (Option.some Jvm.ClassFile.FieldType.int)) ∈ lw_all := lw_g (lw_at lw_m7 107 rfl) rfl
theorem q1676 : (Jvm.Cond.methodLink "NobodyCanLiftItModel" (279 : Nat) ({ cls := "NobodyCanLiftItModel", name := "either2", desc := "()I" } : Jvm.MethodName)) ∈ lw_all := lw_g (lw_at lw_m7 108 rfl) rfl
theorem q1677 : (Jvm.Cond.privateMethod ({ cls := "NobodyCanLiftItModel", name := "either2", desc := "()I" } : Jvm.MethodName)) ∈ lw_tbl := lw_at lw_m7 109 rfl
theorem q1678 : (Jvm.Cond.instanceMethod ({ cls := "NobodyCanLiftItModel", name := "either2", desc := "()I" } : Jvm.MethodName)) ∈ lw_all := lw_g (lw_at lw_m7 110 rfl) rfl
theorem q1679 : (Jvm.Cond.code ({ cls := "NobodyCanLiftItModel", name := "either2", desc := "()I" } : Jvm.MethodName) prog_17_method_48_code (3 : Nat) (Option.some Jvm.ClassFile.FieldType.int)) ∈ lw_all := lw_g (lw_at lw_m7 111 rfl) rfl
theorem q1680 : (Jvm.Cond.methodLink "NobodyCanLiftItModel" (276 : Nat) ({ cls := "NobodyCanLiftItModel", name := "both2", desc := "()I" } : Jvm.MethodName)) ∈ lw_all := lw_g (lw_at lw_m7 112 rfl) rfl
theorem q1681 : (Jvm.Cond.privateMethod ({ cls := "NobodyCanLiftItModel", name := "both2", desc := "()I" } : Jvm.MethodName)) ∈ lw_tbl := lw_at lw_m7 113 rfl
theorem q1682 : (Jvm.Cond.instanceMethod ({ cls := "NobodyCanLiftItModel", name := "both2", desc := "()I" } : Jvm.MethodName)) ∈ lw_all := lw_g (lw_at lw_m7 114 rfl) rfl
theorem q1683 : (Jvm.Cond.code ({ cls := "NobodyCanLiftItModel", name := "both2", desc := "()I" } : Jvm.MethodName) prog_17_method_47_code (3 : Nat) (Option.some Jvm.ClassFile.FieldType.int)) ∈ lw_all := lw_g (lw_at lw_m7 115 rfl) rfl
theorem q1684 : (Jvm.Cond.methodLink "NobodyCanLiftItModel" (306 : Nat) ({ cls := "NobodyCanLiftItModel", name := "added0", desc := "()I" } : Jvm.MethodName)) ∈ lw_all := lw_g (lw_at lw_m7 116 rfl) rfl
theorem q1685 : (Jvm.Cond.privateMethod ({ cls := "NobodyCanLiftItModel", name := "added0", desc := "()I" } : Jvm.MethodName)) ∈ lw_tbl := lw_at lw_m7 117 rfl
theorem q1686 : (Jvm.Cond.instanceMethod ({ cls := "NobodyCanLiftItModel", name := "added0", desc := "()I" } : Jvm.MethodName)) ∈ lw_all := lw_g (lw_at lw_m7 118 rfl) rfl
theorem q1687 : (Jvm.Cond.code ({ cls := "NobodyCanLiftItModel", name := "added0", desc := "()I" } : Jvm.MethodName) prog_17_method_57_code (4 : Nat) (Option.some Jvm.ClassFile.FieldType.int)) ∈ lw_all := lw_g (lw_at lw_m7 119 rfl) rfl
theorem q1688 : (Jvm.Cond.methodLink "NobodyCanLiftItModel" (303 : Nat) ({ cls := "NobodyCanLiftItModel", name := "term0", desc := "()I" } : Jvm.MethodName)) ∈ lw_all := lw_g (lw_at lw_m7 120 rfl) rfl
theorem q1689 : (Jvm.Cond.privateMethod ({ cls := "NobodyCanLiftItModel", name := "term0", desc := "()I" } : Jvm.MethodName)) ∈ lw_tbl := lw_at lw_m7 121 rfl
theorem q1690 : (Jvm.Cond.instanceMethod ({ cls := "NobodyCanLiftItModel", name := "term0", desc := "()I" } : Jvm.MethodName)) ∈ lw_all := lw_g (lw_at lw_m7 122 rfl) rfl
theorem q1691 : (Jvm.Cond.code ({ cls := "NobodyCanLiftItModel", name := "term0", desc := "()I" } : Jvm.MethodName) prog_17_method_56_code (2 : Nat) (Option.some Jvm.ClassFile.FieldType.int)) ∈ lw_all := lw_g (lw_at lw_m7 123 rfl) rfl
theorem q1692 : (Jvm.Cond.methodLink "NobodyCanLiftItModel" (300 : Nat) ({ cls := "NobodyCanLiftItModel", name := "atom0", desc := "()I" } : Jvm.MethodName)) ∈ lw_all := lw_g (lw_at lw_m7 124 rfl) rfl
theorem q1693 : (Jvm.Cond.privateMethod ({ cls := "NobodyCanLiftItModel", name := "atom0", desc := "()I" } : Jvm.MethodName)) ∈ lw_tbl := lw_at lw_m7 125 rfl
theorem q1694 : (Jvm.Cond.instanceMethod ({ cls := "NobodyCanLiftItModel", name := "atom0", desc := "()I" } : Jvm.MethodName)) ∈ lw_all := lw_g (lw_at lw_m7 126 rfl) rfl
theorem q1695 : (Jvm.Cond.code ({ cls := "NobodyCanLiftItModel", name := "atom0", desc := "()I" } : Jvm.MethodName) prog_17_method_55_code (2 : Nat) (Option.some Jvm.ClassFile.FieldType.int)) ∈ lw_all := lw_g (lw_at lw_m7 127 rfl) rfl
theorem q1696 : (Jvm.Cond.methodLink "NobodyCanLiftItModel" (297 : Nat) ({ cls := "NobodyCanLiftItModel", name := "either1", desc := "()I" } : Jvm.MethodName)) ∈ lw_all := lw_g (lw_at lw_m7 128 rfl) rfl
theorem q1697 : (Jvm.Cond.privateMethod ({ cls := "NobodyCanLiftItModel", name := "either1", desc := "()I" } : Jvm.MethodName)) ∈ lw_tbl := lw_at lw_m7 129 rfl
theorem q1698 : (Jvm.Cond.instanceMethod ({ cls := "NobodyCanLiftItModel", name := "either1", desc := "()I" } : Jvm.MethodName)) ∈ lw_all := lw_g (lw_at lw_m7 130 rfl) rfl
theorem q1699 : (Jvm.Cond.code ({ cls := "NobodyCanLiftItModel", name := "either1", desc := "()I" } : Jvm.MethodName) prog_17_method_54_code (3 : Nat) (Option.some Jvm.ClassFile.FieldType.int)) ∈ lw_all := lw_g (lw_at lw_m7 131 rfl) rfl
theorem q1700 : (Jvm.Cond.methodLink "NobodyCanLiftItModel" (294 : Nat) ({ cls := "NobodyCanLiftItModel", name := "both1", desc := "()I" } : Jvm.MethodName)) ∈ lw_all := lw_g (lw_at lw_m7 132 rfl) rfl
theorem q1701 : (Jvm.Cond.privateMethod ({ cls := "NobodyCanLiftItModel", name := "both1", desc := "()I" } : Jvm.MethodName)) ∈ lw_tbl := lw_at lw_m7 133 rfl
theorem q1702 : (Jvm.Cond.instanceMethod ({ cls := "NobodyCanLiftItModel", name := "both1", desc := "()I" } : Jvm.MethodName)) ∈ lw_all := lw_g (lw_at lw_m7 134 rfl) rfl
theorem q1703 : (Jvm.Cond.code ({ cls := "NobodyCanLiftItModel", name := "both1", desc := "()I" } : Jvm.MethodName) prog_17_method_53_code (3 : Nat) (Option.some Jvm.ClassFile.FieldType.int)) ∈ lw_all := lw_g (lw_at lw_m7 135 rfl) rfl
theorem q1704 : (Jvm.Cond.methodLink "NobodyCanLiftItModel" (328 : Nat) ({ cls := "NobodyCanLiftItModel", name := "within", desc := "(III)I" } : Jvm.MethodName)) ∈ lw_all := lw_g (lw_at lw_m7 136 rfl) rfl
theorem q1705 : (Jvm.Cond.static ({ cls := "NobodyCanLiftItModel", name := "within", desc := "(III)I" } : Jvm.MethodName)) ∈ lw_all := lw_g (lw_at lw_m7 137 rfl) rfl
theorem q1706 : (Jvm.Cond.code ({ cls := "NobodyCanLiftItModel", name := "within", desc := "(III)I" } : Jvm.MethodName) prog_17_method_3_code (3 : Nat) (Option.some Jvm.ClassFile.FieldType.int)) ∈ lw_all := lw_g (lw_at lw_m7 138 rfl) rfl
theorem q1707 : (Jvm.Cond.methodLink "NobodyCanLiftItModel" (113 : Nat) ({ cls := "NobodyCanLiftItModel", name := "easedBy", desc := "(I)I" } : Jvm.MethodName)) ∈ lw_all := lw_g (lw_at lw_m7 139 rfl) rfl
theorem q1708 : (Jvm.Cond.privateMethod ({ cls := "NobodyCanLiftItModel", name := "easedBy", desc := "(I)I" } : Jvm.MethodName)) ∈ lw_tbl := lw_at lw_m7 140 rfl
theorem q1709 : (Jvm.Cond.instanceMethod ({ cls := "NobodyCanLiftItModel", name := "easedBy", desc := "(I)I" } : Jvm.MethodName)) ∈ lw_all := lw_g (lw_at lw_m7 141 rfl) rfl
theorem q1710 : (Jvm.Cond.code ({ cls := "NobodyCanLiftItModel", name := "easedBy", desc := "(I)I" } : Jvm.MethodName) prog_17_method_72_code (4 : Nat) (Option.some Jvm.ClassFile.FieldType.int)) ∈ lw_all := lw_g (lw_at lw_m7 142 rfl) rfl
theorem q1711 : (Jvm.Cond.methodLink "NobodyCanLiftItModel" (116 : Nat) ({ cls := "NobodyCanLiftItModel", name := "canLift", desc := "(I)Z" } : Jvm.MethodName)) ∈ lw_all := lw_g (lw_at lw_m7 143 rfl) rfl
theorem q1712 : (Jvm.Cond.privateMethod ({ cls := "NobodyCanLiftItModel", name := "canLift", desc := "(I)Z" } : Jvm.MethodName)) ∈ lw_tbl := lw_at lw_m7 144 rfl
theorem q1713 : (Jvm.Cond.instanceMethod ({ cls := "NobodyCanLiftItModel", name := "canLift", desc := "(I)Z" } : Jvm.MethodName)) ∈ lw_all := lw_g (lw_at lw_m7 145 rfl) rfl
theorem q1714 : (Jvm.Cond.code ({ cls := "NobodyCanLiftItModel", name := "canLift", desc := "(I)Z" } : Jvm.MethodName) prog_17_method_73_code (2 : Nat) (Option.some Jvm.ClassFile.FieldType.boolean)) ∈ lw_all := lw_g (lw_at lw_m7 146 rfl) rfl
theorem q1715 : (Jvm.Cond.methodLink "NobodyCanLiftItModel" (335 : Nat) ({ cls := "NobodyCanLiftItModel", name := "isHere", desc := "(I)Z" } : Jvm.MethodName)) ∈ lw_all := lw_g (lw_at lw_m7 147 rfl) rfl
theorem q1716 : (Jvm.Cond.privateMethod ({ cls := "NobodyCanLiftItModel", name := "isHere", desc := "(I)Z" } : Jvm.MethodName)) ∈ lw_tbl := lw_at lw_m7 148 rfl
theorem q1717 : (Jvm.Cond.instanceMethod ({ cls := "NobodyCanLiftItModel", name := "isHere", desc := "(I)Z" } : Jvm.MethodName)) ∈ lw_all := lw_g (lw_at lw_m7 149 rfl) rfl
theorem q1718 : (Jvm.Cond.code ({ cls := "NobodyCanLiftItModel", name := "isHere", desc := "(I)Z" } : Jvm.MethodName) prog_17_method_13_code (2 : Nat) (Option.some Jvm.ClassFile.FieldType.boolean)) ∈ lw_all := lw_g (lw_at lw_m7 150 rfl) rfl
theorem q1719 : (Jvm.Cond.methodLink "NobodyCanLiftItModel" (349 : Nat) ({ cls := "NobodyCanLiftItModel", name := "weightNow", desc := "()I" } : Jvm.MethodName)) ∈ lw_all := lw_g (lw_at lw_m7 151 rfl) rfl
theorem q1720 : (Jvm.Cond.privateMethod ({ cls := "NobodyCanLiftItModel", name := "weightNow", desc := "()I" } : Jvm.MethodName)) ∈ lw_tbl := lw_at lw_m7 152 rfl
theorem q1721 : (Jvm.Cond.instanceMethod ({ cls := "NobodyCanLiftItModel", name := "weightNow", desc := "()I" } : Jvm.MethodName)) ∈ lw_all := lw_g (lw_at lw_m7 153 rfl) rfl
theorem q1722 : (Jvm.Cond.code ({ cls := "NobodyCanLiftItModel", name := "weightNow", desc := "()I" } : Jvm.MethodName) prog_17_method_67_code (3 : Nat) (Option.some Jvm.ClassFile.FieldType.int)) ∈ lw_all := lw_g (lw_at lw_m7 154 rfl) rfl
theorem q1723 : (Jvm.Cond.methodLink "NobodyCanLiftItModel" (338 : Nat) ({ cls := "NobodyCanLiftItModel", name := "feelsOf", desc := "(I)I" } : Jvm.MethodName)) ∈ lw_all := lw_g (lw_at lw_m7 155 rfl) rfl
theorem q1724 : (Jvm.Cond.privateMethod ({ cls := "NobodyCanLiftItModel", name := "feelsOf", desc := "(I)I" } : Jvm.MethodName)) ∈ lw_tbl := lw_at lw_m7 156 rfl
theorem q1725 : (Jvm.Cond.instanceMethod ({ cls := "NobodyCanLiftItModel", name := "feelsOf", desc := "(I)I" } : Jvm.MethodName)) ∈ lw_all := lw_g (lw_at lw_m7 157 rfl) rfl
theorem q1726 : (Jvm.Cond.code ({ cls := "NobodyCanLiftItModel", name := "feelsOf", desc := "(I)I" } : Jvm.MethodName) prog_17_method_66_code (6 : Nat) (Option.some Jvm.ClassFile.FieldType.int)) ∈ lw_all := lw_g (lw_at lw_m7 158 rfl) rfl
theorem q1727 : (Jvm.Cond.methodLink "NobodyCanLiftItModel" (91 : Nat) ({ cls := "NobodyCanLiftItModel", name := "lays", desc := "(III)V" } : Jvm.MethodName)) ∈ lw_all := lw_g (lw_at lw_m7 159 rfl) rfl
theorem q1728 : (Jvm.Cond.privateMethod ({ cls := "NobodyCanLiftItModel", name := "lays", desc := "(III)V" } : Jvm.MethodName)) ∈ lw_tbl := lw_at lw_m7 160 rfl
theorem q1729 : (Jvm.Cond.instanceMethod ({ cls := "NobodyCanLiftItModel", name := "lays", desc := "(III)V" } : Jvm.MethodName)) ∈ lw_all := lw_g (lw_at lw_m7 161 rfl) rfl
theorem q1730 : (Jvm.Cond.code ({ cls := "NobodyCanLiftItModel", name := "lays", desc := "(III)V" } : Jvm.MethodName) prog_17_method_10_code (4 : Nat) (Option.none : Option Jvm.ClassFile.FieldType)) ∈ lw_all := lw_g (lw_at lw_m7 162 rfl) rfl
theorem q1732 : (Jvm.Cond.instanceMethod ({ cls := "NobodyCanLiftItModel", name := "person", desc := "(III)I" } : Jvm.MethodName)) ∈ lw_all := lw_g (lw_at lw_m7 164 rfl) rfl
theorem q1733 : (Jvm.Cond.selects "NobodyCanLiftItModel" ({ cls := "NobodyCanLiftItModel", name := "person", desc := "(III)I" } : Jvm.MethodName) ({ cls := "NobodyCanLiftItModel", name := "person", desc := "(III)I" } : Jvm.MethodName)) ∈ lw_all := lw_g (lw_at lw_m7 165 rfl) rfl
theorem q1734 : (Jvm.Cond.code ({ cls := "NobodyCanLiftItModel", name := "person", desc := "(III)I" } : Jvm.MethodName) prog_17_method_11_code (4 : Nat) (Option.some Jvm.ClassFile.FieldType.int)) ∈ lw_all := lw_g (lw_at lw_m7 166 rfl) rfl
theorem q1735 : (Jvm.Cond.constantLong "NobodyCanLiftItModel" (104 : Nat) (5 : Int64)) ∈ lw_all := lw_g (lw_at lw_m7 167 rfl) rfl
theorem q1736 : (Jvm.Cond.constantLong "NobodyCanLiftItModel" (106 : Nat) (999 : Int64)) ∈ lw_all := lw_g (lw_at lw_m7 168 rfl) rfl
theorem q1739 : (Jvm.Cond.instanceMethod ({ cls := "NobodyCanLiftItModel", name := "feed", desc := "(I)I" } : Jvm.MethodName)) ∈ lw_all := lw_g (lw_at lw_m7 171 rfl) rfl
theorem q1740 : (Jvm.Cond.selects "NobodyCanLiftItModel" ({ cls := "NobodyCanLiftItModel", name := "feed", desc := "(I)I" } : Jvm.MethodName) ({ cls := "NobodyCanLiftItModel", name := "feed", desc := "(I)I" } : Jvm.MethodName)) ∈ lw_all := lw_g (lw_at lw_m7 172 rfl) rfl
theorem q1741 : (Jvm.Cond.code ({ cls := "NobodyCanLiftItModel", name := "feed", desc := "(I)I" } : Jvm.MethodName) prog_17_method_16_code (2 : Nat) (Option.some Jvm.ClassFile.FieldType.int)) ∈ lw_all := lw_g (lw_at lw_m7 173 rfl) rfl
theorem q1742 : (Jvm.Cond.constantLong "NobodyCanLiftItModel" (119 : Nat) (255 : Int64)) ∈ lw_all := lw_g (lw_at lw_m7 174 rfl) rfl
theorem q1744 : (Jvm.Cond.instanceMethod ({ cls := "NobodyCanLiftItModel", name := "text", desc := "()I" } : Jvm.MethodName)) ∈ lw_all := lw_g (lw_at lw_m7 176 rfl) rfl
theorem q1745 : (Jvm.Cond.selects "NobodyCanLiftItModel" ({ cls := "NobodyCanLiftItModel", name := "text", desc := "()I" } : Jvm.MethodName) ({ cls := "NobodyCanLiftItModel", name := "text", desc := "()I" } : Jvm.MethodName)) ∈ lw_all := lw_g (lw_at lw_m7 177 rfl) rfl
theorem q1746 : (Jvm.Cond.code ({ cls := "NobodyCanLiftItModel", name := "text", desc := "()I" } : Jvm.MethodName) prog_17_method_63_code (2 : Nat) (Option.some Jvm.ClassFile.FieldType.int)) ∈ lw_all := lw_g (lw_at lw_m7 178 rfl) rfl
theorem q1748 : (Jvm.Cond.instanceMethod ({ cls := "NobodyCanLiftItModel", name := "force", desc := "(I)I" } : Jvm.MethodName)) ∈ lw_all := lw_g (lw_at lw_m7 180 rfl) rfl
theorem q1749 : (Jvm.Cond.selects "NobodyCanLiftItModel" ({ cls := "NobodyCanLiftItModel", name := "force", desc := "(I)I" } : Jvm.MethodName) ({ cls := "NobodyCanLiftItModel", name := "force", desc := "(I)I" } : Jvm.MethodName)) ∈ lw_all := lw_g (lw_at lw_m7 181 rfl) rfl
theorem q1750 : (Jvm.Cond.code ({ cls := "NobodyCanLiftItModel", name := "force", desc := "(I)I" } : Jvm.MethodName) prog_17_method_64_code (3 : Nat) (Option.some Jvm.ClassFile.FieldType.int)) ∈ lw_all := lw_g (lw_at lw_m7 182 rfl) rfl
theorem q1752 : (Jvm.Cond.instanceMethod ({ cls := "NobodyCanLiftItModel", name := "feels", desc := "(II)J" } : Jvm.MethodName)) ∈ lw_all := lw_g (lw_at lw_m7 184 rfl) rfl
theorem q1753 : (Jvm.Cond.selects "NobodyCanLiftItModel" ({ cls := "NobodyCanLiftItModel", name := "feels", desc := "(II)J" } : Jvm.MethodName) ({ cls := "NobodyCanLiftItModel", name := "feels", desc := "(II)J" } : Jvm.MethodName)) ∈ lw_all := lw_g (lw_at lw_m7 185 rfl) rfl
theorem q1754 : (Jvm.Cond.code ({ cls := "NobodyCanLiftItModel", name := "feels", desc := "(II)J" } : Jvm.MethodName) prog_17_method_69_code (3 : Nat) (Option.some Jvm.ClassFile.FieldType.long)) ∈ lw_all := lw_g (lw_at lw_m7 186 rfl) rfl
theorem q1755 : (Jvm.Cond.constantLong "NobodyCanLiftItModel" (341 : Nat) (15120 : Int64)) ∈ lw_all := lw_g (lw_at lw_m7 187 rfl) rfl
theorem q1756 : (Jvm.Cond.methodLink "NobodyCanLiftItModel" (343 : Nat) ({ cls := "NobodyCanLiftItModel", name := "lowest", desc := "(JJI)J" } : Jvm.MethodName)) ∈ lw_all := lw_g (lw_at lw_m7 188 rfl) rfl
theorem q1757 : (Jvm.Cond.static ({ cls := "NobodyCanLiftItModel", name := "lowest", desc := "(JJI)J" } : Jvm.MethodName)) ∈ lw_all := lw_g (lw_at lw_m7 189 rfl) rfl
theorem q1758 : (Jvm.Cond.code ({ cls := "NobodyCanLiftItModel", name := "lowest", desc := "(JJI)J" } : Jvm.MethodName) prog_17_method_68_code (11 : Nat) (Option.some Jvm.ClassFile.FieldType.long)) ∈ lw_all := lw_g (lw_at lw_m7 190 rfl) rfl
theorem q1759 : (Jvm.Cond.constantLong "NobodyCanLiftItModel" (347 : Nat) (-4611686018427387904 : Int64)) ∈ lw_all := lw_g (lw_at lw_m7 191 rfl) rfl
theorem q1761 : (Jvm.Cond.instanceMethod ({ cls := "NobodyCanLiftItModel", name := "weight", desc := "(I)J" } : Jvm.MethodName)) ∈ lw_all := lw_g (lw_at lw_m7 193 rfl) rfl
theorem q1762 : (Jvm.Cond.selects "NobodyCanLiftItModel" ({ cls := "NobodyCanLiftItModel", name := "weight", desc := "(I)J" } : Jvm.MethodName) ({ cls := "NobodyCanLiftItModel", name := "weight", desc := "(I)J" } : Jvm.MethodName)) ∈ lw_all := lw_g (lw_at lw_m7 194 rfl) rfl
theorem q1763 : (Jvm.Cond.code ({ cls := "NobodyCanLiftItModel", name := "weight", desc := "(I)J" } : Jvm.MethodName) prog_17_method_70_code (2 : Nat) (Option.some Jvm.ClassFile.FieldType.long)) ∈ lw_all := lw_g (lw_at lw_m7 195 rfl) rfl
theorem q1765 : (Jvm.Cond.instanceMethod ({ cls := "NobodyCanLiftItModel", name := "year", desc := "()I" } : Jvm.MethodName)) ∈ lw_all := lw_g (lw_at lw_m7 197 rfl) rfl
theorem q1766 : (Jvm.Cond.selects "NobodyCanLiftItModel" ({ cls := "NobodyCanLiftItModel", name := "year", desc := "()I" } : Jvm.MethodName) ({ cls := "NobodyCanLiftItModel", name := "year", desc := "()I" } : Jvm.MethodName)) ∈ lw_all := lw_g (lw_at lw_m7 198 rfl) rfl
theorem q1767 : (Jvm.Cond.code ({ cls := "NobodyCanLiftItModel", name := "year", desc := "()I" } : Jvm.MethodName) prog_17_method_75_code (1 : Nat) (Option.some Jvm.ClassFile.FieldType.int)) ∈ lw_all := lw_g (lw_at lw_m7 199 rfl) rfl
theorem q1768 : (Jvm.Cond.methodLink "NobodyCanLiftItModel" (352 : Nat) ({ cls := "NobodyCanLiftItModel", name := "passes", desc := "()V" } : Jvm.MethodName)) ∈ lw_all := lw_g (lw_at lw_m7 200 rfl) rfl
theorem q1769 : (Jvm.Cond.privateMethod ({ cls := "NobodyCanLiftItModel", name := "passes", desc := "()V" } : Jvm.MethodName)) ∈ lw_tbl := lw_at lw_m7 201 rfl
theorem q1770 : (Jvm.Cond.instanceMethod ({ cls := "NobodyCanLiftItModel", name := "passes", desc := "()V" } : Jvm.MethodName)) ∈ lw_all := lw_g (lw_at lw_m7 202 rfl) rfl
theorem q1771 : (Jvm.Cond.code ({ cls := "NobodyCanLiftItModel", name := "passes", desc := "()V" } : Jvm.MethodName) prog_17_method_74_code (3 : Nat) (Option.none : Option Jvm.ClassFile.FieldType)) ∈ lw_all := lw_g (lw_at lw_m7 203 rfl) rfl
theorem q1773 : (Jvm.Cond.instanceMethod ({ cls := "NobodyCanLiftItModel", name := "lift", desc := "(I)I" } : Jvm.MethodName)) ∈ lw_all := lw_g (lw_at lw_m7 205 rfl) rfl
theorem q1774 : (Jvm.Cond.selects "NobodyCanLiftItModel" ({ cls := "NobodyCanLiftItModel", name := "lift", desc := "(I)I" } : Jvm.MethodName) ({ cls := "NobodyCanLiftItModel", name := "lift", desc := "(I)I" } : Jvm.MethodName)) ∈ lw_all := lw_g (lw_at lw_m7 206 rfl) rfl
theorem q1775 : (Jvm.Cond.code ({ cls := "NobodyCanLiftItModel", name := "lift", desc := "(I)I" } : Jvm.MethodName) prog_17_method_76_code (3 : Nat) (Option.some Jvm.ClassFile.FieldType.int)) ∈ lw_all := lw_g (lw_at lw_m7 207 rfl) rfl
theorem q1777 : (Jvm.Cond.instanceMethod ({ cls := "NobodyCanLiftItModel", name := "run", desc := "(III)I" } : Jvm.MethodName)) ∈ lw_all := lw_g (lw_at lw_m7 209 rfl) rfl
theorem q1778 : (Jvm.Cond.selects "NobodyCanLiftItModel" ({ cls := "NobodyCanLiftItModel", name := "run", desc := "(III)I" } : Jvm.MethodName) ({ cls := "NobodyCanLiftItModel", name := "run", desc := "(III)I" } : Jvm.MethodName)) ∈ lw_all := lw_g (lw_at lw_m7 210 rfl) rfl
theorem q1779 : (Jvm.Cond.code ({ cls := "NobodyCanLiftItModel", name := "run", desc := "(III)I" } : Jvm.MethodName) prog_17_method_81_code (5 : Nat) (Option.some Jvm.ClassFile.FieldType.int)) ∈ lw_all := lw_g (lw_at lw_m7 211 rfl) rfl
theorem q1780 : (Jvm.Cond.methodLink "NobodyCanLiftItModel" (355 : Nat) ({ cls := "NobodyCanLiftItModel", name := "laysAside", desc := "()V" } : Jvm.MethodName)) ∈ lw_all := lw_g (lw_at lw_m7 212 rfl) rfl
theorem q1781 : (Jvm.Cond.privateMethod ({ cls := "NobodyCanLiftItModel", name := "laysAside", desc := "()V" } : Jvm.MethodName)) ∈ lw_tbl := lw_at lw_m7 213 rfl
theorem q1782 : (Jvm.Cond.instanceMethod ({ cls := "NobodyCanLiftItModel", name := "laysAside", desc := "()V" } : Jvm.MethodName)) ∈ lw_all := lw_g (lw_at lw_m7 214 rfl) rfl
theorem q1783 : (Jvm.Cond.code ({ cls := "NobodyCanLiftItModel", name := "laysAside", desc := "()V" } : Jvm.MethodName) prog_17_method_77_code (2 : Nat) (Option.none : Option Jvm.ClassFile.FieldType)) ∈ lw_all := lw_g (lw_at lw_m7 215 rfl) rfl
theorem q1784 : (Jvm.Cond.methodLink "NobodyCanLiftItModel" (358 : Nat) ({ cls := "NobodyCanLiftItModel", name := "go", desc := "(I)V" } : Jvm.MethodName)) ∈ lw_all := lw_g (lw_at lw_m7 216 rfl) rfl
theorem q1785 : (Jvm.Cond.privateMethod ({ cls := "NobodyCanLiftItModel", name := "go", desc := "(I)V" } : Jvm.MethodName)) ∈ lw_tbl := lw_at lw_m7 217 rfl
theorem q1786 : (Jvm.Cond.instanceMethod ({ cls := "NobodyCanLiftItModel", name := "go", desc := "(I)V" } : Jvm.MethodName)) ∈ lw_all := lw_g (lw_at lw_m7 218 rfl) rfl
theorem q1787 : (Jvm.Cond.code ({ cls := "NobodyCanLiftItModel", name := "go", desc := "(I)V" } : Jvm.MethodName) prog_17_method_79_code (3 : Nat) (Option.none : Option Jvm.ClassFile.FieldType)) ∈ lw_all := lw_g (lw_at lw_m7 219 rfl) rfl
theorem q1788 : (Jvm.Cond.methodLink "NobodyCanLiftItModel" (362 : Nat) ({ cls := "NobodyCanLiftItModel", name := "laysBack", desc := "()V" } : Jvm.MethodName)) ∈ lw_all := lw_g (lw_at lw_m7 220 rfl) rfl
theorem q1789 : (Jvm.Cond.privateMethod ({ cls := "NobodyCanLiftItModel", name := "laysBack", desc := "()V" } : Jvm.MethodName)) ∈ lw_tbl := lw_at lw_m7 221 rfl
theorem q1790 : (Jvm.Cond.instanceMethod ({ cls := "NobodyCanLiftItModel", name := "laysBack", desc := "()V" } : Jvm.MethodName)) ∈ lw_all := lw_g (lw_at lw_m7 222 rfl) rfl
theorem q1791 : (Jvm.Cond.code ({ cls := "NobodyCanLiftItModel", name := "laysBack", desc := "()V" } : Jvm.MethodName) prog_17_method_78_code (2 : Nat) (Option.none : Option Jvm.ClassFile.FieldType)) ∈ lw_all := lw_g (lw_at lw_m7 223 rfl) rfl
theorem q1793 : (Jvm.Cond.instanceMethod ({ cls := "NobodyCanLiftItModel", name := "heavy", desc := "(II)J" } : Jvm.MethodName)) ∈ lw_all := lw_g (lw_at lw_m7 225 rfl) rfl
theorem q1794 : (Jvm.Cond.selects "NobodyCanLiftItModel" ({ cls := "NobodyCanLiftItModel", name := "heavy", desc := "(II)J" } : Jvm.MethodName) ({ cls := "NobodyCanLiftItModel", name := "heavy", desc := "(II)J" } : Jvm.MethodName)) ∈ lw_all := lw_g (lw_at lw_m7 226 rfl) rfl
theorem q1795 : (Jvm.Cond.code ({ cls := "NobodyCanLiftItModel", name := "heavy", desc := "(II)J" } : Jvm.MethodName) prog_17_method_82_code (5 : Nat) (Option.some Jvm.ClassFile.FieldType.long)) ∈ lw_all := lw_g (lw_at lw_m7 227 rfl) rfl
theorem q1797 : (Jvm.Cond.instanceMethod ({ cls := "NobodyCanLiftItModel", name := "when", desc := "(II)I" } : Jvm.MethodName)) ∈ lw_all := lw_g (lw_at lw_m7 229 rfl) rfl
theorem q1798 : (Jvm.Cond.selects "NobodyCanLiftItModel" ({ cls := "NobodyCanLiftItModel", name := "when", desc := "(II)I" } : Jvm.MethodName) ({ cls := "NobodyCanLiftItModel", name := "when", desc := "(II)I" } : Jvm.MethodName)) ∈ lw_all := lw_g (lw_at lw_m7 230 rfl) rfl
theorem q1799 : (Jvm.Cond.code ({ cls := "NobodyCanLiftItModel", name := "when", desc := "(II)I" } : Jvm.MethodName) prog_17_method_83_code (4 : Nat) (Option.some Jvm.ClassFile.FieldType.int)) ∈ lw_all := lw_g (lw_at lw_m7 231 rfl) rfl
theorem q1801 : (Jvm.Cond.instanceMethod ({ cls := "NobodyCanLiftItModel", name := "best", desc := "(I)I" } : Jvm.MethodName)) ∈ lw_all := lw_g (lw_at lw_m7 233 rfl) rfl
theorem q1802 : (Jvm.Cond.selects "NobodyCanLiftItModel" ({ cls := "NobodyCanLiftItModel", name := "best", desc := "(I)I" } : Jvm.MethodName) ({ cls := "NobodyCanLiftItModel", name := "best", desc := "(I)I" } : Jvm.MethodName)) ∈ lw_all := lw_g (lw_at lw_m7 234 rfl) rfl
theorem q1803 : (Jvm.Cond.code ({ cls := "NobodyCanLiftItModel", name := "best", desc := "(I)I" } : Jvm.MethodName) prog_17_method_89_code (3 : Nat) (Option.some Jvm.ClassFile.FieldType.int)) ∈ lw_all := lw_g (lw_at lw_m7 235 rfl) rfl
theorem q1804 : (Jvm.Cond.constantLong "NobodyCanLiftItModel" (377 : Nat) (3 : Int64)) ∈ lw_all := lw_g (lw_at lw_m7 236 rfl) rfl
theorem q1805 : (Jvm.Cond.methodLink "NobodyCanLiftItModel" (379 : Nat) ({ cls := "NobodyCanLiftItModel", name := "lightest", desc := "()I" } : Jvm.MethodName)) ∈ lw_all := lw_g (lw_at lw_m7 237 rfl) rfl
theorem q1806 : (Jvm.Cond.privateMethod ({ cls := "NobodyCanLiftItModel", name := "lightest", desc := "()I" } : Jvm.MethodName)) ∈ lw_tbl := lw_at lw_m7 238 rfl
theorem q1807 : (Jvm.Cond.instanceMethod ({ cls := "NobodyCanLiftItModel", name := "lightest", desc := "()I" } : Jvm.MethodName)) ∈ lw_all := lw_g (lw_at lw_m7 239 rfl) rfl
theorem q1808 : (Jvm.Cond.code ({ cls := "NobodyCanLiftItModel", name := "lightest", desc := "()I" } : Jvm.MethodName) prog_17_method_88_code (5 : Nat) (Option.some Jvm.ClassFile.FieldType.int)) ∈ lw_all := lw_g (lw_at lw_m8 0 rfl) rfl
theorem q1809 : (Jvm.Cond.methodLink "NobodyCanLiftItModel" (365 : Nat) ({ cls := "NobodyCanLiftItModel", name := "hereSet", desc := "()I" } : Jvm.MethodName)) ∈ lw_all := lw_g (lw_at lw_m8 1 rfl) rfl
theorem q1810 : (Jvm.Cond.privateMethod ({ cls := "NobodyCanLiftItModel", name := "hereSet", desc := "()I" } : Jvm.MethodName)) ∈ lw_tbl := lw_at lw_m8 2 rfl
theorem q1811 : (Jvm.Cond.instanceMethod ({ cls := "NobodyCanLiftItModel", name := "hereSet", desc := "()I" } : Jvm.MethodName)) ∈ lw_all := lw_g (lw_at lw_m8 3 rfl) rfl
theorem q1812 : (Jvm.Cond.code ({ cls := "NobodyCanLiftItModel", name := "hereSet", desc := "()I" } : Jvm.MethodName) prog_17_method_15_code (3 : Nat) (Option.some Jvm.ClassFile.FieldType.int)) ∈ lw_all := lw_g (lw_at lw_m8 4 rfl) rfl
theorem q1813 : (Jvm.Cond.methodLink "NobodyCanLiftItModel" (382 : Nat) ({ cls := "NobodyCanLiftItModel", name := "leaveSet", desc := "()I" } : Jvm.MethodName)) ∈ lw_all := lw_g (lw_at lw_m8 5 rfl) rfl
theorem q1814 : (Jvm.Cond.privateMethod ({ cls := "NobodyCanLiftItModel", name := "leaveSet", desc := "()I" } : Jvm.MethodName)) ∈ lw_tbl := lw_at lw_m8 6 rfl
theorem q1815 : (Jvm.Cond.instanceMethod ({ cls := "NobodyCanLiftItModel", name := "leaveSet", desc := "()I" } : Jvm.MethodName)) ∈ lw_all := lw_g (lw_at lw_m8 7 rfl) rfl
theorem q1816 : (Jvm.Cond.code ({ cls := "NobodyCanLiftItModel", name := "leaveSet", desc := "()I" } : Jvm.MethodName) prog_17_method_87_code (4 : Nat) (Option.some Jvm.ClassFile.FieldType.int)) ∈ lw_all := lw_g (lw_at lw_m8 8 rfl) rfl
theorem q1817 : (Jvm.Cond.methodLink "NobodyCanLiftItModel" (368 : Nat) ({ cls := "NobodyCanLiftItModel", name := "bitsOf", desc := "(I)I" } : Jvm.MethodName)) ∈ lw_all := lw_g (lw_at lw_m8 9 rfl) rfl
theorem q1818 : (Jvm.Cond.static ({ cls := "NobodyCanLiftItModel", name := "bitsOf", desc := "(I)I" } : Jvm.MethodName)) ∈ lw_all := lw_g (lw_at lw_m8 10 rfl) rfl
theorem q1819 : (Jvm.Cond.code ({ cls := "NobodyCanLiftItModel", name := "bitsOf", desc := "(I)I" } : Jvm.MethodName) prog_17_method_84_code (3 : Nat) (Option.some Jvm.ClassFile.FieldType.int)) ∈ lw_all := lw_g (lw_at lw_m8 11 rfl) rfl
theorem q1820 : (Jvm.Cond.methodLink "NobodyCanLiftItModel" (371 : Nat) ({ cls := "NobodyCanLiftItModel", name := "hereJust", desc := "(I)V" } : Jvm.MethodName)) ∈ lw_all := lw_g (lw_at lw_m8 12 rfl) rfl
theorem q1821 : (Jvm.Cond.privateMethod ({ cls := "NobodyCanLiftItModel", name := "hereJust", desc := "(I)V" } : Jvm.MethodName)) ∈ lw_tbl := lw_at lw_m8 13 rfl
theorem q1822 : (Jvm.Cond.instanceMethod ({ cls := "NobodyCanLiftItModel", name := "hereJust", desc := "(I)V" } : Jvm.MethodName)) ∈ lw_all := lw_g (lw_at lw_m8 14 rfl) rfl
theorem q1823 : (Jvm.Cond.code ({ cls := "NobodyCanLiftItModel", name := "hereJust", desc := "(I)V" } : Jvm.MethodName) prog_17_method_85_code (3 : Nat) (Option.none : Option Jvm.ClassFile.FieldType)) ∈ lw_all := lw_g (lw_at lw_m8 15 rfl) rfl
theorem q1824 : (Jvm.Cond.methodLink "NobodyCanLiftItModel" (374 : Nat) ({ cls := "NobodyCanLiftItModel", name := "anyCan", desc := "()Z" } : Jvm.MethodName)) ∈ lw_all := lw_g (lw_at lw_m8 16 rfl) rfl
theorem q1825 : (Jvm.Cond.privateMethod ({ cls := "NobodyCanLiftItModel", name := "anyCan", desc := "()Z" } : Jvm.MethodName)) ∈ lw_tbl := lw_at lw_m8 17 rfl
theorem q1826 : (Jvm.Cond.instanceMethod ({ cls := "NobodyCanLiftItModel", name := "anyCan", desc := "()Z" } : Jvm.MethodName)) ∈ lw_all := lw_g (lw_at lw_m8 18 rfl) rfl
theorem q1827 : (Jvm.Cond.code ({ cls := "NobodyCanLiftItModel", name := "anyCan", desc := "()Z" } : Jvm.MethodName) prog_17_method_86_code (3 : Nat) (Option.some Jvm.ClassFile.FieldType.boolean)) ∈ lw_all := lw_g (lw_at lw_m8 19 rfl) rfl
theorem q1829 : (Jvm.Cond.instanceMethod ({ cls := "NobodyCanLiftItModel", name := "prop", desc := "(III)I" } : Jvm.MethodName)) ∈ lw_all := lw_g (lw_at lw_m8 21 rfl) rfl
theorem q1830 : (Jvm.Cond.selects "NobodyCanLiftItModel" ({ cls := "NobodyCanLiftItModel", name := "prop", desc := "(III)I" } : Jvm.MethodName) ({ cls := "NobodyCanLiftItModel", name := "prop", desc := "(III)I" } : Jvm.MethodName)) ∈ lw_all := lw_g (lw_at lw_m8 22 rfl) rfl
theorem q1831 : (Jvm.Cond.code ({ cls := "NobodyCanLiftItModel", name := "prop", desc := "(III)I" } : Jvm.MethodName) prog_17_method_90_code (9 : Nat) (Option.some Jvm.ClassFile.FieldType.int)) ∈ lw_all := lw_g (lw_at lw_m8 23 rfl) rfl
theorem q1832 : (Jvm.Cond.constantLong "NobodyCanLiftItModel" (385 : Nat) (40 : Int64)) ∈ lw_all := lw_g (lw_at lw_m8 24 rfl) rfl
theorem q1833 : (Jvm.Cond.constantLong "NobodyCanLiftItModel" (387 : Nat) (99 : Int64)) ∈ lw_all := lw_g (lw_at lw_m8 25 rfl) rfl
theorem q1834 : (Jvm.Cond.methodLink "NobodyCanLiftItModel" (389 : Nat) ({ cls := "NobodyCanLiftItModel", name := "floorBehind", desc := "(I)I" } : Jvm.MethodName)) ∈ lw_all := lw_g (lw_at lw_m8 26 rfl) rfl
theorem q1835 : (Jvm.Cond.privateMethod ({ cls := "NobodyCanLiftItModel", name := "floorBehind", desc := "(I)I" } : Jvm.MethodName)) ∈ lw_tbl := lw_at lw_m8 27 rfl
theorem q1836 : (Jvm.Cond.instanceMethod ({ cls := "NobodyCanLiftItModel", name := "floorBehind", desc := "(I)I" } : Jvm.MethodName)) ∈ lw_all := lw_g (lw_at lw_m8 28 rfl) rfl
theorem q1837 : (Jvm.Cond.code ({ cls := "NobodyCanLiftItModel", name := "floorBehind", desc := "(I)I" } : Jvm.MethodName) prog_17_method_80_code (3 : Nat) (Option.some Jvm.ClassFile.FieldType.int)) ∈ lw_all := lw_g (lw_at lw_m8 29 rfl) rfl
theorem q1839 : (Jvm.Cond.instanceMethod ({ cls := "NobodyCanLiftItModel", name := "sit", desc := "(II)I" } : Jvm.MethodName)) ∈ lw_all := lw_g (lw_at lw_m8 31 rfl) rfl
theorem q1840 : (Jvm.Cond.selects "NobodyCanLiftItModel" ({ cls := "NobodyCanLiftItModel", name := "sit", desc := "(II)I" } : Jvm.MethodName) ({ cls := "NobodyCanLiftItModel", name := "sit", desc := "(II)I" } : Jvm.MethodName)) ∈ lw_all := lw_g (lw_at lw_m8 32 rfl) rfl
theorem q1841 : (Jvm.Cond.code ({ cls := "NobodyCanLiftItModel", name := "sit", desc := "(II)I" } : Jvm.MethodName) prog_17_method_91_code (7 : Nat) (Option.some Jvm.ClassFile.FieldType.int)) ∈ lw_all := lw_g (lw_at lw_m8 33 rfl) rfl
theorem q1843 : (Jvm.Cond.instanceMethod ({ cls := "NobodyCanLiftItModel", name := "tells", desc := "(III)I" } : Jvm.MethodName)) ∈ lw_all := lw_g (lw_at lw_m8 35 rfl) rfl
theorem q1844 : (Jvm.Cond.selects "NobodyCanLiftItModel" ({ cls := "NobodyCanLiftItModel", name := "tells", desc := "(III)I" } : Jvm.MethodName) ({ cls := "NobodyCanLiftItModel", name := "tells", desc := "(III)I" } : Jvm.MethodName)) ∈ lw_all := lw_g (lw_at lw_m8 36 rfl) rfl
theorem q1845 : (Jvm.Cond.code ({ cls := "NobodyCanLiftItModel", name := "tells", desc := "(III)I" } : Jvm.MethodName) prog_17_method_94_code (11 : Nat) (Option.some Jvm.ClassFile.FieldType.int)) ∈ lw_all := lw_g (lw_at lw_m8 37 rfl) rfl
theorem q1846 : (Jvm.Cond.methodLink "NobodyCanLiftItModel" (395 : Nat) ({ cls := "NobodyCanLiftItModel", name := "isSheet", desc := "(I)Z" } : Jvm.MethodName)) ∈ lw_all := lw_g (lw_at lw_m8 38 rfl) rfl
theorem q1847 : (Jvm.Cond.static ({ cls := "NobodyCanLiftItModel", name := "isSheet", desc := "(I)Z" } : Jvm.MethodName)) ∈ lw_all := lw_g (lw_at lw_m8 39 rfl) rfl
theorem q1848 : (Jvm.Cond.code ({ cls := "NobodyCanLiftItModel", name := "isSheet", desc := "(I)Z" } : Jvm.MethodName) prog_17_method_102_code (1 : Nat) (Option.some Jvm.ClassFile.FieldType.boolean)) ∈ lw_all := lw_g (lw_at lw_m8 40 rfl) rfl
theorem q1849 : (Jvm.Cond.constantLong "NobodyCanLiftItModel" (398 : Nat) (8 : Int64)) ∈ lw_all := lw_g (lw_at lw_m8 41 rfl) rfl
theorem q1850 : (Jvm.Cond.methodLink "NobodyCanLiftItModel" (392 : Nat) ({ cls := "NobodyCanLiftItModel", name := "firstOther", desc := "(I)I" } : Jvm.MethodName)) ∈ lw_all := lw_g (lw_at lw_m8 42 rfl) rfl
theorem q1851 : (Jvm.Cond.privateMethod ({ cls := "NobodyCanLiftItModel", name := "firstOther", desc := "(I)I" } : Jvm.MethodName)) ∈ lw_tbl := lw_at lw_m8 43 rfl
theorem q1852 : (Jvm.Cond.instanceMethod ({ cls := "NobodyCanLiftItModel", name := "firstOther", desc := "(I)I" } : Jvm.MethodName)) ∈ lw_all := lw_g (lw_at lw_m8 44 rfl) rfl
theorem q1853 : (Jvm.Cond.code ({ cls := "NobodyCanLiftItModel", name := "firstOther", desc := "(I)I" } : Jvm.MethodName) prog_17_method_92_code (4 : Nat) (Option.some Jvm.ClassFile.FieldType.int)) ∈ lw_all := lw_g (lw_at lw_m8 45 rfl) rfl
theorem q1854 : (Jvm.Cond.methodLink "NobodyCanLiftItModel" (400 : Nat) ({ cls := "NobodyCanLiftItModel", name := "turnedSet", desc := "(I)I" } : Jvm.MethodName)) ∈ lw_all := lw_g (lw_at lw_m8 46 rfl) rfl
theorem q1855 : (Jvm.Cond.privateMethod ({ cls := "NobodyCanLiftItModel", name := "turnedSet", desc := "(I)I" } : Jvm.MethodName)) ∈ lw_tbl := lw_at lw_m8 47 rfl
theorem q1856 : (Jvm.Cond.instanceMethod ({ cls := "NobodyCanLiftItModel", name := "turnedSet", desc := "(I)I" } : Jvm.MethodName)) ∈ lw_all := lw_g (lw_at lw_m8 48 rfl) rfl
theorem q1857 : (Jvm.Cond.code ({ cls := "NobodyCanLiftItModel", name := "turnedSet", desc := "(I)I" } : Jvm.MethodName) prog_17_method_93_code (4 : Nat) (Option.some Jvm.ClassFile.FieldType.int)) ∈ lw_all := lw_g (lw_at lw_m8 49 rfl) rfl
theorem q1859 : (Jvm.Cond.instanceMethod ({ cls := "NobodyCanLiftItModel", name := "film", desc := "(II)I" } : Jvm.MethodName)) ∈ lw_all := lw_g (lw_at lw_m8 51 rfl) rfl
theorem q1860 : (Jvm.Cond.selects "NobodyCanLiftItModel" ({ cls := "NobodyCanLiftItModel", name := "film", desc := "(II)I" } : Jvm.MethodName) ({ cls := "NobodyCanLiftItModel", name := "film", desc := "(II)I" } : Jvm.MethodName)) ∈ lw_all := lw_g (lw_at lw_m8 52 rfl) rfl
theorem q1861 : (Jvm.Cond.code ({ cls := "NobodyCanLiftItModel", name := "film", desc := "(II)I" } : Jvm.MethodName) prog_17_method_95_code (4 : Nat) (Option.some Jvm.ClassFile.FieldType.int)) ∈ lw_all := lw_g (lw_at lw_m8 53 rfl) rfl
theorem q1862 : (Jvm.Cond.constantLong "NobodyCanLiftItModel" (403 : Nat) (20 : Int64)) ∈ lw_all := lw_g (lw_at lw_m8 54 rfl) rfl
theorem q1863 : (Jvm.Cond.methodLink "NobodyCanLiftItModel" (405 : Nat) ({ cls := "NobodyCanLiftItModel", name := "sheet", desc := "(III)I" } : Jvm.MethodName)) ∈ lw_all := lw_g (lw_at lw_m8 55 rfl) rfl
theorem q1864 : (Jvm.Cond.instanceMethod ({ cls := "NobodyCanLiftItModel", name := "sheet", desc := "(III)I" } : Jvm.MethodName)) ∈ lw_all := lw_g (lw_at lw_m8 56 rfl) rfl
theorem q1865 : (Jvm.Cond.selects "NobodyCanLiftItModel" ({ cls := "NobodyCanLiftItModel", name := "sheet", desc := "(III)I" } : Jvm.MethodName) ({ cls := "NobodyCanLiftItModel", name := "sheet", desc := "(III)I" } : Jvm.MethodName)) ∈ lw_all := lw_g (lw_at lw_m8 57 rfl) rfl
theorem q1866 : (Jvm.Cond.code ({ cls := "NobodyCanLiftItModel", name := "sheet", desc := "(III)I" } : Jvm.MethodName) prog_17_method_103_code (5 : Nat) (Option.some Jvm.ClassFile.FieldType.int)) ∈ lw_all := lw_g (lw_at lw_m8 58 rfl) rfl
theorem q1867 : (Jvm.Cond.constantLong "NobodyCanLiftItModel" (421 : Nat) (-1 : Int64)) ∈ lw_all := lw_g (lw_at lw_m8 59 rfl) rfl
theorem q1868 : (Jvm.Cond.constantLong "NobodyCanLiftItModel" (423 : Nat) (2 : Int64)) ∈ lw_all := lw_g (lw_at lw_m8 60 rfl) rfl
theorem q1870 : (Jvm.Cond.instanceMethod ({ cls := "NobodyCanLiftItModel", name := "drawn", desc := "(II)I" } : Jvm.MethodName)) ∈ lw_all := lw_g (lw_at lw_m8 62 rfl) rfl
theorem q1871 : (Jvm.Cond.selects "NobodyCanLiftItModel" ({ cls := "NobodyCanLiftItModel", name := "drawn", desc := "(II)I" } : Jvm.MethodName) ({ cls := "NobodyCanLiftItModel", name := "drawn", desc := "(II)I" } : Jvm.MethodName)) ∈ lw_all := lw_g (lw_at lw_m8 63 rfl) rfl
theorem q1872 : (Jvm.Cond.code ({ cls := "NobodyCanLiftItModel", name := "drawn", desc := "(II)I" } : Jvm.MethodName) prog_17_method_97_code (3 : Nat) (Option.some Jvm.ClassFile.FieldType.int)) ∈ lw_all := lw_g (lw_at lw_m8 64 rfl) rfl
theorem q1873 : (Jvm.Cond.methodLink "NobodyCanLiftItModel" (409 : Nat) ({ cls := "NobodyCanLiftItModel", name := "floorDrawn", desc := "(II)I" } : Jvm.MethodName)) ∈ lw_all := lw_g (lw_at lw_m8 65 rfl) rfl
theorem q1874 : (Jvm.Cond.privateMethod ({ cls := "NobodyCanLiftItModel", name := "floorDrawn", desc := "(II)I" } : Jvm.MethodName)) ∈ lw_tbl := lw_at lw_m8 66 rfl
theorem q1875 : (Jvm.Cond.instanceMethod ({ cls := "NobodyCanLiftItModel", name := "floorDrawn", desc := "(II)I" } : Jvm.MethodName)) ∈ lw_all := lw_g (lw_at lw_m8 67 rfl) rfl
theorem q1876 : (Jvm.Cond.code ({ cls := "NobodyCanLiftItModel", name := "floorDrawn", desc := "(II)I" } : Jvm.MethodName) prog_17_method_96_code (6 : Nat) (Option.some Jvm.ClassFile.FieldType.int)) ∈ lw_all := lw_g (lw_at lw_m8 68 rfl) rfl
theorem q1877 : (Jvm.Cond.constant "NobodyCanLiftItModel" (408 : Nat) (1103515245 : Int32)) ∈ lw_all := lw_g (lw_at lw_m8 69 rfl) rfl
theorem q1879 : (Jvm.Cond.instanceMethod ({ cls := "NobodyCanLiftItModel", name := "chance", desc := "(IIII)J" } : Jvm.MethodName)) ∈ lw_all := lw_g (lw_at lw_m8 71 rfl) rfl
theorem q1880 : (Jvm.Cond.selects "NobodyCanLiftItModel" ({ cls := "NobodyCanLiftItModel", name := "chance", desc := "(IIII)J" } : Jvm.MethodName) ({ cls := "NobodyCanLiftItModel", name := "chance", desc := "(IIII)J" } : Jvm.MethodName)) ∈ lw_all := lw_g (lw_at lw_m8 72 rfl) rfl
theorem q1881 : (Jvm.Cond.code ({ cls := "NobodyCanLiftItModel", name := "chance", desc := "(IIII)J" } : Jvm.MethodName) prog_17_method_98_code (8 : Nat) (Option.some Jvm.ClassFile.FieldType.long)) ∈ lw_all := lw_g (lw_at lw_m8 73 rfl) rfl
theorem q1883 : (Jvm.Cond.instanceMethod ({ cls := "NobodyCanLiftItModel", name := "image", desc := "()I" } : Jvm.MethodName)) ∈ lw_all := lw_g (lw_at lw_m8 75 rfl) rfl
theorem q1884 : (Jvm.Cond.selects "NobodyCanLiftItModel" ({ cls := "NobodyCanLiftItModel", name := "image", desc := "()I" } : Jvm.MethodName) ({ cls := "NobodyCanLiftItModel", name := "image", desc := "()I" } : Jvm.MethodName)) ∈ lw_all := lw_g (lw_at lw_m8 76 rfl) rfl
theorem q1885 : (Jvm.Cond.code ({ cls := "NobodyCanLiftItModel", name := "image", desc := "()I" } : Jvm.MethodName) prog_17_method_99_code (2 : Nat) (Option.some Jvm.ClassFile.FieldType.int)) ∈ lw_all := lw_g (lw_at lw_m8 77 rfl) rfl
theorem q1887 : (Jvm.Cond.instanceMethod ({ cls := "NobodyCanLiftItModel", name := "back", desc := "()I" } : Jvm.MethodName)) ∈ lw_all := lw_g (lw_at lw_m8 79 rfl) rfl
theorem q1888 : (Jvm.Cond.selects "NobodyCanLiftItModel" ({ cls := "NobodyCanLiftItModel", name := "back", desc := "()I" } : Jvm.MethodName) ({ cls := "NobodyCanLiftItModel", name := "back", desc := "()I" } : Jvm.MethodName)) ∈ lw_all := lw_g (lw_at lw_m8 80 rfl) rfl
theorem q1889 : (Jvm.Cond.code ({ cls := "NobodyCanLiftItModel", name := "back", desc := "()I" } : Jvm.MethodName) prog_17_method_100_code (2 : Nat) (Option.some Jvm.ClassFile.FieldType.int)) ∈ lw_all := lw_g (lw_at lw_m8 81 rfl) rfl
theorem q1891 : (Jvm.Cond.instanceMethod ({ cls := "NobodyCanLiftItModel", name := "count", desc := "(I)I" } : Jvm.MethodName)) ∈ lw_all := lw_g (lw_at lw_m8 83 rfl) rfl
theorem q1892 : (Jvm.Cond.selects "NobodyCanLiftItModel" ({ cls := "NobodyCanLiftItModel", name := "count", desc := "(I)I" } : Jvm.MethodName) ({ cls := "NobodyCanLiftItModel", name := "count", desc := "(I)I" } : Jvm.MethodName)) ∈ lw_all := lw_g (lw_at lw_m8 84 rfl) rfl
theorem q1893 : (Jvm.Cond.code ({ cls := "NobodyCanLiftItModel", name := "count", desc := "(I)I" } : Jvm.MethodName) prog_17_method_101_code (2 : Nat) (Option.some Jvm.ClassFile.FieldType.int)) ∈ lw_all := lw_g (lw_at lw_m8 85 rfl) rfl
theorem q1896 : (Jvm.Cond.instanceMethod ({ cls := "NobodyCanLiftItModel", name := "cell", desc := "(III)I" } : Jvm.MethodName)) ∈ lw_all := lw_g (lw_at lw_m8 88 rfl) rfl
theorem q1897 : (Jvm.Cond.selects "NobodyCanLiftItModel" ({ cls := "NobodyCanLiftItModel", name := "cell", desc := "(III)I" } : Jvm.MethodName) ({ cls := "NobodyCanLiftItModel", name := "cell", desc := "(III)I" } : Jvm.MethodName)) ∈ lw_all := lw_g (lw_at lw_m8 89 rfl) rfl
theorem q1898 : (Jvm.Cond.code ({ cls := "NobodyCanLiftItModel", name := "cell", desc := "(III)I" } : Jvm.MethodName) prog_17_method_104_code (4 : Nat) (Option.some Jvm.ClassFile.FieldType.int)) ∈ lw_all := lw_g (lw_at lw_m8 90 rfl) rfl
theorem q1900 : (Jvm.Cond.instanceMethod ({ cls := "NobodyCanLiftItModel", name := "copy", desc := "(IIIII)I" } : Jvm.MethodName)) ∈ lw_all := lw_g (lw_at lw_m8 92 rfl) rfl
theorem q1901 : (Jvm.Cond.selects "NobodyCanLiftItModel" ({ cls := "NobodyCanLiftItModel", name := "copy", desc := "(IIIII)I" } : Jvm.MethodName) ({ cls := "NobodyCanLiftItModel", name := "copy", desc := "(IIIII)I" } : Jvm.MethodName)) ∈ lw_all := lw_g (lw_at lw_m8 93 rfl) rfl
theorem q1902 : (Jvm.Cond.code ({ cls := "NobodyCanLiftItModel", name := "copy", desc := "(IIIII)I" } : Jvm.MethodName) prog_17_method_105_code (9 : Nat) (Option.some Jvm.ClassFile.FieldType.int)) ∈ lw_all := lw_g (lw_at lw_m8 94 rfl) rfl
theorem q1904 : (Jvm.Cond.instanceMethod ({ cls := "NobodyCanLiftItModel", name := "court", desc := "(IIII)I" } : Jvm.MethodName)) ∈ lw_all := lw_g (lw_at lw_m8 96 rfl) rfl
theorem q1905 : (Jvm.Cond.selects "NobodyCanLiftItModel" ({ cls := "NobodyCanLiftItModel", name := "court", desc := "(IIII)I" } : Jvm.MethodName) ({ cls := "NobodyCanLiftItModel", name := "court", desc := "(IIII)I" } : Jvm.MethodName)) ∈ lw_all := lw_g (lw_at lw_m8 97 rfl) rfl
theorem q1906 : (Jvm.Cond.code ({ cls := "NobodyCanLiftItModel", name := "court", desc := "(IIII)I" } : Jvm.MethodName) prog_17_method_106_code (8 : Nat) (Option.some Jvm.ClassFile.FieldType.int)) ∈ lw_all := lw_g (lw_at lw_m8 98 rfl) rfl
theorem q1907 : (Jvm.Cond.methodLink "NobodyCanLiftItModel" (425 : Nat) ({ cls := "NobodyCanLiftItModel", name := "person", desc := "(III)I" } : Jvm.MethodName)) ∈ lw_all := lw_g (lw_at lw_m8 99 rfl) rfl
theorem q1909 : (Jvm.Cond.instanceMethod ({ cls := "NobodyCanLiftItModel", name := "taken", desc := "(II)I" } : Jvm.MethodName)) ∈ lw_all := lw_g (lw_at lw_m8 101 rfl) rfl
theorem q1910 : (Jvm.Cond.selects "NobodyCanLiftItModel" ({ cls := "NobodyCanLiftItModel", name := "taken", desc := "(II)I" } : Jvm.MethodName) ({ cls := "NobodyCanLiftItModel", name := "taken", desc := "(II)I" } : Jvm.MethodName)) ∈ lw_all := lw_g (lw_at lw_m8 102 rfl) rfl
theorem q1911 : (Jvm.Cond.code ({ cls := "NobodyCanLiftItModel", name := "taken", desc := "(II)I" } : Jvm.MethodName) prog_17_method_108_code (4 : Nat) (Option.some Jvm.ClassFile.FieldType.int)) ∈ lw_all := lw_g (lw_at lw_m8 103 rfl) rfl
theorem q1912 : (Jvm.Cond.methodLink "NobodyCanLiftItModel" (428 : Nat) ({ cls := "NobodyCanLiftItModel", name := "over", desc := "(I)I" } : Jvm.MethodName)) ∈ lw_all := lw_g (lw_at lw_m8 104 rfl) rfl
theorem q1913 : (Jvm.Cond.static ({ cls := "NobodyCanLiftItModel", name := "over", desc := "(I)I" } : Jvm.MethodName)) ∈ lw_all := lw_g (lw_at lw_m8 105 rfl) rfl
theorem q1914 : (Jvm.Cond.code ({ cls := "NobodyCanLiftItModel", name := "over", desc := "(I)I" } : Jvm.MethodName) prog_17_method_107_code (1 : Nat) (Option.some Jvm.ClassFile.FieldType.int)) ∈ lw_all := lw_g (lw_at lw_m8 106 rfl) rfl
theorem in_X9 : ∀ w ∈ wsX90, w ∈ lw_all := lw_in wsX90 [1397, 1399, 1401, 1403, 1405, 1407, 1409, 1411, 1413, 1415, 1417, 1419, 1421, 1423, 1425, 1427, 1429, 1431, 1433, 1435, 1437, 1439, 1441, 1443, 1445, 1447, 1449, 1451, 1453, 1455, 1457, 1459, 1461, 1463, 1465, 1467, 1469, 1471, 1473] (by decide +kernel) (by decide +kernel)
