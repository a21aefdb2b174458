/-! NobodyCanLiftIt$Faulty -/
set_option maxRecDepth 100000
def RX1 : String := "NobodyCanLiftIt$Faulty"
def TX1 : u_T := fun k => match k with
  | 0 => ("java/lang/Throwable", "cause", "Ljava/lang/Throwable;", false)
  | 1 => ("java/lang/Throwable", "stackTrace", "[Ljava/lang/StackTraceElement;", false)
  | 2 => ("java/lang/Throwable", "suppressedExceptions", "Ljava/util/List;", false)
  | 3 => ("java/lang/Throwable", "detailMessage", "Ljava/lang/String;", false)
  | 4 => ("java/lang/Throwable", "backtrace", "Ljava/lang/Object;", false)
  | _ => ("java/lang/Throwable", "depth", "I", false)
def tyX1 : Nat → FieldType := fun k => match k with
  | 0 => .object "java/lang/Throwable"
  | 1 => .array (.object "java/lang/StackTraceElement")
  | 2 => .object "java/util/List"
  | 3 => .object "java/lang/String"
  | 4 => .object "java/lang/Object"
  | _ => .int
abbrev wsX10 : List Cond := u_ws RX1 TX1 6
theorem nmX1 : ∀ a, a < 6 → ∀ b, b < 6 → a ≠ b → (TX1 a).2.1 ≠ (TX1 b).2.1 := by decide +kernel
theorem tyX1_ok : ∀ k, k < 6 → parseFieldDescriptor (TX1 k).2.2.1 = some (tyX1 k) := by decide +kernel
abbrev cX1_init : ByteArray := prog_4_method_1_code
def yX1_init : MethodName := ⟨RX1, "<init>", "()V"⟩
def dkwX1_init_0 : List UInt8 := [42, 1, 1, 3, 3, 183, 0, 1, 177]
abbrev dktX1_init_0 : List UInt8 := dkwX1_init_0 ++ []
theorem dksX1_init_0 : cX1_init.data.toList.drop 0 = dktX1_init_0 := by decide +kernel
theorem dX1_init_0 : decode cX1_init 0 = .ok (.aload_n 0, 1) := dk_42 (dk_at dksX1_init_0 0 rfl rfl)
theorem dX1_init_1 : decode cX1_init 1 = .ok (.aconst_null, 1) := dk_1 (dk_at dksX1_init_0 1 rfl rfl)
theorem dX1_init_2 : decode cX1_init 2 = .ok (.aconst_null, 1) := dk_1 (dk_at dksX1_init_0 2 rfl rfl)
theorem dX1_init_3 : decode cX1_init 3 = .ok (.iconst 0, 1) := dk_3 (dk_at dksX1_init_0 3 rfl rfl)
theorem dX1_init_4 : decode cX1_init 4 = .ok (.iconst 0, 1) := dk_3 (dk_at dksX1_init_0 4 rfl rfl)
theorem dX1_init_5 : decode cX1_init 5 = .ok (.invokespecial 1, 3) := dk_183 0 1 (dk_at dksX1_init_0 5 rfl rfl)
theorem dX1_init_8 : decode cX1_init 8 = .ok (.return_, 1) := dk_177 (dk_at dksX1_init_0 8 rfl rfl)
theorem q133 : (Jvm.Cond.initialized "NobodyCanLiftIt$Faulty") ∈ lw_all := lw_g (lw_at lw_m1 5 rfl) rfl
theorem q751 : (Jvm.Cond.instantiable "NobodyCanLiftIt$Faulty" (6 : Nat)) ∈ lw_all := lw_g (lw_at lw_m3 143 rfl) rfl
theorem q752 : (Jvm.Cond.castable "NobodyCanLiftIt$Faulty" "NobodyCanLiftIt$Faulty") ∈ lw_tbl := lw_at lw_m3 144 rfl
theorem q759 : (Jvm.Cond.selects "NobodyCanLiftIt$Faulty" ({ cls := "java/lang/Throwable", name := "fillInStackTrace", desc := "(I)Ljava/lang/Throwable;" } : Jvm.MethodName) ({ cls := "java/lang/Throwable", name := "fillInStackTrace", desc := "(I)Ljava/lang/Throwable;" } : Jvm.MethodName)) ∈ lw_all := lw_g (lw_at lw_m3 151 rfl) rfl
theorem q760 : (Jvm.Cond.selects "NobodyCanLiftIt$Faulty" ({ cls := "java/lang/Throwable", name := "fillInStackTrace", desc := "()Ljava/lang/Throwable;" } : Jvm.MethodName) ({ cls := "java/lang/Throwable", name := "fillInStackTrace", desc := "()Ljava/lang/Throwable;" } : Jvm.MethodName)) ∈ lw_all := lw_g (lw_at lw_m3 152 rfl) rfl
theorem q761 : (Jvm.Cond.lays "NobodyCanLiftIt$Faulty" "java/lang/Throwable" "cause" "Ljava/lang/Throwable;") ∈ lw_all := lw_g (lw_at lw_m3 153 rfl) rfl
theorem q763 : (Jvm.Cond.lays "NobodyCanLiftIt$Faulty" "java/lang/Throwable" "stackTrace" "[Ljava/lang/StackTraceElement;") ∈ lw_all := lw_g (lw_at lw_m3 155 rfl) rfl
theorem q765 : (Jvm.Cond.lays "NobodyCanLiftIt$Faulty" "java/lang/Throwable" "suppressedExceptions" "Ljava/util/List;") ∈ lw_all := lw_g (lw_at lw_m3 157 rfl) rfl
theorem q767 : (Jvm.Cond.lays "NobodyCanLiftIt$Faulty" "java/lang/Throwable" "detailMessage" "Ljava/lang/String;") ∈ lw_all := lw_g (lw_at lw_m3 159 rfl) rfl
theorem q769 : (Jvm.Cond.lays "NobodyCanLiftIt$Faulty" "java/lang/Throwable" "backtrace" "Ljava/lang/Object;") ∈ lw_all := lw_g (lw_at lw_m3 161 rfl) rfl
theorem q808 : (Jvm.Cond.instanceMethod ({ cls := "NobodyCanLiftIt$Faulty", name := "<init>", desc := "()V" } : Jvm.MethodName)) ∈ lw_all := lw_g (lw_at lw_m3 200 rfl) rfl
theorem q809 : (Jvm.Cond.code ({ cls := "NobodyCanLiftIt$Faulty", name := "<init>", desc := "()V" } : Jvm.MethodName) prog_4_method_1_code (1 : Nat) (Option.none : Option Jvm.ClassFile.FieldType)) ∈ lw_all := lw_g (lw_at lw_m3 201 rfl) rfl
theorem q810 : (Jvm.Cond.methodLink "NobodyCanLiftIt$Faulty" (1 : Nat) ({ cls := "java/lang/RuntimeException", name := "<init>", desc := "(Ljava/lang/String;Ljava/lang/Throwable;ZZ)V" } : Jvm.MethodName)) ∈ lw_all := lw_g (lw_at lw_m3 202 rfl) rfl
theorem q828 : (Jvm.Cond.lays "NobodyCanLiftIt$Faulty" "java/lang/Throwable" "depth" "I") ∈ lw_all := lw_g (lw_at lw_m3 220 rfl) rfl
theorem q831 : (Jvm.Cond.superclass "NobodyCanLiftIt$Faulty" "java/lang/RuntimeException") ∈ lw_all := lw_g (lw_at lw_m3 223 rfl) rfl
theorem in_X1 : ∀ w ∈ wsX10, w ∈ lw_all := lw_in wsX10 [761, 763, 765, 767, 769, 828] (by decide +kernel) (by decide +kernel)
/-! NobodyCanLiftIt$Part -/
set_option maxRecDepth 100000
def RX2 : String := "NobodyCanLiftIt$Part"
def TX2 : u_T := fun k => match k with
  | 0 => ("NobodyCanLiftIt$Part", "above", "J", false)
  | _ => ("NobodyCanLiftIt$Part", "below", "J", false)
def tyX2 : Nat → FieldType := fun k => match k with
  | 0 => .long
  | _ => .long
abbrev wsX20 : List Cond := u_ws RX2 TX2 2
theorem nmX2 : ∀ a, a < 2 → ∀ b, b < 2 → a ≠ b → (TX2 a).2.1 ≠ (TX2 b).2.1 := by decide +kernel
theorem tyX2_ok : ∀ k, k < 2 → parseFieldDescriptor (TX2 k).2.2.1 = some (tyX2 k) := by decide +kernel
abbrev cX2_is : ByteArray := prog_11_method_2_code
def yX2_is : MethodName := ⟨RX2, "is", "(JJ)V"⟩
def dkwX2_is_0 : List UInt8 := [42, 31, 181, 0, 13, 42, 33, 181, 0, 7, 42, 182, 0, 16, 177]
abbrev dktX2_is_0 : List UInt8 := dkwX2_is_0 ++ []
theorem dksX2_is_0 : cX2_is.data.toList.drop 0 = dktX2_is_0 := by decide +kernel
theorem dX2_is_0 : decode cX2_is 0 = .ok (.aload_n 0, 1) := dk_42 (dk_at dksX2_is_0 0 rfl rfl)
theorem dX2_is_1 : decode cX2_is 1 = .ok (.lload_n 1, 1) := dk_31 (dk_at dksX2_is_0 1 rfl rfl)
theorem dX2_is_2 : decode cX2_is 2 = .ok (.putfield 13, 3) := dk_181 0 13 (dk_at dksX2_is_0 2 rfl rfl)
theorem dX2_is_5 : decode cX2_is 5 = .ok (.aload_n 0, 1) := dk_42 (dk_at dksX2_is_0 5 rfl rfl)
theorem dX2_is_6 : decode cX2_is 6 = .ok (.lload_n 3, 1) := dk_33 (dk_at dksX2_is_0 6 rfl rfl)
theorem dX2_is_7 : decode cX2_is 7 = .ok (.putfield 7, 3) := dk_181 0 7 (dk_at dksX2_is_0 7 rfl rfl)
theorem dX2_is_10 : decode cX2_is 10 = .ok (.aload_n 0, 1) := dk_42 (dk_at dksX2_is_0 10 rfl rfl)
theorem dX2_is_11 : decode cX2_is 11 = .ok (.invokevirtual 16, 3) := dk_182 0 16 (dk_at dksX2_is_0 11 rfl rfl)
theorem dX2_is_14 : decode cX2_is 14 = .ok (.return_, 1) := dk_177 (dk_at dksX2_is_0 14 rfl rfl)
abbrev cX2_lowers : ByteArray := prog_11_method_3_code
def yX2_lowers : MethodName := ⟨RX2, "lowers", "()V"⟩
def dkwX2_lowers_2 : List UInt8 := [109, 181, 0, 7, 177]
abbrev dktX2_lowers_2 : List UInt8 := dkwX2_lowers_2 ++ []
def dkwX2_lowers_1 : List UInt8 := [33, 64, 22, 5, 66, 167, 255, 240, 42, 89, 180, 0, 13, 31, 109, 181, 0, 13, 42, 89, 180, 0, 7, 31]
abbrev dktX2_lowers_1 : List UInt8 := dkwX2_lowers_1 ++ dktX2_lowers_2
def dkwX2_lowers_0 : List UInt8 := [42, 180, 0, 13, 184, 0, 19, 64, 42, 180, 0, 7, 66, 33, 9, 148, 153, 0, 16, 31, 33, 113, 55, 5]
abbrev dktX2_lowers_0 : List UInt8 := dkwX2_lowers_0 ++ dktX2_lowers_1
theorem dksX2_lowers_0 : cX2_lowers.data.toList.drop 0 = dktX2_lowers_0 := by decide +kernel
theorem dksX2_lowers_1 : cX2_lowers.data.toList.drop 24 = dktX2_lowers_1 := dk_seg dksX2_lowers_0 24 rfl rfl
theorem dksX2_lowers_2 : cX2_lowers.data.toList.drop 48 = dktX2_lowers_2 := dk_seg dksX2_lowers_1 24 rfl rfl
theorem dX2_lowers_0 : decode cX2_lowers 0 = .ok (.aload_n 0, 1) := dk_42 (dk_at dksX2_lowers_0 0 rfl rfl)
theorem dX2_lowers_1 : decode cX2_lowers 1 = .ok (.getfield 13, 3) := dk_180 0 13 (dk_at dksX2_lowers_0 1 rfl rfl)
theorem dX2_lowers_4 : decode cX2_lowers 4 = .ok (.invokestatic 19, 3) := dk_184 0 19 (dk_at dksX2_lowers_0 4 rfl rfl)
theorem dX2_lowers_7 : decode cX2_lowers 7 = .ok (.lstore_n 1, 1) := dk_64 (dk_at dksX2_lowers_0 7 rfl rfl)
theorem dX2_lowers_8 : decode cX2_lowers 8 = .ok (.aload_n 0, 1) := dk_42 (dk_at dksX2_lowers_0 8 rfl rfl)
theorem dX2_lowers_9 : decode cX2_lowers 9 = .ok (.getfield 7, 3) := dk_180 0 7 (dk_at dksX2_lowers_0 9 rfl rfl)
theorem dX2_lowers_12 : decode cX2_lowers 12 = .ok (.lstore_n 3, 1) := dk_66 (dk_at dksX2_lowers_0 12 rfl rfl)
theorem dX2_lowers_13 : decode cX2_lowers 13 = .ok (.lload_n 3, 1) := dk_33 (dk_at dksX2_lowers_0 13 rfl rfl)
theorem dX2_lowers_14 : decode cX2_lowers 14 = .ok (.lconst 0, 1) := dk_9 (dk_at dksX2_lowers_0 14 rfl rfl)
theorem dX2_lowers_15 : decode cX2_lowers 15 = .ok (.lcmp, 1) := dk_148 (dk_at dksX2_lowers_0 15 rfl rfl)
theorem dX2_lowers_16 : decode cX2_lowers 16 = .ok (.ifCond .eq 16, 3) := dk_153 0 16 (dk_at dksX2_lowers_0 16 rfl rfl)
theorem dX2_lowers_19 : decode cX2_lowers 19 = .ok (.lload_n 1, 1) := dk_31 (dk_at dksX2_lowers_0 19 rfl rfl)
theorem dX2_lowers_20 : decode cX2_lowers 20 = .ok (.lload_n 3, 1) := dk_33 (dk_at dksX2_lowers_0 20 rfl rfl)
theorem dX2_lowers_21 : decode cX2_lowers 21 = .ok (.lrem, 1) := dk_113 (dk_at dksX2_lowers_0 21 rfl rfl)
theorem dX2_lowers_22 : decode cX2_lowers 22 = .ok (.lstore 5, 2) := dk_55 5 (dk_at dksX2_lowers_0 22 rfl rfl)
theorem dX2_lowers_24 : decode cX2_lowers 24 = .ok (.lload_n 3, 1) := dk_33 (dk_at dksX2_lowers_1 0 rfl rfl)
theorem dX2_lowers_25 : decode cX2_lowers 25 = .ok (.lstore_n 1, 1) := dk_64 (dk_at dksX2_lowers_1 1 rfl rfl)
theorem dX2_lowers_26 : decode cX2_lowers 26 = .ok (.lload 5, 2) := dk_22 5 (dk_at dksX2_lowers_1 2 rfl rfl)
theorem dX2_lowers_28 : decode cX2_lowers 28 = .ok (.lstore_n 3, 1) := dk_66 (dk_at dksX2_lowers_1 4 rfl rfl)
theorem dX2_lowers_29 : decode cX2_lowers 29 = .ok (.goto (-16), 3) := dk_167 255 240 (dk_at dksX2_lowers_1 5 rfl rfl)
theorem dX2_lowers_32 : decode cX2_lowers 32 = .ok (.aload_n 0, 1) := dk_42 (dk_at dksX2_lowers_1 8 rfl rfl)
theorem dX2_lowers_33 : decode cX2_lowers 33 = .ok (.dup, 1) := dk_89 (dk_at dksX2_lowers_1 9 rfl rfl)
theorem dX2_lowers_34 : decode cX2_lowers 34 = .ok (.getfield 13, 3) := dk_180 0 13 (dk_at dksX2_lowers_1 10 rfl rfl)
theorem dX2_lowers_37 : decode cX2_lowers 37 = .ok (.lload_n 1, 1) := dk_31 (dk_at dksX2_lowers_1 13 rfl rfl)
theorem dX2_lowers_38 : decode cX2_lowers 38 = .ok (.ldiv, 1) := dk_109 (dk_at dksX2_lowers_1 14 rfl rfl)
theorem dX2_lowers_39 : decode cX2_lowers 39 = .ok (.putfield 13, 3) := dk_181 0 13 (dk_at dksX2_lowers_1 15 rfl rfl)
theorem dX2_lowers_42 : decode cX2_lowers 42 = .ok (.aload_n 0, 1) := dk_42 (dk_at dksX2_lowers_1 18 rfl rfl)
theorem dX2_lowers_43 : decode cX2_lowers 43 = .ok (.dup, 1) := dk_89 (dk_at dksX2_lowers_1 19 rfl rfl)
theorem dX2_lowers_44 : decode cX2_lowers 44 = .ok (.getfield 7, 3) := dk_180 0 7 (dk_at dksX2_lowers_1 20 rfl rfl)
theorem dX2_lowers_47 : decode cX2_lowers 47 = .ok (.lload_n 1, 1) := dk_31 (dk_at dksX2_lowers_1 23 rfl rfl)
theorem dX2_lowers_48 : decode cX2_lowers 48 = .ok (.ldiv, 1) := dk_109 (dk_at dksX2_lowers_2 0 rfl rfl)
theorem dX2_lowers_49 : decode cX2_lowers 49 = .ok (.putfield 7, 3) := dk_181 0 7 (dk_at dksX2_lowers_2 1 rfl rfl)
theorem dX2_lowers_52 : decode cX2_lowers 52 = .ok (.return_, 1) := dk_177 (dk_at dksX2_lowers_2 4 rfl rfl)
abbrev cX2_by : ByteArray := prog_11_method_4_code
def yX2_by : MethodName := ⟨RX2, "by", "(JJ)V"⟩
def dkwX2_by_0 : List UInt8 := [42, 42, 180, 0, 13, 31, 105, 42, 180, 0, 7, 33, 105, 182, 0, 25, 177]
abbrev dktX2_by_0 : List UInt8 := dkwX2_by_0 ++ []
theorem dksX2_by_0 : cX2_by.data.toList.drop 0 = dktX2_by_0 := by decide +kernel
theorem dX2_by_0 : decode cX2_by 0 = .ok (.aload_n 0, 1) := dk_42 (dk_at dksX2_by_0 0 rfl rfl)
theorem dX2_by_1 : decode cX2_by 1 = .ok (.aload_n 0, 1) := dk_42 (dk_at dksX2_by_0 1 rfl rfl)
theorem dX2_by_2 : decode cX2_by 2 = .ok (.getfield 13, 3) := dk_180 0 13 (dk_at dksX2_by_0 2 rfl rfl)
theorem dX2_by_5 : decode cX2_by 5 = .ok (.lload_n 1, 1) := dk_31 (dk_at dksX2_by_0 5 rfl rfl)
theorem dX2_by_6 : decode cX2_by 6 = .ok (.lmul, 1) := dk_105 (dk_at dksX2_by_0 6 rfl rfl)
theorem dX2_by_7 : decode cX2_by 7 = .ok (.aload_n 0, 1) := dk_42 (dk_at dksX2_by_0 7 rfl rfl)
theorem dX2_by_8 : decode cX2_by 8 = .ok (.getfield 7, 3) := dk_180 0 7 (dk_at dksX2_by_0 8 rfl rfl)
theorem dX2_by_11 : decode cX2_by 11 = .ok (.lload_n 3, 1) := dk_33 (dk_at dksX2_by_0 11 rfl rfl)
theorem dX2_by_12 : decode cX2_by 12 = .ok (.lmul, 1) := dk_105 (dk_at dksX2_by_0 12 rfl rfl)
theorem dX2_by_13 : decode cX2_by 13 = .ok (.invokevirtual 25, 3) := dk_182 0 25 (dk_at dksX2_by_0 13 rfl rfl)
theorem dX2_by_16 : decode cX2_by 16 = .ok (.return_, 1) := dk_177 (dk_at dksX2_by_0 16 rfl rfl)
abbrev cX2_lessens : ByteArray := prog_11_method_6_code
def yX2_lessens : MethodName := ⟨RX2, "lessens", "(J)V"⟩
def dkwX2_lessens_0 : List UInt8 := [42, 9, 42, 180, 0, 13, 31, 42, 180, 0, 7, 105, 101, 184, 0, 29, 42, 180, 0, 7, 182, 0, 25, 177]
abbrev dktX2_lessens_0 : List UInt8 := dkwX2_lessens_0 ++ []
theorem dksX2_lessens_0 : cX2_lessens.data.toList.drop 0 = dktX2_lessens_0 := by decide +kernel
theorem dX2_lessens_0 : decode cX2_lessens 0 = .ok (.aload_n 0, 1) := dk_42 (dk_at dksX2_lessens_0 0 rfl rfl)
theorem dX2_lessens_1 : decode cX2_lessens 1 = .ok (.lconst 0, 1) := dk_9 (dk_at dksX2_lessens_0 1 rfl rfl)
theorem dX2_lessens_2 : decode cX2_lessens 2 = .ok (.aload_n 0, 1) := dk_42 (dk_at dksX2_lessens_0 2 rfl rfl)
theorem dX2_lessens_3 : decode cX2_lessens 3 = .ok (.getfield 13, 3) := dk_180 0 13 (dk_at dksX2_lessens_0 3 rfl rfl)
theorem dX2_lessens_6 : decode cX2_lessens 6 = .ok (.lload_n 1, 1) := dk_31 (dk_at dksX2_lessens_0 6 rfl rfl)
theorem dX2_lessens_7 : decode cX2_lessens 7 = .ok (.aload_n 0, 1) := dk_42 (dk_at dksX2_lessens_0 7 rfl rfl)
theorem dX2_lessens_8 : decode cX2_lessens 8 = .ok (.getfield 7, 3) := dk_180 0 7 (dk_at dksX2_lessens_0 8 rfl rfl)
theorem dX2_lessens_11 : decode cX2_lessens 11 = .ok (.lmul, 1) := dk_105 (dk_at dksX2_lessens_0 11 rfl rfl)
theorem dX2_lessens_12 : decode cX2_lessens 12 = .ok (.lsub, 1) := dk_101 (dk_at dksX2_lessens_0 12 rfl rfl)
theorem dX2_lessens_13 : decode cX2_lessens 13 = .ok (.invokestatic 29, 3) := dk_184 0 29 (dk_at dksX2_lessens_0 13 rfl rfl)
theorem dX2_lessens_16 : decode cX2_lessens 16 = .ok (.aload_n 0, 1) := dk_42 (dk_at dksX2_lessens_0 16 rfl rfl)
theorem dX2_lessens_17 : decode cX2_lessens 17 = .ok (.getfield 7, 3) := dk_180 0 7 (dk_at dksX2_lessens_0 17 rfl rfl)
theorem dX2_lessens_20 : decode cX2_lessens 20 = .ok (.invokevirtual 25, 3) := dk_182 0 25 (dk_at dksX2_lessens_0 20 rfl rfl)
theorem dX2_lessens_23 : decode cX2_lessens 23 = .ok (.return_, 1) := dk_177 (dk_at dksX2_lessens_0 23 rfl rfl)
abbrev cX2_adds : ByteArray := prog_11_method_5_code
def yX2_adds : MethodName := ⟨RX2, "adds", "(LNobodyCanLiftIt$Part;)V"⟩
def dkwX2_adds_1 : List UInt8 := [43, 180, 0, 7, 105, 182, 0, 25, 177]
abbrev dktX2_adds_1 : List UInt8 := dkwX2_adds_1 ++ []
def dkwX2_adds_0 : List UInt8 := [42, 42, 180, 0, 13, 43, 180, 0, 7, 105, 43, 180, 0, 13, 42, 180, 0, 7, 105, 97, 42, 180, 0, 7]
abbrev dktX2_adds_0 : List UInt8 := dkwX2_adds_0 ++ dktX2_adds_1
theorem dksX2_adds_0 : cX2_adds.data.toList.drop 0 = dktX2_adds_0 := by decide +kernel
theorem dksX2_adds_1 : cX2_adds.data.toList.drop 24 = dktX2_adds_1 := dk_seg dksX2_adds_0 24 rfl rfl
theorem dX2_adds_0 : decode cX2_adds 0 = .ok (.aload_n 0, 1) := dk_42 (dk_at dksX2_adds_0 0 rfl rfl)
theorem dX2_adds_1 : decode cX2_adds 1 = .ok (.aload_n 0, 1) := dk_42 (dk_at dksX2_adds_0 1 rfl rfl)
theorem dX2_adds_2 : decode cX2_adds 2 = .ok (.getfield 13, 3) := dk_180 0 13 (dk_at dksX2_adds_0 2 rfl rfl)
theorem dX2_adds_5 : decode cX2_adds 5 = .ok (.aload_n 1, 1) := dk_43 (dk_at dksX2_adds_0 5 rfl rfl)
theorem dX2_adds_6 : decode cX2_adds 6 = .ok (.getfield 7, 3) := dk_180 0 7 (dk_at dksX2_adds_0 6 rfl rfl)
theorem dX2_adds_9 : decode cX2_adds 9 = .ok (.lmul, 1) := dk_105 (dk_at dksX2_adds_0 9 rfl rfl)
theorem dX2_adds_10 : decode cX2_adds 10 = .ok (.aload_n 1, 1) := dk_43 (dk_at dksX2_adds_0 10 rfl rfl)
theorem dX2_adds_11 : decode cX2_adds 11 = .ok (.getfield 13, 3) := dk_180 0 13 (dk_at dksX2_adds_0 11 rfl rfl)
theorem dX2_adds_14 : decode cX2_adds 14 = .ok (.aload_n 0, 1) := dk_42 (dk_at dksX2_adds_0 14 rfl rfl)
theorem dX2_adds_15 : decode cX2_adds 15 = .ok (.getfield 7, 3) := dk_180 0 7 (dk_at dksX2_adds_0 15 rfl rfl)
theorem dX2_adds_18 : decode cX2_adds 18 = .ok (.lmul, 1) := dk_105 (dk_at dksX2_adds_0 18 rfl rfl)
theorem dX2_adds_19 : decode cX2_adds 19 = .ok (.ladd, 1) := dk_97 (dk_at dksX2_adds_0 19 rfl rfl)
theorem dX2_adds_20 : decode cX2_adds 20 = .ok (.aload_n 0, 1) := dk_42 (dk_at dksX2_adds_0 20 rfl rfl)
theorem dX2_adds_21 : decode cX2_adds 21 = .ok (.getfield 7, 3) := dk_180 0 7 (dk_at dksX2_adds_0 21 rfl rfl)
theorem dX2_adds_24 : decode cX2_adds 24 = .ok (.aload_n 1, 1) := dk_43 (dk_at dksX2_adds_1 0 rfl rfl)
theorem dX2_adds_25 : decode cX2_adds 25 = .ok (.getfield 7, 3) := dk_180 0 7 (dk_at dksX2_adds_1 1 rfl rfl)
theorem dX2_adds_28 : decode cX2_adds 28 = .ok (.lmul, 1) := dk_105 (dk_at dksX2_adds_1 4 rfl rfl)
theorem dX2_adds_29 : decode cX2_adds 29 = .ok (.invokevirtual 25, 3) := dk_182 0 25 (dk_at dksX2_adds_1 5 rfl rfl)
theorem dX2_adds_32 : decode cX2_adds 32 = .ok (.return_, 1) := dk_177 (dk_at dksX2_adds_1 8 rfl rfl)
abbrev cX2_against : ByteArray := prog_11_method_7_code
def yX2_against : MethodName := ⟨RX2, "against", "(J)I"⟩
def dkwX2_against_0 : List UInt8 := [42, 180, 0, 13, 31, 42, 180, 0, 7, 105, 184, 0, 33, 172]
abbrev dktX2_against_0 : List UInt8 := dkwX2_against_0 ++ []
theorem dksX2_against_0 : cX2_against.data.toList.drop 0 = dktX2_against_0 := by decide +kernel
theorem dX2_against_0 : decode cX2_against 0 = .ok (.aload_n 0, 1) := dk_42 (dk_at dksX2_against_0 0 rfl rfl)
theorem dX2_against_1 : decode cX2_against 1 = .ok (.getfield 13, 3) := dk_180 0 13 (dk_at dksX2_against_0 1 rfl rfl)
theorem dX2_against_4 : decode cX2_against 4 = .ok (.lload_n 1, 1) := dk_31 (dk_at dksX2_against_0 4 rfl rfl)
theorem dX2_against_5 : decode cX2_against 5 = .ok (.aload_n 0, 1) := dk_42 (dk_at dksX2_against_0 5 rfl rfl)
theorem dX2_against_6 : decode cX2_against 6 = .ok (.getfield 7, 3) := dk_180 0 7 (dk_at dksX2_against_0 6 rfl rfl)
theorem dX2_against_9 : decode cX2_against 9 = .ok (.lmul, 1) := dk_105 (dk_at dksX2_against_0 9 rfl rfl)
theorem dX2_against_10 : decode cX2_against 10 = .ok (.invokestatic 33, 3) := dk_184 0 33 (dk_at dksX2_against_0 10 rfl rfl)
theorem dX2_against_13 : decode cX2_against 13 = .ok (.ireturn, 1) := dk_172 (dk_at dksX2_against_0 13 rfl rfl)
abbrev cX2_init : ByteArray := prog_11_method_1_code
def yX2_init : MethodName := ⟨RX2, "<init>", "()V"⟩
def dkwX2_init_0 : List UInt8 := [42, 183, 0, 1, 42, 10, 181, 0, 7, 177]
abbrev dktX2_init_0 : List UInt8 := dkwX2_init_0 ++ []
theorem dksX2_init_0 : cX2_init.data.toList.drop 0 = dktX2_init_0 := by decide +kernel
theorem dX2_init_0 : decode cX2_init 0 = .ok (.aload_n 0, 1) := dk_42 (dk_at dksX2_init_0 0 rfl rfl)
theorem dX2_init_1 : decode cX2_init 1 = .ok (.invokespecial 1, 3) := dk_183 0 1 (dk_at dksX2_init_0 1 rfl rfl)
theorem dX2_init_4 : decode cX2_init 4 = .ok (.aload_n 0, 1) := dk_42 (dk_at dksX2_init_0 4 rfl rfl)
theorem dX2_init_5 : decode cX2_init 5 = .ok (.lconst 1, 1) := dk_10 (dk_at dksX2_init_0 5 rfl rfl)
theorem dX2_init_6 : decode cX2_init 6 = .ok (.putfield 7, 3) := dk_181 0 7 (dk_at dksX2_init_0 6 rfl rfl)
theorem dX2_init_9 : decode cX2_init 9 = .ok (.return_, 1) := dk_177 (dk_at dksX2_init_0 9 rfl rfl)
abbrev cX2_told : ByteArray := prog_11_method_10_code
def yX2_told : MethodName := ⟨RX2, "told", "(I)J"⟩
def dkwX2_told_0 : List UInt8 := [27, 154, 0, 10, 42, 180, 0, 13, 167, 0, 7, 42, 180, 0, 7, 173]
abbrev dktX2_told_0 : List UInt8 := dkwX2_told_0 ++ []
theorem dksX2_told_0 : cX2_told.data.toList.drop 0 = dktX2_told_0 := by decide +kernel
theorem dX2_told_0 : decode cX2_told 0 = .ok (.iload_n 1, 1) := dk_27 (dk_at dksX2_told_0 0 rfl rfl)
theorem dX2_told_1 : decode cX2_told 1 = .ok (.ifCond .ne 10, 3) := dk_154 0 10 (dk_at dksX2_told_0 1 rfl rfl)
theorem dX2_told_4 : decode cX2_told 4 = .ok (.aload_n 0, 1) := dk_42 (dk_at dksX2_told_0 4 rfl rfl)
theorem dX2_told_5 : decode cX2_told 5 = .ok (.getfield 13, 3) := dk_180 0 13 (dk_at dksX2_told_0 5 rfl rfl)
theorem dX2_told_8 : decode cX2_told 8 = .ok (.goto 7, 3) := dk_167 0 7 (dk_at dksX2_told_0 8 rfl rfl)
theorem dX2_told_11 : decode cX2_told 11 = .ok (.aload_n 0, 1) := dk_42 (dk_at dksX2_told_0 11 rfl rfl)
theorem dX2_told_12 : decode cX2_told 12 = .ok (.getfield 7, 3) := dk_180 0 7 (dk_at dksX2_told_0 12 rfl rfl)
theorem dX2_told_15 : decode cX2_told 15 = .ok (.lreturn, 1) := dk_173 (dk_at dksX2_told_0 15 rfl rfl)
abbrev cX2_against_2 : ByteArray := prog_11_method_8_code
def yX2_against_2 : MethodName := ⟨RX2, "against", "(LNobodyCanLiftIt$Part;)I"⟩
def dkwX2_against_2_0 : List UInt8 := [42, 180, 0, 13, 43, 180, 0, 7, 105, 43, 180, 0, 13, 42, 180, 0, 7, 105, 184, 0, 33, 172]
abbrev dktX2_against_2_0 : List UInt8 := dkwX2_against_2_0 ++ []
theorem dksX2_against_2_0 : cX2_against_2.data.toList.drop 0 = dktX2_against_2_0 := by decide +kernel
theorem dX2_against_2_0 : decode cX2_against_2 0 = .ok (.aload_n 0, 1) := dk_42 (dk_at dksX2_against_2_0 0 rfl rfl)
theorem dX2_against_2_1 : decode cX2_against_2 1 = .ok (.getfield 13, 3) := dk_180 0 13 (dk_at dksX2_against_2_0 1 rfl rfl)
theorem dX2_against_2_4 : decode cX2_against_2 4 = .ok (.aload_n 1, 1) := dk_43 (dk_at dksX2_against_2_0 4 rfl rfl)
theorem dX2_against_2_5 : decode cX2_against_2 5 = .ok (.getfield 7, 3) := dk_180 0 7 (dk_at dksX2_against_2_0 5 rfl rfl)
theorem dX2_against_2_8 : decode cX2_against_2 8 = .ok (.lmul, 1) := dk_105 (dk_at dksX2_against_2_0 8 rfl rfl)
theorem dX2_against_2_9 : decode cX2_against_2 9 = .ok (.aload_n 1, 1) := dk_43 (dk_at dksX2_against_2_0 9 rfl rfl)
theorem dX2_against_2_10 : decode cX2_against_2 10 = .ok (.getfield 13, 3) := dk_180 0 13 (dk_at dksX2_against_2_0 10 rfl rfl)
theorem dX2_against_2_13 : decode cX2_against_2 13 = .ok (.aload_n 0, 1) := dk_42 (dk_at dksX2_against_2_0 13 rfl rfl)
theorem dX2_against_2_14 : decode cX2_against_2 14 = .ok (.getfield 7, 3) := dk_180 0 7 (dk_at dksX2_against_2_0 14 rfl rfl)
theorem dX2_against_2_17 : decode cX2_against_2 17 = .ok (.lmul, 1) := dk_105 (dk_at dksX2_against_2_0 17 rfl rfl)
theorem dX2_against_2_18 : decode cX2_against_2 18 = .ok (.invokestatic 33, 3) := dk_184 0 33 (dk_at dksX2_against_2_0 18 rfl rfl)
theorem dX2_against_2_21 : decode cX2_against_2 21 = .ok (.ireturn, 1) := dk_172 (dk_at dksX2_against_2_0 21 rfl rfl)
abbrev cX2_becomes : ByteArray := prog_11_method_9_code
def yX2_becomes : MethodName := ⟨RX2, "becomes", "(LNobodyCanLiftIt$Part;)V"⟩
def dkwX2_becomes_0 : List UInt8 := [42, 43, 180, 0, 13, 181, 0, 13, 42, 43, 180, 0, 7, 181, 0, 7, 177]
abbrev dktX2_becomes_0 : List UInt8 := dkwX2_becomes_0 ++ []
theorem dksX2_becomes_0 : cX2_becomes.data.toList.drop 0 = dktX2_becomes_0 := by decide +kernel
theorem dX2_becomes_0 : decode cX2_becomes 0 = .ok (.aload_n 0, 1) := dk_42 (dk_at dksX2_becomes_0 0 rfl rfl)
theorem dX2_becomes_1 : decode cX2_becomes 1 = .ok (.aload_n 1, 1) := dk_43 (dk_at dksX2_becomes_0 1 rfl rfl)
theorem dX2_becomes_2 : decode cX2_becomes 2 = .ok (.getfield 13, 3) := dk_180 0 13 (dk_at dksX2_becomes_0 2 rfl rfl)
theorem dX2_becomes_5 : decode cX2_becomes 5 = .ok (.putfield 13, 3) := dk_181 0 13 (dk_at dksX2_becomes_0 5 rfl rfl)
theorem dX2_becomes_8 : decode cX2_becomes 8 = .ok (.aload_n 0, 1) := dk_42 (dk_at dksX2_becomes_0 8 rfl rfl)
theorem dX2_becomes_9 : decode cX2_becomes 9 = .ok (.aload_n 1, 1) := dk_43 (dk_at dksX2_becomes_0 9 rfl rfl)
theorem dX2_becomes_10 : decode cX2_becomes 10 = .ok (.getfield 7, 3) := dk_180 0 7 (dk_at dksX2_becomes_0 10 rfl rfl)
theorem dX2_becomes_13 : decode cX2_becomes 13 = .ok (.putfield 7, 3) := dk_181 0 7 (dk_at dksX2_becomes_0 13 rfl rfl)
theorem dX2_becomes_16 : decode cX2_becomes 16 = .ok (.return_, 1) := dk_177 (dk_at dksX2_becomes_0 16 rfl rfl)
theorem q134 : (Jvm.Cond.initialized "NobodyCanLiftIt$Part") ∈ lw_all := lw_g (lw_at lw_m1 6 rfl) rfl
theorem q430 : (Jvm.Cond.instanceMethod ({ cls := "NobodyCanLiftIt$Part", name := "is", desc := "(JJ)V" } : Jvm.MethodName)) ∈ lw_all := lw_g (lw_at lw_m2 62 rfl) rfl
theorem q431 : (Jvm.Cond.selects "NobodyCanLiftIt$Part" ({ cls := "NobodyCanLiftIt$Part", name := "is", desc := "(JJ)V" } : Jvm.MethodName) ({ cls := "NobodyCanLiftIt$Part", name := "is", desc := "(JJ)V" } : Jvm.MethodName)) ∈ lw_all := lw_g (lw_at lw_m2 63 rfl) rfl
theorem q432 : (Jvm.Cond.code ({ cls := "NobodyCanLiftIt$Part", name := "is", desc := "(JJ)V" } : Jvm.MethodName) prog_11_method_2_code (5 : Nat) (Option.none : Option Jvm.ClassFile.FieldType)) ∈ lw_all := lw_g (lw_at lw_m2 64 rfl) rfl
theorem q433 : (Jvm.Cond.methodLink "NobodyCanLiftIt$Part" (16 : Nat) ({ cls := "NobodyCanLiftIt$Part", name := "lowers", desc := "()V" } : Jvm.MethodName)) ∈ lw_all := lw_g (lw_at lw_m2 65 rfl) rfl
theorem q434 : (Jvm.Cond.privateMethod ({ cls := "NobodyCanLiftIt$Part", name := "lowers", desc := "()V" } : Jvm.MethodName)) ∈ lw_tbl := lw_at lw_m2 66 rfl
theorem q435 : (Jvm.Cond.instanceMethod ({ cls := "NobodyCanLiftIt$Part", name := "lowers", desc := "()V" } : Jvm.MethodName)) ∈ lw_all := lw_g (lw_at lw_m2 67 rfl) rfl
theorem q436 : (Jvm.Cond.instantiable "NobodyCanLiftIt$Part" (2 : Nat)) ∈ lw_all := lw_g (lw_at lw_m2 68 rfl) rfl
theorem q437 : (Jvm.Cond.code ({ cls := "NobodyCanLiftIt$Part", name := "lowers", desc := "()V" } : Jvm.MethodName) prog_11_method_3_code (7 : Nat) (Option.none : Option Jvm.ClassFile.FieldType)) ∈ lw_all := lw_g (lw_at lw_m2 69 rfl) rfl
theorem q438 : (Jvm.Cond.methodLink "NobodyCanLiftIt$Part" (19 : Nat) ({ cls := "java/lang/Math", name := "abs", desc := "(J)J" } : Jvm.MethodName)) ∈ lw_all := lw_g (lw_at lw_m2 70 rfl) rfl
theorem q457 : (Jvm.Cond.instanceMethod ({ cls := "NobodyCanLiftIt$Part", name := "by", desc := "(JJ)V" } : Jvm.MethodName)) ∈ lw_all := lw_g (lw_at lw_m2 89 rfl) rfl
theorem q458 : (Jvm.Cond.selects "NobodyCanLiftIt$Part" ({ cls := "NobodyCanLiftIt$Part", name := "by", desc := "(JJ)V" } : Jvm.MethodName) ({ cls := "NobodyCanLiftIt$Part", name := "by", desc := "(JJ)V" } : Jvm.MethodName)) ∈ lw_all := lw_g (lw_at lw_m2 90 rfl) rfl
theorem q459 : (Jvm.Cond.code ({ cls := "NobodyCanLiftIt$Part", name := "by", desc := "(JJ)V" } : Jvm.MethodName) prog_11_method_4_code (5 : Nat) (Option.none : Option Jvm.ClassFile.FieldType)) ∈ lw_all := lw_g (lw_at lw_m2 91 rfl) rfl
theorem q460 : (Jvm.Cond.methodLink "NobodyCanLiftIt$Part" (25 : Nat) ({ cls := "NobodyCanLiftIt$Part", name := "is", desc := "(JJ)V" } : Jvm.MethodName)) ∈ lw_all := lw_g (lw_at lw_m2 92 rfl) rfl
theorem q482 : (Jvm.Cond.instanceMethod ({ cls := "NobodyCanLiftIt$Part", name := "lessens", desc := "(J)V" } : Jvm.MethodName)) ∈ lw_all := lw_g (lw_at lw_m2 114 rfl) rfl
theorem q483 : (Jvm.Cond.selects "NobodyCanLiftIt$Part" ({ cls := "NobodyCanLiftIt$Part", name := "lessens", desc := "(J)V" } : Jvm.MethodName) ({ cls := "NobodyCanLiftIt$Part", name := "lessens", desc := "(J)V" } : Jvm.MethodName)) ∈ lw_all := lw_g (lw_at lw_m2 115 rfl) rfl
theorem q484 : (Jvm.Cond.code ({ cls := "NobodyCanLiftIt$Part", name := "lessens", desc := "(J)V" } : Jvm.MethodName) prog_11_method_6_code (3 : Nat) (Option.none : Option Jvm.ClassFile.FieldType)) ∈ lw_all := lw_g (lw_at lw_m2 116 rfl) rfl
theorem q485 : (Jvm.Cond.methodLink "NobodyCanLiftIt$Part" (29 : Nat) ({ cls := "java/lang/Math", name := "max", desc := "(JJ)J" } : Jvm.MethodName)) ∈ lw_all := lw_g (lw_at lw_m2 117 rfl) rfl
theorem q489 : (Jvm.Cond.instanceMethod ({ cls := "NobodyCanLiftIt$Part", name := "adds", desc := "(LNobodyCanLiftIt$Part;)V" } : Jvm.MethodName)) ∈ lw_all := lw_g (lw_at lw_m2 121 rfl) rfl
theorem q490 : (Jvm.Cond.selects "NobodyCanLiftIt$Part" ({ cls := "NobodyCanLiftIt$Part", name := "adds", desc := "(LNobodyCanLiftIt$Part;)V" } : Jvm.MethodName) ({ cls := "NobodyCanLiftIt$Part", name := "adds", desc := "(LNobodyCanLiftIt$Part;)V" } : Jvm.MethodName)) ∈ lw_all := lw_g (lw_at lw_m2 122 rfl) rfl
theorem q491 : (Jvm.Cond.code ({ cls := "NobodyCanLiftIt$Part", name := "adds", desc := "(LNobodyCanLiftIt$Part;)V" } : Jvm.MethodName) prog_11_method_5_code (2 : Nat) (Option.none : Option Jvm.ClassFile.FieldType)) ∈ lw_all := lw_g (lw_at lw_m2 123 rfl) rfl
theorem q493 : (Jvm.Cond.instanceMethod ({ cls := "NobodyCanLiftIt$Part", name := "against", desc := "(J)I" } : Jvm.MethodName)) ∈ lw_all := lw_g (lw_at lw_m2 125 rfl) rfl
theorem q494 : (Jvm.Cond.selects "NobodyCanLiftIt$Part" ({ cls := "NobodyCanLiftIt$Part", name := "against", desc := "(J)I" } : Jvm.MethodName) ({ cls := "NobodyCanLiftIt$Part", name := "against", desc := "(J)I" } : Jvm.MethodName)) ∈ lw_all := lw_g (lw_at lw_m2 126 rfl) rfl
theorem q495 : (Jvm.Cond.code ({ cls := "NobodyCanLiftIt$Part", name := "against", desc := "(J)I" } : Jvm.MethodName) prog_11_method_7_code (3 : Nat) (Option.some Jvm.ClassFile.FieldType.int)) ∈ lw_all := lw_g (lw_at lw_m2 127 rfl) rfl
theorem q496 : (Jvm.Cond.methodLink "NobodyCanLiftIt$Part" (33 : Nat) ({ cls := "java/lang/Long", name := "compare", desc := "(JJ)I" } : Jvm.MethodName)) ∈ lw_all := lw_g (lw_at lw_m2 128 rfl) rfl
theorem q851 : (Jvm.Cond.instanceMethod ({ cls := "NobodyCanLiftIt$Part", name := "<init>", desc := "()V" } : Jvm.MethodName)) ∈ lw_all := lw_g (lw_at lw_m4 3 rfl) rfl
theorem q852 : (Jvm.Cond.code ({ cls := "NobodyCanLiftIt$Part", name := "<init>", desc := "()V" } : Jvm.MethodName) prog_11_method_1_code (1 : Nat) (Option.none : Option Jvm.ClassFile.FieldType)) ∈ lw_all := lw_g (lw_at lw_m4 4 rfl) rfl
theorem q853 : (Jvm.Cond.methodLink "NobodyCanLiftIt$Part" (1 : Nat) ({ cls := "java/lang/Object", name := "<init>", desc := "()V" } : Jvm.MethodName)) ∈ lw_all := lw_g (lw_at lw_m4 5 rfl) rfl
theorem q854 : (Jvm.Cond.fieldLink "NobodyCanLiftIt$Part" (13 : Nat) "NobodyCanLiftIt$Part" "above" "J") ∈ lw_all := lw_g (lw_at lw_m4 6 rfl) rfl
theorem q855 : (Jvm.Cond.fieldLink "NobodyCanLiftIt$Part" (7 : Nat) "NobodyCanLiftIt$Part" "below" "J") ∈ lw_all := lw_g (lw_at lw_m4 7 rfl) rfl
theorem q856 : (Jvm.Cond.lays "NobodyCanLiftIt$Part" "NobodyCanLiftIt$Part" "above" "J") ∈ lw_all := lw_g (lw_at lw_m4 8 rfl) rfl
theorem q857 : (Jvm.Cond.soleField "NobodyCanLiftIt$Part" "above") ∈ lw_all := lw_g (lw_at lw_m4 9 rfl) rfl
theorem q858 : (Jvm.Cond.lays "NobodyCanLiftIt$Part" "NobodyCanLiftIt$Part" "below" "J") ∈ lw_all := lw_g (lw_at lw_m4 10 rfl) rfl
theorem q859 : (Jvm.Cond.soleField "NobodyCanLiftIt$Part" "below") ∈ lw_all := lw_g (lw_at lw_m4 11 rfl) rfl
theorem q860 : (Jvm.Cond.superclass "NobodyCanLiftIt$Part" "java/lang/Object") ∈ lw_all := lw_g (lw_at lw_m4 12 rfl) rfl
theorem q994 : (Jvm.Cond.instanceMethod ({ cls := "NobodyCanLiftIt$Part", name := "told", desc := "(I)J" } : Jvm.MethodName)) ∈ lw_all := lw_g (lw_at lw_m4 146 rfl) rfl
theorem q995 : (Jvm.Cond.selects "NobodyCanLiftIt$Part" ({ cls := "NobodyCanLiftIt$Part", name := "told", desc := "(I)J" } : Jvm.MethodName) ({ cls := "NobodyCanLiftIt$Part", name := "told", desc := "(I)J" } : Jvm.MethodName)) ∈ lw_all := lw_g (lw_at lw_m4 147 rfl) rfl
theorem q996 : (Jvm.Cond.code ({ cls := "NobodyCanLiftIt$Part", name := "told", desc := "(I)J" } : Jvm.MethodName) prog_11_method_10_code (2 : Nat) (Option.some Jvm.ClassFile.FieldType.long)) ∈ lw_all := lw_g (lw_at lw_m4 148 rfl) rfl
theorem q1084 : (Jvm.Cond.instanceMethod ({ cls := "NobodyCanLiftIt$Part", name := "against", desc := "(LNobodyCanLiftIt$Part;)I" } : Jvm.MethodName)) ∈ lw_all := lw_g (lw_at lw_m4 236 rfl) rfl
theorem q1085 : (Jvm.Cond.selects "NobodyCanLiftIt$Part" ({ cls := "NobodyCanLiftIt$Part", name := "against", desc := "(LNobodyCanLiftIt$Part;)I" } : Jvm.MethodName) ({ cls := "NobodyCanLiftIt$Part", name := "against", desc := "(LNobodyCanLiftIt$Part;)I" } : Jvm.MethodName)) ∈ lw_all := lw_g (lw_at lw_m4 237 rfl) rfl
theorem q1086 : (Jvm.Cond.code ({ cls := "NobodyCanLiftIt$Part", name := "against", desc := "(LNobodyCanLiftIt$Part;)I" } : Jvm.MethodName) prog_11_method_8_code (2 : Nat) (Option.some Jvm.ClassFile.FieldType.int)) ∈ lw_all := lw_g (lw_at lw_m4 238 rfl) rfl
theorem q1088 : (Jvm.Cond.instanceMethod ({ cls := "NobodyCanLiftIt$Part", name := "becomes", desc := "(LNobodyCanLiftIt$Part;)V" } : Jvm.MethodName)) ∈ lw_all := lw_g (lw_at lw_m5 0 rfl) rfl
theorem q1089 : (Jvm.Cond.selects "NobodyCanLiftIt$Part" ({ cls := "NobodyCanLiftIt$Part", name := "becomes", desc := "(LNobodyCanLiftIt$Part;)V" } : Jvm.MethodName) ({ cls := "NobodyCanLiftIt$Part", name := "becomes", desc := "(LNobodyCanLiftIt$Part;)V" } : Jvm.MethodName)) ∈ lw_all := lw_g (lw_at lw_m5 1 rfl) rfl
theorem q1090 : (Jvm.Cond.code ({ cls := "NobodyCanLiftIt$Part", name := "becomes", desc := "(LNobodyCanLiftIt$Part;)V" } : Jvm.MethodName) prog_11_method_9_code (2 : Nat) (Option.none : Option Jvm.ClassFile.FieldType)) ∈ lw_all := lw_g (lw_at lw_m5 2 rfl) rfl
theorem in_X2 : ∀ w ∈ wsX20, w ∈ lw_all := lw_in wsX20 [856, 858] (by decide +kernel) (by decide +kernel)
/-! NobodyCanLiftIt$Sheet -/
set_option maxRecDepth 100000
def RX3 : String := "NobodyCanLiftIt$Sheet"
def TX3 : u_T := fun k => match k with
  | _ => ("NobodyCanLiftIt$Sheet", "row", "Ljava/lang/Object;", false)
def tyX3 : Nat → FieldType := fun k => match k with
  | _ => .object "java/lang/Object"
abbrev wsX30 : List Cond := u_ws RX3 TX3 1
theorem nmX3 : ∀ a, a < 1 → ∀ b, b < 1 → a ≠ b → (TX3 a).2.1 ≠ (TX3 b).2.1 := by decide +kernel
theorem tyX3_ok : ∀ k, k < 1 → parseFieldDescriptor (TX3 k).2.2.1 = some (tyX3 k) := by decide +kernel
abbrev cX3_init : ByteArray := prog_13_method_1_code
def yX3_init : MethodName := ⟨RX3, "<init>", "()V"⟩
theorem dX3_init_0 : decode cX3_init 0 = .ok (.aload_n 0, 1) := by decide +kernel
theorem dX3_init_1 : decode cX3_init 1 = .ok (.invokespecial 1, 3) := by decide +kernel
theorem dX3_init_4 : decode cX3_init 4 = .ok (.return_, 1) := by decide +kernel
theorem q135 : (Jvm.Cond.initialized "NobodyCanLiftIt$Sheet") ∈ lw_all := lw_g (lw_at lw_m1 7 rfl) rfl
theorem q865 : (Jvm.Cond.instantiable "NobodyCanLiftIt$Sheet" (1 : Nat)) ∈ lw_all := lw_g (lw_at lw_m4 17 rfl) rfl
theorem q867 : (Jvm.Cond.instanceMethod ({ cls := "NobodyCanLiftIt$Sheet", name := "<init>", desc := "()V" } : Jvm.MethodName)) ∈ lw_all := lw_g (lw_at lw_m4 19 rfl) rfl
theorem q868 : (Jvm.Cond.code ({ cls := "NobodyCanLiftIt$Sheet", name := "<init>", desc := "()V" } : Jvm.MethodName) prog_13_method_1_code (1 : Nat) (Option.none : Option Jvm.ClassFile.FieldType)) ∈ lw_all := lw_g (lw_at lw_m4 20 rfl) rfl
theorem q869 : (Jvm.Cond.methodLink "NobodyCanLiftIt$Sheet" (1 : Nat) ({ cls := "java/lang/Object", name := "<init>", desc := "()V" } : Jvm.MethodName)) ∈ lw_all := lw_g (lw_at lw_m4 21 rfl) rfl
theorem q871 : (Jvm.Cond.lays "NobodyCanLiftIt$Sheet" "NobodyCanLiftIt$Sheet" "row" "Ljava/lang/Object;") ∈ lw_all := lw_g (lw_at lw_m4 23 rfl) rfl
theorem q872 : (Jvm.Cond.soleField "NobodyCanLiftIt$Sheet" "row") ∈ lw_all := lw_g (lw_at lw_m4 24 rfl) rfl
theorem q873 : (Jvm.Cond.superclass "NobodyCanLiftIt$Sheet" "java/lang/Object") ∈ lw_all := lw_g (lw_at lw_m4 25 rfl) rfl
theorem in_X3 : ∀ w ∈ wsX30, w ∈ lw_all := lw_in wsX30 [871] (by decide +kernel) (by decide +kernel)
/-! NobodyCanLiftIt$Node -/
set_option maxRecDepth 100000
def RX4 : String := "NobodyCanLiftIt$Node"
abbrev cX4_init : ByteArray := prog_9_method_1_code
def yX4_init : MethodName := ⟨RX4, "<init>", "()V"⟩
theorem dX4_init_0 : decode cX4_init 0 = .ok (.aload_n 0, 1) := by decide +kernel
theorem dX4_init_1 : decode cX4_init 1 = .ok (.invokespecial 1, 3) := by decide +kernel
theorem dX4_init_4 : decode cX4_init 4 = .ok (.return_, 1) := by decide +kernel
theorem q142 : (Jvm.Cond.initialized "NobodyCanLiftIt$Node") ∈ lw_all := lw_g (lw_at lw_m1 14 rfl) rfl
theorem q336 : (Jvm.Cond.declares ({ cls := "NobodyCanLiftIt$Node", name := "worth", desc := "()I" } : Jvm.MethodName)) ∈ lw_tbl := lw_at lw_m1 208 rfl
theorem q337 : (Jvm.Cond.sameMethod "NobodyCanLiftIt$Node" "NobodyCanLiftIt$Node" "worth" "()I") ∈ lw_all := lw_g (lw_at lw_m1 209 rfl) rfl
theorem q679 : (Jvm.Cond.instanceMethod ({ cls := "NobodyCanLiftIt$Node", name := "<init>", desc := "()V" } : Jvm.MethodName)) ∈ lw_all := lw_g (lw_at lw_m3 71 rfl) rfl
theorem q680 : (Jvm.Cond.code ({ cls := "NobodyCanLiftIt$Node", name := "<init>", desc := "()V" } : Jvm.MethodName) prog_9_method_1_code (1 : Nat) (Option.none : Option Jvm.ClassFile.FieldType)) ∈ lw_all := lw_g (lw_at lw_m3 72 rfl) rfl
theorem q681 : (Jvm.Cond.methodLink "NobodyCanLiftIt$Node" (1 : Nat) ({ cls := "java/lang/Object", name := "<init>", desc := "()V" } : Jvm.MethodName)) ∈ lw_all := lw_g (lw_at lw_m3 73 rfl) rfl
/-! NobodyCanLiftIt$Turned -/
set_option maxRecDepth 100000
def RX5 : String := "NobodyCanLiftIt$Turned"
def TX5 : u_T := fun k => match k with
  | 0 => ("NobodyCanLiftIt$Turned", "of", "LNobodyCanLiftIt$Node;", true)
  | _ => ("NobodyCanLiftIt$Turned", "isMinus", "Z", true)
def tyX5 : Nat → FieldType := fun k => match k with
  | 0 => .object "NobodyCanLiftIt$Node"
  | _ => .boolean
abbrev wsX50 : List Cond := u_ws RX5 TX5 2
theorem nmX5 : ∀ a, a < 2 → ∀ b, b < 2 → a ≠ b → (TX5 a).2.1 ≠ (TX5 b).2.1 := by decide +kernel
theorem tyX5_ok : ∀ k, k < 2 → parseFieldDescriptor (TX5 k).2.2.1 = some (tyX5 k) := by decide +kernel
abbrev cX5_worth : ByteArray := prog_14_method_2_code
def yX5_worth : MethodName := ⟨RX5, "worth", "()I"⟩
def dkwX5_worth_1 : List UInt8 := [4, 167, 0, 4, 3, 172]
abbrev dktX5_worth_1 : List UInt8 := dkwX5_worth_1 ++ []
def dkwX5_worth_0 : List UInt8 := [42, 180, 0, 7, 182, 0, 17, 60, 42, 180, 0, 13, 153, 0, 8, 27, 116, 167, 0, 12, 27, 154, 0, 7]
abbrev dktX5_worth_0 : List UInt8 := dkwX5_worth_0 ++ dktX5_worth_1
theorem dksX5_worth_0 : cX5_worth.data.toList.drop 0 = dktX5_worth_0 := by decide +kernel
theorem dksX5_worth_1 : cX5_worth.data.toList.drop 24 = dktX5_worth_1 := dk_seg dksX5_worth_0 24 rfl rfl
theorem dX5_worth_0 : decode cX5_worth 0 = .ok (.aload_n 0, 1) := dk_42 (dk_at dksX5_worth_0 0 rfl rfl)
theorem dX5_worth_1 : decode cX5_worth 1 = .ok (.getfield 7, 3) := dk_180 0 7 (dk_at dksX5_worth_0 1 rfl rfl)
theorem dX5_worth_4 : decode cX5_worth 4 = .ok (.invokevirtual 17, 3) := dk_182 0 17 (dk_at dksX5_worth_0 4 rfl rfl)
theorem dX5_worth_7 : decode cX5_worth 7 = .ok (.istore_n 1, 1) := dk_60 (dk_at dksX5_worth_0 7 rfl rfl)
theorem dX5_worth_8 : decode cX5_worth 8 = .ok (.aload_n 0, 1) := dk_42 (dk_at dksX5_worth_0 8 rfl rfl)
theorem dX5_worth_9 : decode cX5_worth 9 = .ok (.getfield 13, 3) := dk_180 0 13 (dk_at dksX5_worth_0 9 rfl rfl)
theorem dX5_worth_12 : decode cX5_worth 12 = .ok (.ifCond .eq 8, 3) := dk_153 0 8 (dk_at dksX5_worth_0 12 rfl rfl)
theorem dX5_worth_15 : decode cX5_worth 15 = .ok (.iload_n 1, 1) := dk_27 (dk_at dksX5_worth_0 15 rfl rfl)
theorem dX5_worth_16 : decode cX5_worth 16 = .ok (.ineg, 1) := dk_116 (dk_at dksX5_worth_0 16 rfl rfl)
theorem dX5_worth_17 : decode cX5_worth 17 = .ok (.goto 12, 3) := dk_167 0 12 (dk_at dksX5_worth_0 17 rfl rfl)
theorem dX5_worth_20 : decode cX5_worth 20 = .ok (.iload_n 1, 1) := dk_27 (dk_at dksX5_worth_0 20 rfl rfl)
theorem dX5_worth_21 : decode cX5_worth 21 = .ok (.ifCond .ne 7, 3) := dk_154 0 7 (dk_at dksX5_worth_0 21 rfl rfl)
theorem dX5_worth_24 : decode cX5_worth 24 = .ok (.iconst 1, 1) := dk_4 (dk_at dksX5_worth_1 0 rfl rfl)
theorem dX5_worth_25 : decode cX5_worth 25 = .ok (.goto 4, 3) := dk_167 0 4 (dk_at dksX5_worth_1 1 rfl rfl)
theorem dX5_worth_28 : decode cX5_worth 28 = .ok (.iconst 0, 1) := dk_3 (dk_at dksX5_worth_1 4 rfl rfl)
theorem dX5_worth_29 : decode cX5_worth 29 = .ok (.ireturn, 1) := dk_172 (dk_at dksX5_worth_1 5 rfl rfl)
abbrev cX5_init : ByteArray := prog_14_method_1_code
def yX5_init : MethodName := ⟨RX5, "<init>", "(LNobodyCanLiftIt$Node;Z)V"⟩
def dkwX5_init_0 : List UInt8 := [42, 183, 0, 1, 42, 43, 181, 0, 7, 42, 28, 181, 0, 13, 177]
abbrev dktX5_init_0 : List UInt8 := dkwX5_init_0 ++ []
theorem dksX5_init_0 : cX5_init.data.toList.drop 0 = dktX5_init_0 := by decide +kernel
theorem dX5_init_0 : decode cX5_init 0 = .ok (.aload_n 0, 1) := dk_42 (dk_at dksX5_init_0 0 rfl rfl)
theorem dX5_init_1 : decode cX5_init 1 = .ok (.invokespecial 1, 3) := dk_183 0 1 (dk_at dksX5_init_0 1 rfl rfl)
theorem dX5_init_4 : decode cX5_init 4 = .ok (.aload_n 0, 1) := dk_42 (dk_at dksX5_init_0 4 rfl rfl)
theorem dX5_init_5 : decode cX5_init 5 = .ok (.aload_n 1, 1) := dk_43 (dk_at dksX5_init_0 5 rfl rfl)
theorem dX5_init_6 : decode cX5_init 6 = .ok (.putfield 7, 3) := dk_181 0 7 (dk_at dksX5_init_0 6 rfl rfl)
theorem dX5_init_9 : decode cX5_init 9 = .ok (.aload_n 0, 1) := dk_42 (dk_at dksX5_init_0 9 rfl rfl)
theorem dX5_init_10 : decode cX5_init 10 = .ok (.iload_n 2, 1) := dk_28 (dk_at dksX5_init_0 10 rfl rfl)
theorem dX5_init_11 : decode cX5_init 11 = .ok (.putfield 13, 3) := dk_181 0 13 (dk_at dksX5_init_0 11 rfl rfl)
theorem dX5_init_14 : decode cX5_init 14 = .ok (.return_, 1) := dk_177 (dk_at dksX5_init_0 14 rfl rfl)
theorem q143 : (Jvm.Cond.initialized "NobodyCanLiftIt$Turned") ∈ lw_all := lw_g (lw_at lw_m1 15 rfl) rfl
theorem q348 : (Jvm.Cond.selects "NobodyCanLiftIt$Turned" ({ cls := "NobodyCanLiftIt$Node", name := "worth", desc := "()I" } : Jvm.MethodName) ({ cls := "NobodyCanLiftIt$Turned", name := "worth", desc := "()I" } : Jvm.MethodName)) ∈ lw_all := lw_g (lw_at lw_m1 220 rfl) rfl
theorem q349 : (Jvm.Cond.instanceMethod ({ cls := "NobodyCanLiftIt$Turned", name := "worth", desc := "()I" } : Jvm.MethodName)) ∈ lw_all := lw_g (lw_at lw_m1 221 rfl) rfl
theorem q350 : (Jvm.Cond.code ({ cls := "NobodyCanLiftIt$Turned", name := "worth", desc := "()I" } : Jvm.MethodName) prog_14_method_2_code (2 : Nat) (Option.some Jvm.ClassFile.FieldType.int)) ∈ lw_all := lw_g (lw_at lw_m1 222 rfl) rfl
theorem q351 : (Jvm.Cond.methodLink "NobodyCanLiftIt$Turned" (17 : Nat) ({ cls := "NobodyCanLiftIt$Node", name := "worth", desc := "()I" } : Jvm.MethodName)) ∈ lw_all := lw_g (lw_at lw_m1 223 rfl) rfl
theorem q674 : (Jvm.Cond.instantiable "NobodyCanLiftIt$Turned" (2 : Nat)) ∈ lw_all := lw_g (lw_at lw_m3 66 rfl) rfl
theorem q676 : (Jvm.Cond.instanceMethod ({ cls := "NobodyCanLiftIt$Turned", name := "<init>", desc := "(LNobodyCanLiftIt$Node;Z)V" } : Jvm.MethodName)) ∈ lw_all := lw_g (lw_at lw_m3 68 rfl) rfl
theorem q677 : (Jvm.Cond.code ({ cls := "NobodyCanLiftIt$Turned", name := "<init>", desc := "(LNobodyCanLiftIt$Node;Z)V" } : Jvm.MethodName) prog_14_method_1_code (3 : Nat) (Option.none : Option Jvm.ClassFile.FieldType)) ∈ lw_all := lw_g (lw_at lw_m3 69 rfl) rfl
theorem q678 : (Jvm.Cond.methodLinkNest "NobodyCanLiftIt$Turned" (1 : Nat) ({ cls := "NobodyCanLiftIt$Node", name := "<init>", desc := "()V" } : Jvm.MethodName) "NobodyCanLiftIt") ∈ lw_tbl := lw_at lw_m3 70 rfl
theorem q682 : (Jvm.Cond.fieldLink "NobodyCanLiftIt$Turned" (7 : Nat) "NobodyCanLiftIt$Turned" "of" "LNobodyCanLiftIt$Node;") ∈ lw_all := lw_g (lw_at lw_m3 74 rfl) rfl
theorem q683 : (Jvm.Cond.fieldLink "NobodyCanLiftIt$Turned" (13 : Nat) "NobodyCanLiftIt$Turned" "isMinus" "Z") ∈ lw_all := lw_g (lw_at lw_m3 75 rfl) rfl
theorem q684 : (Jvm.Cond.laysFinal "NobodyCanLiftIt$Turned" "NobodyCanLiftIt$Turned" "of" "LNobodyCanLiftIt$Node;") ∈ lw_all := lw_g (lw_at lw_m3 76 rfl) rfl
theorem q685 : (Jvm.Cond.soleField "NobodyCanLiftIt$Turned" "of") ∈ lw_all := lw_g (lw_at lw_m3 77 rfl) rfl
theorem q686 : (Jvm.Cond.laysFinal "NobodyCanLiftIt$Turned" "NobodyCanLiftIt$Turned" "isMinus" "Z") ∈ lw_all := lw_g (lw_at lw_m3 78 rfl) rfl
theorem q687 : (Jvm.Cond.soleField "NobodyCanLiftIt$Turned" "isMinus") ∈ lw_all := lw_g (lw_at lw_m3 79 rfl) rfl
theorem q688 : (Jvm.Cond.superclass "NobodyCanLiftIt$Turned" "NobodyCanLiftIt$Node") ∈ lw_all := lw_g (lw_at lw_m3 80 rfl) rfl
theorem q1926 : (Jvm.Cond.castable "NobodyCanLiftIt$Turned" "NobodyCanLiftIt$Node") ∈ lw_tbl := lw_at lw_m8 118 rfl
theorem in_X5 : ∀ w ∈ wsX50, w ∈ lw_all := lw_in wsX50 [684, 686] (by decide +kernel) (by decide +kernel)
/-! NobodyCanLiftIt$Number -/
set_option maxRecDepth 100000
def RX6 : String := "NobodyCanLiftIt$Number"
def TX6 : u_T := fun k => match k with
  | _ => ("NobodyCanLiftIt$Number", "v", "I", true)
def tyX6 : Nat → FieldType := fun k => match k with
  | _ => .int
abbrev wsX60 : List Cond := u_ws RX6 TX6 1
theorem nmX6 : ∀ a, a < 1 → ∀ b, b < 1 → a ≠ b → (TX6 a).2.1 ≠ (TX6 b).2.1 := by decide +kernel
theorem tyX6_ok : ∀ k, k < 1 → parseFieldDescriptor (TX6 k).2.2.1 = some (tyX6 k) := by decide +kernel
abbrev cX6_worth : ByteArray := prog_10_method_2_code
def yX6_worth : MethodName := ⟨RX6, "worth", "()I"⟩
theorem dX6_worth_0 : decode cX6_worth 0 = .ok (.aload_n 0, 1) := by decide +kernel
theorem dX6_worth_1 : decode cX6_worth 1 = .ok (.getfield 7, 3) := by decide +kernel
theorem dX6_worth_4 : decode cX6_worth 4 = .ok (.ireturn, 1) := by decide +kernel
abbrev cX6_init : ByteArray := prog_10_method_1_code
def yX6_init : MethodName := ⟨RX6, "<init>", "(I)V"⟩
def dkwX6_init_0 : List UInt8 := [42, 183, 0, 1, 42, 27, 181, 0, 7, 177]
abbrev dktX6_init_0 : List UInt8 := dkwX6_init_0 ++ []
theorem dksX6_init_0 : cX6_init.data.toList.drop 0 = dktX6_init_0 := by decide +kernel
theorem dX6_init_0 : decode cX6_init 0 = .ok (.aload_n 0, 1) := dk_42 (dk_at dksX6_init_0 0 rfl rfl)
theorem dX6_init_1 : decode cX6_init 1 = .ok (.invokespecial 1, 3) := dk_183 0 1 (dk_at dksX6_init_0 1 rfl rfl)
theorem dX6_init_4 : decode cX6_init 4 = .ok (.aload_n 0, 1) := dk_42 (dk_at dksX6_init_0 4 rfl rfl)
theorem dX6_init_5 : decode cX6_init 5 = .ok (.iload_n 1, 1) := dk_27 (dk_at dksX6_init_0 5 rfl rfl)
theorem dX6_init_6 : decode cX6_init 6 = .ok (.putfield 7, 3) := dk_181 0 7 (dk_at dksX6_init_0 6 rfl rfl)
theorem dX6_init_9 : decode cX6_init 9 = .ok (.return_, 1) := dk_177 (dk_at dksX6_init_0 9 rfl rfl)
theorem q144 : (Jvm.Cond.initialized "NobodyCanLiftIt$Number") ∈ lw_all := lw_g (lw_at lw_m1 16 rfl) rfl
theorem q345 : (Jvm.Cond.selects "NobodyCanLiftIt$Number" ({ cls := "NobodyCanLiftIt$Node", name := "worth", desc := "()I" } : Jvm.MethodName) ({ cls := "NobodyCanLiftIt$Number", name := "worth", desc := "()I" } : Jvm.MethodName)) ∈ lw_all := lw_g (lw_at lw_m1 217 rfl) rfl
theorem q346 : (Jvm.Cond.instanceMethod ({ cls := "NobodyCanLiftIt$Number", name := "worth", desc := "()I" } : Jvm.MethodName)) ∈ lw_all := lw_g (lw_at lw_m1 218 rfl) rfl
theorem q347 : (Jvm.Cond.code ({ cls := "NobodyCanLiftIt$Number", name := "worth", desc := "()I" } : Jvm.MethodName) prog_10_method_2_code (1 : Nat) (Option.some Jvm.ClassFile.FieldType.int)) ∈ lw_all := lw_g (lw_at lw_m1 219 rfl) rfl
theorem q703 : (Jvm.Cond.instantiable "NobodyCanLiftIt$Number" (1 : Nat)) ∈ lw_all := lw_g (lw_at lw_m3 95 rfl) rfl
theorem q705 : (Jvm.Cond.instanceMethod ({ cls := "NobodyCanLiftIt$Number", name := "<init>", desc := "(I)V" } : Jvm.MethodName)) ∈ lw_all := lw_g (lw_at lw_m3 97 rfl) rfl
theorem q706 : (Jvm.Cond.code ({ cls := "NobodyCanLiftIt$Number", name := "<init>", desc := "(I)V" } : Jvm.MethodName) prog_10_method_1_code (2 : Nat) (Option.none : Option Jvm.ClassFile.FieldType)) ∈ lw_all := lw_g (lw_at lw_m3 98 rfl) rfl
theorem q707 : (Jvm.Cond.methodLinkNest "NobodyCanLiftIt$Number" (1 : Nat) ({ cls := "NobodyCanLiftIt$Node", name := "<init>", desc := "()V" } : Jvm.MethodName) "NobodyCanLiftIt") ∈ lw_tbl := lw_at lw_m3 99 rfl
theorem q708 : (Jvm.Cond.fieldLink "NobodyCanLiftIt$Number" (7 : Nat) "NobodyCanLiftIt$Number" "v" "I") ∈ lw_all := lw_g (lw_at lw_m3 100 rfl) rfl
theorem q709 : (Jvm.Cond.laysFinal "NobodyCanLiftIt$Number" "NobodyCanLiftIt$Number" "v" "I") ∈ lw_all := lw_g (lw_at lw_m3 101 rfl) rfl
theorem q710 : (Jvm.Cond.soleField "NobodyCanLiftIt$Number" "v") ∈ lw_all := lw_g (lw_at lw_m3 102 rfl) rfl
theorem q711 : (Jvm.Cond.superclass "NobodyCanLiftIt$Number" "NobodyCanLiftIt$Node") ∈ lw_all := lw_g (lw_at lw_m3 103 rfl) rfl
theorem q1927 : (Jvm.Cond.castable "NobodyCanLiftIt$Number" "NobodyCanLiftIt$Node") ∈ lw_tbl := lw_at lw_m8 119 rfl
theorem in_X6 : ∀ w ∈ wsX60, w ∈ lw_all := lw_in wsX60 [709] (by decide +kernel) (by decide +kernel)
/-! NobodyCanLiftIt$Name -/
set_option maxRecDepth 100000
def RX7 : String := "NobodyCanLiftIt$Name"
def TX7 : u_T := fun k => match k with
  | 0 => ("NobodyCanLiftIt$Name", "which", "I", true)
  | _ => ("NobodyCanLiftIt$Name", "this$0", "LNobodyCanLiftIt;", true)
def tyX7 : Nat → FieldType := fun k => match k with
  | 0 => .int
  | _ => .object "NobodyCanLiftIt"
abbrev wsX70 : List Cond := u_ws RX7 TX7 2
theorem nmX7 : ∀ a, a < 2 → ∀ b, b < 2 → a ≠ b → (TX7 a).2.1 ≠ (TX7 b).2.1 := by decide +kernel
theorem tyX7_ok : ∀ k, k < 2 → parseFieldDescriptor (TX7 k).2.2.1 = some (tyX7 k) := by decide +kernel
abbrev cX7_worth : ByteArray := prog_8_method_2_code
def yX7_worth : MethodName := ⟨RX7, "worth", "()I"⟩
def dkwX7_worth_5 : List UInt8 := [180, 0, 40, 172, 42, 180, 0, 1, 42, 180, 0, 1, 180, 0, 23, 182, 0, 43, 172]
abbrev dktX7_worth_5 : List UInt8 := dkwX7_worth_5 ++ []
def dkwX7_worth_4 : List UInt8 := [180, 0, 1, 180, 0, 37, 172, 42, 180, 0, 1, 180, 0, 17, 42, 180, 0, 1, 180, 0, 23, 50]
abbrev dktX7_worth_4 : List UInt8 := dkwX7_worth_4 ++ dktX7_worth_5
def dkwX7_worth_3 : List UInt8 := [180, 0, 17, 42, 180, 0, 1, 180, 0, 23, 50, 180, 0, 31, 172, 42, 180, 0, 1, 180, 0, 34, 172, 42]
abbrev dktX7_worth_3 : List UInt8 := dkwX7_worth_3 ++ dktX7_worth_4
def dkwX7_worth_2 : List UInt8 := [42, 180, 0, 1, 180, 0, 17, 42, 180, 0, 1, 180, 0, 23, 50, 180, 0, 26, 172, 42, 180, 0, 1]
abbrev dktX7_worth_2 : List UInt8 := dkwX7_worth_2 ++ dktX7_worth_3
def dkwX7_worth_1 : List UInt8 := [170, 0, 0, 0, 0, 0, 0, 109, 0, 0, 0, 0, 0, 0, 0, 4, 0, 0, 0, 36, 0, 0, 0, 55, 0, 0, 0, 74, 0, 0, 0, 82, 0, 0, 0, 90]
abbrev dktX7_worth_1 : List UInt8 := dkwX7_worth_1 ++ dktX7_worth_2
def dkwX7_worth_0 : List UInt8 := [42, 180, 0, 13]
abbrev dktX7_worth_0 : List UInt8 := dkwX7_worth_0 ++ dktX7_worth_1
theorem dksX7_worth_0 : cX7_worth.data.toList.drop 0 = dktX7_worth_0 := by decide +kernel
theorem dksX7_worth_1 : cX7_worth.data.toList.drop 4 = dktX7_worth_1 := dk_seg dksX7_worth_0 4 rfl rfl
theorem dksX7_worth_2 : cX7_worth.data.toList.drop 40 = dktX7_worth_2 := dk_seg dksX7_worth_1 36 rfl rfl
theorem dksX7_worth_3 : cX7_worth.data.toList.drop 63 = dktX7_worth_3 := dk_seg dksX7_worth_2 23 rfl rfl
theorem dksX7_worth_4 : cX7_worth.data.toList.drop 87 = dktX7_worth_4 := dk_seg dksX7_worth_3 24 rfl rfl
theorem dksX7_worth_5 : cX7_worth.data.toList.drop 109 = dktX7_worth_5 := dk_seg dksX7_worth_4 22 rfl rfl
theorem dX7_worth_0 : decode cX7_worth 0 = .ok (.aload_n 0, 1) := dk_42 (dk_at dksX7_worth_0 0 rfl rfl)
theorem dX7_worth_1 : decode cX7_worth 1 = .ok (.getfield 13, 3) := dk_180 0 13 (dk_at dksX7_worth_0 1 rfl rfl)
theorem dX7_worth_4 : decode cX7_worth 4 = .ok (.tableswitch 109 0 4 #[36, 55, 74, 82, 90], 36) := by decide +kernel
theorem dX7_worth_40 : decode cX7_worth 40 = .ok (.aload_n 0, 1) := dk_42 (dk_at dksX7_worth_2 0 rfl rfl)
theorem dX7_worth_41 : decode cX7_worth 41 = .ok (.getfield 1, 3) := dk_180 0 1 (dk_at dksX7_worth_2 1 rfl rfl)
theorem dX7_worth_44 : decode cX7_worth 44 = .ok (.getfield 17, 3) := dk_180 0 17 (dk_at dksX7_worth_2 4 rfl rfl)
theorem dX7_worth_47 : decode cX7_worth 47 = .ok (.aload_n 0, 1) := dk_42 (dk_at dksX7_worth_2 7 rfl rfl)
theorem dX7_worth_48 : decode cX7_worth 48 = .ok (.getfield 1, 3) := dk_180 0 1 (dk_at dksX7_worth_2 8 rfl rfl)
theorem dX7_worth_51 : decode cX7_worth 51 = .ok (.getfield 23, 3) := dk_180 0 23 (dk_at dksX7_worth_2 11 rfl rfl)
theorem dX7_worth_54 : decode cX7_worth 54 = .ok (.aaload, 1) := dk_50 (dk_at dksX7_worth_2 14 rfl rfl)
theorem dX7_worth_55 : decode cX7_worth 55 = .ok (.getfield 26, 3) := dk_180 0 26 (dk_at dksX7_worth_2 15 rfl rfl)
theorem dX7_worth_58 : decode cX7_worth 58 = .ok (.ireturn, 1) := dk_172 (dk_at dksX7_worth_2 18 rfl rfl)
theorem dX7_worth_59 : decode cX7_worth 59 = .ok (.aload_n 0, 1) := dk_42 (dk_at dksX7_worth_2 19 rfl rfl)
theorem dX7_worth_60 : decode cX7_worth 60 = .ok (.getfield 1, 3) := dk_180 0 1 (dk_at dksX7_worth_2 20 rfl rfl)
theorem dX7_worth_63 : decode cX7_worth 63 = .ok (.getfield 17, 3) := dk_180 0 17 (dk_at dksX7_worth_3 0 rfl rfl)
theorem dX7_worth_66 : decode cX7_worth 66 = .ok (.aload_n 0, 1) := dk_42 (dk_at dksX7_worth_3 3 rfl rfl)
theorem dX7_worth_67 : decode cX7_worth 67 = .ok (.getfield 1, 3) := dk_180 0 1 (dk_at dksX7_worth_3 4 rfl rfl)
theorem dX7_worth_70 : decode cX7_worth 70 = .ok (.getfield 23, 3) := dk_180 0 23 (dk_at dksX7_worth_3 7 rfl rfl)
theorem dX7_worth_73 : decode cX7_worth 73 = .ok (.aaload, 1) := dk_50 (dk_at dksX7_worth_3 10 rfl rfl)
theorem dX7_worth_74 : decode cX7_worth 74 = .ok (.getfield 31, 3) := dk_180 0 31 (dk_at dksX7_worth_3 11 rfl rfl)
theorem dX7_worth_77 : decode cX7_worth 77 = .ok (.ireturn, 1) := dk_172 (dk_at dksX7_worth_3 14 rfl rfl)
theorem dX7_worth_78 : decode cX7_worth 78 = .ok (.aload_n 0, 1) := dk_42 (dk_at dksX7_worth_3 15 rfl rfl)
theorem dX7_worth_79 : decode cX7_worth 79 = .ok (.getfield 1, 3) := dk_180 0 1 (dk_at dksX7_worth_3 16 rfl rfl)
theorem dX7_worth_82 : decode cX7_worth 82 = .ok (.getfield 34, 3) := dk_180 0 34 (dk_at dksX7_worth_3 19 rfl rfl)
theorem dX7_worth_85 : decode cX7_worth 85 = .ok (.ireturn, 1) := dk_172 (dk_at dksX7_worth_3 22 rfl rfl)
theorem dX7_worth_86 : decode cX7_worth 86 = .ok (.aload_n 0, 1) := dk_42 (dk_at dksX7_worth_3 23 rfl rfl)
theorem dX7_worth_87 : decode cX7_worth 87 = .ok (.getfield 1, 3) := dk_180 0 1 (dk_at dksX7_worth_4 0 rfl rfl)
theorem dX7_worth_90 : decode cX7_worth 90 = .ok (.getfield 37, 3) := dk_180 0 37 (dk_at dksX7_worth_4 3 rfl rfl)
theorem dX7_worth_93 : decode cX7_worth 93 = .ok (.ireturn, 1) := dk_172 (dk_at dksX7_worth_4 6 rfl rfl)
theorem dX7_worth_94 : decode cX7_worth 94 = .ok (.aload_n 0, 1) := dk_42 (dk_at dksX7_worth_4 7 rfl rfl)
theorem dX7_worth_95 : decode cX7_worth 95 = .ok (.getfield 1, 3) := dk_180 0 1 (dk_at dksX7_worth_4 8 rfl rfl)
theorem dX7_worth_98 : decode cX7_worth 98 = .ok (.getfield 17, 3) := dk_180 0 17 (dk_at dksX7_worth_4 11 rfl rfl)
theorem dX7_worth_101 : decode cX7_worth 101 = .ok (.aload_n 0, 1) := dk_42 (dk_at dksX7_worth_4 14 rfl rfl)
theorem dX7_worth_102 : decode cX7_worth 102 = .ok (.getfield 1, 3) := dk_180 0 1 (dk_at dksX7_worth_4 15 rfl rfl)
theorem dX7_worth_105 : decode cX7_worth 105 = .ok (.getfield 23, 3) := dk_180 0 23 (dk_at dksX7_worth_4 18 rfl rfl)
theorem dX7_worth_108 : decode cX7_worth 108 = .ok (.aaload, 1) := dk_50 (dk_at dksX7_worth_4 21 rfl rfl)
theorem dX7_worth_109 : decode cX7_worth 109 = .ok (.getfield 40, 3) := dk_180 0 40 (dk_at dksX7_worth_5 0 rfl rfl)
theorem dX7_worth_112 : decode cX7_worth 112 = .ok (.ireturn, 1) := dk_172 (dk_at dksX7_worth_5 3 rfl rfl)
theorem dX7_worth_113 : decode cX7_worth 113 = .ok (.aload_n 0, 1) := dk_42 (dk_at dksX7_worth_5 4 rfl rfl)
theorem dX7_worth_114 : decode cX7_worth 114 = .ok (.getfield 1, 3) := dk_180 0 1 (dk_at dksX7_worth_5 5 rfl rfl)
theorem dX7_worth_117 : decode cX7_worth 117 = .ok (.aload_n 0, 1) := dk_42 (dk_at dksX7_worth_5 8 rfl rfl)
theorem dX7_worth_118 : decode cX7_worth 118 = .ok (.getfield 1, 3) := dk_180 0 1 (dk_at dksX7_worth_5 9 rfl rfl)
theorem dX7_worth_121 : decode cX7_worth 121 = .ok (.getfield 23, 3) := dk_180 0 23 (dk_at dksX7_worth_5 12 rfl rfl)
theorem dX7_worth_124 : decode cX7_worth 124 = .ok (.invokevirtual 43, 3) := dk_182 0 43 (dk_at dksX7_worth_5 15 rfl rfl)
theorem dX7_worth_127 : decode cX7_worth 127 = .ok (.ireturn, 1) := dk_172 (dk_at dksX7_worth_5 18 rfl rfl)
abbrev cX7_init : ByteArray := prog_8_method_1_code
def yX7_init : MethodName := ⟨RX7, "<init>", "(LNobodyCanLiftIt;I)V"⟩
def dkwX7_init_0 : List UInt8 := [42, 43, 181, 0, 1, 42, 183, 0, 7, 42, 28, 181, 0, 13, 177]
abbrev dktX7_init_0 : List UInt8 := dkwX7_init_0 ++ []
theorem dksX7_init_0 : cX7_init.data.toList.drop 0 = dktX7_init_0 := by decide +kernel
theorem dX7_init_0 : decode cX7_init 0 = .ok (.aload_n 0, 1) := dk_42 (dk_at dksX7_init_0 0 rfl rfl)
theorem dX7_init_1 : decode cX7_init 1 = .ok (.aload_n 1, 1) := dk_43 (dk_at dksX7_init_0 1 rfl rfl)
theorem dX7_init_2 : decode cX7_init 2 = .ok (.putfield 1, 3) := dk_181 0 1 (dk_at dksX7_init_0 2 rfl rfl)
theorem dX7_init_5 : decode cX7_init 5 = .ok (.aload_n 0, 1) := dk_42 (dk_at dksX7_init_0 5 rfl rfl)
theorem dX7_init_6 : decode cX7_init 6 = .ok (.invokespecial 7, 3) := dk_183 0 7 (dk_at dksX7_init_0 6 rfl rfl)
theorem dX7_init_9 : decode cX7_init 9 = .ok (.aload_n 0, 1) := dk_42 (dk_at dksX7_init_0 9 rfl rfl)
theorem dX7_init_10 : decode cX7_init 10 = .ok (.iload_n 2, 1) := dk_28 (dk_at dksX7_init_0 10 rfl rfl)
theorem dX7_init_11 : decode cX7_init 11 = .ok (.putfield 13, 3) := dk_181 0 13 (dk_at dksX7_init_0 11 rfl rfl)
theorem dX7_init_14 : decode cX7_init 14 = .ok (.return_, 1) := dk_177 (dk_at dksX7_init_0 14 rfl rfl)
theorem q145 : (Jvm.Cond.initialized "NobodyCanLiftIt$Name") ∈ lw_all := lw_g (lw_at lw_m1 17 rfl) rfl
theorem q187 : (Jvm.Cond.fieldLink "NobodyCanLiftIt$Name" (31 : Nat) "NobodyCanLiftIt$Man" "number" "I") ∈ lw_all := lw_g (lw_at lw_m1 59 rfl) rfl
theorem q194 : (Jvm.Cond.fieldLink "NobodyCanLiftIt$Name" (26 : Nat) "NobodyCanLiftIt$Man" "age" "I") ∈ lw_all := lw_g (lw_at lw_m1 66 rfl) rfl
theorem q198 : (Jvm.Cond.fieldLink "NobodyCanLiftIt$Name" (40 : Nat) "NobodyCanLiftIt$Man" "ease" "I") ∈ lw_all := lw_g (lw_at lw_m1 70 rfl) rfl
theorem q338 : (Jvm.Cond.selects "NobodyCanLiftIt$Name" ({ cls := "NobodyCanLiftIt$Node", name := "worth", desc := "()I" } : Jvm.MethodName) ({ cls := "NobodyCanLiftIt$Name", name := "worth", desc := "()I" } : Jvm.MethodName)) ∈ lw_all := lw_g (lw_at lw_m1 210 rfl) rfl
theorem q339 : (Jvm.Cond.instanceMethod ({ cls := "NobodyCanLiftIt$Name", name := "worth", desc := "()I" } : Jvm.MethodName)) ∈ lw_all := lw_g (lw_at lw_m1 211 rfl) rfl
theorem q340 : (Jvm.Cond.code ({ cls := "NobodyCanLiftIt$Name", name := "worth", desc := "()I" } : Jvm.MethodName) prog_8_method_2_code (1 : Nat) (Option.some Jvm.ClassFile.FieldType.int)) ∈ lw_all := lw_g (lw_at lw_m1 212 rfl) rfl
theorem q341 : (Jvm.Cond.methodLinkNest "NobodyCanLiftIt$Name" (43 : Nat) ({ cls := "NobodyCanLiftIt", name := "others", desc := "(I)I" } : Jvm.MethodName) "NobodyCanLiftIt") ∈ lw_tbl := lw_at lw_m1 213 rfl
theorem q713 : (Jvm.Cond.instantiable "NobodyCanLiftIt$Name" (2 : Nat)) ∈ lw_all := lw_g (lw_at lw_m3 105 rfl) rfl
theorem q715 : (Jvm.Cond.instanceMethod ({ cls := "NobodyCanLiftIt$Name", name := "<init>", desc := "(LNobodyCanLiftIt;I)V" } : Jvm.MethodName)) ∈ lw_all := lw_g (lw_at lw_m3 107 rfl) rfl
theorem q716 : (Jvm.Cond.code ({ cls := "NobodyCanLiftIt$Name", name := "<init>", desc := "(LNobodyCanLiftIt;I)V" } : Jvm.MethodName) prog_8_method_1_code (3 : Nat) (Option.none : Option Jvm.ClassFile.FieldType)) ∈ lw_all := lw_g (lw_at lw_m3 108 rfl) rfl
theorem q717 : (Jvm.Cond.methodLinkNest "NobodyCanLiftIt$Name" (7 : Nat) ({ cls := "NobodyCanLiftIt$Node", name := "<init>", desc := "()V" } : Jvm.MethodName) "NobodyCanLiftIt") ∈ lw_tbl := lw_at lw_m3 109 rfl
theorem q718 : (Jvm.Cond.fieldLink "NobodyCanLiftIt$Name" (13 : Nat) "NobodyCanLiftIt$Name" "which" "I") ∈ lw_all := lw_g (lw_at lw_m3 110 rfl) rfl
theorem q719 : (Jvm.Cond.fieldLink "NobodyCanLiftIt$Name" (1 : Nat) "NobodyCanLiftIt$Name" "this$0" "LNobodyCanLiftIt;") ∈ lw_all := lw_g (lw_at lw_m3 111 rfl) rfl
theorem q720 : (Jvm.Cond.laysFinal "NobodyCanLiftIt$Name" "NobodyCanLiftIt$Name" "which" "I") ∈ lw_all := lw_g (lw_at lw_m3 112 rfl) rfl
theorem q721 : (Jvm.Cond.soleField "NobodyCanLiftIt$Name" "which") ∈ lw_all := lw_g (lw_at lw_m3 113 rfl) rfl
theorem q722 : (Jvm.Cond.laysFinal "NobodyCanLiftIt$Name" "NobodyCanLiftIt$Name" "this$0" "LNobodyCanLiftIt;") ∈ lw_all := lw_g (lw_at lw_m3 114 rfl) rfl
theorem q723 : (Jvm.Cond.soleField "NobodyCanLiftIt$Name" "this$0") ∈ lw_all := lw_g (lw_at lw_m3 115 rfl) rfl
theorem q724 : (Jvm.Cond.superclass "NobodyCanLiftIt$Name" "NobodyCanLiftIt$Node") ∈ lw_all := lw_g (lw_at lw_m3 116 rfl) rfl
theorem q879 : (Jvm.Cond.fieldLinkNest "NobodyCanLiftIt$Name" (17 : Nat) "NobodyCanLiftIt" "folk" "[LNobodyCanLiftIt$Man;" "NobodyCanLiftIt") ∈ lw_tbl := lw_at lw_m4 31 rfl
theorem q882 : (Jvm.Cond.fieldLinkNest "NobodyCanLiftIt$Name" (37 : Nat) "NobodyCanLiftIt" "year" "I" "NobodyCanLiftIt") ∈ lw_tbl := lw_at lw_m4 34 rfl
theorem q884 : (Jvm.Cond.fieldLinkNest "NobodyCanLiftIt$Name" (34 : Nat) "NobodyCanLiftIt" "on" "I" "NobodyCanLiftIt") ∈ lw_tbl := lw_at lw_m4 36 rfl
theorem q888 : (Jvm.Cond.fieldLinkNest "NobodyCanLiftIt$Name" (23 : Nat) "NobodyCanLiftIt" "forOne" "I" "NobodyCanLiftIt") ∈ lw_tbl := lw_at lw_m4 40 rfl
theorem q1928 : (Jvm.Cond.castable "NobodyCanLiftIt$Name" "NobodyCanLiftIt$Node") ∈ lw_tbl := lw_at lw_m8 120 rfl
theorem in_X7 : ∀ w ∈ wsX70, w ∈ lw_all := lw_in wsX70 [720, 722] (by decide +kernel) (by decide +kernel)
/-! NobodyCanLiftIt$Two -/
set_option maxRecDepth 100000
def RX8 : String := "NobodyCanLiftIt$Two"
def TX8 : u_T := fun k => match k with
  | 0 => ("NobodyCanLiftIt$Two", "sign", "I", true)
  | 1 => ("NobodyCanLiftIt$Two", "a", "LNobodyCanLiftIt$Node;", true)
  | _ => ("NobodyCanLiftIt$Two", "b", "LNobodyCanLiftIt$Node;", true)
def tyX8 : Nat → FieldType := fun k => match k with
  | 0 => .int
  | 1 => .object "NobodyCanLiftIt$Node"
  | _ => .object "NobodyCanLiftIt$Node"
abbrev wsX80 : List Cond := u_ws RX8 TX8 3
theorem nmX8 : ∀ a, a < 3 → ∀ b, b < 3 → a ≠ b → (TX8 a).2.1 ≠ (TX8 b).2.1 := by decide +kernel
theorem tyX8_ok : ∀ k, k < 3 → parseFieldDescriptor (TX8 k).2.2.1 = some (tyX8 k) := by decide +kernel
abbrev cX8_worth : ByteArray := prog_15_method_2_code
def yX8_worth : MethodName := ⟨RX8, "worth", "()I"⟩
def dkwX8_worth_4 : List UInt8 := [27, 154, 0, 7, 28, 153, 0, 7, 4, 167, 0, 4, 3, 172]
abbrev dktX8_worth_4 : List UInt8 := dkwX8_worth_4 ++ []
def dkwX8_worth_3 : List UInt8 := [28, 160, 0, 7, 4, 167, 0, 4, 3, 172, 27, 153, 0, 11, 28, 153, 0, 7, 4, 167, 0, 4, 3, 172]
abbrev dktX8_worth_3 : List UInt8 := dkwX8_worth_3 ++ dktX8_worth_4
def dkwX8_worth_2 : List UInt8 := [27, 28, 96, 172, 27, 28, 100, 172, 27, 28, 104, 172, 27, 28, 162, 0, 7, 4, 167, 0, 4, 3, 172, 27]
abbrev dktX8_worth_2 : List UInt8 := dkwX8_worth_2 ++ dktX8_worth_3
def dkwX8_worth_1 : List UInt8 := [171, 0, 0, 0, 0, 0, 0, 108, 0, 0, 0, 6, 0, 0, 0, 38, 0, 0, 0, 94, 0, 0, 0, 42, 0, 0, 0, 68, 0, 0, 0, 43, 0, 0, 0, 60, 0, 0, 0, 45, 0, 0, 0, 64, 0, 0, 0, 60, 0, 0, 0, 72, 0, 0, 0, 61, 0, 0, 0, 83]
abbrev dktX8_worth_1 : List UInt8 := dkwX8_worth_1 ++ dktX8_worth_2
def dkwX8_worth_0 : List UInt8 := [42, 180, 0, 13, 182, 0, 20, 60, 42, 180, 0, 17, 182, 0, 20, 61, 42, 180, 0, 7]
abbrev dktX8_worth_0 : List UInt8 := dkwX8_worth_0 ++ dktX8_worth_1
theorem dksX8_worth_0 : cX8_worth.data.toList.drop 0 = dktX8_worth_0 := by decide +kernel
theorem dksX8_worth_1 : cX8_worth.data.toList.drop 20 = dktX8_worth_1 := dk_seg dksX8_worth_0 20 rfl rfl
theorem dksX8_worth_2 : cX8_worth.data.toList.drop 80 = dktX8_worth_2 := dk_seg dksX8_worth_1 60 rfl rfl
theorem dksX8_worth_3 : cX8_worth.data.toList.drop 104 = dktX8_worth_3 := dk_seg dksX8_worth_2 24 rfl rfl
theorem dksX8_worth_4 : cX8_worth.data.toList.drop 128 = dktX8_worth_4 := dk_seg dksX8_worth_3 24 rfl rfl
theorem dX8_worth_0 : decode cX8_worth 0 = .ok (.aload_n 0, 1) := dk_42 (dk_at dksX8_worth_0 0 rfl rfl)
theorem dX8_worth_1 : decode cX8_worth 1 = .ok (.getfield 13, 3) := dk_180 0 13 (dk_at dksX8_worth_0 1 rfl rfl)
theorem dX8_worth_4 : decode cX8_worth 4 = .ok (.invokevirtual 20, 3) := dk_182 0 20 (dk_at dksX8_worth_0 4 rfl rfl)
theorem dX8_worth_7 : decode cX8_worth 7 = .ok (.istore_n 1, 1) := dk_60 (dk_at dksX8_worth_0 7 rfl rfl)
theorem dX8_worth_8 : decode cX8_worth 8 = .ok (.aload_n 0, 1) := dk_42 (dk_at dksX8_worth_0 8 rfl rfl)
theorem dX8_worth_9 : decode cX8_worth 9 = .ok (.getfield 17, 3) := dk_180 0 17 (dk_at dksX8_worth_0 9 rfl rfl)
theorem dX8_worth_12 : decode cX8_worth 12 = .ok (.invokevirtual 20, 3) := dk_182 0 20 (dk_at dksX8_worth_0 12 rfl rfl)
theorem dX8_worth_15 : decode cX8_worth 15 = .ok (.istore_n 2, 1) := dk_61 (dk_at dksX8_worth_0 15 rfl rfl)
theorem dX8_worth_16 : decode cX8_worth 16 = .ok (.aload_n 0, 1) := dk_42 (dk_at dksX8_worth_0 16 rfl rfl)
theorem dX8_worth_17 : decode cX8_worth 17 = .ok (.getfield 7, 3) := dk_180 0 7 (dk_at dksX8_worth_0 17 rfl rfl)
theorem dX8_worth_20 : decode cX8_worth 20 = .ok (.lookupswitch 108 #[(38, 94), (42, 68), (43, 60), (45, 64), (60, 72), (61, 83)], 60) := by decide +kernel
theorem dX8_worth_80 : decode cX8_worth 80 = .ok (.iload_n 1, 1) := dk_27 (dk_at dksX8_worth_2 0 rfl rfl)
theorem dX8_worth_81 : decode cX8_worth 81 = .ok (.iload_n 2, 1) := dk_28 (dk_at dksX8_worth_2 1 rfl rfl)
theorem dX8_worth_82 : decode cX8_worth 82 = .ok (.iadd, 1) := dk_96 (dk_at dksX8_worth_2 2 rfl rfl)
theorem dX8_worth_83 : decode cX8_worth 83 = .ok (.ireturn, 1) := dk_172 (dk_at dksX8_worth_2 3 rfl rfl)
theorem dX8_worth_84 : decode cX8_worth 84 = .ok (.iload_n 1, 1) := dk_27 (dk_at dksX8_worth_2 4 rfl rfl)
theorem dX8_worth_85 : decode cX8_worth 85 = .ok (.iload_n 2, 1) := dk_28 (dk_at dksX8_worth_2 5 rfl rfl)
theorem dX8_worth_86 : decode cX8_worth 86 = .ok (.isub, 1) := dk_100 (dk_at dksX8_worth_2 6 rfl rfl)
theorem dX8_worth_87 : decode cX8_worth 87 = .ok (.ireturn, 1) := dk_172 (dk_at dksX8_worth_2 7 rfl rfl)
theorem dX8_worth_88 : decode cX8_worth 88 = .ok (.iload_n 1, 1) := dk_27 (dk_at dksX8_worth_2 8 rfl rfl)
theorem dX8_worth_89 : decode cX8_worth 89 = .ok (.iload_n 2, 1) := dk_28 (dk_at dksX8_worth_2 9 rfl rfl)
theorem dX8_worth_90 : decode cX8_worth 90 = .ok (.imul, 1) := dk_104 (dk_at dksX8_worth_2 10 rfl rfl)
theorem dX8_worth_91 : decode cX8_worth 91 = .ok (.ireturn, 1) := dk_172 (dk_at dksX8_worth_2 11 rfl rfl)
theorem dX8_worth_92 : decode cX8_worth 92 = .ok (.iload_n 1, 1) := dk_27 (dk_at dksX8_worth_2 12 rfl rfl)
theorem dX8_worth_93 : decode cX8_worth 93 = .ok (.iload_n 2, 1) := dk_28 (dk_at dksX8_worth_2 13 rfl rfl)
theorem dX8_worth_94 : decode cX8_worth 94 = .ok (.if_icmp .ge 7, 3) := dk_162 0 7 (dk_at dksX8_worth_2 14 rfl rfl)
theorem dX8_worth_97 : decode cX8_worth 97 = .ok (.iconst 1, 1) := dk_4 (dk_at dksX8_worth_2 17 rfl rfl)
theorem dX8_worth_98 : decode cX8_worth 98 = .ok (.goto 4, 3) := dk_167 0 4 (dk_at dksX8_worth_2 18 rfl rfl)
theorem dX8_worth_101 : decode cX8_worth 101 = .ok (.iconst 0, 1) := dk_3 (dk_at dksX8_worth_2 21 rfl rfl)
theorem dX8_worth_102 : decode cX8_worth 102 = .ok (.ireturn, 1) := dk_172 (dk_at dksX8_worth_2 22 rfl rfl)
theorem dX8_worth_103 : decode cX8_worth 103 = .ok (.iload_n 1, 1) := dk_27 (dk_at dksX8_worth_2 23 rfl rfl)
theorem dX8_worth_104 : decode cX8_worth 104 = .ok (.iload_n 2, 1) := dk_28 (dk_at dksX8_worth_3 0 rfl rfl)
theorem dX8_worth_105 : decode cX8_worth 105 = .ok (.if_icmp .ne 7, 3) := dk_160 0 7 (dk_at dksX8_worth_3 1 rfl rfl)
theorem dX8_worth_108 : decode cX8_worth 108 = .ok (.iconst 1, 1) := dk_4 (dk_at dksX8_worth_3 4 rfl rfl)
theorem dX8_worth_109 : decode cX8_worth 109 = .ok (.goto 4, 3) := dk_167 0 4 (dk_at dksX8_worth_3 5 rfl rfl)
theorem dX8_worth_112 : decode cX8_worth 112 = .ok (.iconst 0, 1) := dk_3 (dk_at dksX8_worth_3 8 rfl rfl)
theorem dX8_worth_113 : decode cX8_worth 113 = .ok (.ireturn, 1) := dk_172 (dk_at dksX8_worth_3 9 rfl rfl)
theorem dX8_worth_114 : decode cX8_worth 114 = .ok (.iload_n 1, 1) := dk_27 (dk_at dksX8_worth_3 10 rfl rfl)
theorem dX8_worth_115 : decode cX8_worth 115 = .ok (.ifCond .eq 11, 3) := dk_153 0 11 (dk_at dksX8_worth_3 11 rfl rfl)
theorem dX8_worth_118 : decode cX8_worth 118 = .ok (.iload_n 2, 1) := dk_28 (dk_at dksX8_worth_3 14 rfl rfl)
theorem dX8_worth_119 : decode cX8_worth 119 = .ok (.ifCond .eq 7, 3) := dk_153 0 7 (dk_at dksX8_worth_3 15 rfl rfl)
theorem dX8_worth_122 : decode cX8_worth 122 = .ok (.iconst 1, 1) := dk_4 (dk_at dksX8_worth_3 18 rfl rfl)
theorem dX8_worth_123 : decode cX8_worth 123 = .ok (.goto 4, 3) := dk_167 0 4 (dk_at dksX8_worth_3 19 rfl rfl)
theorem dX8_worth_126 : decode cX8_worth 126 = .ok (.iconst 0, 1) := dk_3 (dk_at dksX8_worth_3 22 rfl rfl)
theorem dX8_worth_127 : decode cX8_worth 127 = .ok (.ireturn, 1) := dk_172 (dk_at dksX8_worth_3 23 rfl rfl)
theorem dX8_worth_128 : decode cX8_worth 128 = .ok (.iload_n 1, 1) := dk_27 (dk_at dksX8_worth_4 0 rfl rfl)
theorem dX8_worth_129 : decode cX8_worth 129 = .ok (.ifCond .ne 7, 3) := dk_154 0 7 (dk_at dksX8_worth_4 1 rfl rfl)
theorem dX8_worth_132 : decode cX8_worth 132 = .ok (.iload_n 2, 1) := dk_28 (dk_at dksX8_worth_4 4 rfl rfl)
theorem dX8_worth_133 : decode cX8_worth 133 = .ok (.ifCond .eq 7, 3) := dk_153 0 7 (dk_at dksX8_worth_4 5 rfl rfl)
theorem dX8_worth_136 : decode cX8_worth 136 = .ok (.iconst 1, 1) := dk_4 (dk_at dksX8_worth_4 8 rfl rfl)
theorem dX8_worth_137 : decode cX8_worth 137 = .ok (.goto 4, 3) := dk_167 0 4 (dk_at dksX8_worth_4 9 rfl rfl)
theorem dX8_worth_140 : decode cX8_worth 140 = .ok (.iconst 0, 1) := dk_3 (dk_at dksX8_worth_4 12 rfl rfl)
theorem dX8_worth_141 : decode cX8_worth 141 = .ok (.ireturn, 1) := dk_172 (dk_at dksX8_worth_4 13 rfl rfl)
abbrev cX8_init : ByteArray := prog_15_method_1_code
def yX8_init : MethodName := ⟨RX8, "<init>", "(ILNobodyCanLiftIt$Node;LNobodyCanLiftIt$Node;)V"⟩
def dkwX8_init_0 : List UInt8 := [42, 183, 0, 1, 42, 27, 181, 0, 7, 42, 44, 181, 0, 13, 42, 45, 181, 0, 17, 177]
abbrev dktX8_init_0 : List UInt8 := dkwX8_init_0 ++ []
theorem dksX8_init_0 : cX8_init.data.toList.drop 0 = dktX8_init_0 := by decide +kernel
theorem dX8_init_0 : decode cX8_init 0 = .ok (.aload_n 0, 1) := dk_42 (dk_at dksX8_init_0 0 rfl rfl)
theorem dX8_init_1 : decode cX8_init 1 = .ok (.invokespecial 1, 3) := dk_183 0 1 (dk_at dksX8_init_0 1 rfl rfl)
theorem dX8_init_4 : decode cX8_init 4 = .ok (.aload_n 0, 1) := dk_42 (dk_at dksX8_init_0 4 rfl rfl)
theorem dX8_init_5 : decode cX8_init 5 = .ok (.iload_n 1, 1) := dk_27 (dk_at dksX8_init_0 5 rfl rfl)
theorem dX8_init_6 : decode cX8_init 6 = .ok (.putfield 7, 3) := dk_181 0 7 (dk_at dksX8_init_0 6 rfl rfl)
theorem dX8_init_9 : decode cX8_init 9 = .ok (.aload_n 0, 1) := dk_42 (dk_at dksX8_init_0 9 rfl rfl)
theorem dX8_init_10 : decode cX8_init 10 = .ok (.aload_n 2, 1) := dk_44 (dk_at dksX8_init_0 10 rfl rfl)
theorem dX8_init_11 : decode cX8_init 11 = .ok (.putfield 13, 3) := dk_181 0 13 (dk_at dksX8_init_0 11 rfl rfl)
theorem dX8_init_14 : decode cX8_init 14 = .ok (.aload_n 0, 1) := dk_42 (dk_at dksX8_init_0 14 rfl rfl)
theorem dX8_init_15 : decode cX8_init 15 = .ok (.aload_n 3, 1) := dk_45 (dk_at dksX8_init_0 15 rfl rfl)
theorem dX8_init_16 : decode cX8_init 16 = .ok (.putfield 17, 3) := dk_181 0 17 (dk_at dksX8_init_0 16 rfl rfl)
theorem dX8_init_19 : decode cX8_init 19 = .ok (.return_, 1) := dk_177 (dk_at dksX8_init_0 19 rfl rfl)
theorem q146 : (Jvm.Cond.initialized "NobodyCanLiftIt$Two") ∈ lw_all := lw_g (lw_at lw_m1 18 rfl) rfl
theorem q352 : (Jvm.Cond.instanceMethod ({ cls := "NobodyCanLiftIt$Two", name := "worth", desc := "()I" } : Jvm.MethodName)) ∈ lw_all := lw_g (lw_at lw_m1 224 rfl) rfl
theorem q353 : (Jvm.Cond.code ({ cls := "NobodyCanLiftIt$Two", name := "worth", desc := "()I" } : Jvm.MethodName) prog_15_method_2_code (3 : Nat) (Option.some Jvm.ClassFile.FieldType.int)) ∈ lw_all := lw_g (lw_at lw_m1 225 rfl) rfl
theorem q354 : (Jvm.Cond.methodLink "NobodyCanLiftIt$Two" (20 : Nat) ({ cls := "NobodyCanLiftIt$Node", name := "worth", desc := "()I" } : Jvm.MethodName)) ∈ lw_all := lw_g (lw_at lw_m1 226 rfl) rfl
theorem q355 : (Jvm.Cond.selects "NobodyCanLiftIt$Two" ({ cls := "NobodyCanLiftIt$Node", name := "worth", desc := "()I" } : Jvm.MethodName) ({ cls := "NobodyCanLiftIt$Two", name := "worth", desc := "()I" } : Jvm.MethodName)) ∈ lw_all := lw_g (lw_at lw_m1 227 rfl) rfl
theorem q730 : (Jvm.Cond.instantiable "NobodyCanLiftIt$Two" (3 : Nat)) ∈ lw_all := lw_g (lw_at lw_m3 122 rfl) rfl
theorem q732 : (Jvm.Cond.instanceMethod ({ cls := "NobodyCanLiftIt$Two", name := "<init>", desc := "(ILNobodyCanLiftIt$Node;LNobodyCanLiftIt$Node;)V" } : Jvm.MethodName)) ∈ lw_all := lw_g (lw_at lw_m3 124 rfl) rfl
theorem q733 : (Jvm.Cond.code ({ cls := "NobodyCanLiftIt$Two", name := "<init>", desc := "(ILNobodyCanLiftIt$Node;LNobodyCanLiftIt$Node;)V" } : Jvm.MethodName) prog_15_method_1_code (4 : Nat) (Option.none : Option Jvm.ClassFile.FieldType)) ∈ lw_all := lw_g (lw_at lw_m3 125 rfl) rfl
theorem q734 : (Jvm.Cond.methodLinkNest "NobodyCanLiftIt$Two" (1 : Nat) ({ cls := "NobodyCanLiftIt$Node", name := "<init>", desc := "()V" } : Jvm.MethodName) "NobodyCanLiftIt") ∈ lw_tbl := lw_at lw_m3 126 rfl
theorem q735 : (Jvm.Cond.fieldLink "NobodyCanLiftIt$Two" (7 : Nat) "NobodyCanLiftIt$Two" "sign" "I") ∈ lw_all := lw_g (lw_at lw_m3 127 rfl) rfl
theorem q736 : (Jvm.Cond.fieldLink "NobodyCanLiftIt$Two" (13 : Nat) "NobodyCanLiftIt$Two" "a" "LNobodyCanLiftIt$Node;") ∈ lw_all := lw_g (lw_at lw_m3 128 rfl) rfl
theorem q737 : (Jvm.Cond.fieldLink "NobodyCanLiftIt$Two" (17 : Nat) "NobodyCanLiftIt$Two" "b" "LNobodyCanLiftIt$Node;") ∈ lw_all := lw_g (lw_at lw_m3 129 rfl) rfl
theorem q738 : (Jvm.Cond.laysFinal "NobodyCanLiftIt$Two" "NobodyCanLiftIt$Two" "sign" "I") ∈ lw_all := lw_g (lw_at lw_m3 130 rfl) rfl
theorem q739 : (Jvm.Cond.soleField "NobodyCanLiftIt$Two" "sign") ∈ lw_all := lw_g (lw_at lw_m3 131 rfl) rfl
theorem q740 : (Jvm.Cond.laysFinal "NobodyCanLiftIt$Two" "NobodyCanLiftIt$Two" "a" "LNobodyCanLiftIt$Node;") ∈ lw_all := lw_g (lw_at lw_m3 132 rfl) rfl
theorem q741 : (Jvm.Cond.soleField "NobodyCanLiftIt$Two" "a") ∈ lw_all := lw_g (lw_at lw_m3 133 rfl) rfl
theorem q742 : (Jvm.Cond.laysFinal "NobodyCanLiftIt$Two" "NobodyCanLiftIt$Two" "b" "LNobodyCanLiftIt$Node;") ∈ lw_all := lw_g (lw_at lw_m3 134 rfl) rfl
theorem q743 : (Jvm.Cond.soleField "NobodyCanLiftIt$Two" "b") ∈ lw_all := lw_g (lw_at lw_m3 135 rfl) rfl
theorem q744 : (Jvm.Cond.superclass "NobodyCanLiftIt$Two" "NobodyCanLiftIt$Node") ∈ lw_all := lw_g (lw_at lw_m3 136 rfl) rfl
theorem q1929 : (Jvm.Cond.castable "NobodyCanLiftIt$Two" "NobodyCanLiftIt$Node") ∈ lw_tbl := lw_at lw_m8 121 rfl
theorem in_X8 : ∀ w ∈ wsX80, w ∈ lw_all := lw_in wsX80 [738, 740, 742] (by decide +kernel) (by decide +kernel)
/-! NobodyCanLiftIt$Man -/
set_option maxRecDepth 100000
def RX10 : String := "NobodyCanLiftIt$Man"
def TX10 : u_T := fun k => match k with
  | 0 => ("NobodyCanLiftIt$Man", "number", "I", false)
  | 1 => ("NobodyCanLiftIt$Man", "age", "I", false)
  | 2 => ("NobodyCanLiftIt$Man", "ease", "I", false)
  | _ => ("NobodyCanLiftIt$Man", "here", "Z", false)
def tyX10 : Nat → FieldType := fun k => match k with
  | 0 => .int
  | 1 => .int
  | 2 => .int
  | _ => .boolean
abbrev wsX100 : List Cond := u_ws RX10 TX10 4
theorem nmX10 : ∀ a, a < 4 → ∀ b, b < 4 → a ≠ b → (TX10 a).2.1 ≠ (TX10 b).2.1 := by decide +kernel
theorem tyX10_ok : ∀ k, k < 4 → parseFieldDescriptor (TX10 k).2.2.1 = some (tyX10 k) := by decide +kernel
abbrev cX10_init : ByteArray := prog_7_method_1_code
def yX10_init : MethodName := ⟨RX10, "<init>", "(II)V"⟩
def dkwX10_init_0 : List UInt8 := [42, 183, 0, 1, 42, 4, 181, 0, 7, 42, 27, 181, 0, 13, 42, 28, 181, 0, 17, 177]
abbrev dktX10_init_0 : List UInt8 := dkwX10_init_0 ++ []
theorem dksX10_init_0 : cX10_init.data.toList.drop 0 = dktX10_init_0 := by decide +kernel
theorem dX10_init_0 : decode cX10_init 0 = .ok (.aload_n 0, 1) := dk_42 (dk_at dksX10_init_0 0 rfl rfl)
theorem dX10_init_1 : decode cX10_init 1 = .ok (.invokespecial 1, 3) := dk_183 0 1 (dk_at dksX10_init_0 1 rfl rfl)
theorem dX10_init_4 : decode cX10_init 4 = .ok (.aload_n 0, 1) := dk_42 (dk_at dksX10_init_0 4 rfl rfl)
theorem dX10_init_5 : decode cX10_init 5 = .ok (.iconst 1, 1) := dk_4 (dk_at dksX10_init_0 5 rfl rfl)
theorem dX10_init_6 : decode cX10_init 6 = .ok (.putfield 7, 3) := dk_181 0 7 (dk_at dksX10_init_0 6 rfl rfl)
theorem dX10_init_9 : decode cX10_init 9 = .ok (.aload_n 0, 1) := dk_42 (dk_at dksX10_init_0 9 rfl rfl)
theorem dX10_init_10 : decode cX10_init 10 = .ok (.iload_n 1, 1) := dk_27 (dk_at dksX10_init_0 10 rfl rfl)
theorem dX10_init_11 : decode cX10_init 11 = .ok (.putfield 13, 3) := dk_181 0 13 (dk_at dksX10_init_0 11 rfl rfl)
theorem dX10_init_14 : decode cX10_init 14 = .ok (.aload_n 0, 1) := dk_42 (dk_at dksX10_init_0 14 rfl rfl)
theorem dX10_init_15 : decode cX10_init 15 = .ok (.iload_n 2, 1) := dk_28 (dk_at dksX10_init_0 15 rfl rfl)
theorem dX10_init_16 : decode cX10_init 16 = .ok (.putfield 17, 3) := dk_181 0 17 (dk_at dksX10_init_0 16 rfl rfl)
theorem dX10_init_19 : decode cX10_init 19 = .ok (.return_, 1) := dk_177 (dk_at dksX10_init_0 19 rfl rfl)
abbrev cX10_kind : ByteArray := prog_7_method_2_code
def yX10_kind : MethodName := ⟨RX10, "kind", "()I"⟩
theorem dX10_kind_0 : decode cX10_kind 0 = .ok (.iconst 0, 1) := by decide +kernel
theorem dX10_kind_1 : decode cX10_kind 1 = .ok (.ireturn, 1) := by decide +kernel
abbrev cX10_strong : ByteArray := prog_7_method_4_code
def yX10_strong : MethodName := ⟨RX10, "strong", "(II)I"⟩
theorem dX10_strong_0 : decode cX10_strong 0 = .ok (.iload_n 1, 1) := by decide +kernel
theorem dX10_strong_1 : decode cX10_strong 1 = .ok (.ireturn, 1) := by decide +kernel
abbrev cX10_eased : ByteArray := prog_7_method_5_code
def yX10_eased : MethodName := ⟨RX10, "eased", "(II)I"⟩
theorem dX10_eased_0 : decode cX10_eased 0 = .ok (.iload_n 1, 1) := by decide +kernel
theorem dX10_eased_1 : decode cX10_eased 1 = .ok (.ireturn, 1) := by decide +kernel
abbrev cX10_feels : ByteArray := prog_7_method_3_code
def yX10_feels : MethodName := ⟨RX10, "feels", "(LNobodyCanLiftIt$Part;I)V"⟩
def dkwX10_feels_0 : List UInt8 := [43, 28, 133, 42, 180, 0, 13, 133, 10, 97, 182, 0, 20, 177]
abbrev dktX10_feels_0 : List UInt8 := dkwX10_feels_0 ++ []
theorem dksX10_feels_0 : cX10_feels.data.toList.drop 0 = dktX10_feels_0 := by decide +kernel
theorem dX10_feels_0 : decode cX10_feels 0 = .ok (.aload_n 1, 1) := dk_43 (dk_at dksX10_feels_0 0 rfl rfl)
theorem dX10_feels_1 : decode cX10_feels 1 = .ok (.iload_n 2, 1) := dk_28 (dk_at dksX10_feels_0 1 rfl rfl)
theorem dX10_feels_2 : decode cX10_feels 2 = .ok (.i2l, 1) := dk_133 (dk_at dksX10_feels_0 2 rfl rfl)
theorem dX10_feels_3 : decode cX10_feels 3 = .ok (.aload_n 0, 1) := dk_42 (dk_at dksX10_feels_0 3 rfl rfl)
theorem dX10_feels_4 : decode cX10_feels 4 = .ok (.getfield 13, 3) := dk_180 0 13 (dk_at dksX10_feels_0 4 rfl rfl)
theorem dX10_feels_7 : decode cX10_feels 7 = .ok (.i2l, 1) := dk_133 (dk_at dksX10_feels_0 7 rfl rfl)
theorem dX10_feels_8 : decode cX10_feels 8 = .ok (.lconst 1, 1) := dk_10 (dk_at dksX10_feels_0 8 rfl rfl)
theorem dX10_feels_9 : decode cX10_feels 9 = .ok (.ladd, 1) := dk_97 (dk_at dksX10_feels_0 9 rfl rfl)
theorem dX10_feels_10 : decode cX10_feels 10 = .ok (.invokevirtual 20, 3) := dk_182 0 20 (dk_at dksX10_feels_0 10 rfl rfl)
theorem dX10_feels_13 : decode cX10_feels 13 = .ok (.return_, 1) := dk_177 (dk_at dksX10_feels_0 13 rfl rfl)
abbrev cX10_like : ByteArray := prog_7_method_6_code
def yX10_like : MethodName := ⟨RX10, "like", "(LNobodyCanLiftIt$Man;)LNobodyCanLiftIt$Man;"⟩
def dkwX10_like_0 : List UInt8 := [42, 43, 180, 0, 26, 181, 0, 26, 42, 43, 180, 0, 7, 181, 0, 7, 42, 176]
abbrev dktX10_like_0 : List UInt8 := dkwX10_like_0 ++ []
theorem dksX10_like_0 : cX10_like.data.toList.drop 0 = dktX10_like_0 := by decide +kernel
theorem dX10_like_0 : decode cX10_like 0 = .ok (.aload_n 0, 1) := dk_42 (dk_at dksX10_like_0 0 rfl rfl)
theorem dX10_like_1 : decode cX10_like 1 = .ok (.aload_n 1, 1) := dk_43 (dk_at dksX10_like_0 1 rfl rfl)
theorem dX10_like_2 : decode cX10_like 2 = .ok (.getfield 26, 3) := dk_180 0 26 (dk_at dksX10_like_0 2 rfl rfl)
theorem dX10_like_5 : decode cX10_like 5 = .ok (.putfield 26, 3) := dk_181 0 26 (dk_at dksX10_like_0 5 rfl rfl)
theorem dX10_like_8 : decode cX10_like 8 = .ok (.aload_n 0, 1) := dk_42 (dk_at dksX10_like_0 8 rfl rfl)
theorem dX10_like_9 : decode cX10_like 9 = .ok (.aload_n 1, 1) := dk_43 (dk_at dksX10_like_0 9 rfl rfl)
theorem dX10_like_10 : decode cX10_like 10 = .ok (.getfield 7, 3) := dk_180 0 7 (dk_at dksX10_like_0 10 rfl rfl)
theorem dX10_like_13 : decode cX10_like 13 = .ok (.putfield 7, 3) := dk_181 0 7 (dk_at dksX10_like_0 13 rfl rfl)
theorem dX10_like_16 : decode cX10_like 16 = .ok (.aload_n 0, 1) := dk_42 (dk_at dksX10_like_0 16 rfl rfl)
theorem dX10_like_17 : decode cX10_like 17 = .ok (.areturn, 1) := dk_176 (dk_at dksX10_like_0 17 rfl rfl)
theorem q148 : (Jvm.Cond.initialized "NobodyCanLiftIt$Man") ∈ lw_all := lw_g (lw_at lw_m1 20 rfl) rfl
theorem q181 : (Jvm.Cond.instanceMethod ({ cls := "NobodyCanLiftIt$Man", name := "<init>", desc := "(II)V" } : Jvm.MethodName)) ∈ lw_all := lw_g (lw_at lw_m1 53 rfl) rfl
theorem q182 : (Jvm.Cond.code ({ cls := "NobodyCanLiftIt$Man", name := "<init>", desc := "(II)V" } : Jvm.MethodName) prog_7_method_1_code (3 : Nat) (Option.none : Option Jvm.ClassFile.FieldType)) ∈ lw_all := lw_g (lw_at lw_m1 54 rfl) rfl
theorem q183 : (Jvm.Cond.methodLink "NobodyCanLiftIt$Man" (1 : Nat) ({ cls := "java/lang/Object", name := "<init>", desc := "()V" } : Jvm.MethodName)) ∈ lw_all := lw_g (lw_at lw_m1 55 rfl) rfl
theorem q186 : (Jvm.Cond.fieldLink "NobodyCanLiftIt$Man" (13 : Nat) "NobodyCanLiftIt$Man" "number" "I") ∈ lw_all := lw_g (lw_at lw_m1 58 rfl) rfl
theorem q193 : (Jvm.Cond.fieldLink "NobodyCanLiftIt$Man" (17 : Nat) "NobodyCanLiftIt$Man" "age" "I") ∈ lw_all := lw_g (lw_at lw_m1 65 rfl) rfl
theorem q203 : (Jvm.Cond.fieldLink "NobodyCanLiftIt$Man" (26 : Nat) "NobodyCanLiftIt$Man" "ease" "I") ∈ lw_all := lw_g (lw_at lw_m1 75 rfl) rfl
theorem q205 : (Jvm.Cond.fieldLink "NobodyCanLiftIt$Man" (7 : Nat) "NobodyCanLiftIt$Man" "here" "Z") ∈ lw_all := lw_g (lw_at lw_m1 77 rfl) rfl
theorem q208 : (Jvm.Cond.soleField "NobodyCanLiftIt$Man" "number") ∈ lw_all := lw_g (lw_at lw_m1 80 rfl) rfl
theorem q210 : (Jvm.Cond.soleField "NobodyCanLiftIt$Man" "age") ∈ lw_all := lw_g (lw_at lw_m1 82 rfl) rfl
theorem q212 : (Jvm.Cond.soleField "NobodyCanLiftIt$Man" "ease") ∈ lw_all := lw_g (lw_at lw_m1 84 rfl) rfl
theorem q214 : (Jvm.Cond.soleField "NobodyCanLiftIt$Man" "here") ∈ lw_all := lw_g (lw_at lw_m1 86 rfl) rfl
theorem q261 : (Jvm.Cond.instantiable "NobodyCanLiftIt$Man" (4 : Nat)) ∈ lw_all := lw_g (lw_at lw_m1 133 rfl) rfl
theorem q263 : (Jvm.Cond.lays "NobodyCanLiftIt$Man" "NobodyCanLiftIt$Man" "number" "I") ∈ lw_all := lw_g (lw_at lw_m1 135 rfl) rfl
theorem q264 : (Jvm.Cond.lays "NobodyCanLiftIt$Man" "NobodyCanLiftIt$Man" "age" "I") ∈ lw_all := lw_g (lw_at lw_m1 136 rfl) rfl
theorem q265 : (Jvm.Cond.lays "NobodyCanLiftIt$Man" "NobodyCanLiftIt$Man" "ease" "I") ∈ lw_all := lw_g (lw_at lw_m1 137 rfl) rfl
theorem q266 : (Jvm.Cond.lays "NobodyCanLiftIt$Man" "NobodyCanLiftIt$Man" "here" "Z") ∈ lw_all := lw_g (lw_at lw_m1 138 rfl) rfl
theorem q267 : (Jvm.Cond.superclass "NobodyCanLiftIt$Man" "java/lang/Object") ∈ lw_all := lw_g (lw_at lw_m1 139 rfl) rfl
theorem q303 : (Jvm.Cond.instanceMethod ({ cls := "NobodyCanLiftIt$Man", name := "kind", desc := "()I" } : Jvm.MethodName)) ∈ lw_all := lw_g (lw_at lw_m1 175 rfl) rfl
theorem q304 : (Jvm.Cond.selects "NobodyCanLiftIt$Man" ({ cls := "NobodyCanLiftIt$Man", name := "kind", desc := "()I" } : Jvm.MethodName) ({ cls := "NobodyCanLiftIt$Man", name := "kind", desc := "()I" } : Jvm.MethodName)) ∈ lw_all := lw_g (lw_at lw_m1 176 rfl) rfl
theorem q305 : (Jvm.Cond.sameMethod "NobodyCanLiftIt$Man" "NobodyCanLiftIt$Man" "kind" "()I") ∈ lw_all := lw_g (lw_at lw_m1 177 rfl) rfl
theorem q310 : (Jvm.Cond.code ({ cls := "NobodyCanLiftIt$Man", name := "kind", desc := "()I" } : Jvm.MethodName) prog_7_method_2_code (1 : Nat) (Option.some Jvm.ClassFile.FieldType.int)) ∈ lw_all := lw_g (lw_at lw_m1 182 rfl) rfl
theorem q370 : (Jvm.Cond.instanceMethod ({ cls := "NobodyCanLiftIt$Man", name := "strong", desc := "(II)I" } : Jvm.MethodName)) ∈ lw_all := lw_g (lw_at lw_m2 2 rfl) rfl
theorem q371 : (Jvm.Cond.selects "NobodyCanLiftIt$Man" ({ cls := "NobodyCanLiftIt$Man", name := "strong", desc := "(II)I" } : Jvm.MethodName) ({ cls := "NobodyCanLiftIt$Man", name := "strong", desc := "(II)I" } : Jvm.MethodName)) ∈ lw_all := lw_g (lw_at lw_m2 3 rfl) rfl
theorem q372 : (Jvm.Cond.sameMethod "NobodyCanLiftIt$Man" "NobodyCanLiftIt$Man" "strong" "(II)I") ∈ lw_all := lw_g (lw_at lw_m2 4 rfl) rfl
theorem q377 : (Jvm.Cond.code ({ cls := "NobodyCanLiftIt$Man", name := "strong", desc := "(II)I" } : Jvm.MethodName) prog_7_method_4_code (3 : Nat) (Option.some Jvm.ClassFile.FieldType.int)) ∈ lw_all := lw_g (lw_at lw_m2 9 rfl) rfl
theorem q399 : (Jvm.Cond.instanceMethod ({ cls := "NobodyCanLiftIt$Man", name := "eased", desc := "(II)I" } : Jvm.MethodName)) ∈ lw_all := lw_g (lw_at lw_m2 31 rfl) rfl
theorem q400 : (Jvm.Cond.selects "NobodyCanLiftIt$Man" ({ cls := "NobodyCanLiftIt$Man", name := "eased", desc := "(II)I" } : Jvm.MethodName) ({ cls := "NobodyCanLiftIt$Man", name := "eased", desc := "(II)I" } : Jvm.MethodName)) ∈ lw_all := lw_g (lw_at lw_m2 32 rfl) rfl
theorem q401 : (Jvm.Cond.sameMethod "NobodyCanLiftIt$Man" "NobodyCanLiftIt$Man" "eased" "(II)I") ∈ lw_all := lw_g (lw_at lw_m2 33 rfl) rfl
theorem q406 : (Jvm.Cond.code ({ cls := "NobodyCanLiftIt$Man", name := "eased", desc := "(II)I" } : Jvm.MethodName) prog_7_method_5_code (3 : Nat) (Option.some Jvm.ClassFile.FieldType.int)) ∈ lw_all := lw_g (lw_at lw_m2 38 rfl) rfl
theorem q446 : (Jvm.Cond.instanceMethod ({ cls := "NobodyCanLiftIt$Man", name := "feels", desc := "(LNobodyCanLiftIt$Part;I)V" } : Jvm.MethodName)) ∈ lw_all := lw_g (lw_at lw_m2 78 rfl) rfl
theorem q447 : (Jvm.Cond.selects "NobodyCanLiftIt$Man" ({ cls := "NobodyCanLiftIt$Man", name := "feels", desc := "(LNobodyCanLiftIt$Part;I)V" } : Jvm.MethodName) ({ cls := "NobodyCanLiftIt$Man", name := "feels", desc := "(LNobodyCanLiftIt$Part;I)V" } : Jvm.MethodName)) ∈ lw_all := lw_g (lw_at lw_m2 79 rfl) rfl
theorem q448 : (Jvm.Cond.sameMethod "NobodyCanLiftIt$Man" "NobodyCanLiftIt$Man" "feels" "(LNobodyCanLiftIt$Part;I)V") ∈ lw_all := lw_g (lw_at lw_m2 80 rfl) rfl
theorem q453 : (Jvm.Cond.code ({ cls := "NobodyCanLiftIt$Man", name := "feels", desc := "(LNobodyCanLiftIt$Part;I)V" } : Jvm.MethodName) prog_7_method_3_code (3 : Nat) (Option.none : Option Jvm.ClassFile.FieldType)) ∈ lw_all := lw_g (lw_at lw_m2 85 rfl) rfl
theorem q454 : (Jvm.Cond.methodLink "NobodyCanLiftIt$Man" (20 : Nat) ({ cls := "NobodyCanLiftIt$Part", name := "is", desc := "(JJ)V" } : Jvm.MethodName)) ∈ lw_all := lw_g (lw_at lw_m2 86 rfl) rfl
theorem q1167 : (Jvm.Cond.instanceMethod ({ cls := "NobodyCanLiftIt$Man", name := "like", desc := "(LNobodyCanLiftIt$Man;)LNobodyCanLiftIt$Man;" } : Jvm.MethodName)) ∈ lw_all := lw_g (lw_at lw_m5 79 rfl) rfl
theorem q1168 : (Jvm.Cond.selects "NobodyCanLiftIt$Man" ({ cls := "NobodyCanLiftIt$Man", name := "like", desc := "(LNobodyCanLiftIt$Man;)LNobodyCanLiftIt$Man;" } : Jvm.MethodName) ({ cls := "NobodyCanLiftIt$Man", name := "like", desc := "(LNobodyCanLiftIt$Man;)LNobodyCanLiftIt$Man;" } : Jvm.MethodName)) ∈ lw_all := lw_g (lw_at lw_m5 80 rfl) rfl
theorem q1169 : (Jvm.Cond.sameMethod "NobodyCanLiftIt$Man" "NobodyCanLiftIt$Man" "like" "(LNobodyCanLiftIt$Man;)LNobodyCanLiftIt$Man;") ∈ lw_all := lw_g (lw_at lw_m5 81 rfl) rfl
theorem q1175 : (Jvm.Cond.code ({ cls := "NobodyCanLiftIt$Man", name := "like", desc := "(LNobodyCanLiftIt$Man;)LNobodyCanLiftIt$Man;" } : Jvm.MethodName) prog_7_method_6_code (2 : Nat) (Option.some (Jvm.ClassFile.FieldType.object "NobodyCanLiftIt$Man"))) ∈ lw_all := lw_g (lw_at lw_m5 87 rfl) rfl
theorem in_X10 : ∀ w ∈ wsX100, w ∈ lw_all := lw_in wsX100 [263, 264, 265, 266] (by decide +kernel) (by decide +kernel)
/-! NobodyCanLiftIt$King -/
set_option maxRecDepth 100000
def RX11 : String := "NobodyCanLiftIt$King"
def TX11 : u_T := fun k => match k with
  | 0 => ("NobodyCanLiftIt$Man", "number", "I", false)
  | 1 => ("NobodyCanLiftIt$Man", "age", "I", false)
  | 2 => ("NobodyCanLiftIt$Man", "ease", "I", false)
  | _ => ("NobodyCanLiftIt$Man", "here", "Z", false)
def tyX11 : Nat → FieldType := fun k => match k with
  | 0 => .int
  | 1 => .int
  | 2 => .int
  | _ => .boolean
abbrev wsX110 : List Cond := u_ws RX11 TX11 4
theorem nmX11 : ∀ a, a < 4 → ∀ b, b < 4 → a ≠ b → (TX11 a).2.1 ≠ (TX11 b).2.1 := by decide +kernel
theorem tyX11_ok : ∀ k, k < 4 → parseFieldDescriptor (TX11 k).2.2.1 = some (tyX11 k) := by decide +kernel
abbrev cX11_init : ByteArray := prog_5_method_1_code
def yX11_init : MethodName := ⟨RX11, "<init>", "(II)V"⟩
def dkwX11_init_0 : List UInt8 := [42, 27, 28, 183, 0, 1, 177]
abbrev dktX11_init_0 : List UInt8 := dkwX11_init_0 ++ []
theorem dksX11_init_0 : cX11_init.data.toList.drop 0 = dktX11_init_0 := by decide +kernel
theorem dX11_init_0 : decode cX11_init 0 = .ok (.aload_n 0, 1) := dk_42 (dk_at dksX11_init_0 0 rfl rfl)
theorem dX11_init_1 : decode cX11_init 1 = .ok (.iload_n 1, 1) := dk_27 (dk_at dksX11_init_0 1 rfl rfl)
theorem dX11_init_2 : decode cX11_init 2 = .ok (.iload_n 2, 1) := dk_28 (dk_at dksX11_init_0 2 rfl rfl)
theorem dX11_init_3 : decode cX11_init 3 = .ok (.invokespecial 1, 3) := dk_183 0 1 (dk_at dksX11_init_0 3 rfl rfl)
theorem dX11_init_6 : decode cX11_init 6 = .ok (.return_, 1) := dk_177 (dk_at dksX11_init_0 6 rfl rfl)
abbrev cX11_kind : ByteArray := prog_5_method_2_code
def yX11_kind : MethodName := ⟨RX11, "kind", "()I"⟩
def dkwX11_kind_0 : List UInt8 := [42, 183, 0, 7, 4, 96, 172]
abbrev dktX11_kind_0 : List UInt8 := dkwX11_kind_0 ++ []
theorem dksX11_kind_0 : cX11_kind.data.toList.drop 0 = dktX11_kind_0 := by decide +kernel
theorem dX11_kind_0 : decode cX11_kind 0 = .ok (.aload_n 0, 1) := dk_42 (dk_at dksX11_kind_0 0 rfl rfl)
theorem dX11_kind_1 : decode cX11_kind 1 = .ok (.invokespecial 7, 3) := dk_183 0 7 (dk_at dksX11_kind_0 1 rfl rfl)
theorem dX11_kind_4 : decode cX11_kind 4 = .ok (.iconst 1, 1) := dk_4 (dk_at dksX11_kind_0 4 rfl rfl)
theorem dX11_kind_5 : decode cX11_kind 5 = .ok (.iadd, 1) := dk_96 (dk_at dksX11_kind_0 5 rfl rfl)
theorem dX11_kind_6 : decode cX11_kind 6 = .ok (.ireturn, 1) := dk_172 (dk_at dksX11_kind_0 6 rfl rfl)
abbrev cX11_strong : ByteArray := prog_5_method_4_code
def yX11_strong : MethodName := ⟨RX11, "strong", "(II)I"⟩
def dkwX11_strong_0 : List UInt8 := [42, 27, 28, 183, 0, 23, 42, 180, 0, 27, 96, 172]
abbrev dktX11_strong_0 : List UInt8 := dkwX11_strong_0 ++ []
theorem dksX11_strong_0 : cX11_strong.data.toList.drop 0 = dktX11_strong_0 := by decide +kernel
theorem dX11_strong_0 : decode cX11_strong 0 = .ok (.aload_n 0, 1) := dk_42 (dk_at dksX11_strong_0 0 rfl rfl)
theorem dX11_strong_1 : decode cX11_strong 1 = .ok (.iload_n 1, 1) := dk_27 (dk_at dksX11_strong_0 1 rfl rfl)
theorem dX11_strong_2 : decode cX11_strong 2 = .ok (.iload_n 2, 1) := dk_28 (dk_at dksX11_strong_0 2 rfl rfl)
theorem dX11_strong_3 : decode cX11_strong 3 = .ok (.invokespecial 23, 3) := dk_183 0 23 (dk_at dksX11_strong_0 3 rfl rfl)
theorem dX11_strong_6 : decode cX11_strong 6 = .ok (.aload_n 0, 1) := dk_42 (dk_at dksX11_strong_0 6 rfl rfl)
theorem dX11_strong_7 : decode cX11_strong 7 = .ok (.getfield 27, 3) := dk_180 0 27 (dk_at dksX11_strong_0 7 rfl rfl)
theorem dX11_strong_10 : decode cX11_strong 10 = .ok (.iadd, 1) := dk_96 (dk_at dksX11_strong_0 10 rfl rfl)
theorem dX11_strong_11 : decode cX11_strong 11 = .ok (.ireturn, 1) := dk_172 (dk_at dksX11_strong_0 11 rfl rfl)
abbrev cX11_eased : ByteArray := prog_5_method_5_code
def yX11_eased : MethodName := ⟨RX11, "eased", "(II)I"⟩
theorem dX11_eased_0 : decode cX11_eased 0 = .ok (.iconst 0, 1) := by decide +kernel
theorem dX11_eased_1 : decode cX11_eased 1 = .ok (.ireturn, 1) := by decide +kernel
abbrev cX11_feels : ByteArray := prog_5_method_3_code
def yX11_feels : MethodName := ⟨RX11, "feels", "(LNobodyCanLiftIt$Part;I)V"⟩
def dkwX11_feels_0 : List UInt8 := [42, 43, 28, 183, 0, 11, 43, 20, 0, 15, 10, 182, 0, 17, 177]
abbrev dktX11_feels_0 : List UInt8 := dkwX11_feels_0 ++ []
theorem dksX11_feels_0 : cX11_feels.data.toList.drop 0 = dktX11_feels_0 := by decide +kernel
theorem dX11_feels_0 : decode cX11_feels 0 = .ok (.aload_n 0, 1) := dk_42 (dk_at dksX11_feels_0 0 rfl rfl)
theorem dX11_feels_1 : decode cX11_feels 1 = .ok (.aload_n 1, 1) := dk_43 (dk_at dksX11_feels_0 1 rfl rfl)
theorem dX11_feels_2 : decode cX11_feels 2 = .ok (.iload_n 2, 1) := dk_28 (dk_at dksX11_feels_0 2 rfl rfl)
theorem dX11_feels_3 : decode cX11_feels 3 = .ok (.invokespecial 11, 3) := dk_183 0 11 (dk_at dksX11_feels_0 3 rfl rfl)
theorem dX11_feels_6 : decode cX11_feels 6 = .ok (.aload_n 1, 1) := dk_43 (dk_at dksX11_feels_0 6 rfl rfl)
theorem dX11_feels_7 : decode cX11_feels 7 = .ok (.ldc2_w 15, 3) := dk_20 0 15 (dk_at dksX11_feels_0 7 rfl rfl)
theorem dX11_feels_10 : decode cX11_feels 10 = .ok (.lconst 1, 1) := dk_10 (dk_at dksX11_feels_0 10 rfl rfl)
theorem dX11_feels_11 : decode cX11_feels 11 = .ok (.invokevirtual 17, 3) := dk_182 0 17 (dk_at dksX11_feels_0 11 rfl rfl)
theorem dX11_feels_14 : decode cX11_feels 14 = .ok (.return_, 1) := dk_177 (dk_at dksX11_feels_0 14 rfl rfl)
theorem q149 : (Jvm.Cond.initialized "NobodyCanLiftIt$King") ∈ lw_all := lw_g (lw_at lw_m1 21 rfl) rfl
theorem q176 : (Jvm.Cond.instantiable "NobodyCanLiftIt$King" (4 : Nat)) ∈ lw_all := lw_g (lw_at lw_m1 48 rfl) rfl
theorem q178 : (Jvm.Cond.instanceMethod ({ cls := "NobodyCanLiftIt$King", name := "<init>", desc := "(II)V" } : Jvm.MethodName)) ∈ lw_all := lw_g (lw_at lw_m1 50 rfl) rfl
theorem q179 : (Jvm.Cond.code ({ cls := "NobodyCanLiftIt$King", name := "<init>", desc := "(II)V" } : Jvm.MethodName) prog_5_method_1_code (3 : Nat) (Option.none : Option Jvm.ClassFile.FieldType)) ∈ lw_all := lw_g (lw_at lw_m1 51 rfl) rfl
theorem q180 : (Jvm.Cond.methodLink "NobodyCanLiftIt$King" (1 : Nat) ({ cls := "NobodyCanLiftIt$Man", name := "<init>", desc := "(II)V" } : Jvm.MethodName)) ∈ lw_all := lw_g (lw_at lw_m1 52 rfl) rfl
theorem q188 : (Jvm.Cond.fieldLink "NobodyCanLiftIt$King" (27 : Nat) "NobodyCanLiftIt$King" "number" "I") ∈ lw_all := lw_g (lw_at lw_m1 60 rfl) rfl
theorem q189 : (Jvm.Cond.sameField "NobodyCanLiftIt$King" "NobodyCanLiftIt$Man" "number" "I") ∈ lw_all := lw_g (lw_at lw_m1 61 rfl) rfl
theorem q207 : (Jvm.Cond.lays "NobodyCanLiftIt$King" "NobodyCanLiftIt$Man" "number" "I") ∈ lw_all := lw_g (lw_at lw_m1 79 rfl) rfl
theorem q209 : (Jvm.Cond.lays "NobodyCanLiftIt$King" "NobodyCanLiftIt$Man" "age" "I") ∈ lw_all := lw_g (lw_at lw_m1 81 rfl) rfl
theorem q211 : (Jvm.Cond.lays "NobodyCanLiftIt$King" "NobodyCanLiftIt$Man" "ease" "I") ∈ lw_all := lw_g (lw_at lw_m1 83 rfl) rfl
theorem q213 : (Jvm.Cond.lays "NobodyCanLiftIt$King" "NobodyCanLiftIt$Man" "here" "Z") ∈ lw_all := lw_g (lw_at lw_m1 85 rfl) rfl
theorem q215 : (Jvm.Cond.superclass "NobodyCanLiftIt$King" "NobodyCanLiftIt$Man") ∈ lw_all := lw_g (lw_at lw_m1 87 rfl) rfl
theorem q315 : (Jvm.Cond.selects "NobodyCanLiftIt$King" ({ cls := "NobodyCanLiftIt$Man", name := "kind", desc := "()I" } : Jvm.MethodName) ({ cls := "NobodyCanLiftIt$King", name := "kind", desc := "()I" } : Jvm.MethodName)) ∈ lw_all := lw_g (lw_at lw_m1 187 rfl) rfl
theorem q316 : (Jvm.Cond.instanceMethod ({ cls := "NobodyCanLiftIt$King", name := "kind", desc := "()I" } : Jvm.MethodName)) ∈ lw_all := lw_g (lw_at lw_m1 188 rfl) rfl
theorem q317 : (Jvm.Cond.code ({ cls := "NobodyCanLiftIt$King", name := "kind", desc := "()I" } : Jvm.MethodName) prog_5_method_2_code (1 : Nat) (Option.some Jvm.ClassFile.FieldType.int)) ∈ lw_all := lw_g (lw_at lw_m1 189 rfl) rfl
theorem q318 : (Jvm.Cond.methodLink "NobodyCanLiftIt$King" (7 : Nat) ({ cls := "NobodyCanLiftIt$Man", name := "kind", desc := "()I" } : Jvm.MethodName)) ∈ lw_all := lw_g (lw_at lw_m1 190 rfl) rfl
theorem q382 : (Jvm.Cond.selects "NobodyCanLiftIt$King" ({ cls := "NobodyCanLiftIt$Man", name := "strong", desc := "(II)I" } : Jvm.MethodName) ({ cls := "NobodyCanLiftIt$King", name := "strong", desc := "(II)I" } : Jvm.MethodName)) ∈ lw_all := lw_g (lw_at lw_m2 14 rfl) rfl
theorem q383 : (Jvm.Cond.instanceMethod ({ cls := "NobodyCanLiftIt$King", name := "strong", desc := "(II)I" } : Jvm.MethodName)) ∈ lw_all := lw_g (lw_at lw_m2 15 rfl) rfl
theorem q384 : (Jvm.Cond.code ({ cls := "NobodyCanLiftIt$King", name := "strong", desc := "(II)I" } : Jvm.MethodName) prog_5_method_4_code (3 : Nat) (Option.some Jvm.ClassFile.FieldType.int)) ∈ lw_all := lw_g (lw_at lw_m2 16 rfl) rfl
theorem q385 : (Jvm.Cond.methodLink "NobodyCanLiftIt$King" (23 : Nat) ({ cls := "NobodyCanLiftIt$Man", name := "strong", desc := "(II)I" } : Jvm.MethodName)) ∈ lw_all := lw_g (lw_at lw_m2 17 rfl) rfl
theorem q411 : (Jvm.Cond.selects "NobodyCanLiftIt$King" ({ cls := "NobodyCanLiftIt$Man", name := "eased", desc := "(II)I" } : Jvm.MethodName) ({ cls := "NobodyCanLiftIt$King", name := "eased", desc := "(II)I" } : Jvm.MethodName)) ∈ lw_all := lw_g (lw_at lw_m2 43 rfl) rfl
theorem q412 : (Jvm.Cond.instanceMethod ({ cls := "NobodyCanLiftIt$King", name := "eased", desc := "(II)I" } : Jvm.MethodName)) ∈ lw_all := lw_g (lw_at lw_m2 44 rfl) rfl
theorem q413 : (Jvm.Cond.code ({ cls := "NobodyCanLiftIt$King", name := "eased", desc := "(II)I" } : Jvm.MethodName) prog_5_method_5_code (3 : Nat) (Option.some Jvm.ClassFile.FieldType.int)) ∈ lw_all := lw_g (lw_at lw_m2 45 rfl) rfl
theorem q465 : (Jvm.Cond.selects "NobodyCanLiftIt$King" ({ cls := "NobodyCanLiftIt$Man", name := "feels", desc := "(LNobodyCanLiftIt$Part;I)V" } : Jvm.MethodName) ({ cls := "NobodyCanLiftIt$King", name := "feels", desc := "(LNobodyCanLiftIt$Part;I)V" } : Jvm.MethodName)) ∈ lw_all := lw_g (lw_at lw_m2 97 rfl) rfl
theorem q466 : (Jvm.Cond.instanceMethod ({ cls := "NobodyCanLiftIt$King", name := "feels", desc := "(LNobodyCanLiftIt$Part;I)V" } : Jvm.MethodName)) ∈ lw_all := lw_g (lw_at lw_m2 98 rfl) rfl
theorem q467 : (Jvm.Cond.code ({ cls := "NobodyCanLiftIt$King", name := "feels", desc := "(LNobodyCanLiftIt$Part;I)V" } : Jvm.MethodName) prog_5_method_3_code (3 : Nat) (Option.none : Option Jvm.ClassFile.FieldType)) ∈ lw_all := lw_g (lw_at lw_m2 99 rfl) rfl
theorem q468 : (Jvm.Cond.methodLink "NobodyCanLiftIt$King" (11 : Nat) ({ cls := "NobodyCanLiftIt$Man", name := "feels", desc := "(LNobodyCanLiftIt$Part;I)V" } : Jvm.MethodName)) ∈ lw_all := lw_g (lw_at lw_m2 100 rfl) rfl
theorem q469 : (Jvm.Cond.constantLong "NobodyCanLiftIt$King" (15 : Nat) (2 : Int64)) ∈ lw_all := lw_g (lw_at lw_m2 101 rfl) rfl
theorem q470 : (Jvm.Cond.methodLink "NobodyCanLiftIt$King" (17 : Nat) ({ cls := "NobodyCanLiftIt$Part", name := "by", desc := "(JJ)V" } : Jvm.MethodName)) ∈ lw_all := lw_g (lw_at lw_m2 102 rfl) rfl
theorem q1172 : (Jvm.Cond.selects "NobodyCanLiftIt$King" ({ cls := "NobodyCanLiftIt$Man", name := "like", desc := "(LNobodyCanLiftIt$Man;)LNobodyCanLiftIt$Man;" } : Jvm.MethodName) ({ cls := "NobodyCanLiftIt$Man", name := "like", desc := "(LNobodyCanLiftIt$Man;)LNobodyCanLiftIt$Man;" } : Jvm.MethodName)) ∈ lw_all := lw_g (lw_at lw_m5 84 rfl) rfl
theorem q1916 : (Jvm.Cond.sameMethod "NobodyCanLiftIt$King" "NobodyCanLiftIt$King" "kind" "()I") ∈ lw_all := lw_g (lw_at lw_m8 108 rfl) rfl
theorem q1918 : (Jvm.Cond.sameMethod "NobodyCanLiftIt$King" "NobodyCanLiftIt$King" "strong" "(II)I") ∈ lw_all := lw_g (lw_at lw_m8 110 rfl) rfl
theorem q1921 : (Jvm.Cond.sameMethod "NobodyCanLiftIt$King" "NobodyCanLiftIt$King" "feels" "(LNobodyCanLiftIt$Part;I)V") ∈ lw_all := lw_g (lw_at lw_m8 113 rfl) rfl
theorem q1930 : (Jvm.Cond.castable "NobodyCanLiftIt$King" "NobodyCanLiftIt$Man") ∈ lw_tbl := lw_at lw_m8 122 rfl
theorem in_X11 : ∀ w ∈ wsX110, w ∈ lw_all := lw_in wsX110 [207, 209, 211, 213] (by decide +kernel) (by decide +kernel)
/-! NobodyCanLiftIt$Child -/
set_option maxRecDepth 100000
def RX12 : String := "NobodyCanLiftIt$Child"
def TX12 : u_T := fun k => match k with
  | 0 => ("NobodyCanLiftIt$Man", "number", "I", false)
  | 1 => ("NobodyCanLiftIt$Man", "age", "I", false)
  | 2 => ("NobodyCanLiftIt$Man", "ease", "I", false)
  | _ => ("NobodyCanLiftIt$Man", "here", "Z", false)
def tyX12 : Nat → FieldType := fun k => match k with
  | 0 => .int
  | 1 => .int
  | 2 => .int
  | _ => .boolean
abbrev wsX120 : List Cond := u_ws RX12 TX12 4
theorem nmX12 : ∀ a, a < 4 → ∀ b, b < 4 → a ≠ b → (TX12 a).2.1 ≠ (TX12 b).2.1 := by decide +kernel
theorem tyX12_ok : ∀ k, k < 4 → parseFieldDescriptor (TX12 k).2.2.1 = some (tyX12 k) := by decide +kernel
abbrev cX12_init : ByteArray := prog_2_method_1_code
def yX12_init : MethodName := ⟨RX12, "<init>", "(II)V"⟩
def dkwX12_init_0 : List UInt8 := [42, 27, 28, 183, 0, 1, 177]
abbrev dktX12_init_0 : List UInt8 := dkwX12_init_0 ++ []
theorem dksX12_init_0 : cX12_init.data.toList.drop 0 = dktX12_init_0 := by decide +kernel
theorem dX12_init_0 : decode cX12_init 0 = .ok (.aload_n 0, 1) := dk_42 (dk_at dksX12_init_0 0 rfl rfl)
theorem dX12_init_1 : decode cX12_init 1 = .ok (.iload_n 1, 1) := dk_27 (dk_at dksX12_init_0 1 rfl rfl)
theorem dX12_init_2 : decode cX12_init 2 = .ok (.iload_n 2, 1) := dk_28 (dk_at dksX12_init_0 2 rfl rfl)
theorem dX12_init_3 : decode cX12_init 3 = .ok (.invokespecial 1, 3) := dk_183 0 1 (dk_at dksX12_init_0 3 rfl rfl)
theorem dX12_init_6 : decode cX12_init 6 = .ok (.return_, 1) := dk_177 (dk_at dksX12_init_0 6 rfl rfl)
abbrev cX12_kind : ByteArray := prog_2_method_2_code
def yX12_kind : MethodName := ⟨RX12, "kind", "()I"⟩
def dkwX12_kind_0 : List UInt8 := [42, 183, 0, 7, 5, 96, 172]
abbrev dktX12_kind_0 : List UInt8 := dkwX12_kind_0 ++ []
theorem dksX12_kind_0 : cX12_kind.data.toList.drop 0 = dktX12_kind_0 := by decide +kernel
theorem dX12_kind_0 : decode cX12_kind 0 = .ok (.aload_n 0, 1) := dk_42 (dk_at dksX12_kind_0 0 rfl rfl)
theorem dX12_kind_1 : decode cX12_kind 1 = .ok (.invokespecial 7, 3) := dk_183 0 7 (dk_at dksX12_kind_0 1 rfl rfl)
theorem dX12_kind_4 : decode cX12_kind 4 = .ok (.iconst 2, 1) := dk_5 (dk_at dksX12_kind_0 4 rfl rfl)
theorem dX12_kind_5 : decode cX12_kind 5 = .ok (.iadd, 1) := dk_96 (dk_at dksX12_kind_0 5 rfl rfl)
theorem dX12_kind_6 : decode cX12_kind 6 = .ok (.ireturn, 1) := dk_172 (dk_at dksX12_kind_0 6 rfl rfl)
abbrev cX12_strong : ByteArray := prog_2_method_4_code
def yX12_strong : MethodName := ⟨RX12, "strong", "(II)I"⟩
def dkwX12_strong_0 : List UInt8 := [42, 27, 28, 183, 0, 29, 16, 10, 108, 172]
abbrev dktX12_strong_0 : List UInt8 := dkwX12_strong_0 ++ []
theorem dksX12_strong_0 : cX12_strong.data.toList.drop 0 = dktX12_strong_0 := by decide +kernel
theorem dX12_strong_0 : decode cX12_strong 0 = .ok (.aload_n 0, 1) := dk_42 (dk_at dksX12_strong_0 0 rfl rfl)
theorem dX12_strong_1 : decode cX12_strong 1 = .ok (.iload_n 1, 1) := dk_27 (dk_at dksX12_strong_0 1 rfl rfl)
theorem dX12_strong_2 : decode cX12_strong 2 = .ok (.iload_n 2, 1) := dk_28 (dk_at dksX12_strong_0 2 rfl rfl)
theorem dX12_strong_3 : decode cX12_strong 3 = .ok (.invokespecial 29, 3) := dk_183 0 29 (dk_at dksX12_strong_0 3 rfl rfl)
theorem dX12_strong_6 : decode cX12_strong 6 = .ok (.bipush 10, 2) := dk_16 10 (dk_at dksX12_strong_0 6 rfl rfl)
theorem dX12_strong_8 : decode cX12_strong 8 = .ok (.idiv, 1) := dk_108 (dk_at dksX12_strong_0 8 rfl rfl)
theorem dX12_strong_9 : decode cX12_strong 9 = .ok (.ireturn, 1) := dk_172 (dk_at dksX12_strong_0 9 rfl rfl)
abbrev cX12_eased : ByteArray := prog_2_method_5_code
def yX12_eased : MethodName := ⟨RX12, "eased", "(II)I"⟩
def dkwX12_eased_0 : List UInt8 := [42, 27, 28, 183, 0, 33, 4, 96, 172]
abbrev dktX12_eased_0 : List UInt8 := dkwX12_eased_0 ++ []
theorem dksX12_eased_0 : cX12_eased.data.toList.drop 0 = dktX12_eased_0 := by decide +kernel
theorem dX12_eased_0 : decode cX12_eased 0 = .ok (.aload_n 0, 1) := dk_42 (dk_at dksX12_eased_0 0 rfl rfl)
theorem dX12_eased_1 : decode cX12_eased 1 = .ok (.iload_n 1, 1) := dk_27 (dk_at dksX12_eased_0 1 rfl rfl)
theorem dX12_eased_2 : decode cX12_eased 2 = .ok (.iload_n 2, 1) := dk_28 (dk_at dksX12_eased_0 2 rfl rfl)
theorem dX12_eased_3 : decode cX12_eased 3 = .ok (.invokespecial 33, 3) := dk_183 0 33 (dk_at dksX12_eased_0 3 rfl rfl)
theorem dX12_eased_6 : decode cX12_eased 6 = .ok (.iconst 1, 1) := dk_4 (dk_at dksX12_eased_0 6 rfl rfl)
theorem dX12_eased_7 : decode cX12_eased 7 = .ok (.iadd, 1) := dk_96 (dk_at dksX12_eased_0 7 rfl rfl)
theorem dX12_eased_8 : decode cX12_eased 8 = .ok (.ireturn, 1) := dk_172 (dk_at dksX12_eased_0 8 rfl rfl)
abbrev cX12_feels : ByteArray := prog_2_method_3_code
def yX12_feels : MethodName := ⟨RX12, "feels", "(LNobodyCanLiftIt$Part;I)V"⟩
def dkwX12_feels_1 : List UInt8 := [182, 0, 23, 177]
abbrev dktX12_feels_1 : List UInt8 := dkwX12_feels_1 ++ []
def dkwX12_feels_0 : List UInt8 := [42, 43, 28, 183, 0, 11, 43, 42, 180, 0, 15, 16, 9, 162, 0, 7, 9, 167, 0, 4, 10, 20, 0, 21]
abbrev dktX12_feels_0 : List UInt8 := dkwX12_feels_0 ++ dktX12_feels_1
theorem dksX12_feels_0 : cX12_feels.data.toList.drop 0 = dktX12_feels_0 := by decide +kernel
theorem dksX12_feels_1 : cX12_feels.data.toList.drop 24 = dktX12_feels_1 := dk_seg dksX12_feels_0 24 rfl rfl
theorem dX12_feels_0 : decode cX12_feels 0 = .ok (.aload_n 0, 1) := dk_42 (dk_at dksX12_feels_0 0 rfl rfl)
theorem dX12_feels_1 : decode cX12_feels 1 = .ok (.aload_n 1, 1) := dk_43 (dk_at dksX12_feels_0 1 rfl rfl)
theorem dX12_feels_2 : decode cX12_feels 2 = .ok (.iload_n 2, 1) := dk_28 (dk_at dksX12_feels_0 2 rfl rfl)
theorem dX12_feels_3 : decode cX12_feels 3 = .ok (.invokespecial 11, 3) := dk_183 0 11 (dk_at dksX12_feels_0 3 rfl rfl)
theorem dX12_feels_6 : decode cX12_feels 6 = .ok (.aload_n 1, 1) := dk_43 (dk_at dksX12_feels_0 6 rfl rfl)
theorem dX12_feels_7 : decode cX12_feels 7 = .ok (.aload_n 0, 1) := dk_42 (dk_at dksX12_feels_0 7 rfl rfl)
theorem dX12_feels_8 : decode cX12_feels 8 = .ok (.getfield 15, 3) := dk_180 0 15 (dk_at dksX12_feels_0 8 rfl rfl)
theorem dX12_feels_11 : decode cX12_feels 11 = .ok (.bipush 9, 2) := dk_16 9 (dk_at dksX12_feels_0 11 rfl rfl)
theorem dX12_feels_13 : decode cX12_feels 13 = .ok (.if_icmp .ge 7, 3) := dk_162 0 7 (dk_at dksX12_feels_0 13 rfl rfl)
theorem dX12_feels_16 : decode cX12_feels 16 = .ok (.lconst 0, 1) := dk_9 (dk_at dksX12_feels_0 16 rfl rfl)
theorem dX12_feels_17 : decode cX12_feels 17 = .ok (.goto 4, 3) := dk_167 0 4 (dk_at dksX12_feels_0 17 rfl rfl)
theorem dX12_feels_20 : decode cX12_feels 20 = .ok (.lconst 1, 1) := dk_10 (dk_at dksX12_feels_0 20 rfl rfl)
theorem dX12_feels_21 : decode cX12_feels 21 = .ok (.ldc2_w 21, 3) := dk_20 0 21 (dk_at dksX12_feels_0 21 rfl rfl)
theorem dX12_feels_24 : decode cX12_feels 24 = .ok (.invokevirtual 23, 3) := dk_182 0 23 (dk_at dksX12_feels_1 0 rfl rfl)
theorem dX12_feels_27 : decode cX12_feels 27 = .ok (.return_, 1) := dk_177 (dk_at dksX12_feels_1 3 rfl rfl)
theorem q150 : (Jvm.Cond.initialized "NobodyCanLiftIt$Child") ∈ lw_all := lw_g (lw_at lw_m1 22 rfl) rfl
theorem q195 : (Jvm.Cond.fieldLink "NobodyCanLiftIt$Child" (15 : Nat) "NobodyCanLiftIt$Child" "age" "I") ∈ lw_all := lw_g (lw_at lw_m1 67 rfl) rfl
theorem q196 : (Jvm.Cond.sameField "NobodyCanLiftIt$Child" "NobodyCanLiftIt$Man" "age" "I") ∈ lw_all := lw_g (lw_at lw_m1 68 rfl) rfl
theorem q217 : (Jvm.Cond.instantiable "NobodyCanLiftIt$Child" (4 : Nat)) ∈ lw_all := lw_g (lw_at lw_m1 89 rfl) rfl
theorem q219 : (Jvm.Cond.instanceMethod ({ cls := "NobodyCanLiftIt$Child", name := "<init>", desc := "(II)V" } : Jvm.MethodName)) ∈ lw_all := lw_g (lw_at lw_m1 91 rfl) rfl
theorem q220 : (Jvm.Cond.code ({ cls := "NobodyCanLiftIt$Child", name := "<init>", desc := "(II)V" } : Jvm.MethodName) prog_2_method_1_code (3 : Nat) (Option.none : Option Jvm.ClassFile.FieldType)) ∈ lw_all := lw_g (lw_at lw_m1 92 rfl) rfl
theorem q221 : (Jvm.Cond.methodLink "NobodyCanLiftIt$Child" (1 : Nat) ({ cls := "NobodyCanLiftIt$Man", name := "<init>", desc := "(II)V" } : Jvm.MethodName)) ∈ lw_all := lw_g (lw_at lw_m1 93 rfl) rfl
theorem q222 : (Jvm.Cond.lays "NobodyCanLiftIt$Child" "NobodyCanLiftIt$Man" "number" "I") ∈ lw_all := lw_g (lw_at lw_m1 94 rfl) rfl
theorem q223 : (Jvm.Cond.lays "NobodyCanLiftIt$Child" "NobodyCanLiftIt$Man" "age" "I") ∈ lw_all := lw_g (lw_at lw_m1 95 rfl) rfl
theorem q224 : (Jvm.Cond.lays "NobodyCanLiftIt$Child" "NobodyCanLiftIt$Man" "ease" "I") ∈ lw_all := lw_g (lw_at lw_m1 96 rfl) rfl
theorem q225 : (Jvm.Cond.lays "NobodyCanLiftIt$Child" "NobodyCanLiftIt$Man" "here" "Z") ∈ lw_all := lw_g (lw_at lw_m1 97 rfl) rfl
theorem q226 : (Jvm.Cond.superclass "NobodyCanLiftIt$Child" "NobodyCanLiftIt$Man") ∈ lw_all := lw_g (lw_at lw_m1 98 rfl) rfl
theorem q306 : (Jvm.Cond.selects "NobodyCanLiftIt$Child" ({ cls := "NobodyCanLiftIt$Man", name := "kind", desc := "()I" } : Jvm.MethodName) ({ cls := "NobodyCanLiftIt$Child", name := "kind", desc := "()I" } : Jvm.MethodName)) ∈ lw_all := lw_g (lw_at lw_m1 178 rfl) rfl
theorem q307 : (Jvm.Cond.instanceMethod ({ cls := "NobodyCanLiftIt$Child", name := "kind", desc := "()I" } : Jvm.MethodName)) ∈ lw_all := lw_g (lw_at lw_m1 179 rfl) rfl
theorem q308 : (Jvm.Cond.code ({ cls := "NobodyCanLiftIt$Child", name := "kind", desc := "()I" } : Jvm.MethodName) prog_2_method_2_code (1 : Nat) (Option.some Jvm.ClassFile.FieldType.int)) ∈ lw_all := lw_g (lw_at lw_m1 180 rfl) rfl
theorem q309 : (Jvm.Cond.methodLink "NobodyCanLiftIt$Child" (7 : Nat) ({ cls := "NobodyCanLiftIt$Man", name := "kind", desc := "()I" } : Jvm.MethodName)) ∈ lw_all := lw_g (lw_at lw_m1 181 rfl) rfl
theorem q373 : (Jvm.Cond.selects "NobodyCanLiftIt$Child" ({ cls := "NobodyCanLiftIt$Man", name := "strong", desc := "(II)I" } : Jvm.MethodName) ({ cls := "NobodyCanLiftIt$Child", name := "strong", desc := "(II)I" } : Jvm.MethodName)) ∈ lw_all := lw_g (lw_at lw_m2 5 rfl) rfl
theorem q374 : (Jvm.Cond.instanceMethod ({ cls := "NobodyCanLiftIt$Child", name := "strong", desc := "(II)I" } : Jvm.MethodName)) ∈ lw_all := lw_g (lw_at lw_m2 6 rfl) rfl
theorem q375 : (Jvm.Cond.code ({ cls := "NobodyCanLiftIt$Child", name := "strong", desc := "(II)I" } : Jvm.MethodName) prog_2_method_4_code (3 : Nat) (Option.some Jvm.ClassFile.FieldType.int)) ∈ lw_all := lw_g (lw_at lw_m2 7 rfl) rfl
theorem q376 : (Jvm.Cond.methodLink "NobodyCanLiftIt$Child" (29 : Nat) ({ cls := "NobodyCanLiftIt$Man", name := "strong", desc := "(II)I" } : Jvm.MethodName)) ∈ lw_all := lw_g (lw_at lw_m2 8 rfl) rfl
theorem q402 : (Jvm.Cond.selects "NobodyCanLiftIt$Child" ({ cls := "NobodyCanLiftIt$Man", name := "eased", desc := "(II)I" } : Jvm.MethodName) ({ cls := "NobodyCanLiftIt$Child", name := "eased", desc := "(II)I" } : Jvm.MethodName)) ∈ lw_all := lw_g (lw_at lw_m2 34 rfl) rfl
theorem q403 : (Jvm.Cond.instanceMethod ({ cls := "NobodyCanLiftIt$Child", name := "eased", desc := "(II)I" } : Jvm.MethodName)) ∈ lw_all := lw_g (lw_at lw_m2 35 rfl) rfl
theorem q404 : (Jvm.Cond.code ({ cls := "NobodyCanLiftIt$Child", name := "eased", desc := "(II)I" } : Jvm.MethodName) prog_2_method_5_code (3 : Nat) (Option.some Jvm.ClassFile.FieldType.int)) ∈ lw_all := lw_g (lw_at lw_m2 36 rfl) rfl
theorem q405 : (Jvm.Cond.methodLink "NobodyCanLiftIt$Child" (33 : Nat) ({ cls := "NobodyCanLiftIt$Man", name := "eased", desc := "(II)I" } : Jvm.MethodName)) ∈ lw_all := lw_g (lw_at lw_m2 37 rfl) rfl
theorem q449 : (Jvm.Cond.selects "NobodyCanLiftIt$Child" ({ cls := "NobodyCanLiftIt$Man", name := "feels", desc := "(LNobodyCanLiftIt$Part;I)V" } : Jvm.MethodName) ({ cls := "NobodyCanLiftIt$Child", name := "feels", desc := "(LNobodyCanLiftIt$Part;I)V" } : Jvm.MethodName)) ∈ lw_all := lw_g (lw_at lw_m2 81 rfl) rfl
theorem q450 : (Jvm.Cond.instanceMethod ({ cls := "NobodyCanLiftIt$Child", name := "feels", desc := "(LNobodyCanLiftIt$Part;I)V" } : Jvm.MethodName)) ∈ lw_all := lw_g (lw_at lw_m2 82 rfl) rfl
theorem q451 : (Jvm.Cond.code ({ cls := "NobodyCanLiftIt$Child", name := "feels", desc := "(LNobodyCanLiftIt$Part;I)V" } : Jvm.MethodName) prog_2_method_3_code (3 : Nat) (Option.none : Option Jvm.ClassFile.FieldType)) ∈ lw_all := lw_g (lw_at lw_m2 83 rfl) rfl
theorem q452 : (Jvm.Cond.methodLink "NobodyCanLiftIt$Child" (11 : Nat) ({ cls := "NobodyCanLiftIt$Man", name := "feels", desc := "(LNobodyCanLiftIt$Part;I)V" } : Jvm.MethodName)) ∈ lw_all := lw_g (lw_at lw_m2 84 rfl) rfl
theorem q455 : (Jvm.Cond.constantLong "NobodyCanLiftIt$Child" (21 : Nat) (2 : Int64)) ∈ lw_all := lw_g (lw_at lw_m2 87 rfl) rfl
theorem q456 : (Jvm.Cond.methodLink "NobodyCanLiftIt$Child" (23 : Nat) ({ cls := "NobodyCanLiftIt$Part", name := "by", desc := "(JJ)V" } : Jvm.MethodName)) ∈ lw_all := lw_g (lw_at lw_m2 88 rfl) rfl
theorem q1170 : (Jvm.Cond.selects "NobodyCanLiftIt$Child" ({ cls := "NobodyCanLiftIt$Man", name := "like", desc := "(LNobodyCanLiftIt$Man;)LNobodyCanLiftIt$Man;" } : Jvm.MethodName) ({ cls := "NobodyCanLiftIt$Man", name := "like", desc := "(LNobodyCanLiftIt$Man;)LNobodyCanLiftIt$Man;" } : Jvm.MethodName)) ∈ lw_all := lw_g (lw_at lw_m5 82 rfl) rfl
theorem q1915 : (Jvm.Cond.sameMethod "NobodyCanLiftIt$Child" "NobodyCanLiftIt$Child" "kind" "()I") ∈ lw_all := lw_g (lw_at lw_m8 107 rfl) rfl
theorem q1917 : (Jvm.Cond.sameMethod "NobodyCanLiftIt$Child" "NobodyCanLiftIt$Child" "strong" "(II)I") ∈ lw_all := lw_g (lw_at lw_m8 109 rfl) rfl
theorem q1919 : (Jvm.Cond.sameMethod "NobodyCanLiftIt$Child" "NobodyCanLiftIt$Child" "eased" "(II)I") ∈ lw_all := lw_g (lw_at lw_m8 111 rfl) rfl
theorem q1920 : (Jvm.Cond.sameMethod "NobodyCanLiftIt$Child" "NobodyCanLiftIt$Child" "feels" "(LNobodyCanLiftIt$Part;I)V") ∈ lw_all := lw_g (lw_at lw_m8 112 rfl) rfl
theorem q1931 : (Jvm.Cond.castable "NobodyCanLiftIt$Child" "NobodyCanLiftIt$Man") ∈ lw_tbl := lw_at lw_m8 123 rfl
theorem in_X12 : ∀ w ∈ wsX120, w ∈ lw_all := lw_in wsX120 [222, 223, 224, 225] (by decide +kernel) (by decide +kernel)
/-! NobodyCanLiftIt$Queen -/
set_option maxRecDepth 100000
def RX13 : String := "NobodyCanLiftIt$Queen"
def TX13 : u_T := fun k => match k with
  | 0 => ("NobodyCanLiftIt$Man", "number", "I", false)
  | 1 => ("NobodyCanLiftIt$Man", "age", "I", false)
  | 2 => ("NobodyCanLiftIt$Man", "ease", "I", false)
  | _ => ("NobodyCanLiftIt$Man", "here", "Z", false)
def tyX13 : Nat → FieldType := fun k => match k with
  | 0 => .int
  | 1 => .int
  | 2 => .int
  | _ => .boolean
abbrev wsX130 : List Cond := u_ws RX13 TX13 4
theorem nmX13 : ∀ a, a < 4 → ∀ b, b < 4 → a ≠ b → (TX13 a).2.1 ≠ (TX13 b).2.1 := by decide +kernel
theorem tyX13_ok : ∀ k, k < 4 → parseFieldDescriptor (TX13 k).2.2.1 = some (tyX13 k) := by decide +kernel
abbrev cX13_init : ByteArray := prog_12_method_1_code
def yX13_init : MethodName := ⟨RX13, "<init>", "(II)V"⟩
def dkwX13_init_0 : List UInt8 := [42, 27, 28, 183, 0, 1, 177]
abbrev dktX13_init_0 : List UInt8 := dkwX13_init_0 ++ []
theorem dksX13_init_0 : cX13_init.data.toList.drop 0 = dktX13_init_0 := by decide +kernel
theorem dX13_init_0 : decode cX13_init 0 = .ok (.aload_n 0, 1) := dk_42 (dk_at dksX13_init_0 0 rfl rfl)
theorem dX13_init_1 : decode cX13_init 1 = .ok (.iload_n 1, 1) := dk_27 (dk_at dksX13_init_0 1 rfl rfl)
theorem dX13_init_2 : decode cX13_init 2 = .ok (.iload_n 2, 1) := dk_28 (dk_at dksX13_init_0 2 rfl rfl)
theorem dX13_init_3 : decode cX13_init 3 = .ok (.invokespecial 1, 3) := dk_183 0 1 (dk_at dksX13_init_0 3 rfl rfl)
theorem dX13_init_6 : decode cX13_init 6 = .ok (.return_, 1) := dk_177 (dk_at dksX13_init_0 6 rfl rfl)
abbrev cX13_kind : ByteArray := prog_12_method_2_code
def yX13_kind : MethodName := ⟨RX13, "kind", "()I"⟩
def dkwX13_kind_0 : List UInt8 := [42, 183, 0, 7, 5, 96, 172]
abbrev dktX13_kind_0 : List UInt8 := dkwX13_kind_0 ++ []
theorem dksX13_kind_0 : cX13_kind.data.toList.drop 0 = dktX13_kind_0 := by decide +kernel
theorem dX13_kind_0 : decode cX13_kind 0 = .ok (.aload_n 0, 1) := dk_42 (dk_at dksX13_kind_0 0 rfl rfl)
theorem dX13_kind_1 : decode cX13_kind 1 = .ok (.invokespecial 7, 3) := dk_183 0 7 (dk_at dksX13_kind_0 1 rfl rfl)
theorem dX13_kind_4 : decode cX13_kind 4 = .ok (.iconst 2, 1) := dk_5 (dk_at dksX13_kind_0 4 rfl rfl)
theorem dX13_kind_5 : decode cX13_kind 5 = .ok (.iadd, 1) := dk_96 (dk_at dksX13_kind_0 5 rfl rfl)
theorem dX13_kind_6 : decode cX13_kind 6 = .ok (.ireturn, 1) := dk_172 (dk_at dksX13_kind_0 6 rfl rfl)
abbrev cX13_strong : ByteArray := prog_12_method_4_code
def yX13_strong : MethodName := ⟨RX13, "strong", "(II)I"⟩
def dkwX13_strong_0 : List UInt8 := [42, 27, 28, 183, 0, 27, 62, 42, 180, 0, 15, 16, 50, 161, 0, 9, 5, 29, 104, 167, 0, 4, 29, 172]
abbrev dktX13_strong_0 : List UInt8 := dkwX13_strong_0 ++ []
theorem dksX13_strong_0 : cX13_strong.data.toList.drop 0 = dktX13_strong_0 := by decide +kernel
theorem dX13_strong_0 : decode cX13_strong 0 = .ok (.aload_n 0, 1) := dk_42 (dk_at dksX13_strong_0 0 rfl rfl)
theorem dX13_strong_1 : decode cX13_strong 1 = .ok (.iload_n 1, 1) := dk_27 (dk_at dksX13_strong_0 1 rfl rfl)
theorem dX13_strong_2 : decode cX13_strong 2 = .ok (.iload_n 2, 1) := dk_28 (dk_at dksX13_strong_0 2 rfl rfl)
theorem dX13_strong_3 : decode cX13_strong 3 = .ok (.invokespecial 27, 3) := dk_183 0 27 (dk_at dksX13_strong_0 3 rfl rfl)
theorem dX13_strong_6 : decode cX13_strong 6 = .ok (.istore_n 3, 1) := dk_62 (dk_at dksX13_strong_0 6 rfl rfl)
theorem dX13_strong_7 : decode cX13_strong 7 = .ok (.aload_n 0, 1) := dk_42 (dk_at dksX13_strong_0 7 rfl rfl)
theorem dX13_strong_8 : decode cX13_strong 8 = .ok (.getfield 15, 3) := dk_180 0 15 (dk_at dksX13_strong_0 8 rfl rfl)
theorem dX13_strong_11 : decode cX13_strong 11 = .ok (.bipush 50, 2) := dk_16 50 (dk_at dksX13_strong_0 11 rfl rfl)
theorem dX13_strong_13 : decode cX13_strong 13 = .ok (.if_icmp .lt 9, 3) := dk_161 0 9 (dk_at dksX13_strong_0 13 rfl rfl)
theorem dX13_strong_16 : decode cX13_strong 16 = .ok (.iconst 2, 1) := dk_5 (dk_at dksX13_strong_0 16 rfl rfl)
theorem dX13_strong_17 : decode cX13_strong 17 = .ok (.iload_n 3, 1) := dk_29 (dk_at dksX13_strong_0 17 rfl rfl)
theorem dX13_strong_18 : decode cX13_strong 18 = .ok (.imul, 1) := dk_104 (dk_at dksX13_strong_0 18 rfl rfl)
theorem dX13_strong_19 : decode cX13_strong 19 = .ok (.goto 4, 3) := dk_167 0 4 (dk_at dksX13_strong_0 19 rfl rfl)
theorem dX13_strong_22 : decode cX13_strong 22 = .ok (.iload_n 3, 1) := dk_29 (dk_at dksX13_strong_0 22 rfl rfl)
theorem dX13_strong_23 : decode cX13_strong 23 = .ok (.ireturn, 1) := dk_172 (dk_at dksX13_strong_0 23 rfl rfl)
abbrev cX13_eased : ByteArray := prog_12_method_5_code
def yX13_eased : MethodName := ⟨RX13, "eased", "(II)I"⟩
theorem dX13_eased_0 : decode cX13_eased 0 = .ok (.aload_n 0, 1) := by decide +kernel
theorem dX13_eased_1 : decode cX13_eased 1 = .ok (.getfield 31, 3) := by decide +kernel
theorem dX13_eased_4 : decode cX13_eased 4 = .ok (.ireturn, 1) := by decide +kernel
abbrev cX13_feels : ByteArray := prog_12_method_3_code
def yX13_feels : MethodName := ⟨RX13, "feels", "(LNobodyCanLiftIt$Part;I)V"⟩
def dkwX13_feels_0 : List UInt8 := [42, 43, 28, 183, 0, 11, 43, 42, 180, 0, 15, 133, 182, 0, 21, 177]
abbrev dktX13_feels_0 : List UInt8 := dkwX13_feels_0 ++ []
theorem dksX13_feels_0 : cX13_feels.data.toList.drop 0 = dktX13_feels_0 := by decide +kernel
theorem dX13_feels_0 : decode cX13_feels 0 = .ok (.aload_n 0, 1) := dk_42 (dk_at dksX13_feels_0 0 rfl rfl)
theorem dX13_feels_1 : decode cX13_feels 1 = .ok (.aload_n 1, 1) := dk_43 (dk_at dksX13_feels_0 1 rfl rfl)
theorem dX13_feels_2 : decode cX13_feels 2 = .ok (.iload_n 2, 1) := dk_28 (dk_at dksX13_feels_0 2 rfl rfl)
theorem dX13_feels_3 : decode cX13_feels 3 = .ok (.invokespecial 11, 3) := dk_183 0 11 (dk_at dksX13_feels_0 3 rfl rfl)
theorem dX13_feels_6 : decode cX13_feels 6 = .ok (.aload_n 1, 1) := dk_43 (dk_at dksX13_feels_0 6 rfl rfl)
theorem dX13_feels_7 : decode cX13_feels 7 = .ok (.aload_n 0, 1) := dk_42 (dk_at dksX13_feels_0 7 rfl rfl)
theorem dX13_feels_8 : decode cX13_feels 8 = .ok (.getfield 15, 3) := dk_180 0 15 (dk_at dksX13_feels_0 8 rfl rfl)
theorem dX13_feels_11 : decode cX13_feels 11 = .ok (.i2l, 1) := dk_133 (dk_at dksX13_feels_0 11 rfl rfl)
theorem dX13_feels_12 : decode cX13_feels 12 = .ok (.invokevirtual 21, 3) := dk_182 0 21 (dk_at dksX13_feels_0 12 rfl rfl)
theorem dX13_feels_15 : decode cX13_feels 15 = .ok (.return_, 1) := dk_177 (dk_at dksX13_feels_0 15 rfl rfl)
theorem q151 : (Jvm.Cond.initialized "NobodyCanLiftIt$Queen") ∈ lw_all := lw_g (lw_at lw_m1 23 rfl) rfl
theorem q190 : (Jvm.Cond.fieldLink "NobodyCanLiftIt$Queen" (31 : Nat) "NobodyCanLiftIt$Queen" "number" "I") ∈ lw_all := lw_g (lw_at lw_m1 62 rfl) rfl
theorem q191 : (Jvm.Cond.sameField "NobodyCanLiftIt$Queen" "NobodyCanLiftIt$Man" "number" "I") ∈ lw_all := lw_g (lw_at lw_m1 63 rfl) rfl
theorem q199 : (Jvm.Cond.fieldLink "NobodyCanLiftIt$Queen" (15 : Nat) "NobodyCanLiftIt$Queen" "ease" "I") ∈ lw_all := lw_g (lw_at lw_m1 71 rfl) rfl
theorem q200 : (Jvm.Cond.sameField "NobodyCanLiftIt$Queen" "NobodyCanLiftIt$Man" "ease" "I") ∈ lw_all := lw_g (lw_at lw_m1 72 rfl) rfl
theorem q228 : (Jvm.Cond.instantiable "NobodyCanLiftIt$Queen" (4 : Nat)) ∈ lw_all := lw_g (lw_at lw_m1 100 rfl) rfl
theorem q230 : (Jvm.Cond.instanceMethod ({ cls := "NobodyCanLiftIt$Queen", name := "<init>", desc := "(II)V" } : Jvm.MethodName)) ∈ lw_all := lw_g (lw_at lw_m1 102 rfl) rfl
theorem q231 : (Jvm.Cond.code ({ cls := "NobodyCanLiftIt$Queen", name := "<init>", desc := "(II)V" } : Jvm.MethodName) prog_12_method_1_code (3 : Nat) (Option.none : Option Jvm.ClassFile.FieldType)) ∈ lw_all := lw_g (lw_at lw_m1 103 rfl) rfl
theorem q232 : (Jvm.Cond.methodLink "NobodyCanLiftIt$Queen" (1 : Nat) ({ cls := "NobodyCanLiftIt$King", name := "<init>", desc := "(II)V" } : Jvm.MethodName)) ∈ lw_all := lw_g (lw_at lw_m1 104 rfl) rfl
theorem q233 : (Jvm.Cond.lays "NobodyCanLiftIt$Queen" "NobodyCanLiftIt$Man" "number" "I") ∈ lw_all := lw_g (lw_at lw_m1 105 rfl) rfl
theorem q234 : (Jvm.Cond.lays "NobodyCanLiftIt$Queen" "NobodyCanLiftIt$Man" "age" "I") ∈ lw_all := lw_g (lw_at lw_m1 106 rfl) rfl
theorem q235 : (Jvm.Cond.lays "NobodyCanLiftIt$Queen" "NobodyCanLiftIt$Man" "ease" "I") ∈ lw_all := lw_g (lw_at lw_m1 107 rfl) rfl
theorem q236 : (Jvm.Cond.lays "NobodyCanLiftIt$Queen" "NobodyCanLiftIt$Man" "here" "Z") ∈ lw_all := lw_g (lw_at lw_m1 108 rfl) rfl
theorem q237 : (Jvm.Cond.superclass "NobodyCanLiftIt$Queen" "NobodyCanLiftIt$King") ∈ lw_all := lw_g (lw_at lw_m1 109 rfl) rfl
theorem q323 : (Jvm.Cond.selects "NobodyCanLiftIt$Queen" ({ cls := "NobodyCanLiftIt$Man", name := "kind", desc := "()I" } : Jvm.MethodName) ({ cls := "NobodyCanLiftIt$Queen", name := "kind", desc := "()I" } : Jvm.MethodName)) ∈ lw_all := lw_g (lw_at lw_m1 195 rfl) rfl
theorem q324 : (Jvm.Cond.instanceMethod ({ cls := "NobodyCanLiftIt$Queen", name := "kind", desc := "()I" } : Jvm.MethodName)) ∈ lw_all := lw_g (lw_at lw_m1 196 rfl) rfl
theorem q325 : (Jvm.Cond.code ({ cls := "NobodyCanLiftIt$Queen", name := "kind", desc := "()I" } : Jvm.MethodName) prog_12_method_2_code (1 : Nat) (Option.some Jvm.ClassFile.FieldType.int)) ∈ lw_all := lw_g (lw_at lw_m1 197 rfl) rfl
theorem q326 : (Jvm.Cond.methodLink "NobodyCanLiftIt$Queen" (7 : Nat) ({ cls := "NobodyCanLiftIt$King", name := "kind", desc := "()I" } : Jvm.MethodName)) ∈ lw_all := lw_g (lw_at lw_m1 198 rfl) rfl
theorem q390 : (Jvm.Cond.selects "NobodyCanLiftIt$Queen" ({ cls := "NobodyCanLiftIt$Man", name := "strong", desc := "(II)I" } : Jvm.MethodName) ({ cls := "NobodyCanLiftIt$Queen", name := "strong", desc := "(II)I" } : Jvm.MethodName)) ∈ lw_all := lw_g (lw_at lw_m2 22 rfl) rfl
theorem q391 : (Jvm.Cond.instanceMethod ({ cls := "NobodyCanLiftIt$Queen", name := "strong", desc := "(II)I" } : Jvm.MethodName)) ∈ lw_all := lw_g (lw_at lw_m2 23 rfl) rfl
theorem q392 : (Jvm.Cond.code ({ cls := "NobodyCanLiftIt$Queen", name := "strong", desc := "(II)I" } : Jvm.MethodName) prog_12_method_4_code (4 : Nat) (Option.some Jvm.ClassFile.FieldType.int)) ∈ lw_all := lw_g (lw_at lw_m2 24 rfl) rfl
theorem q393 : (Jvm.Cond.methodLink "NobodyCanLiftIt$Queen" (27 : Nat) ({ cls := "NobodyCanLiftIt$King", name := "strong", desc := "(II)I" } : Jvm.MethodName)) ∈ lw_all := lw_g (lw_at lw_m2 25 rfl) rfl
theorem q418 : (Jvm.Cond.selects "NobodyCanLiftIt$Queen" ({ cls := "NobodyCanLiftIt$Man", name := "eased", desc := "(II)I" } : Jvm.MethodName) ({ cls := "NobodyCanLiftIt$Queen", name := "eased", desc := "(II)I" } : Jvm.MethodName)) ∈ lw_all := lw_g (lw_at lw_m2 50 rfl) rfl
theorem q419 : (Jvm.Cond.instanceMethod ({ cls := "NobodyCanLiftIt$Queen", name := "eased", desc := "(II)I" } : Jvm.MethodName)) ∈ lw_all := lw_g (lw_at lw_m2 51 rfl) rfl
theorem q420 : (Jvm.Cond.code ({ cls := "NobodyCanLiftIt$Queen", name := "eased", desc := "(II)I" } : Jvm.MethodName) prog_12_method_5_code (3 : Nat) (Option.some Jvm.ClassFile.FieldType.int)) ∈ lw_all := lw_g (lw_at lw_m2 52 rfl) rfl
theorem q477 : (Jvm.Cond.selects "NobodyCanLiftIt$Queen" ({ cls := "NobodyCanLiftIt$Man", name := "feels", desc := "(LNobodyCanLiftIt$Part;I)V" } : Jvm.MethodName) ({ cls := "NobodyCanLiftIt$Queen", name := "feels", desc := "(LNobodyCanLiftIt$Part;I)V" } : Jvm.MethodName)) ∈ lw_all := lw_g (lw_at lw_m2 109 rfl) rfl
theorem q478 : (Jvm.Cond.instanceMethod ({ cls := "NobodyCanLiftIt$Queen", name := "feels", desc := "(LNobodyCanLiftIt$Part;I)V" } : Jvm.MethodName)) ∈ lw_all := lw_g (lw_at lw_m2 110 rfl) rfl
theorem q479 : (Jvm.Cond.code ({ cls := "NobodyCanLiftIt$Queen", name := "feels", desc := "(LNobodyCanLiftIt$Part;I)V" } : Jvm.MethodName) prog_12_method_3_code (3 : Nat) (Option.none : Option Jvm.ClassFile.FieldType)) ∈ lw_all := lw_g (lw_at lw_m2 111 rfl) rfl
theorem q480 : (Jvm.Cond.methodLink "NobodyCanLiftIt$Queen" (11 : Nat) ({ cls := "NobodyCanLiftIt$King", name := "feels", desc := "(LNobodyCanLiftIt$Part;I)V" } : Jvm.MethodName)) ∈ lw_all := lw_g (lw_at lw_m2 112 rfl) rfl
theorem q481 : (Jvm.Cond.methodLink "NobodyCanLiftIt$Queen" (21 : Nat) ({ cls := "NobodyCanLiftIt$Part", name := "lessens", desc := "(J)V" } : Jvm.MethodName)) ∈ lw_all := lw_g (lw_at lw_m2 113 rfl) rfl
theorem q1174 : (Jvm.Cond.selects "NobodyCanLiftIt$Queen" ({ cls := "NobodyCanLiftIt$Man", name := "like", desc := "(LNobodyCanLiftIt$Man;)LNobodyCanLiftIt$Man;" } : Jvm.MethodName) ({ cls := "NobodyCanLiftIt$Man", name := "like", desc := "(LNobodyCanLiftIt$Man;)LNobodyCanLiftIt$Man;" } : Jvm.MethodName)) ∈ lw_all := lw_g (lw_at lw_m5 86 rfl) rfl
theorem q1924 : (Jvm.Cond.castable "NobodyCanLiftIt$Queen" "NobodyCanLiftIt$King") ∈ lw_tbl := lw_at lw_m8 116 rfl
theorem q1932 : (Jvm.Cond.castable "NobodyCanLiftIt$Queen" "NobodyCanLiftIt$Man") ∈ lw_tbl := lw_at lw_m8 124 rfl
theorem in_X13 : ∀ w ∈ wsX130, w ∈ lw_all := lw_in wsX130 [233, 234, 235, 236] (by decide +kernel) (by decide +kernel)
/-! NobodyCanLiftIt$Knitter -/
set_option maxRecDepth 100000
def RX14 : String := "NobodyCanLiftIt$Knitter"
def TX14 : u_T := fun k => match k with
  | 0 => ("NobodyCanLiftIt$Man", "number", "I", false)
  | 1 => ("NobodyCanLiftIt$Man", "age", "I", false)
  | 2 => ("NobodyCanLiftIt$Man", "ease", "I", false)
  | _ => ("NobodyCanLiftIt$Man", "here", "Z", false)
def tyX14 : Nat → FieldType := fun k => match k with
  | 0 => .int
  | 1 => .int
  | 2 => .int
  | _ => .boolean
abbrev wsX140 : List Cond := u_ws RX14 TX14 4
theorem nmX14 : ∀ a, a < 4 → ∀ b, b < 4 → a ≠ b → (TX14 a).2.1 ≠ (TX14 b).2.1 := by decide +kernel
theorem tyX14_ok : ∀ k, k < 4 → parseFieldDescriptor (TX14 k).2.2.1 = some (tyX14 k) := by decide +kernel
abbrev cX14_init : ByteArray := prog_6_method_1_code
def yX14_init : MethodName := ⟨RX14, "<init>", "(II)V"⟩
def dkwX14_init_0 : List UInt8 := [42, 27, 28, 183, 0, 1, 177]
abbrev dktX14_init_0 : List UInt8 := dkwX14_init_0 ++ []
theorem dksX14_init_0 : cX14_init.data.toList.drop 0 = dktX14_init_0 := by decide +kernel
theorem dX14_init_0 : decode cX14_init 0 = .ok (.aload_n 0, 1) := dk_42 (dk_at dksX14_init_0 0 rfl rfl)
theorem dX14_init_1 : decode cX14_init 1 = .ok (.iload_n 1, 1) := dk_27 (dk_at dksX14_init_0 1 rfl rfl)
theorem dX14_init_2 : decode cX14_init 2 = .ok (.iload_n 2, 1) := dk_28 (dk_at dksX14_init_0 2 rfl rfl)
theorem dX14_init_3 : decode cX14_init 3 = .ok (.invokespecial 1, 3) := dk_183 0 1 (dk_at dksX14_init_0 3 rfl rfl)
theorem dX14_init_6 : decode cX14_init 6 = .ok (.return_, 1) := dk_177 (dk_at dksX14_init_0 6 rfl rfl)
abbrev cX14_kind : ByteArray := prog_6_method_2_code
def yX14_kind : MethodName := ⟨RX14, "kind", "()I"⟩
def dkwX14_kind_0 : List UInt8 := [42, 183, 0, 7, 5, 96, 172]
abbrev dktX14_kind_0 : List UInt8 := dkwX14_kind_0 ++ []
theorem dksX14_kind_0 : cX14_kind.data.toList.drop 0 = dktX14_kind_0 := by decide +kernel
theorem dX14_kind_0 : decode cX14_kind 0 = .ok (.aload_n 0, 1) := dk_42 (dk_at dksX14_kind_0 0 rfl rfl)
theorem dX14_kind_1 : decode cX14_kind 1 = .ok (.invokespecial 7, 3) := dk_183 0 7 (dk_at dksX14_kind_0 1 rfl rfl)
theorem dX14_kind_4 : decode cX14_kind 4 = .ok (.iconst 2, 1) := dk_5 (dk_at dksX14_kind_0 4 rfl rfl)
theorem dX14_kind_5 : decode cX14_kind 5 = .ok (.iadd, 1) := dk_96 (dk_at dksX14_kind_0 5 rfl rfl)
theorem dX14_kind_6 : decode cX14_kind 6 = .ok (.ireturn, 1) := dk_172 (dk_at dksX14_kind_0 6 rfl rfl)
abbrev cX14_strong : ByteArray := prog_6_method_4_code
def yX14_strong : MethodName := ⟨RX14, "strong", "(II)I"⟩
def dkwX14_strong_0 : List UInt8 := [42, 27, 28, 183, 0, 23, 42, 180, 0, 27, 96, 172]
abbrev dktX14_strong_0 : List UInt8 := dkwX14_strong_0 ++ []
theorem dksX14_strong_0 : cX14_strong.data.toList.drop 0 = dktX14_strong_0 := by decide +kernel
theorem dX14_strong_0 : decode cX14_strong 0 = .ok (.aload_n 0, 1) := dk_42 (dk_at dksX14_strong_0 0 rfl rfl)
theorem dX14_strong_1 : decode cX14_strong 1 = .ok (.iload_n 1, 1) := dk_27 (dk_at dksX14_strong_0 1 rfl rfl)
theorem dX14_strong_2 : decode cX14_strong 2 = .ok (.iload_n 2, 1) := dk_28 (dk_at dksX14_strong_0 2 rfl rfl)
theorem dX14_strong_3 : decode cX14_strong 3 = .ok (.invokespecial 23, 3) := dk_183 0 23 (dk_at dksX14_strong_0 3 rfl rfl)
theorem dX14_strong_6 : decode cX14_strong 6 = .ok (.aload_n 0, 1) := dk_42 (dk_at dksX14_strong_0 6 rfl rfl)
theorem dX14_strong_7 : decode cX14_strong 7 = .ok (.getfield 27, 3) := dk_180 0 27 (dk_at dksX14_strong_0 7 rfl rfl)
theorem dX14_strong_10 : decode cX14_strong 10 = .ok (.iadd, 1) := dk_96 (dk_at dksX14_strong_0 10 rfl rfl)
theorem dX14_strong_11 : decode cX14_strong 11 = .ok (.ireturn, 1) := dk_172 (dk_at dksX14_strong_0 11 rfl rfl)
abbrev cX14_eased : ByteArray := prog_6_method_5_code
def yX14_eased : MethodName := ⟨RX14, "eased", "(II)I"⟩
def dkwX14_eased_0 : List UInt8 := [5, 42, 27, 28, 183, 0, 33, 104, 172]
abbrev dktX14_eased_0 : List UInt8 := dkwX14_eased_0 ++ []
theorem dksX14_eased_0 : cX14_eased.data.toList.drop 0 = dktX14_eased_0 := by decide +kernel
theorem dX14_eased_0 : decode cX14_eased 0 = .ok (.iconst 2, 1) := dk_5 (dk_at dksX14_eased_0 0 rfl rfl)
theorem dX14_eased_1 : decode cX14_eased 1 = .ok (.aload_n 0, 1) := dk_42 (dk_at dksX14_eased_0 1 rfl rfl)
theorem dX14_eased_2 : decode cX14_eased 2 = .ok (.iload_n 1, 1) := dk_27 (dk_at dksX14_eased_0 2 rfl rfl)
theorem dX14_eased_3 : decode cX14_eased 3 = .ok (.iload_n 2, 1) := dk_28 (dk_at dksX14_eased_0 3 rfl rfl)
theorem dX14_eased_4 : decode cX14_eased 4 = .ok (.invokespecial 33, 3) := dk_183 0 33 (dk_at dksX14_eased_0 4 rfl rfl)
theorem dX14_eased_7 : decode cX14_eased 7 = .ok (.imul, 1) := dk_104 (dk_at dksX14_eased_0 7 rfl rfl)
theorem dX14_eased_8 : decode cX14_eased 8 = .ok (.ireturn, 1) := dk_172 (dk_at dksX14_eased_0 8 rfl rfl)
abbrev cX14_feels : ByteArray := prog_6_method_3_code
def yX14_feels : MethodName := ⟨RX14, "feels", "(LNobodyCanLiftIt$Part;I)V"⟩
def dkwX14_feels_0 : List UInt8 := [42, 43, 28, 183, 0, 11, 43, 10, 20, 0, 15, 182, 0, 17, 177]
abbrev dktX14_feels_0 : List UInt8 := dkwX14_feels_0 ++ []
theorem dksX14_feels_0 : cX14_feels.data.toList.drop 0 = dktX14_feels_0 := by decide +kernel
theorem dX14_feels_0 : decode cX14_feels 0 = .ok (.aload_n 0, 1) := dk_42 (dk_at dksX14_feels_0 0 rfl rfl)
theorem dX14_feels_1 : decode cX14_feels 1 = .ok (.aload_n 1, 1) := dk_43 (dk_at dksX14_feels_0 1 rfl rfl)
theorem dX14_feels_2 : decode cX14_feels 2 = .ok (.iload_n 2, 1) := dk_28 (dk_at dksX14_feels_0 2 rfl rfl)
theorem dX14_feels_3 : decode cX14_feels 3 = .ok (.invokespecial 11, 3) := dk_183 0 11 (dk_at dksX14_feels_0 3 rfl rfl)
theorem dX14_feels_6 : decode cX14_feels 6 = .ok (.aload_n 1, 1) := dk_43 (dk_at dksX14_feels_0 6 rfl rfl)
theorem dX14_feels_7 : decode cX14_feels 7 = .ok (.lconst 1, 1) := dk_10 (dk_at dksX14_feels_0 7 rfl rfl)
theorem dX14_feels_8 : decode cX14_feels 8 = .ok (.ldc2_w 15, 3) := dk_20 0 15 (dk_at dksX14_feels_0 8 rfl rfl)
theorem dX14_feels_11 : decode cX14_feels 11 = .ok (.invokevirtual 17, 3) := dk_182 0 17 (dk_at dksX14_feels_0 11 rfl rfl)
theorem dX14_feels_14 : decode cX14_feels 14 = .ok (.return_, 1) := dk_177 (dk_at dksX14_feels_0 14 rfl rfl)
theorem q152 : (Jvm.Cond.initialized "NobodyCanLiftIt$Knitter") ∈ lw_all := lw_g (lw_at lw_m1 24 rfl) rfl
theorem q201 : (Jvm.Cond.fieldLink "NobodyCanLiftIt$Knitter" (27 : Nat) "NobodyCanLiftIt$Knitter" "ease" "I") ∈ lw_all := lw_g (lw_at lw_m1 73 rfl) rfl
theorem q202 : (Jvm.Cond.sameField "NobodyCanLiftIt$Knitter" "NobodyCanLiftIt$Man" "ease" "I") ∈ lw_all := lw_g (lw_at lw_m1 74 rfl) rfl
theorem q239 : (Jvm.Cond.instantiable "NobodyCanLiftIt$Knitter" (4 : Nat)) ∈ lw_all := lw_g (lw_at lw_m1 111 rfl) rfl
theorem q241 : (Jvm.Cond.instanceMethod ({ cls := "NobodyCanLiftIt$Knitter", name := "<init>", desc := "(II)V" } : Jvm.MethodName)) ∈ lw_all := lw_g (lw_at lw_m1 113 rfl) rfl
theorem q242 : (Jvm.Cond.code ({ cls := "NobodyCanLiftIt$Knitter", name := "<init>", desc := "(II)V" } : Jvm.MethodName) prog_6_method_1_code (3 : Nat) (Option.none : Option Jvm.ClassFile.FieldType)) ∈ lw_all := lw_g (lw_at lw_m1 114 rfl) rfl
theorem q243 : (Jvm.Cond.methodLink "NobodyCanLiftIt$Knitter" (1 : Nat) ({ cls := "NobodyCanLiftIt$Child", name := "<init>", desc := "(II)V" } : Jvm.MethodName)) ∈ lw_all := lw_g (lw_at lw_m1 115 rfl) rfl
theorem q244 : (Jvm.Cond.lays "NobodyCanLiftIt$Knitter" "NobodyCanLiftIt$Man" "number" "I") ∈ lw_all := lw_g (lw_at lw_m1 116 rfl) rfl
theorem q245 : (Jvm.Cond.lays "NobodyCanLiftIt$Knitter" "NobodyCanLiftIt$Man" "age" "I") ∈ lw_all := lw_g (lw_at lw_m1 117 rfl) rfl
theorem q246 : (Jvm.Cond.lays "NobodyCanLiftIt$Knitter" "NobodyCanLiftIt$Man" "ease" "I") ∈ lw_all := lw_g (lw_at lw_m1 118 rfl) rfl
theorem q247 : (Jvm.Cond.lays "NobodyCanLiftIt$Knitter" "NobodyCanLiftIt$Man" "here" "Z") ∈ lw_all := lw_g (lw_at lw_m1 119 rfl) rfl
theorem q248 : (Jvm.Cond.superclass "NobodyCanLiftIt$Knitter" "NobodyCanLiftIt$Child") ∈ lw_all := lw_g (lw_at lw_m1 120 rfl) rfl
theorem q319 : (Jvm.Cond.selects "NobodyCanLiftIt$Knitter" ({ cls := "NobodyCanLiftIt$Man", name := "kind", desc := "()I" } : Jvm.MethodName) ({ cls := "NobodyCanLiftIt$Knitter", name := "kind", desc := "()I" } : Jvm.MethodName)) ∈ lw_all := lw_g (lw_at lw_m1 191 rfl) rfl
theorem q320 : (Jvm.Cond.instanceMethod ({ cls := "NobodyCanLiftIt$Knitter", name := "kind", desc := "()I" } : Jvm.MethodName)) ∈ lw_all := lw_g (lw_at lw_m1 192 rfl) rfl
theorem q321 : (Jvm.Cond.code ({ cls := "NobodyCanLiftIt$Knitter", name := "kind", desc := "()I" } : Jvm.MethodName) prog_6_method_2_code (1 : Nat) (Option.some Jvm.ClassFile.FieldType.int)) ∈ lw_all := lw_g (lw_at lw_m1 193 rfl) rfl
theorem q322 : (Jvm.Cond.methodLink "NobodyCanLiftIt$Knitter" (7 : Nat) ({ cls := "NobodyCanLiftIt$Child", name := "kind", desc := "()I" } : Jvm.MethodName)) ∈ lw_all := lw_g (lw_at lw_m1 194 rfl) rfl
theorem q386 : (Jvm.Cond.selects "NobodyCanLiftIt$Knitter" ({ cls := "NobodyCanLiftIt$Man", name := "strong", desc := "(II)I" } : Jvm.MethodName) ({ cls := "NobodyCanLiftIt$Knitter", name := "strong", desc := "(II)I" } : Jvm.MethodName)) ∈ lw_all := lw_g (lw_at lw_m2 18 rfl) rfl
theorem q387 : (Jvm.Cond.instanceMethod ({ cls := "NobodyCanLiftIt$Knitter", name := "strong", desc := "(II)I" } : Jvm.MethodName)) ∈ lw_all := lw_g (lw_at lw_m2 19 rfl) rfl
theorem q388 : (Jvm.Cond.code ({ cls := "NobodyCanLiftIt$Knitter", name := "strong", desc := "(II)I" } : Jvm.MethodName) prog_6_method_4_code (3 : Nat) (Option.some Jvm.ClassFile.FieldType.int)) ∈ lw_all := lw_g (lw_at lw_m2 20 rfl) rfl
theorem q389 : (Jvm.Cond.methodLink "NobodyCanLiftIt$Knitter" (23 : Nat) ({ cls := "NobodyCanLiftIt$Child", name := "strong", desc := "(II)I" } : Jvm.MethodName)) ∈ lw_all := lw_g (lw_at lw_m2 21 rfl) rfl
theorem q414 : (Jvm.Cond.selects "NobodyCanLiftIt$Knitter" ({ cls := "NobodyCanLiftIt$Man", name := "eased", desc := "(II)I" } : Jvm.MethodName) ({ cls := "NobodyCanLiftIt$Knitter", name := "eased", desc := "(II)I" } : Jvm.MethodName)) ∈ lw_all := lw_g (lw_at lw_m2 46 rfl) rfl
theorem q415 : (Jvm.Cond.instanceMethod ({ cls := "NobodyCanLiftIt$Knitter", name := "eased", desc := "(II)I" } : Jvm.MethodName)) ∈ lw_all := lw_g (lw_at lw_m2 47 rfl) rfl
theorem q416 : (Jvm.Cond.code ({ cls := "NobodyCanLiftIt$Knitter", name := "eased", desc := "(II)I" } : Jvm.MethodName) prog_6_method_5_code (3 : Nat) (Option.some Jvm.ClassFile.FieldType.int)) ∈ lw_all := lw_g (lw_at lw_m2 48 rfl) rfl
theorem q417 : (Jvm.Cond.methodLink "NobodyCanLiftIt$Knitter" (33 : Nat) ({ cls := "NobodyCanLiftIt$Child", name := "eased", desc := "(II)I" } : Jvm.MethodName)) ∈ lw_all := lw_g (lw_at lw_m2 49 rfl) rfl
theorem q471 : (Jvm.Cond.selects "NobodyCanLiftIt$Knitter" ({ cls := "NobodyCanLiftIt$Man", name := "feels", desc := "(LNobodyCanLiftIt$Part;I)V" } : Jvm.MethodName) ({ cls := "NobodyCanLiftIt$Knitter", name := "feels", desc := "(LNobodyCanLiftIt$Part;I)V" } : Jvm.MethodName)) ∈ lw_all := lw_g (lw_at lw_m2 103 rfl) rfl
theorem q472 : (Jvm.Cond.instanceMethod ({ cls := "NobodyCanLiftIt$Knitter", name := "feels", desc := "(LNobodyCanLiftIt$Part;I)V" } : Jvm.MethodName)) ∈ lw_all := lw_g (lw_at lw_m2 104 rfl) rfl
theorem q473 : (Jvm.Cond.code ({ cls := "NobodyCanLiftIt$Knitter", name := "feels", desc := "(LNobodyCanLiftIt$Part;I)V" } : Jvm.MethodName) prog_6_method_3_code (3 : Nat) (Option.none : Option Jvm.ClassFile.FieldType)) ∈ lw_all := lw_g (lw_at lw_m2 105 rfl) rfl
theorem q474 : (Jvm.Cond.methodLink "NobodyCanLiftIt$Knitter" (11 : Nat) ({ cls := "NobodyCanLiftIt$Child", name := "feels", desc := "(LNobodyCanLiftIt$Part;I)V" } : Jvm.MethodName)) ∈ lw_all := lw_g (lw_at lw_m2 106 rfl) rfl
theorem q475 : (Jvm.Cond.constantLong "NobodyCanLiftIt$Knitter" (15 : Nat) (3 : Int64)) ∈ lw_all := lw_g (lw_at lw_m2 107 rfl) rfl
theorem q476 : (Jvm.Cond.methodLink "NobodyCanLiftIt$Knitter" (17 : Nat) ({ cls := "NobodyCanLiftIt$Part", name := "by", desc := "(JJ)V" } : Jvm.MethodName)) ∈ lw_all := lw_g (lw_at lw_m2 108 rfl) rfl
theorem q1173 : (Jvm.Cond.selects "NobodyCanLiftIt$Knitter" ({ cls := "NobodyCanLiftIt$Man", name := "like", desc := "(LNobodyCanLiftIt$Man;)LNobodyCanLiftIt$Man;" } : Jvm.MethodName) ({ cls := "NobodyCanLiftIt$Man", name := "like", desc := "(LNobodyCanLiftIt$Man;)LNobodyCanLiftIt$Man;" } : Jvm.MethodName)) ∈ lw_all := lw_g (lw_at lw_m5 85 rfl) rfl
theorem q1925 : (Jvm.Cond.castable "NobodyCanLiftIt$Knitter" "NobodyCanLiftIt$Child") ∈ lw_tbl := lw_at lw_m8 117 rfl
theorem q1933 : (Jvm.Cond.castable "NobodyCanLiftIt$Knitter" "NobodyCanLiftIt$Man") ∈ lw_tbl := lw_at lw_m8 125 rfl
theorem in_X14 : ∀ w ∈ wsX140, w ∈ lw_all := lw_in wsX140 [244, 245, 246, 247] (by decide +kernel) (by decide +kernel)
/-! NobodyCanLiftIt$Engineer -/
set_option maxRecDepth 100000
def RX15 : String := "NobodyCanLiftIt$Engineer"
def TX15 : u_T := fun k => match k with
  | 0 => ("NobodyCanLiftIt$Man", "number", "I", false)
  | 1 => ("NobodyCanLiftIt$Man", "age", "I", false)
  | 2 => ("NobodyCanLiftIt$Man", "ease", "I", false)
  | _ => ("NobodyCanLiftIt$Man", "here", "Z", false)
def tyX15 : Nat → FieldType := fun k => match k with
  | 0 => .int
  | 1 => .int
  | 2 => .int
  | _ => .boolean
abbrev wsX150 : List Cond := u_ws RX15 TX15 4
theorem nmX15 : ∀ a, a < 4 → ∀ b, b < 4 → a ≠ b → (TX15 a).2.1 ≠ (TX15 b).2.1 := by decide +kernel
theorem tyX15_ok : ∀ k, k < 4 → parseFieldDescriptor (TX15 k).2.2.1 = some (tyX15 k) := by decide +kernel
abbrev cX15_init : ByteArray := prog_3_method_1_code
def yX15_init : MethodName := ⟨RX15, "<init>", "(II)V"⟩
def dkwX15_init_0 : List UInt8 := [42, 27, 28, 183, 0, 1, 177]
abbrev dktX15_init_0 : List UInt8 := dkwX15_init_0 ++ []
theorem dksX15_init_0 : cX15_init.data.toList.drop 0 = dktX15_init_0 := by decide +kernel
theorem dX15_init_0 : decode cX15_init 0 = .ok (.aload_n 0, 1) := dk_42 (dk_at dksX15_init_0 0 rfl rfl)
theorem dX15_init_1 : decode cX15_init 1 = .ok (.iload_n 1, 1) := dk_27 (dk_at dksX15_init_0 1 rfl rfl)
theorem dX15_init_2 : decode cX15_init 2 = .ok (.iload_n 2, 1) := dk_28 (dk_at dksX15_init_0 2 rfl rfl)
theorem dX15_init_3 : decode cX15_init 3 = .ok (.invokespecial 1, 3) := dk_183 0 1 (dk_at dksX15_init_0 3 rfl rfl)
theorem dX15_init_6 : decode cX15_init 6 = .ok (.return_, 1) := dk_177 (dk_at dksX15_init_0 6 rfl rfl)
abbrev cX15_kind : ByteArray := prog_3_method_2_code
def yX15_kind : MethodName := ⟨RX15, "kind", "()I"⟩
def dkwX15_kind_0 : List UInt8 := [42, 183, 0, 7, 8, 96, 172]
abbrev dktX15_kind_0 : List UInt8 := dkwX15_kind_0 ++ []
theorem dksX15_kind_0 : cX15_kind.data.toList.drop 0 = dktX15_kind_0 := by decide +kernel
theorem dX15_kind_0 : decode cX15_kind 0 = .ok (.aload_n 0, 1) := dk_42 (dk_at dksX15_kind_0 0 rfl rfl)
theorem dX15_kind_1 : decode cX15_kind 1 = .ok (.invokespecial 7, 3) := dk_183 0 7 (dk_at dksX15_kind_0 1 rfl rfl)
theorem dX15_kind_4 : decode cX15_kind 4 = .ok (.iconst 5, 1) := dk_8 (dk_at dksX15_kind_0 4 rfl rfl)
theorem dX15_kind_5 : decode cX15_kind 5 = .ok (.iadd, 1) := dk_96 (dk_at dksX15_kind_0 5 rfl rfl)
theorem dX15_kind_6 : decode cX15_kind 6 = .ok (.ireturn, 1) := dk_172 (dk_at dksX15_kind_0 6 rfl rfl)
abbrev cX15_strong : ByteArray := prog_3_method_4_code
def yX15_strong : MethodName := ⟨RX15, "strong", "(II)I"⟩
def dkwX15_strong_0 : List UInt8 := [42, 27, 28, 183, 0, 17, 28, 96, 172]
abbrev dktX15_strong_0 : List UInt8 := dkwX15_strong_0 ++ []
theorem dksX15_strong_0 : cX15_strong.data.toList.drop 0 = dktX15_strong_0 := by decide +kernel
theorem dX15_strong_0 : decode cX15_strong 0 = .ok (.aload_n 0, 1) := dk_42 (dk_at dksX15_strong_0 0 rfl rfl)
theorem dX15_strong_1 : decode cX15_strong 1 = .ok (.iload_n 1, 1) := dk_27 (dk_at dksX15_strong_0 1 rfl rfl)
theorem dX15_strong_2 : decode cX15_strong 2 = .ok (.iload_n 2, 1) := dk_28 (dk_at dksX15_strong_0 2 rfl rfl)
theorem dX15_strong_3 : decode cX15_strong 3 = .ok (.invokespecial 17, 3) := dk_183 0 17 (dk_at dksX15_strong_0 3 rfl rfl)
theorem dX15_strong_6 : decode cX15_strong 6 = .ok (.iload_n 2, 1) := dk_28 (dk_at dksX15_strong_0 6 rfl rfl)
theorem dX15_strong_7 : decode cX15_strong 7 = .ok (.iadd, 1) := dk_96 (dk_at dksX15_strong_0 7 rfl rfl)
theorem dX15_strong_8 : decode cX15_strong 8 = .ok (.ireturn, 1) := dk_172 (dk_at dksX15_strong_0 8 rfl rfl)
abbrev cX15_eased : ByteArray := prog_3_method_5_code
def yX15_eased : MethodName := ⟨RX15, "eased", "(II)I"⟩
def dkwX15_eased_0 : List UInt8 := [28, 5, 112, 154, 0, 12, 42, 27, 28, 183, 0, 21, 167, 0, 4, 3, 172]
abbrev dktX15_eased_0 : List UInt8 := dkwX15_eased_0 ++ []
theorem dksX15_eased_0 : cX15_eased.data.toList.drop 0 = dktX15_eased_0 := by decide +kernel
theorem dX15_eased_0 : decode cX15_eased 0 = .ok (.iload_n 2, 1) := dk_28 (dk_at dksX15_eased_0 0 rfl rfl)
theorem dX15_eased_1 : decode cX15_eased 1 = .ok (.iconst 2, 1) := dk_5 (dk_at dksX15_eased_0 1 rfl rfl)
theorem dX15_eased_2 : decode cX15_eased 2 = .ok (.irem, 1) := dk_112 (dk_at dksX15_eased_0 2 rfl rfl)
theorem dX15_eased_3 : decode cX15_eased 3 = .ok (.ifCond .ne 12, 3) := dk_154 0 12 (dk_at dksX15_eased_0 3 rfl rfl)
theorem dX15_eased_6 : decode cX15_eased 6 = .ok (.aload_n 0, 1) := dk_42 (dk_at dksX15_eased_0 6 rfl rfl)
theorem dX15_eased_7 : decode cX15_eased 7 = .ok (.iload_n 1, 1) := dk_27 (dk_at dksX15_eased_0 7 rfl rfl)
theorem dX15_eased_8 : decode cX15_eased 8 = .ok (.iload_n 2, 1) := dk_28 (dk_at dksX15_eased_0 8 rfl rfl)
theorem dX15_eased_9 : decode cX15_eased 9 = .ok (.invokespecial 21, 3) := dk_183 0 21 (dk_at dksX15_eased_0 9 rfl rfl)
theorem dX15_eased_12 : decode cX15_eased 12 = .ok (.goto 4, 3) := dk_167 0 4 (dk_at dksX15_eased_0 12 rfl rfl)
theorem dX15_eased_15 : decode cX15_eased 15 = .ok (.iconst 0, 1) := dk_3 (dk_at dksX15_eased_0 15 rfl rfl)
theorem dX15_eased_16 : decode cX15_eased 16 = .ok (.ireturn, 1) := dk_172 (dk_at dksX15_eased_0 16 rfl rfl)
abbrev cX15_feels : ByteArray := prog_3_method_3_code
def yX15_feels : MethodName := ⟨RX15, "feels", "(LNobodyCanLiftIt$Part;I)V"⟩
def dkwX15_feels_0 : List UInt8 := [43, 28, 133, 10, 182, 0, 11, 177]
abbrev dktX15_feels_0 : List UInt8 := dkwX15_feels_0 ++ []
theorem dksX15_feels_0 : cX15_feels.data.toList.drop 0 = dktX15_feels_0 := by decide +kernel
theorem dX15_feels_0 : decode cX15_feels 0 = .ok (.aload_n 1, 1) := dk_43 (dk_at dksX15_feels_0 0 rfl rfl)
theorem dX15_feels_1 : decode cX15_feels 1 = .ok (.iload_n 2, 1) := dk_28 (dk_at dksX15_feels_0 1 rfl rfl)
theorem dX15_feels_2 : decode cX15_feels 2 = .ok (.i2l, 1) := dk_133 (dk_at dksX15_feels_0 2 rfl rfl)
theorem dX15_feels_3 : decode cX15_feels 3 = .ok (.lconst 1, 1) := dk_10 (dk_at dksX15_feels_0 3 rfl rfl)
theorem dX15_feels_4 : decode cX15_feels 4 = .ok (.invokevirtual 11, 3) := dk_182 0 11 (dk_at dksX15_feels_0 4 rfl rfl)
theorem dX15_feels_7 : decode cX15_feels 7 = .ok (.return_, 1) := dk_177 (dk_at dksX15_feels_0 7 rfl rfl)
theorem q153 : (Jvm.Cond.initialized "NobodyCanLiftIt$Engineer") ∈ lw_all := lw_g (lw_at lw_m1 25 rfl) rfl
theorem q250 : (Jvm.Cond.instantiable "NobodyCanLiftIt$Engineer" (4 : Nat)) ∈ lw_all := lw_g (lw_at lw_m1 122 rfl) rfl
theorem q252 : (Jvm.Cond.instanceMethod ({ cls := "NobodyCanLiftIt$Engineer", name := "<init>", desc := "(II)V" } : Jvm.MethodName)) ∈ lw_all := lw_g (lw_at lw_m1 124 rfl) rfl
theorem q253 : (Jvm.Cond.code ({ cls := "NobodyCanLiftIt$Engineer", name := "<init>", desc := "(II)V" } : Jvm.MethodName) prog_3_method_1_code (3 : Nat) (Option.none : Option Jvm.ClassFile.FieldType)) ∈ lw_all := lw_g (lw_at lw_m1 125 rfl) rfl
theorem q254 : (Jvm.Cond.methodLink "NobodyCanLiftIt$Engineer" (1 : Nat) ({ cls := "NobodyCanLiftIt$Man", name := "<init>", desc := "(II)V" } : Jvm.MethodName)) ∈ lw_all := lw_g (lw_at lw_m1 126 rfl) rfl
theorem q255 : (Jvm.Cond.lays "NobodyCanLiftIt$Engineer" "NobodyCanLiftIt$Man" "number" "I") ∈ lw_all := lw_g (lw_at lw_m1 127 rfl) rfl
theorem q256 : (Jvm.Cond.lays "NobodyCanLiftIt$Engineer" "NobodyCanLiftIt$Man" "age" "I") ∈ lw_all := lw_g (lw_at lw_m1 128 rfl) rfl
theorem q257 : (Jvm.Cond.lays "NobodyCanLiftIt$Engineer" "NobodyCanLiftIt$Man" "ease" "I") ∈ lw_all := lw_g (lw_at lw_m1 129 rfl) rfl
theorem q258 : (Jvm.Cond.lays "NobodyCanLiftIt$Engineer" "NobodyCanLiftIt$Man" "here" "Z") ∈ lw_all := lw_g (lw_at lw_m1 130 rfl) rfl
theorem q259 : (Jvm.Cond.superclass "NobodyCanLiftIt$Engineer" "NobodyCanLiftIt$Man") ∈ lw_all := lw_g (lw_at lw_m1 131 rfl) rfl
theorem q311 : (Jvm.Cond.selects "NobodyCanLiftIt$Engineer" ({ cls := "NobodyCanLiftIt$Man", name := "kind", desc := "()I" } : Jvm.MethodName) ({ cls := "NobodyCanLiftIt$Engineer", name := "kind", desc := "()I" } : Jvm.MethodName)) ∈ lw_all := lw_g (lw_at lw_m1 183 rfl) rfl
theorem q312 : (Jvm.Cond.instanceMethod ({ cls := "NobodyCanLiftIt$Engineer", name := "kind", desc := "()I" } : Jvm.MethodName)) ∈ lw_all := lw_g (lw_at lw_m1 184 rfl) rfl
theorem q313 : (Jvm.Cond.code ({ cls := "NobodyCanLiftIt$Engineer", name := "kind", desc := "()I" } : Jvm.MethodName) prog_3_method_2_code (1 : Nat) (Option.some Jvm.ClassFile.FieldType.int)) ∈ lw_all := lw_g (lw_at lw_m1 185 rfl) rfl
theorem q314 : (Jvm.Cond.methodLink "NobodyCanLiftIt$Engineer" (7 : Nat) ({ cls := "NobodyCanLiftIt$Man", name := "kind", desc := "()I" } : Jvm.MethodName)) ∈ lw_all := lw_g (lw_at lw_m1 186 rfl) rfl
theorem q378 : (Jvm.Cond.selects "NobodyCanLiftIt$Engineer" ({ cls := "NobodyCanLiftIt$Man", name := "strong", desc := "(II)I" } : Jvm.MethodName) ({ cls := "NobodyCanLiftIt$Engineer", name := "strong", desc := "(II)I" } : Jvm.MethodName)) ∈ lw_all := lw_g (lw_at lw_m2 10 rfl) rfl
theorem q379 : (Jvm.Cond.instanceMethod ({ cls := "NobodyCanLiftIt$Engineer", name := "strong", desc := "(II)I" } : Jvm.MethodName)) ∈ lw_all := lw_g (lw_at lw_m2 11 rfl) rfl
theorem q380 : (Jvm.Cond.code ({ cls := "NobodyCanLiftIt$Engineer", name := "strong", desc := "(II)I" } : Jvm.MethodName) prog_3_method_4_code (3 : Nat) (Option.some Jvm.ClassFile.FieldType.int)) ∈ lw_all := lw_g (lw_at lw_m2 12 rfl) rfl
theorem q381 : (Jvm.Cond.methodLink "NobodyCanLiftIt$Engineer" (17 : Nat) ({ cls := "NobodyCanLiftIt$Man", name := "strong", desc := "(II)I" } : Jvm.MethodName)) ∈ lw_all := lw_g (lw_at lw_m2 13 rfl) rfl
theorem q407 : (Jvm.Cond.selects "NobodyCanLiftIt$Engineer" ({ cls := "NobodyCanLiftIt$Man", name := "eased", desc := "(II)I" } : Jvm.MethodName) ({ cls := "NobodyCanLiftIt$Engineer", name := "eased", desc := "(II)I" } : Jvm.MethodName)) ∈ lw_all := lw_g (lw_at lw_m2 39 rfl) rfl
theorem q408 : (Jvm.Cond.instanceMethod ({ cls := "NobodyCanLiftIt$Engineer", name := "eased", desc := "(II)I" } : Jvm.MethodName)) ∈ lw_all := lw_g (lw_at lw_m2 40 rfl) rfl
theorem q409 : (Jvm.Cond.code ({ cls := "NobodyCanLiftIt$Engineer", name := "eased", desc := "(II)I" } : Jvm.MethodName) prog_3_method_5_code (3 : Nat) (Option.some Jvm.ClassFile.FieldType.int)) ∈ lw_all := lw_g (lw_at lw_m2 41 rfl) rfl
theorem q410 : (Jvm.Cond.methodLink "NobodyCanLiftIt$Engineer" (21 : Nat) ({ cls := "NobodyCanLiftIt$Man", name := "eased", desc := "(II)I" } : Jvm.MethodName)) ∈ lw_all := lw_g (lw_at lw_m2 42 rfl) rfl
theorem q461 : (Jvm.Cond.selects "NobodyCanLiftIt$Engineer" ({ cls := "NobodyCanLiftIt$Man", name := "feels", desc := "(LNobodyCanLiftIt$Part;I)V" } : Jvm.MethodName) ({ cls := "NobodyCanLiftIt$Engineer", name := "feels", desc := "(LNobodyCanLiftIt$Part;I)V" } : Jvm.MethodName)) ∈ lw_all := lw_g (lw_at lw_m2 93 rfl) rfl
theorem q462 : (Jvm.Cond.instanceMethod ({ cls := "NobodyCanLiftIt$Engineer", name := "feels", desc := "(LNobodyCanLiftIt$Part;I)V" } : Jvm.MethodName)) ∈ lw_all := lw_g (lw_at lw_m2 94 rfl) rfl
theorem q463 : (Jvm.Cond.code ({ cls := "NobodyCanLiftIt$Engineer", name := "feels", desc := "(LNobodyCanLiftIt$Part;I)V" } : Jvm.MethodName) prog_3_method_3_code (3 : Nat) (Option.none : Option Jvm.ClassFile.FieldType)) ∈ lw_all := lw_g (lw_at lw_m2 95 rfl) rfl
theorem q464 : (Jvm.Cond.methodLink "NobodyCanLiftIt$Engineer" (11 : Nat) ({ cls := "NobodyCanLiftIt$Part", name := "is", desc := "(JJ)V" } : Jvm.MethodName)) ∈ lw_all := lw_g (lw_at lw_m2 96 rfl) rfl
theorem q1171 : (Jvm.Cond.selects "NobodyCanLiftIt$Engineer" ({ cls := "NobodyCanLiftIt$Man", name := "like", desc := "(LNobodyCanLiftIt$Man;)LNobodyCanLiftIt$Man;" } : Jvm.MethodName) ({ cls := "NobodyCanLiftIt$Man", name := "like", desc := "(LNobodyCanLiftIt$Man;)LNobodyCanLiftIt$Man;" } : Jvm.MethodName)) ∈ lw_all := lw_g (lw_at lw_m5 83 rfl) rfl
theorem q1934 : (Jvm.Cond.castable "NobodyCanLiftIt$Engineer" "NobodyCanLiftIt$Man") ∈ lw_tbl := lw_at lw_m8 126 rfl
theorem in_X15 : ∀ w ∈ wsX150, w ∈ lw_all := lw_in wsX150 [255, 256, 257, 258] (by decide +kernel) (by decide +kernel)
/-! the law's own entry -/
set_option maxRecDepth 100000
abbrev cL_law : ByteArray := code
def dkwL_law_42 : List UInt8 := [132, 3, 6, 167, 251, 207, 4, 172]
abbrev dktL_law_42 : List UInt8 := dkwL_law_42 ++ []
def dkwL_law_41 : List UInt8 := [182, 0, 130, 44, 42, 29, 4, 96, 46, 42, 29, 5, 96, 46, 182, 0, 133, 159, 0, 5, 3, 172]
abbrev dktL_law_41 : List UInt8 := dkwL_law_41 ++ dktL_law_42
def dkwL_law_40 : List UInt8 := [42, 29, 7, 96, 46, 182, 0, 129, 159, 0, 38, 3, 172, 43, 42, 29, 4, 96, 46, 42, 29, 5, 96, 46]
abbrev dktL_law_40 : List UInt8 := dkwL_law_40 ++ dktL_law_41
def dkwL_law_39 : List UInt8 := [42, 29, 7, 96, 46, 182, 0, 125, 44, 42, 29, 4, 96, 46, 42, 29, 5, 96, 46, 42, 29, 6, 96, 46]
abbrev dktL_law_39 : List UInt8 := dkwL_law_39 ++ dktL_law_40
def dkwL_law_38 : List UInt8 := [182, 0, 124, 159, 0, 91, 3, 172, 43, 42, 29, 4, 96, 46, 42, 29, 5, 96, 46, 42, 29, 6, 96, 46]
abbrev dktL_law_38 : List UInt8 := dkwL_law_38 ++ dktL_law_39
def dkwL_law_37 : List UInt8 := [96, 46, 42, 29, 5, 96, 46, 42, 29, 6, 96, 46, 42, 29, 7, 96, 46, 42, 29, 8, 96, 46]
abbrev dktL_law_37 : List UInt8 := dkwL_law_37 ++ dktL_law_38
def dkwL_law_36 : List UInt8 := [96, 46, 42, 29, 6, 96, 46, 42, 29, 7, 96, 46, 42, 29, 8, 96, 46, 182, 0, 120, 44, 42, 29, 4]
abbrev dktL_law_36 : List UInt8 := dkwL_law_36 ++ dktL_law_37
def dkwL_law_35 : List UInt8 := [96, 46, 42, 29, 6, 96, 46, 182, 0, 119, 159, 0, 154, 3, 172, 43, 42, 29, 4, 96, 46, 42, 29, 5]
abbrev dktL_law_35 : List UInt8 := dkwL_law_35 ++ dktL_law_36
def dkwL_law_34 : List UInt8 := [96, 46, 42, 29, 5, 96, 46, 42, 29, 6, 96, 46, 182, 0, 116, 44, 42, 29, 4, 96, 46, 42, 29, 5]
abbrev dktL_law_34 : List UInt8 := dkwL_law_34 ++ dktL_law_35
def dkwL_law_33 : List UInt8 := [96, 46, 42, 29, 5, 96, 46, 42, 29, 6, 96, 46, 182, 0, 115, 159, 0, 197, 3, 172, 43, 42, 29, 4]
abbrev dktL_law_33 : List UInt8 := dkwL_law_33 ++ dktL_law_34
def dkwL_law_32 : List UInt8 := [172, 43, 42, 29, 4, 96, 46, 42, 29, 5, 96, 46, 42, 29, 6, 96, 46, 182, 0, 112, 44, 42, 29, 4]
abbrev dktL_law_32 : List UInt8 := dkwL_law_32 ++ dktL_law_33
def dkwL_law_31 : List UInt8 := [3, 172, 43, 42, 29, 4, 96, 46, 182, 0, 108, 44, 42, 29, 4, 96, 46, 182, 0, 111, 159, 0, 240, 3]
abbrev dktL_law_31 : List UInt8 := dkwL_law_31 ++ dktL_law_32
def dkwL_law_30 : List UInt8 := [43, 182, 0, 100, 44, 182, 0, 103, 159, 1, 20, 3, 172, 43, 182, 0, 104, 44, 182, 0, 107, 159, 1, 7]
abbrev dktL_law_30 : List UInt8 := dkwL_law_30 ++ dktL_law_31
def dkwL_law_29 : List UInt8 := [42, 29, 5, 96, 46, 42, 29, 6, 96, 46, 42, 29, 7, 96, 46, 182, 0, 99, 148, 153, 1, 33, 3, 172]
abbrev dktL_law_29 : List UInt8 := dkwL_law_29 ++ dktL_law_30
def dkwL_law_28 : List UInt8 := [42, 29, 5, 96, 46, 42, 29, 6, 96, 46, 42, 29, 7, 96, 46, 182, 0, 95, 44, 42, 29, 4, 96, 46]
abbrev dktL_law_28 : List UInt8 := dkwL_law_28 ++ dktL_law_29
def dkwL_law_27 : List UInt8 := [42, 29, 4, 96, 46, 42, 29, 5, 96, 46, 182, 0, 94, 159, 1, 87, 3, 172, 43, 42, 29, 4, 96, 46]
abbrev dktL_law_27 : List UInt8 := dkwL_law_27 ++ dktL_law_28
def dkwL_law_26 : List UInt8 := [46, 182, 0, 90, 159, 1, 120, 3, 172, 43, 42, 29, 4, 96, 46, 42, 29, 5, 96, 46, 182, 0, 91, 44]
abbrev dktL_law_26 : List UInt8 := dkwL_law_26 ++ dktL_law_27
def dkwL_law_25 : List UInt8 := [43, 42, 29, 4, 96, 46, 42, 29, 5, 96, 46, 182, 0, 87, 44, 42, 29, 4, 96, 46, 42, 29, 5, 96]
abbrev dktL_law_25 : List UInt8 := dkwL_law_25 ++ dktL_law_26
def dkwL_law_24 : List UInt8 := [44, 42, 29, 4, 96, 46, 42, 29, 5, 96, 46, 42, 29, 6, 96, 46, 182, 0, 86, 159, 1, 153, 3, 172]
abbrev dktL_law_24 : List UInt8 := dkwL_law_24 ++ dktL_law_25
def dkwL_law_23 : List UInt8 := [159, 1, 196, 3, 172, 43, 42, 29, 4, 96, 46, 42, 29, 5, 96, 46, 42, 29, 6, 96, 46, 182, 0, 83]
abbrev dktL_law_23 : List UInt8 := dkwL_law_23 ++ dktL_law_24
def dkwL_law_22 : List UInt8 := [42, 29, 5, 96, 46, 182, 0, 79, 44, 42, 29, 4, 96, 46, 42, 29, 5, 96, 46, 182, 0, 82]
abbrev dktL_law_22 : List UInt8 := dkwL_law_22 ++ dktL_law_23
def dkwL_law_21 : List UInt8 := [42, 29, 5, 96, 46, 42, 29, 6, 96, 46, 182, 0, 78, 159, 1, 229, 3, 172, 43, 42, 29, 4, 96, 46]
abbrev dktL_law_21 : List UInt8 := dkwL_law_21 ++ dktL_law_22
def dkwL_law_20 : List UInt8 := [42, 29, 4, 96, 46, 42, 29, 5, 96, 46, 42, 29, 6, 96, 46, 182, 0, 75, 44, 42, 29, 4, 96, 46]
abbrev dktL_law_20 : List UInt8 := dkwL_law_20 ++ dktL_law_21
def dkwL_law_19 : List UInt8 := [43, 42, 29, 4, 96, 46, 182, 0, 71, 44, 42, 29, 4, 96, 46, 182, 0, 74, 159, 2, 16, 3, 172, 43]
abbrev dktL_law_19 : List UInt8 := dkwL_law_19 ++ dktL_law_20
def dkwL_law_18 : List UInt8 := [96, 46, 182, 0, 67, 44, 42, 29, 4, 96, 46, 42, 29, 5, 96, 46, 182, 0, 70, 159, 2, 39, 3, 172]
abbrev dktL_law_18 : List UInt8 := dkwL_law_18 ++ dktL_law_19
def dkwL_law_17 : List UInt8 := [46, 42, 29, 5, 96, 46, 182, 0, 66, 148, 153, 2, 72, 3, 172, 43, 42, 29, 4, 96, 46, 42, 29, 5]
abbrev dktL_law_17 : List UInt8 := dkwL_law_17 ++ dktL_law_18
def dkwL_law_16 : List UInt8 := [159, 2, 106, 3, 172, 43, 42, 29, 4, 96, 46, 42, 29, 5, 96, 46, 182, 0, 63, 44, 42, 29, 4, 96]
abbrev dktL_law_16 : List UInt8 := dkwL_law_16 ++ dktL_law_17
def dkwL_law_15 : List UInt8 := [182, 0, 59, 44, 42, 29, 4, 96, 46, 42, 29, 5, 96, 46, 42, 29, 6, 96, 46, 182, 0, 62]
abbrev dktL_law_15 : List UInt8 := dkwL_law_15 ++ dktL_law_16
def dkwL_law_14 : List UInt8 := [182, 0, 58, 159, 2, 149, 3, 172, 43, 42, 29, 4, 96, 46, 42, 29, 5, 96, 46, 42, 29, 6, 96, 46]
abbrev dktL_law_14 : List UInt8 := dkwL_law_14 ++ dktL_law_15
def dkwL_law_13 : List UInt8 := [44, 182, 0, 54, 159, 2, 172, 3, 172, 43, 42, 29, 4, 96, 46, 182, 0, 55, 44, 42, 29, 4, 96, 46]
abbrev dktL_law_13 : List UInt8 := dkwL_law_13 ++ dktL_law_14
def dkwL_law_12 : List UInt8 := [4, 96, 46, 182, 0, 47, 44, 42, 29, 4, 96, 46, 182, 0, 50, 159, 2, 185, 3, 172, 43, 182, 0, 51]
abbrev dktL_law_12 : List UInt8 := dkwL_law_12 ++ dktL_law_13
def dkwL_law_11 : List UInt8 := [182, 0, 41, 159, 2, 221, 3, 172, 43, 182, 0, 42, 44, 182, 0, 46, 159, 2, 208, 3, 172, 43, 42, 29]
abbrev dktL_law_11 : List UInt8 := dkwL_law_11 ++ dktL_law_12
def dkwL_law_10 : List UInt8 := [182, 0, 36, 148, 153, 2, 244, 3, 172, 43, 42, 29, 4, 96, 46, 182, 0, 37, 44, 42, 29, 4, 96, 46]
abbrev dktL_law_10 : List UInt8 := dkwL_law_10 ++ dktL_law_11
def dkwL_law_9 : List UInt8 := [182, 0, 31, 148, 153, 3, 12, 3, 172, 43, 42, 29, 4, 96, 46, 182, 0, 32, 44, 42, 29, 4, 96, 46]
abbrev dktL_law_9 : List UInt8 := dkwL_law_9 ++ dktL_law_10
def dkwL_law_8 : List UInt8 := [42, 29, 4, 96, 46, 42, 29, 5, 96, 46, 182, 0, 27, 44, 42, 29, 4, 96, 46, 42, 29, 5, 96, 46]
abbrev dktL_law_8 : List UInt8 := dkwL_law_8 ++ dktL_law_9
def dkwL_law_7 : List UInt8 := [46, 182, 0, 22, 44, 42, 29, 4, 96, 46, 42, 29, 5, 96, 46, 182, 0, 26, 159, 3, 46, 3, 172, 43]
abbrev dktL_law_7 : List UInt8 := dkwL_law_7 ++ dktL_law_8
def dkwL_law_6 : List UInt8 := [46, 42, 29, 6, 96, 46, 182, 0, 21, 159, 3, 79, 3, 172, 43, 42, 29, 4, 96, 46, 42, 29, 5, 96]
abbrev dktL_law_6 : List UInt8 := dkwL_law_6 ++ dktL_law_7
def dkwL_law_5 : List UInt8 := [46, 42, 29, 5, 96, 46, 42, 29, 6, 96, 46, 182, 0, 18, 44, 42, 29, 4, 96, 46, 42, 29, 5, 96]
abbrev dktL_law_5 : List UInt8 := dkwL_law_5 ++ dktL_law_6
def dkwL_law_4 : List UInt8 := [46, 42, 29, 5, 96, 46, 42, 29, 6, 96, 46, 182, 0, 17, 159, 3, 122, 3, 172, 43, 42, 29, 4, 96]
abbrev dktL_law_4 : List UInt8 := dkwL_law_4 ++ dktL_law_5
def dkwL_law_3 : List UInt8 := [43, 42, 29, 4, 96, 46, 42, 29, 5, 96, 46, 42, 29, 6, 96, 46, 182, 0, 13, 44, 42, 29, 4, 96]
abbrev dktL_law_3 : List UInt8 := dkwL_law_3 ++ dktL_law_4
def dkwL_law_2 : List UInt8 := [170, 0, 0, 0, 0, 4, 31, 0, 0, 0, 0, 0, 0, 0, 27, 0, 0, 0, 127, 0, 0, 0, 170, 0, 0, 0, 213, 0, 0, 0, 246, 0, 0, 1, 24, 0, 0, 1, 48, 0, 0, 1, 71, 0, 0, 1, 84, 0, 0, 1, 107, 0, 0, 1, 120, 0, 0, 1, 143, 0, 0, 1, 186, 0, 0, 1, 220, 0, 0, 1, 253, 0, 0, 2, 20, 0, 0, 2, 63, 0, 0, 2, 96, 0, 0, 2, 139, 0, 0, 2, 172, 0, 0, 2, 205, 0, 0, 3, 3, 0, 0, 3, 16, 0, 0, 3, 29, 0, 0, 3, 52, 0, 0, 3, 95, 0, 0, 3, 138, 0, 0, 3, 201, 0, 0, 3, 254]
abbrev dktL_law_2 : List UInt8 := dkwL_law_2 ++ dktL_law_3
def dkwL_law_1 : List UInt8 := [163, 4, 46, 42, 29, 46, 16, 31, 126]
abbrev dktL_law_1 : List UInt8 := dkwL_law_1 ++ dktL_law_2
def dkwL_law_0 : List UInt8 := [187, 0, 7, 89, 183, 0, 9, 76, 187, 0, 10, 89, 183, 0, 12, 77, 3, 62, 29, 42, 190, 16, 6, 100]
abbrev dktL_law_0 : List UInt8 := dkwL_law_0 ++ dktL_law_1
theorem dksL_law_0 : cL_law.data.toList.drop 0 = dktL_law_0 := by decide +kernel
theorem dksL_law_1 : cL_law.data.toList.drop 24 = dktL_law_1 := dk_seg dksL_law_0 24 rfl rfl
theorem dksL_law_2 : cL_law.data.toList.drop 33 = dktL_law_2 := dk_seg dksL_law_1 9 rfl rfl
theorem dksL_law_3 : cL_law.data.toList.drop 160 = dktL_law_3 := dk_seg dksL_law_2 127 rfl rfl
theorem dksL_law_4 : cL_law.data.toList.drop 184 = dktL_law_4 := dk_seg dksL_law_3 24 rfl rfl
theorem dksL_law_5 : cL_law.data.toList.drop 208 = dktL_law_5 := dk_seg dksL_law_4 24 rfl rfl
theorem dksL_law_6 : cL_law.data.toList.drop 232 = dktL_law_6 := dk_seg dksL_law_5 24 rfl rfl
theorem dksL_law_7 : cL_law.data.toList.drop 256 = dktL_law_7 := dk_seg dksL_law_6 24 rfl rfl
theorem dksL_law_8 : cL_law.data.toList.drop 280 = dktL_law_8 := dk_seg dksL_law_7 24 rfl rfl
theorem dksL_law_9 : cL_law.data.toList.drop 304 = dktL_law_9 := dk_seg dksL_law_8 24 rfl rfl
theorem dksL_law_10 : cL_law.data.toList.drop 328 = dktL_law_10 := dk_seg dksL_law_9 24 rfl rfl
theorem dksL_law_11 : cL_law.data.toList.drop 352 = dktL_law_11 := dk_seg dksL_law_10 24 rfl rfl
theorem dksL_law_12 : cL_law.data.toList.drop 376 = dktL_law_12 := dk_seg dksL_law_11 24 rfl rfl
theorem dksL_law_13 : cL_law.data.toList.drop 400 = dktL_law_13 := dk_seg dksL_law_12 24 rfl rfl
theorem dksL_law_14 : cL_law.data.toList.drop 424 = dktL_law_14 := dk_seg dksL_law_13 24 rfl rfl
theorem dksL_law_15 : cL_law.data.toList.drop 448 = dktL_law_15 := dk_seg dksL_law_14 24 rfl rfl
theorem dksL_law_16 : cL_law.data.toList.drop 470 = dktL_law_16 := dk_seg dksL_law_15 22 rfl rfl
theorem dksL_law_17 : cL_law.data.toList.drop 494 = dktL_law_17 := dk_seg dksL_law_16 24 rfl rfl
theorem dksL_law_18 : cL_law.data.toList.drop 518 = dktL_law_18 := dk_seg dksL_law_17 24 rfl rfl
theorem dksL_law_19 : cL_law.data.toList.drop 542 = dktL_law_19 := dk_seg dksL_law_18 24 rfl rfl
theorem dksL_law_20 : cL_law.data.toList.drop 566 = dktL_law_20 := dk_seg dksL_law_19 24 rfl rfl
theorem dksL_law_21 : cL_law.data.toList.drop 590 = dktL_law_21 := dk_seg dksL_law_20 24 rfl rfl
theorem dksL_law_22 : cL_law.data.toList.drop 614 = dktL_law_22 := dk_seg dksL_law_21 24 rfl rfl
theorem dksL_law_23 : cL_law.data.toList.drop 636 = dktL_law_23 := dk_seg dksL_law_22 22 rfl rfl
theorem dksL_law_24 : cL_law.data.toList.drop 660 = dktL_law_24 := dk_seg dksL_law_23 24 rfl rfl
theorem dksL_law_25 : cL_law.data.toList.drop 684 = dktL_law_25 := dk_seg dksL_law_24 24 rfl rfl
theorem dksL_law_26 : cL_law.data.toList.drop 708 = dktL_law_26 := dk_seg dksL_law_25 24 rfl rfl
theorem dksL_law_27 : cL_law.data.toList.drop 732 = dktL_law_27 := dk_seg dksL_law_26 24 rfl rfl
theorem dksL_law_28 : cL_law.data.toList.drop 756 = dktL_law_28 := dk_seg dksL_law_27 24 rfl rfl
theorem dksL_law_29 : cL_law.data.toList.drop 780 = dktL_law_29 := dk_seg dksL_law_28 24 rfl rfl
theorem dksL_law_30 : cL_law.data.toList.drop 804 = dktL_law_30 := dk_seg dksL_law_29 24 rfl rfl
theorem dksL_law_31 : cL_law.data.toList.drop 828 = dktL_law_31 := dk_seg dksL_law_30 24 rfl rfl
theorem dksL_law_32 : cL_law.data.toList.drop 852 = dktL_law_32 := dk_seg dksL_law_31 24 rfl rfl
theorem dksL_law_33 : cL_law.data.toList.drop 876 = dktL_law_33 := dk_seg dksL_law_32 24 rfl rfl
theorem dksL_law_34 : cL_law.data.toList.drop 900 = dktL_law_34 := dk_seg dksL_law_33 24 rfl rfl
theorem dksL_law_35 : cL_law.data.toList.drop 924 = dktL_law_35 := dk_seg dksL_law_34 24 rfl rfl
theorem dksL_law_36 : cL_law.data.toList.drop 948 = dktL_law_36 := dk_seg dksL_law_35 24 rfl rfl
theorem dksL_law_37 : cL_law.data.toList.drop 972 = dktL_law_37 := dk_seg dksL_law_36 24 rfl rfl
theorem dksL_law_38 : cL_law.data.toList.drop 994 = dktL_law_38 := dk_seg dksL_law_37 22 rfl rfl
theorem dksL_law_39 : cL_law.data.toList.drop 1018 = dktL_law_39 := dk_seg dksL_law_38 24 rfl rfl
theorem dksL_law_40 : cL_law.data.toList.drop 1042 = dktL_law_40 := dk_seg dksL_law_39 24 rfl rfl
theorem dksL_law_41 : cL_law.data.toList.drop 1066 = dktL_law_41 := dk_seg dksL_law_40 24 rfl rfl
theorem dksL_law_42 : cL_law.data.toList.drop 1088 = dktL_law_42 := dk_seg dksL_law_41 22 rfl rfl
theorem dL_law_0 : decode cL_law 0 = .ok (.new 7, 3) := dk_187 0 7 (dk_at dksL_law_0 0 rfl rfl)
theorem dL_law_3 : decode cL_law 3 = .ok (.dup, 1) := dk_89 (dk_at dksL_law_0 3 rfl rfl)
theorem dL_law_4 : decode cL_law 4 = .ok (.invokespecial 9, 3) := dk_183 0 9 (dk_at dksL_law_0 4 rfl rfl)
theorem dL_law_7 : decode cL_law 7 = .ok (.astore_n 1, 1) := dk_76 (dk_at dksL_law_0 7 rfl rfl)
theorem dL_law_8 : decode cL_law 8 = .ok (.new 10, 3) := dk_187 0 10 (dk_at dksL_law_0 8 rfl rfl)
theorem dL_law_11 : decode cL_law 11 = .ok (.dup, 1) := dk_89 (dk_at dksL_law_0 11 rfl rfl)
theorem dL_law_12 : decode cL_law 12 = .ok (.invokespecial 12, 3) := dk_183 0 12 (dk_at dksL_law_0 12 rfl rfl)
theorem dL_law_15 : decode cL_law 15 = .ok (.astore_n 2, 1) := dk_77 (dk_at dksL_law_0 15 rfl rfl)
theorem dL_law_16 : decode cL_law 16 = .ok (.iconst 0, 1) := dk_3 (dk_at dksL_law_0 16 rfl rfl)
theorem dL_law_17 : decode cL_law 17 = .ok (.istore_n 3, 1) := dk_62 (dk_at dksL_law_0 17 rfl rfl)
theorem dL_law_18 : decode cL_law 18 = .ok (.iload_n 3, 1) := dk_29 (dk_at dksL_law_0 18 rfl rfl)
theorem dL_law_19 : decode cL_law 19 = .ok (.aload_n 0, 1) := dk_42 (dk_at dksL_law_0 19 rfl rfl)
theorem dL_law_20 : decode cL_law 20 = .ok (.arraylength, 1) := dk_190 (dk_at dksL_law_0 20 rfl rfl)
theorem dL_law_21 : decode cL_law 21 = .ok (.bipush 6, 2) := dk_16 6 (dk_at dksL_law_0 21 rfl rfl)
theorem dL_law_23 : decode cL_law 23 = .ok (.isub, 1) := dk_100 (dk_at dksL_law_0 23 rfl rfl)
theorem dL_law_24 : decode cL_law 24 = .ok (.if_icmp .gt 1070, 3) := dk_163 4 46 (dk_at dksL_law_1 0 rfl rfl)
theorem dL_law_27 : decode cL_law 27 = .ok (.aload_n 0, 1) := dk_42 (dk_at dksL_law_1 3 rfl rfl)
theorem dL_law_28 : decode cL_law 28 = .ok (.iload_n 3, 1) := dk_29 (dk_at dksL_law_1 4 rfl rfl)
theorem dL_law_29 : decode cL_law 29 = .ok (.iaload, 1) := dk_46 (dk_at dksL_law_1 5 rfl rfl)
theorem dL_law_30 : decode cL_law 30 = .ok (.bipush 31, 2) := dk_16 31 (dk_at dksL_law_1 6 rfl rfl)
theorem dL_law_32 : decode cL_law 32 = .ok (.iand, 1) := dk_126 (dk_at dksL_law_1 8 rfl rfl)
theorem dL_law_33 : decode cL_law 33 = .ok (.tableswitch 1055 0 27 #[127, 170, 213, 246, 280, 304, 327, 340, 363, 376, 399, 442, 476, 509, 532, 575, 608, 651, 684, 717, 771, 784, 797, 820, 863, 906, 969, 1022], 127) := by decide +kernel
theorem dL_law_160 : decode cL_law 160 = .ok (.aload_n 1, 1) := dk_43 (dk_at dksL_law_3 0 rfl rfl)
theorem dL_law_161 : decode cL_law 161 = .ok (.aload_n 0, 1) := dk_42 (dk_at dksL_law_3 1 rfl rfl)
theorem dL_law_162 : decode cL_law 162 = .ok (.iload_n 3, 1) := dk_29 (dk_at dksL_law_3 2 rfl rfl)
theorem dL_law_163 : decode cL_law 163 = .ok (.iconst 1, 1) := dk_4 (dk_at dksL_law_3 3 rfl rfl)
theorem dL_law_164 : decode cL_law 164 = .ok (.iadd, 1) := dk_96 (dk_at dksL_law_3 4 rfl rfl)
theorem dL_law_165 : decode cL_law 165 = .ok (.iaload, 1) := dk_46 (dk_at dksL_law_3 5 rfl rfl)
theorem dL_law_166 : decode cL_law 166 = .ok (.aload_n 0, 1) := dk_42 (dk_at dksL_law_3 6 rfl rfl)
theorem dL_law_167 : decode cL_law 167 = .ok (.iload_n 3, 1) := dk_29 (dk_at dksL_law_3 7 rfl rfl)
theorem dL_law_168 : decode cL_law 168 = .ok (.iconst 2, 1) := dk_5 (dk_at dksL_law_3 8 rfl rfl)
theorem dL_law_169 : decode cL_law 169 = .ok (.iadd, 1) := dk_96 (dk_at dksL_law_3 9 rfl rfl)
theorem dL_law_170 : decode cL_law 170 = .ok (.iaload, 1) := dk_46 (dk_at dksL_law_3 10 rfl rfl)
theorem dL_law_171 : decode cL_law 171 = .ok (.aload_n 0, 1) := dk_42 (dk_at dksL_law_3 11 rfl rfl)
theorem dL_law_172 : decode cL_law 172 = .ok (.iload_n 3, 1) := dk_29 (dk_at dksL_law_3 12 rfl rfl)
theorem dL_law_173 : decode cL_law 173 = .ok (.iconst 3, 1) := dk_6 (dk_at dksL_law_3 13 rfl rfl)
theorem dL_law_174 : decode cL_law 174 = .ok (.iadd, 1) := dk_96 (dk_at dksL_law_3 14 rfl rfl)
theorem dL_law_175 : decode cL_law 175 = .ok (.iaload, 1) := dk_46 (dk_at dksL_law_3 15 rfl rfl)
theorem dL_law_176 : decode cL_law 176 = .ok (.invokevirtual 13, 3) := dk_182 0 13 (dk_at dksL_law_3 16 rfl rfl)
theorem dL_law_179 : decode cL_law 179 = .ok (.aload_n 2, 1) := dk_44 (dk_at dksL_law_3 19 rfl rfl)
theorem dL_law_180 : decode cL_law 180 = .ok (.aload_n 0, 1) := dk_42 (dk_at dksL_law_3 20 rfl rfl)
theorem dL_law_181 : decode cL_law 181 = .ok (.iload_n 3, 1) := dk_29 (dk_at dksL_law_3 21 rfl rfl)
theorem dL_law_182 : decode cL_law 182 = .ok (.iconst 1, 1) := dk_4 (dk_at dksL_law_3 22 rfl rfl)
theorem dL_law_183 : decode cL_law 183 = .ok (.iadd, 1) := dk_96 (dk_at dksL_law_3 23 rfl rfl)
theorem dL_law_184 : decode cL_law 184 = .ok (.iaload, 1) := dk_46 (dk_at dksL_law_4 0 rfl rfl)
theorem dL_law_185 : decode cL_law 185 = .ok (.aload_n 0, 1) := dk_42 (dk_at dksL_law_4 1 rfl rfl)
theorem dL_law_186 : decode cL_law 186 = .ok (.iload_n 3, 1) := dk_29 (dk_at dksL_law_4 2 rfl rfl)
theorem dL_law_187 : decode cL_law 187 = .ok (.iconst 2, 1) := dk_5 (dk_at dksL_law_4 3 rfl rfl)
theorem dL_law_188 : decode cL_law 188 = .ok (.iadd, 1) := dk_96 (dk_at dksL_law_4 4 rfl rfl)
theorem dL_law_189 : decode cL_law 189 = .ok (.iaload, 1) := dk_46 (dk_at dksL_law_4 5 rfl rfl)
theorem dL_law_190 : decode cL_law 190 = .ok (.aload_n 0, 1) := dk_42 (dk_at dksL_law_4 6 rfl rfl)
theorem dL_law_191 : decode cL_law 191 = .ok (.iload_n 3, 1) := dk_29 (dk_at dksL_law_4 7 rfl rfl)
theorem dL_law_192 : decode cL_law 192 = .ok (.iconst 3, 1) := dk_6 (dk_at dksL_law_4 8 rfl rfl)
theorem dL_law_193 : decode cL_law 193 = .ok (.iadd, 1) := dk_96 (dk_at dksL_law_4 9 rfl rfl)
theorem dL_law_194 : decode cL_law 194 = .ok (.iaload, 1) := dk_46 (dk_at dksL_law_4 10 rfl rfl)
theorem dL_law_195 : decode cL_law 195 = .ok (.invokevirtual 17, 3) := dk_182 0 17 (dk_at dksL_law_4 11 rfl rfl)
theorem dL_law_198 : decode cL_law 198 = .ok (.if_icmp .eq 890, 3) := dk_159 3 122 (dk_at dksL_law_4 14 rfl rfl)
theorem dL_law_201 : decode cL_law 201 = .ok (.iconst 0, 1) := dk_3 (dk_at dksL_law_4 17 rfl rfl)
theorem dL_law_202 : decode cL_law 202 = .ok (.ireturn, 1) := dk_172 (dk_at dksL_law_4 18 rfl rfl)
theorem dL_law_203 : decode cL_law 203 = .ok (.aload_n 1, 1) := dk_43 (dk_at dksL_law_4 19 rfl rfl)
theorem dL_law_204 : decode cL_law 204 = .ok (.aload_n 0, 1) := dk_42 (dk_at dksL_law_4 20 rfl rfl)
theorem dL_law_205 : decode cL_law 205 = .ok (.iload_n 3, 1) := dk_29 (dk_at dksL_law_4 21 rfl rfl)
theorem dL_law_206 : decode cL_law 206 = .ok (.iconst 1, 1) := dk_4 (dk_at dksL_law_4 22 rfl rfl)
theorem dL_law_207 : decode cL_law 207 = .ok (.iadd, 1) := dk_96 (dk_at dksL_law_4 23 rfl rfl)
theorem dL_law_208 : decode cL_law 208 = .ok (.iaload, 1) := dk_46 (dk_at dksL_law_5 0 rfl rfl)
theorem dL_law_209 : decode cL_law 209 = .ok (.aload_n 0, 1) := dk_42 (dk_at dksL_law_5 1 rfl rfl)
theorem dL_law_210 : decode cL_law 210 = .ok (.iload_n 3, 1) := dk_29 (dk_at dksL_law_5 2 rfl rfl)
theorem dL_law_211 : decode cL_law 211 = .ok (.iconst 2, 1) := dk_5 (dk_at dksL_law_5 3 rfl rfl)
theorem dL_law_212 : decode cL_law 212 = .ok (.iadd, 1) := dk_96 (dk_at dksL_law_5 4 rfl rfl)
theorem dL_law_213 : decode cL_law 213 = .ok (.iaload, 1) := dk_46 (dk_at dksL_law_5 5 rfl rfl)
theorem dL_law_214 : decode cL_law 214 = .ok (.aload_n 0, 1) := dk_42 (dk_at dksL_law_5 6 rfl rfl)
theorem dL_law_215 : decode cL_law 215 = .ok (.iload_n 3, 1) := dk_29 (dk_at dksL_law_5 7 rfl rfl)
theorem dL_law_216 : decode cL_law 216 = .ok (.iconst 3, 1) := dk_6 (dk_at dksL_law_5 8 rfl rfl)
theorem dL_law_217 : decode cL_law 217 = .ok (.iadd, 1) := dk_96 (dk_at dksL_law_5 9 rfl rfl)
theorem dL_law_218 : decode cL_law 218 = .ok (.iaload, 1) := dk_46 (dk_at dksL_law_5 10 rfl rfl)
theorem dL_law_219 : decode cL_law 219 = .ok (.invokevirtual 18, 3) := dk_182 0 18 (dk_at dksL_law_5 11 rfl rfl)
theorem dL_law_222 : decode cL_law 222 = .ok (.aload_n 2, 1) := dk_44 (dk_at dksL_law_5 14 rfl rfl)
theorem dL_law_223 : decode cL_law 223 = .ok (.aload_n 0, 1) := dk_42 (dk_at dksL_law_5 15 rfl rfl)
theorem dL_law_224 : decode cL_law 224 = .ok (.iload_n 3, 1) := dk_29 (dk_at dksL_law_5 16 rfl rfl)
theorem dL_law_225 : decode cL_law 225 = .ok (.iconst 1, 1) := dk_4 (dk_at dksL_law_5 17 rfl rfl)
theorem dL_law_226 : decode cL_law 226 = .ok (.iadd, 1) := dk_96 (dk_at dksL_law_5 18 rfl rfl)
theorem dL_law_227 : decode cL_law 227 = .ok (.iaload, 1) := dk_46 (dk_at dksL_law_5 19 rfl rfl)
theorem dL_law_228 : decode cL_law 228 = .ok (.aload_n 0, 1) := dk_42 (dk_at dksL_law_5 20 rfl rfl)
theorem dL_law_229 : decode cL_law 229 = .ok (.iload_n 3, 1) := dk_29 (dk_at dksL_law_5 21 rfl rfl)
theorem dL_law_230 : decode cL_law 230 = .ok (.iconst 2, 1) := dk_5 (dk_at dksL_law_5 22 rfl rfl)
theorem dL_law_231 : decode cL_law 231 = .ok (.iadd, 1) := dk_96 (dk_at dksL_law_5 23 rfl rfl)
theorem dL_law_232 : decode cL_law 232 = .ok (.iaload, 1) := dk_46 (dk_at dksL_law_6 0 rfl rfl)
theorem dL_law_233 : decode cL_law 233 = .ok (.aload_n 0, 1) := dk_42 (dk_at dksL_law_6 1 rfl rfl)
theorem dL_law_234 : decode cL_law 234 = .ok (.iload_n 3, 1) := dk_29 (dk_at dksL_law_6 2 rfl rfl)
theorem dL_law_235 : decode cL_law 235 = .ok (.iconst 3, 1) := dk_6 (dk_at dksL_law_6 3 rfl rfl)
theorem dL_law_236 : decode cL_law 236 = .ok (.iadd, 1) := dk_96 (dk_at dksL_law_6 4 rfl rfl)
theorem dL_law_237 : decode cL_law 237 = .ok (.iaload, 1) := dk_46 (dk_at dksL_law_6 5 rfl rfl)
theorem dL_law_238 : decode cL_law 238 = .ok (.invokevirtual 21, 3) := dk_182 0 21 (dk_at dksL_law_6 6 rfl rfl)
theorem dL_law_241 : decode cL_law 241 = .ok (.if_icmp .eq 847, 3) := dk_159 3 79 (dk_at dksL_law_6 9 rfl rfl)
theorem dL_law_244 : decode cL_law 244 = .ok (.iconst 0, 1) := dk_3 (dk_at dksL_law_6 12 rfl rfl)
theorem dL_law_245 : decode cL_law 245 = .ok (.ireturn, 1) := dk_172 (dk_at dksL_law_6 13 rfl rfl)
theorem dL_law_246 : decode cL_law 246 = .ok (.aload_n 1, 1) := dk_43 (dk_at dksL_law_6 14 rfl rfl)
theorem dL_law_247 : decode cL_law 247 = .ok (.aload_n 0, 1) := dk_42 (dk_at dksL_law_6 15 rfl rfl)
theorem dL_law_248 : decode cL_law 248 = .ok (.iload_n 3, 1) := dk_29 (dk_at dksL_law_6 16 rfl rfl)
theorem dL_law_249 : decode cL_law 249 = .ok (.iconst 1, 1) := dk_4 (dk_at dksL_law_6 17 rfl rfl)
theorem dL_law_250 : decode cL_law 250 = .ok (.iadd, 1) := dk_96 (dk_at dksL_law_6 18 rfl rfl)
theorem dL_law_251 : decode cL_law 251 = .ok (.iaload, 1) := dk_46 (dk_at dksL_law_6 19 rfl rfl)
theorem dL_law_252 : decode cL_law 252 = .ok (.aload_n 0, 1) := dk_42 (dk_at dksL_law_6 20 rfl rfl)
theorem dL_law_253 : decode cL_law 253 = .ok (.iload_n 3, 1) := dk_29 (dk_at dksL_law_6 21 rfl rfl)
theorem dL_law_254 : decode cL_law 254 = .ok (.iconst 2, 1) := dk_5 (dk_at dksL_law_6 22 rfl rfl)
theorem dL_law_255 : decode cL_law 255 = .ok (.iadd, 1) := dk_96 (dk_at dksL_law_6 23 rfl rfl)
theorem dL_law_256 : decode cL_law 256 = .ok (.iaload, 1) := dk_46 (dk_at dksL_law_7 0 rfl rfl)
theorem dL_law_257 : decode cL_law 257 = .ok (.invokevirtual 22, 3) := dk_182 0 22 (dk_at dksL_law_7 1 rfl rfl)
theorem dL_law_260 : decode cL_law 260 = .ok (.aload_n 2, 1) := dk_44 (dk_at dksL_law_7 4 rfl rfl)
theorem dL_law_261 : decode cL_law 261 = .ok (.aload_n 0, 1) := dk_42 (dk_at dksL_law_7 5 rfl rfl)
theorem dL_law_262 : decode cL_law 262 = .ok (.iload_n 3, 1) := dk_29 (dk_at dksL_law_7 6 rfl rfl)
theorem dL_law_263 : decode cL_law 263 = .ok (.iconst 1, 1) := dk_4 (dk_at dksL_law_7 7 rfl rfl)
theorem dL_law_264 : decode cL_law 264 = .ok (.iadd, 1) := dk_96 (dk_at dksL_law_7 8 rfl rfl)
theorem dL_law_265 : decode cL_law 265 = .ok (.iaload, 1) := dk_46 (dk_at dksL_law_7 9 rfl rfl)
theorem dL_law_266 : decode cL_law 266 = .ok (.aload_n 0, 1) := dk_42 (dk_at dksL_law_7 10 rfl rfl)
theorem dL_law_267 : decode cL_law 267 = .ok (.iload_n 3, 1) := dk_29 (dk_at dksL_law_7 11 rfl rfl)
theorem dL_law_268 : decode cL_law 268 = .ok (.iconst 2, 1) := dk_5 (dk_at dksL_law_7 12 rfl rfl)
theorem dL_law_269 : decode cL_law 269 = .ok (.iadd, 1) := dk_96 (dk_at dksL_law_7 13 rfl rfl)
theorem dL_law_270 : decode cL_law 270 = .ok (.iaload, 1) := dk_46 (dk_at dksL_law_7 14 rfl rfl)
theorem dL_law_271 : decode cL_law 271 = .ok (.invokevirtual 26, 3) := dk_182 0 26 (dk_at dksL_law_7 15 rfl rfl)
theorem dL_law_274 : decode cL_law 274 = .ok (.if_icmp .eq 814, 3) := dk_159 3 46 (dk_at dksL_law_7 18 rfl rfl)
theorem dL_law_277 : decode cL_law 277 = .ok (.iconst 0, 1) := dk_3 (dk_at dksL_law_7 21 rfl rfl)
theorem dL_law_278 : decode cL_law 278 = .ok (.ireturn, 1) := dk_172 (dk_at dksL_law_7 22 rfl rfl)
theorem dL_law_279 : decode cL_law 279 = .ok (.aload_n 1, 1) := dk_43 (dk_at dksL_law_7 23 rfl rfl)
theorem dL_law_280 : decode cL_law 280 = .ok (.aload_n 0, 1) := dk_42 (dk_at dksL_law_8 0 rfl rfl)
theorem dL_law_281 : decode cL_law 281 = .ok (.iload_n 3, 1) := dk_29 (dk_at dksL_law_8 1 rfl rfl)
theorem dL_law_282 : decode cL_law 282 = .ok (.iconst 1, 1) := dk_4 (dk_at dksL_law_8 2 rfl rfl)
theorem dL_law_283 : decode cL_law 283 = .ok (.iadd, 1) := dk_96 (dk_at dksL_law_8 3 rfl rfl)
theorem dL_law_284 : decode cL_law 284 = .ok (.iaload, 1) := dk_46 (dk_at dksL_law_8 4 rfl rfl)
theorem dL_law_285 : decode cL_law 285 = .ok (.aload_n 0, 1) := dk_42 (dk_at dksL_law_8 5 rfl rfl)
theorem dL_law_286 : decode cL_law 286 = .ok (.iload_n 3, 1) := dk_29 (dk_at dksL_law_8 6 rfl rfl)
theorem dL_law_287 : decode cL_law 287 = .ok (.iconst 2, 1) := dk_5 (dk_at dksL_law_8 7 rfl rfl)
theorem dL_law_288 : decode cL_law 288 = .ok (.iadd, 1) := dk_96 (dk_at dksL_law_8 8 rfl rfl)
theorem dL_law_289 : decode cL_law 289 = .ok (.iaload, 1) := dk_46 (dk_at dksL_law_8 9 rfl rfl)
theorem dL_law_290 : decode cL_law 290 = .ok (.invokevirtual 27, 3) := dk_182 0 27 (dk_at dksL_law_8 10 rfl rfl)
theorem dL_law_293 : decode cL_law 293 = .ok (.aload_n 2, 1) := dk_44 (dk_at dksL_law_8 13 rfl rfl)
theorem dL_law_294 : decode cL_law 294 = .ok (.aload_n 0, 1) := dk_42 (dk_at dksL_law_8 14 rfl rfl)
theorem dL_law_295 : decode cL_law 295 = .ok (.iload_n 3, 1) := dk_29 (dk_at dksL_law_8 15 rfl rfl)
theorem dL_law_296 : decode cL_law 296 = .ok (.iconst 1, 1) := dk_4 (dk_at dksL_law_8 16 rfl rfl)
theorem dL_law_297 : decode cL_law 297 = .ok (.iadd, 1) := dk_96 (dk_at dksL_law_8 17 rfl rfl)
theorem dL_law_298 : decode cL_law 298 = .ok (.iaload, 1) := dk_46 (dk_at dksL_law_8 18 rfl rfl)
theorem dL_law_299 : decode cL_law 299 = .ok (.aload_n 0, 1) := dk_42 (dk_at dksL_law_8 19 rfl rfl)
theorem dL_law_300 : decode cL_law 300 = .ok (.iload_n 3, 1) := dk_29 (dk_at dksL_law_8 20 rfl rfl)
theorem dL_law_301 : decode cL_law 301 = .ok (.iconst 2, 1) := dk_5 (dk_at dksL_law_8 21 rfl rfl)
theorem dL_law_302 : decode cL_law 302 = .ok (.iadd, 1) := dk_96 (dk_at dksL_law_8 22 rfl rfl)
theorem dL_law_303 : decode cL_law 303 = .ok (.iaload, 1) := dk_46 (dk_at dksL_law_8 23 rfl rfl)
theorem dL_law_304 : decode cL_law 304 = .ok (.invokevirtual 31, 3) := dk_182 0 31 (dk_at dksL_law_9 0 rfl rfl)
theorem dL_law_307 : decode cL_law 307 = .ok (.lcmp, 1) := dk_148 (dk_at dksL_law_9 3 rfl rfl)
theorem dL_law_308 : decode cL_law 308 = .ok (.ifCond .eq 780, 3) := dk_153 3 12 (dk_at dksL_law_9 4 rfl rfl)
theorem dL_law_311 : decode cL_law 311 = .ok (.iconst 0, 1) := dk_3 (dk_at dksL_law_9 7 rfl rfl)
theorem dL_law_312 : decode cL_law 312 = .ok (.ireturn, 1) := dk_172 (dk_at dksL_law_9 8 rfl rfl)
theorem dL_law_313 : decode cL_law 313 = .ok (.aload_n 1, 1) := dk_43 (dk_at dksL_law_9 9 rfl rfl)
theorem dL_law_314 : decode cL_law 314 = .ok (.aload_n 0, 1) := dk_42 (dk_at dksL_law_9 10 rfl rfl)
theorem dL_law_315 : decode cL_law 315 = .ok (.iload_n 3, 1) := dk_29 (dk_at dksL_law_9 11 rfl rfl)
theorem dL_law_316 : decode cL_law 316 = .ok (.iconst 1, 1) := dk_4 (dk_at dksL_law_9 12 rfl rfl)
theorem dL_law_317 : decode cL_law 317 = .ok (.iadd, 1) := dk_96 (dk_at dksL_law_9 13 rfl rfl)
theorem dL_law_318 : decode cL_law 318 = .ok (.iaload, 1) := dk_46 (dk_at dksL_law_9 14 rfl rfl)
theorem dL_law_319 : decode cL_law 319 = .ok (.invokevirtual 32, 3) := dk_182 0 32 (dk_at dksL_law_9 15 rfl rfl)
theorem dL_law_322 : decode cL_law 322 = .ok (.aload_n 2, 1) := dk_44 (dk_at dksL_law_9 18 rfl rfl)
theorem dL_law_323 : decode cL_law 323 = .ok (.aload_n 0, 1) := dk_42 (dk_at dksL_law_9 19 rfl rfl)
theorem dL_law_324 : decode cL_law 324 = .ok (.iload_n 3, 1) := dk_29 (dk_at dksL_law_9 20 rfl rfl)
theorem dL_law_325 : decode cL_law 325 = .ok (.iconst 1, 1) := dk_4 (dk_at dksL_law_9 21 rfl rfl)
theorem dL_law_326 : decode cL_law 326 = .ok (.iadd, 1) := dk_96 (dk_at dksL_law_9 22 rfl rfl)
theorem dL_law_327 : decode cL_law 327 = .ok (.iaload, 1) := dk_46 (dk_at dksL_law_9 23 rfl rfl)
theorem dL_law_328 : decode cL_law 328 = .ok (.invokevirtual 36, 3) := dk_182 0 36 (dk_at dksL_law_10 0 rfl rfl)
theorem dL_law_331 : decode cL_law 331 = .ok (.lcmp, 1) := dk_148 (dk_at dksL_law_10 3 rfl rfl)
theorem dL_law_332 : decode cL_law 332 = .ok (.ifCond .eq 756, 3) := dk_153 2 244 (dk_at dksL_law_10 4 rfl rfl)
theorem dL_law_335 : decode cL_law 335 = .ok (.iconst 0, 1) := dk_3 (dk_at dksL_law_10 7 rfl rfl)
theorem dL_law_336 : decode cL_law 336 = .ok (.ireturn, 1) := dk_172 (dk_at dksL_law_10 8 rfl rfl)
theorem dL_law_337 : decode cL_law 337 = .ok (.aload_n 1, 1) := dk_43 (dk_at dksL_law_10 9 rfl rfl)
theorem dL_law_338 : decode cL_law 338 = .ok (.aload_n 0, 1) := dk_42 (dk_at dksL_law_10 10 rfl rfl)
theorem dL_law_339 : decode cL_law 339 = .ok (.iload_n 3, 1) := dk_29 (dk_at dksL_law_10 11 rfl rfl)
theorem dL_law_340 : decode cL_law 340 = .ok (.iconst 1, 1) := dk_4 (dk_at dksL_law_10 12 rfl rfl)
theorem dL_law_341 : decode cL_law 341 = .ok (.iadd, 1) := dk_96 (dk_at dksL_law_10 13 rfl rfl)
theorem dL_law_342 : decode cL_law 342 = .ok (.iaload, 1) := dk_46 (dk_at dksL_law_10 14 rfl rfl)
theorem dL_law_343 : decode cL_law 343 = .ok (.invokevirtual 37, 3) := dk_182 0 37 (dk_at dksL_law_10 15 rfl rfl)
theorem dL_law_346 : decode cL_law 346 = .ok (.aload_n 2, 1) := dk_44 (dk_at dksL_law_10 18 rfl rfl)
theorem dL_law_347 : decode cL_law 347 = .ok (.aload_n 0, 1) := dk_42 (dk_at dksL_law_10 19 rfl rfl)
theorem dL_law_348 : decode cL_law 348 = .ok (.iload_n 3, 1) := dk_29 (dk_at dksL_law_10 20 rfl rfl)
theorem dL_law_349 : decode cL_law 349 = .ok (.iconst 1, 1) := dk_4 (dk_at dksL_law_10 21 rfl rfl)
theorem dL_law_350 : decode cL_law 350 = .ok (.iadd, 1) := dk_96 (dk_at dksL_law_10 22 rfl rfl)
theorem dL_law_351 : decode cL_law 351 = .ok (.iaload, 1) := dk_46 (dk_at dksL_law_10 23 rfl rfl)
theorem dL_law_352 : decode cL_law 352 = .ok (.invokevirtual 41, 3) := dk_182 0 41 (dk_at dksL_law_11 0 rfl rfl)
theorem dL_law_355 : decode cL_law 355 = .ok (.if_icmp .eq 733, 3) := dk_159 2 221 (dk_at dksL_law_11 3 rfl rfl)
theorem dL_law_358 : decode cL_law 358 = .ok (.iconst 0, 1) := dk_3 (dk_at dksL_law_11 6 rfl rfl)
theorem dL_law_359 : decode cL_law 359 = .ok (.ireturn, 1) := dk_172 (dk_at dksL_law_11 7 rfl rfl)
theorem dL_law_360 : decode cL_law 360 = .ok (.aload_n 1, 1) := dk_43 (dk_at dksL_law_11 8 rfl rfl)
theorem dL_law_361 : decode cL_law 361 = .ok (.invokevirtual 42, 3) := dk_182 0 42 (dk_at dksL_law_11 9 rfl rfl)
theorem dL_law_364 : decode cL_law 364 = .ok (.aload_n 2, 1) := dk_44 (dk_at dksL_law_11 12 rfl rfl)
theorem dL_law_365 : decode cL_law 365 = .ok (.invokevirtual 46, 3) := dk_182 0 46 (dk_at dksL_law_11 13 rfl rfl)
theorem dL_law_368 : decode cL_law 368 = .ok (.if_icmp .eq 720, 3) := dk_159 2 208 (dk_at dksL_law_11 16 rfl rfl)
theorem dL_law_371 : decode cL_law 371 = .ok (.iconst 0, 1) := dk_3 (dk_at dksL_law_11 19 rfl rfl)
theorem dL_law_372 : decode cL_law 372 = .ok (.ireturn, 1) := dk_172 (dk_at dksL_law_11 20 rfl rfl)
theorem dL_law_373 : decode cL_law 373 = .ok (.aload_n 1, 1) := dk_43 (dk_at dksL_law_11 21 rfl rfl)
theorem dL_law_374 : decode cL_law 374 = .ok (.aload_n 0, 1) := dk_42 (dk_at dksL_law_11 22 rfl rfl)
theorem dL_law_375 : decode cL_law 375 = .ok (.iload_n 3, 1) := dk_29 (dk_at dksL_law_11 23 rfl rfl)
theorem dL_law_376 : decode cL_law 376 = .ok (.iconst 1, 1) := dk_4 (dk_at dksL_law_12 0 rfl rfl)
theorem dL_law_377 : decode cL_law 377 = .ok (.iadd, 1) := dk_96 (dk_at dksL_law_12 1 rfl rfl)
theorem dL_law_378 : decode cL_law 378 = .ok (.iaload, 1) := dk_46 (dk_at dksL_law_12 2 rfl rfl)
theorem dL_law_379 : decode cL_law 379 = .ok (.invokevirtual 47, 3) := dk_182 0 47 (dk_at dksL_law_12 3 rfl rfl)
theorem dL_law_382 : decode cL_law 382 = .ok (.aload_n 2, 1) := dk_44 (dk_at dksL_law_12 6 rfl rfl)
theorem dL_law_383 : decode cL_law 383 = .ok (.aload_n 0, 1) := dk_42 (dk_at dksL_law_12 7 rfl rfl)
theorem dL_law_384 : decode cL_law 384 = .ok (.iload_n 3, 1) := dk_29 (dk_at dksL_law_12 8 rfl rfl)
theorem dL_law_385 : decode cL_law 385 = .ok (.iconst 1, 1) := dk_4 (dk_at dksL_law_12 9 rfl rfl)
theorem dL_law_386 : decode cL_law 386 = .ok (.iadd, 1) := dk_96 (dk_at dksL_law_12 10 rfl rfl)
theorem dL_law_387 : decode cL_law 387 = .ok (.iaload, 1) := dk_46 (dk_at dksL_law_12 11 rfl rfl)
theorem dL_law_388 : decode cL_law 388 = .ok (.invokevirtual 50, 3) := dk_182 0 50 (dk_at dksL_law_12 12 rfl rfl)
theorem dL_law_391 : decode cL_law 391 = .ok (.if_icmp .eq 697, 3) := dk_159 2 185 (dk_at dksL_law_12 15 rfl rfl)
theorem dL_law_394 : decode cL_law 394 = .ok (.iconst 0, 1) := dk_3 (dk_at dksL_law_12 18 rfl rfl)
theorem dL_law_395 : decode cL_law 395 = .ok (.ireturn, 1) := dk_172 (dk_at dksL_law_12 19 rfl rfl)
theorem dL_law_396 : decode cL_law 396 = .ok (.aload_n 1, 1) := dk_43 (dk_at dksL_law_12 20 rfl rfl)
theorem dL_law_397 : decode cL_law 397 = .ok (.invokevirtual 51, 3) := dk_182 0 51 (dk_at dksL_law_12 21 rfl rfl)
theorem dL_law_400 : decode cL_law 400 = .ok (.aload_n 2, 1) := dk_44 (dk_at dksL_law_13 0 rfl rfl)
theorem dL_law_401 : decode cL_law 401 = .ok (.invokevirtual 54, 3) := dk_182 0 54 (dk_at dksL_law_13 1 rfl rfl)
theorem dL_law_404 : decode cL_law 404 = .ok (.if_icmp .eq 684, 3) := dk_159 2 172 (dk_at dksL_law_13 4 rfl rfl)
theorem dL_law_407 : decode cL_law 407 = .ok (.iconst 0, 1) := dk_3 (dk_at dksL_law_13 7 rfl rfl)
theorem dL_law_408 : decode cL_law 408 = .ok (.ireturn, 1) := dk_172 (dk_at dksL_law_13 8 rfl rfl)
theorem dL_law_409 : decode cL_law 409 = .ok (.aload_n 1, 1) := dk_43 (dk_at dksL_law_13 9 rfl rfl)
theorem dL_law_410 : decode cL_law 410 = .ok (.aload_n 0, 1) := dk_42 (dk_at dksL_law_13 10 rfl rfl)
theorem dL_law_411 : decode cL_law 411 = .ok (.iload_n 3, 1) := dk_29 (dk_at dksL_law_13 11 rfl rfl)
theorem dL_law_412 : decode cL_law 412 = .ok (.iconst 1, 1) := dk_4 (dk_at dksL_law_13 12 rfl rfl)
theorem dL_law_413 : decode cL_law 413 = .ok (.iadd, 1) := dk_96 (dk_at dksL_law_13 13 rfl rfl)
theorem dL_law_414 : decode cL_law 414 = .ok (.iaload, 1) := dk_46 (dk_at dksL_law_13 14 rfl rfl)
theorem dL_law_415 : decode cL_law 415 = .ok (.invokevirtual 55, 3) := dk_182 0 55 (dk_at dksL_law_13 15 rfl rfl)
theorem dL_law_418 : decode cL_law 418 = .ok (.aload_n 2, 1) := dk_44 (dk_at dksL_law_13 18 rfl rfl)
theorem dL_law_419 : decode cL_law 419 = .ok (.aload_n 0, 1) := dk_42 (dk_at dksL_law_13 19 rfl rfl)
theorem dL_law_420 : decode cL_law 420 = .ok (.iload_n 3, 1) := dk_29 (dk_at dksL_law_13 20 rfl rfl)
theorem dL_law_421 : decode cL_law 421 = .ok (.iconst 1, 1) := dk_4 (dk_at dksL_law_13 21 rfl rfl)
theorem dL_law_422 : decode cL_law 422 = .ok (.iadd, 1) := dk_96 (dk_at dksL_law_13 22 rfl rfl)
theorem dL_law_423 : decode cL_law 423 = .ok (.iaload, 1) := dk_46 (dk_at dksL_law_13 23 rfl rfl)
theorem dL_law_424 : decode cL_law 424 = .ok (.invokevirtual 58, 3) := dk_182 0 58 (dk_at dksL_law_14 0 rfl rfl)
theorem dL_law_427 : decode cL_law 427 = .ok (.if_icmp .eq 661, 3) := dk_159 2 149 (dk_at dksL_law_14 3 rfl rfl)
theorem dL_law_430 : decode cL_law 430 = .ok (.iconst 0, 1) := dk_3 (dk_at dksL_law_14 6 rfl rfl)
theorem dL_law_431 : decode cL_law 431 = .ok (.ireturn, 1) := dk_172 (dk_at dksL_law_14 7 rfl rfl)
theorem dL_law_432 : decode cL_law 432 = .ok (.aload_n 1, 1) := dk_43 (dk_at dksL_law_14 8 rfl rfl)
theorem dL_law_433 : decode cL_law 433 = .ok (.aload_n 0, 1) := dk_42 (dk_at dksL_law_14 9 rfl rfl)
theorem dL_law_434 : decode cL_law 434 = .ok (.iload_n 3, 1) := dk_29 (dk_at dksL_law_14 10 rfl rfl)
theorem dL_law_435 : decode cL_law 435 = .ok (.iconst 1, 1) := dk_4 (dk_at dksL_law_14 11 rfl rfl)
theorem dL_law_436 : decode cL_law 436 = .ok (.iadd, 1) := dk_96 (dk_at dksL_law_14 12 rfl rfl)
theorem dL_law_437 : decode cL_law 437 = .ok (.iaload, 1) := dk_46 (dk_at dksL_law_14 13 rfl rfl)
theorem dL_law_438 : decode cL_law 438 = .ok (.aload_n 0, 1) := dk_42 (dk_at dksL_law_14 14 rfl rfl)
theorem dL_law_439 : decode cL_law 439 = .ok (.iload_n 3, 1) := dk_29 (dk_at dksL_law_14 15 rfl rfl)
theorem dL_law_440 : decode cL_law 440 = .ok (.iconst 2, 1) := dk_5 (dk_at dksL_law_14 16 rfl rfl)
theorem dL_law_441 : decode cL_law 441 = .ok (.iadd, 1) := dk_96 (dk_at dksL_law_14 17 rfl rfl)
theorem dL_law_442 : decode cL_law 442 = .ok (.iaload, 1) := dk_46 (dk_at dksL_law_14 18 rfl rfl)
theorem dL_law_443 : decode cL_law 443 = .ok (.aload_n 0, 1) := dk_42 (dk_at dksL_law_14 19 rfl rfl)
theorem dL_law_444 : decode cL_law 444 = .ok (.iload_n 3, 1) := dk_29 (dk_at dksL_law_14 20 rfl rfl)
theorem dL_law_445 : decode cL_law 445 = .ok (.iconst 3, 1) := dk_6 (dk_at dksL_law_14 21 rfl rfl)
theorem dL_law_446 : decode cL_law 446 = .ok (.iadd, 1) := dk_96 (dk_at dksL_law_14 22 rfl rfl)
theorem dL_law_447 : decode cL_law 447 = .ok (.iaload, 1) := dk_46 (dk_at dksL_law_14 23 rfl rfl)
theorem dL_law_448 : decode cL_law 448 = .ok (.invokevirtual 59, 3) := dk_182 0 59 (dk_at dksL_law_15 0 rfl rfl)
theorem dL_law_451 : decode cL_law 451 = .ok (.aload_n 2, 1) := dk_44 (dk_at dksL_law_15 3 rfl rfl)
theorem dL_law_452 : decode cL_law 452 = .ok (.aload_n 0, 1) := dk_42 (dk_at dksL_law_15 4 rfl rfl)
theorem dL_law_453 : decode cL_law 453 = .ok (.iload_n 3, 1) := dk_29 (dk_at dksL_law_15 5 rfl rfl)
theorem dL_law_454 : decode cL_law 454 = .ok (.iconst 1, 1) := dk_4 (dk_at dksL_law_15 6 rfl rfl)
theorem dL_law_455 : decode cL_law 455 = .ok (.iadd, 1) := dk_96 (dk_at dksL_law_15 7 rfl rfl)
theorem dL_law_456 : decode cL_law 456 = .ok (.iaload, 1) := dk_46 (dk_at dksL_law_15 8 rfl rfl)
theorem dL_law_457 : decode cL_law 457 = .ok (.aload_n 0, 1) := dk_42 (dk_at dksL_law_15 9 rfl rfl)
theorem dL_law_458 : decode cL_law 458 = .ok (.iload_n 3, 1) := dk_29 (dk_at dksL_law_15 10 rfl rfl)
theorem dL_law_459 : decode cL_law 459 = .ok (.iconst 2, 1) := dk_5 (dk_at dksL_law_15 11 rfl rfl)
theorem dL_law_460 : decode cL_law 460 = .ok (.iadd, 1) := dk_96 (dk_at dksL_law_15 12 rfl rfl)
theorem dL_law_461 : decode cL_law 461 = .ok (.iaload, 1) := dk_46 (dk_at dksL_law_15 13 rfl rfl)
theorem dL_law_462 : decode cL_law 462 = .ok (.aload_n 0, 1) := dk_42 (dk_at dksL_law_15 14 rfl rfl)
theorem dL_law_463 : decode cL_law 463 = .ok (.iload_n 3, 1) := dk_29 (dk_at dksL_law_15 15 rfl rfl)
theorem dL_law_464 : decode cL_law 464 = .ok (.iconst 3, 1) := dk_6 (dk_at dksL_law_15 16 rfl rfl)
theorem dL_law_465 : decode cL_law 465 = .ok (.iadd, 1) := dk_96 (dk_at dksL_law_15 17 rfl rfl)
theorem dL_law_466 : decode cL_law 466 = .ok (.iaload, 1) := dk_46 (dk_at dksL_law_15 18 rfl rfl)
theorem dL_law_467 : decode cL_law 467 = .ok (.invokevirtual 62, 3) := dk_182 0 62 (dk_at dksL_law_15 19 rfl rfl)
theorem dL_law_470 : decode cL_law 470 = .ok (.if_icmp .eq 618, 3) := dk_159 2 106 (dk_at dksL_law_16 0 rfl rfl)
theorem dL_law_473 : decode cL_law 473 = .ok (.iconst 0, 1) := dk_3 (dk_at dksL_law_16 3 rfl rfl)
theorem dL_law_474 : decode cL_law 474 = .ok (.ireturn, 1) := dk_172 (dk_at dksL_law_16 4 rfl rfl)
theorem dL_law_475 : decode cL_law 475 = .ok (.aload_n 1, 1) := dk_43 (dk_at dksL_law_16 5 rfl rfl)
theorem dL_law_476 : decode cL_law 476 = .ok (.aload_n 0, 1) := dk_42 (dk_at dksL_law_16 6 rfl rfl)
theorem dL_law_477 : decode cL_law 477 = .ok (.iload_n 3, 1) := dk_29 (dk_at dksL_law_16 7 rfl rfl)
theorem dL_law_478 : decode cL_law 478 = .ok (.iconst 1, 1) := dk_4 (dk_at dksL_law_16 8 rfl rfl)
theorem dL_law_479 : decode cL_law 479 = .ok (.iadd, 1) := dk_96 (dk_at dksL_law_16 9 rfl rfl)
theorem dL_law_480 : decode cL_law 480 = .ok (.iaload, 1) := dk_46 (dk_at dksL_law_16 10 rfl rfl)
theorem dL_law_481 : decode cL_law 481 = .ok (.aload_n 0, 1) := dk_42 (dk_at dksL_law_16 11 rfl rfl)
theorem dL_law_482 : decode cL_law 482 = .ok (.iload_n 3, 1) := dk_29 (dk_at dksL_law_16 12 rfl rfl)
theorem dL_law_483 : decode cL_law 483 = .ok (.iconst 2, 1) := dk_5 (dk_at dksL_law_16 13 rfl rfl)
theorem dL_law_484 : decode cL_law 484 = .ok (.iadd, 1) := dk_96 (dk_at dksL_law_16 14 rfl rfl)
theorem dL_law_485 : decode cL_law 485 = .ok (.iaload, 1) := dk_46 (dk_at dksL_law_16 15 rfl rfl)
theorem dL_law_486 : decode cL_law 486 = .ok (.invokevirtual 63, 3) := dk_182 0 63 (dk_at dksL_law_16 16 rfl rfl)
theorem dL_law_489 : decode cL_law 489 = .ok (.aload_n 2, 1) := dk_44 (dk_at dksL_law_16 19 rfl rfl)
theorem dL_law_490 : decode cL_law 490 = .ok (.aload_n 0, 1) := dk_42 (dk_at dksL_law_16 20 rfl rfl)
theorem dL_law_491 : decode cL_law 491 = .ok (.iload_n 3, 1) := dk_29 (dk_at dksL_law_16 21 rfl rfl)
theorem dL_law_492 : decode cL_law 492 = .ok (.iconst 1, 1) := dk_4 (dk_at dksL_law_16 22 rfl rfl)
theorem dL_law_493 : decode cL_law 493 = .ok (.iadd, 1) := dk_96 (dk_at dksL_law_16 23 rfl rfl)
theorem dL_law_494 : decode cL_law 494 = .ok (.iaload, 1) := dk_46 (dk_at dksL_law_17 0 rfl rfl)
theorem dL_law_495 : decode cL_law 495 = .ok (.aload_n 0, 1) := dk_42 (dk_at dksL_law_17 1 rfl rfl)
theorem dL_law_496 : decode cL_law 496 = .ok (.iload_n 3, 1) := dk_29 (dk_at dksL_law_17 2 rfl rfl)
theorem dL_law_497 : decode cL_law 497 = .ok (.iconst 2, 1) := dk_5 (dk_at dksL_law_17 3 rfl rfl)
theorem dL_law_498 : decode cL_law 498 = .ok (.iadd, 1) := dk_96 (dk_at dksL_law_17 4 rfl rfl)
theorem dL_law_499 : decode cL_law 499 = .ok (.iaload, 1) := dk_46 (dk_at dksL_law_17 5 rfl rfl)
theorem dL_law_500 : decode cL_law 500 = .ok (.invokevirtual 66, 3) := dk_182 0 66 (dk_at dksL_law_17 6 rfl rfl)
theorem dL_law_503 : decode cL_law 503 = .ok (.lcmp, 1) := dk_148 (dk_at dksL_law_17 9 rfl rfl)
theorem dL_law_504 : decode cL_law 504 = .ok (.ifCond .eq 584, 3) := dk_153 2 72 (dk_at dksL_law_17 10 rfl rfl)
theorem dL_law_507 : decode cL_law 507 = .ok (.iconst 0, 1) := dk_3 (dk_at dksL_law_17 13 rfl rfl)
theorem dL_law_508 : decode cL_law 508 = .ok (.ireturn, 1) := dk_172 (dk_at dksL_law_17 14 rfl rfl)
theorem dL_law_509 : decode cL_law 509 = .ok (.aload_n 1, 1) := dk_43 (dk_at dksL_law_17 15 rfl rfl)
theorem dL_law_510 : decode cL_law 510 = .ok (.aload_n 0, 1) := dk_42 (dk_at dksL_law_17 16 rfl rfl)
theorem dL_law_511 : decode cL_law 511 = .ok (.iload_n 3, 1) := dk_29 (dk_at dksL_law_17 17 rfl rfl)
theorem dL_law_512 : decode cL_law 512 = .ok (.iconst 1, 1) := dk_4 (dk_at dksL_law_17 18 rfl rfl)
theorem dL_law_513 : decode cL_law 513 = .ok (.iadd, 1) := dk_96 (dk_at dksL_law_17 19 rfl rfl)
theorem dL_law_514 : decode cL_law 514 = .ok (.iaload, 1) := dk_46 (dk_at dksL_law_17 20 rfl rfl)
theorem dL_law_515 : decode cL_law 515 = .ok (.aload_n 0, 1) := dk_42 (dk_at dksL_law_17 21 rfl rfl)
theorem dL_law_516 : decode cL_law 516 = .ok (.iload_n 3, 1) := dk_29 (dk_at dksL_law_17 22 rfl rfl)
theorem dL_law_517 : decode cL_law 517 = .ok (.iconst 2, 1) := dk_5 (dk_at dksL_law_17 23 rfl rfl)
theorem dL_law_518 : decode cL_law 518 = .ok (.iadd, 1) := dk_96 (dk_at dksL_law_18 0 rfl rfl)
theorem dL_law_519 : decode cL_law 519 = .ok (.iaload, 1) := dk_46 (dk_at dksL_law_18 1 rfl rfl)
theorem dL_law_520 : decode cL_law 520 = .ok (.invokevirtual 67, 3) := dk_182 0 67 (dk_at dksL_law_18 2 rfl rfl)
theorem dL_law_523 : decode cL_law 523 = .ok (.aload_n 2, 1) := dk_44 (dk_at dksL_law_18 5 rfl rfl)
theorem dL_law_524 : decode cL_law 524 = .ok (.aload_n 0, 1) := dk_42 (dk_at dksL_law_18 6 rfl rfl)
theorem dL_law_525 : decode cL_law 525 = .ok (.iload_n 3, 1) := dk_29 (dk_at dksL_law_18 7 rfl rfl)
theorem dL_law_526 : decode cL_law 526 = .ok (.iconst 1, 1) := dk_4 (dk_at dksL_law_18 8 rfl rfl)
theorem dL_law_527 : decode cL_law 527 = .ok (.iadd, 1) := dk_96 (dk_at dksL_law_18 9 rfl rfl)
theorem dL_law_528 : decode cL_law 528 = .ok (.iaload, 1) := dk_46 (dk_at dksL_law_18 10 rfl rfl)
theorem dL_law_529 : decode cL_law 529 = .ok (.aload_n 0, 1) := dk_42 (dk_at dksL_law_18 11 rfl rfl)
theorem dL_law_530 : decode cL_law 530 = .ok (.iload_n 3, 1) := dk_29 (dk_at dksL_law_18 12 rfl rfl)
theorem dL_law_531 : decode cL_law 531 = .ok (.iconst 2, 1) := dk_5 (dk_at dksL_law_18 13 rfl rfl)
theorem dL_law_532 : decode cL_law 532 = .ok (.iadd, 1) := dk_96 (dk_at dksL_law_18 14 rfl rfl)
theorem dL_law_533 : decode cL_law 533 = .ok (.iaload, 1) := dk_46 (dk_at dksL_law_18 15 rfl rfl)
theorem dL_law_534 : decode cL_law 534 = .ok (.invokevirtual 70, 3) := dk_182 0 70 (dk_at dksL_law_18 16 rfl rfl)
theorem dL_law_537 : decode cL_law 537 = .ok (.if_icmp .eq 551, 3) := dk_159 2 39 (dk_at dksL_law_18 19 rfl rfl)
theorem dL_law_540 : decode cL_law 540 = .ok (.iconst 0, 1) := dk_3 (dk_at dksL_law_18 22 rfl rfl)
theorem dL_law_541 : decode cL_law 541 = .ok (.ireturn, 1) := dk_172 (dk_at dksL_law_18 23 rfl rfl)
theorem dL_law_542 : decode cL_law 542 = .ok (.aload_n 1, 1) := dk_43 (dk_at dksL_law_19 0 rfl rfl)
theorem dL_law_543 : decode cL_law 543 = .ok (.aload_n 0, 1) := dk_42 (dk_at dksL_law_19 1 rfl rfl)
theorem dL_law_544 : decode cL_law 544 = .ok (.iload_n 3, 1) := dk_29 (dk_at dksL_law_19 2 rfl rfl)
theorem dL_law_545 : decode cL_law 545 = .ok (.iconst 1, 1) := dk_4 (dk_at dksL_law_19 3 rfl rfl)
theorem dL_law_546 : decode cL_law 546 = .ok (.iadd, 1) := dk_96 (dk_at dksL_law_19 4 rfl rfl)
theorem dL_law_547 : decode cL_law 547 = .ok (.iaload, 1) := dk_46 (dk_at dksL_law_19 5 rfl rfl)
theorem dL_law_548 : decode cL_law 548 = .ok (.invokevirtual 71, 3) := dk_182 0 71 (dk_at dksL_law_19 6 rfl rfl)
theorem dL_law_551 : decode cL_law 551 = .ok (.aload_n 2, 1) := dk_44 (dk_at dksL_law_19 9 rfl rfl)
theorem dL_law_552 : decode cL_law 552 = .ok (.aload_n 0, 1) := dk_42 (dk_at dksL_law_19 10 rfl rfl)
theorem dL_law_553 : decode cL_law 553 = .ok (.iload_n 3, 1) := dk_29 (dk_at dksL_law_19 11 rfl rfl)
theorem dL_law_554 : decode cL_law 554 = .ok (.iconst 1, 1) := dk_4 (dk_at dksL_law_19 12 rfl rfl)
theorem dL_law_555 : decode cL_law 555 = .ok (.iadd, 1) := dk_96 (dk_at dksL_law_19 13 rfl rfl)
theorem dL_law_556 : decode cL_law 556 = .ok (.iaload, 1) := dk_46 (dk_at dksL_law_19 14 rfl rfl)
theorem dL_law_557 : decode cL_law 557 = .ok (.invokevirtual 74, 3) := dk_182 0 74 (dk_at dksL_law_19 15 rfl rfl)
theorem dL_law_560 : decode cL_law 560 = .ok (.if_icmp .eq 528, 3) := dk_159 2 16 (dk_at dksL_law_19 18 rfl rfl)
theorem dL_law_563 : decode cL_law 563 = .ok (.iconst 0, 1) := dk_3 (dk_at dksL_law_19 21 rfl rfl)
theorem dL_law_564 : decode cL_law 564 = .ok (.ireturn, 1) := dk_172 (dk_at dksL_law_19 22 rfl rfl)
theorem dL_law_565 : decode cL_law 565 = .ok (.aload_n 1, 1) := dk_43 (dk_at dksL_law_19 23 rfl rfl)
theorem dL_law_566 : decode cL_law 566 = .ok (.aload_n 0, 1) := dk_42 (dk_at dksL_law_20 0 rfl rfl)
theorem dL_law_567 : decode cL_law 567 = .ok (.iload_n 3, 1) := dk_29 (dk_at dksL_law_20 1 rfl rfl)
theorem dL_law_568 : decode cL_law 568 = .ok (.iconst 1, 1) := dk_4 (dk_at dksL_law_20 2 rfl rfl)
theorem dL_law_569 : decode cL_law 569 = .ok (.iadd, 1) := dk_96 (dk_at dksL_law_20 3 rfl rfl)
theorem dL_law_570 : decode cL_law 570 = .ok (.iaload, 1) := dk_46 (dk_at dksL_law_20 4 rfl rfl)
theorem dL_law_571 : decode cL_law 571 = .ok (.aload_n 0, 1) := dk_42 (dk_at dksL_law_20 5 rfl rfl)
theorem dL_law_572 : decode cL_law 572 = .ok (.iload_n 3, 1) := dk_29 (dk_at dksL_law_20 6 rfl rfl)
theorem dL_law_573 : decode cL_law 573 = .ok (.iconst 2, 1) := dk_5 (dk_at dksL_law_20 7 rfl rfl)
theorem dL_law_574 : decode cL_law 574 = .ok (.iadd, 1) := dk_96 (dk_at dksL_law_20 8 rfl rfl)
theorem dL_law_575 : decode cL_law 575 = .ok (.iaload, 1) := dk_46 (dk_at dksL_law_20 9 rfl rfl)
theorem dL_law_576 : decode cL_law 576 = .ok (.aload_n 0, 1) := dk_42 (dk_at dksL_law_20 10 rfl rfl)
theorem dL_law_577 : decode cL_law 577 = .ok (.iload_n 3, 1) := dk_29 (dk_at dksL_law_20 11 rfl rfl)
theorem dL_law_578 : decode cL_law 578 = .ok (.iconst 3, 1) := dk_6 (dk_at dksL_law_20 12 rfl rfl)
theorem dL_law_579 : decode cL_law 579 = .ok (.iadd, 1) := dk_96 (dk_at dksL_law_20 13 rfl rfl)
theorem dL_law_580 : decode cL_law 580 = .ok (.iaload, 1) := dk_46 (dk_at dksL_law_20 14 rfl rfl)
theorem dL_law_581 : decode cL_law 581 = .ok (.invokevirtual 75, 3) := dk_182 0 75 (dk_at dksL_law_20 15 rfl rfl)
theorem dL_law_584 : decode cL_law 584 = .ok (.aload_n 2, 1) := dk_44 (dk_at dksL_law_20 18 rfl rfl)
theorem dL_law_585 : decode cL_law 585 = .ok (.aload_n 0, 1) := dk_42 (dk_at dksL_law_20 19 rfl rfl)
theorem dL_law_586 : decode cL_law 586 = .ok (.iload_n 3, 1) := dk_29 (dk_at dksL_law_20 20 rfl rfl)
theorem dL_law_587 : decode cL_law 587 = .ok (.iconst 1, 1) := dk_4 (dk_at dksL_law_20 21 rfl rfl)
theorem dL_law_588 : decode cL_law 588 = .ok (.iadd, 1) := dk_96 (dk_at dksL_law_20 22 rfl rfl)
theorem dL_law_589 : decode cL_law 589 = .ok (.iaload, 1) := dk_46 (dk_at dksL_law_20 23 rfl rfl)
theorem dL_law_590 : decode cL_law 590 = .ok (.aload_n 0, 1) := dk_42 (dk_at dksL_law_21 0 rfl rfl)
theorem dL_law_591 : decode cL_law 591 = .ok (.iload_n 3, 1) := dk_29 (dk_at dksL_law_21 1 rfl rfl)
theorem dL_law_592 : decode cL_law 592 = .ok (.iconst 2, 1) := dk_5 (dk_at dksL_law_21 2 rfl rfl)
theorem dL_law_593 : decode cL_law 593 = .ok (.iadd, 1) := dk_96 (dk_at dksL_law_21 3 rfl rfl)
theorem dL_law_594 : decode cL_law 594 = .ok (.iaload, 1) := dk_46 (dk_at dksL_law_21 4 rfl rfl)
theorem dL_law_595 : decode cL_law 595 = .ok (.aload_n 0, 1) := dk_42 (dk_at dksL_law_21 5 rfl rfl)
theorem dL_law_596 : decode cL_law 596 = .ok (.iload_n 3, 1) := dk_29 (dk_at dksL_law_21 6 rfl rfl)
theorem dL_law_597 : decode cL_law 597 = .ok (.iconst 3, 1) := dk_6 (dk_at dksL_law_21 7 rfl rfl)
theorem dL_law_598 : decode cL_law 598 = .ok (.iadd, 1) := dk_96 (dk_at dksL_law_21 8 rfl rfl)
theorem dL_law_599 : decode cL_law 599 = .ok (.iaload, 1) := dk_46 (dk_at dksL_law_21 9 rfl rfl)
theorem dL_law_600 : decode cL_law 600 = .ok (.invokevirtual 78, 3) := dk_182 0 78 (dk_at dksL_law_21 10 rfl rfl)
theorem dL_law_603 : decode cL_law 603 = .ok (.if_icmp .eq 485, 3) := dk_159 1 229 (dk_at dksL_law_21 13 rfl rfl)
theorem dL_law_606 : decode cL_law 606 = .ok (.iconst 0, 1) := dk_3 (dk_at dksL_law_21 16 rfl rfl)
theorem dL_law_607 : decode cL_law 607 = .ok (.ireturn, 1) := dk_172 (dk_at dksL_law_21 17 rfl rfl)
theorem dL_law_608 : decode cL_law 608 = .ok (.aload_n 1, 1) := dk_43 (dk_at dksL_law_21 18 rfl rfl)
theorem dL_law_609 : decode cL_law 609 = .ok (.aload_n 0, 1) := dk_42 (dk_at dksL_law_21 19 rfl rfl)
theorem dL_law_610 : decode cL_law 610 = .ok (.iload_n 3, 1) := dk_29 (dk_at dksL_law_21 20 rfl rfl)
theorem dL_law_611 : decode cL_law 611 = .ok (.iconst 1, 1) := dk_4 (dk_at dksL_law_21 21 rfl rfl)
theorem dL_law_612 : decode cL_law 612 = .ok (.iadd, 1) := dk_96 (dk_at dksL_law_21 22 rfl rfl)
theorem dL_law_613 : decode cL_law 613 = .ok (.iaload, 1) := dk_46 (dk_at dksL_law_21 23 rfl rfl)
theorem dL_law_614 : decode cL_law 614 = .ok (.aload_n 0, 1) := dk_42 (dk_at dksL_law_22 0 rfl rfl)
theorem dL_law_615 : decode cL_law 615 = .ok (.iload_n 3, 1) := dk_29 (dk_at dksL_law_22 1 rfl rfl)
theorem dL_law_616 : decode cL_law 616 = .ok (.iconst 2, 1) := dk_5 (dk_at dksL_law_22 2 rfl rfl)
theorem dL_law_617 : decode cL_law 617 = .ok (.iadd, 1) := dk_96 (dk_at dksL_law_22 3 rfl rfl)
theorem dL_law_618 : decode cL_law 618 = .ok (.iaload, 1) := dk_46 (dk_at dksL_law_22 4 rfl rfl)
theorem dL_law_619 : decode cL_law 619 = .ok (.invokevirtual 79, 3) := dk_182 0 79 (dk_at dksL_law_22 5 rfl rfl)
theorem dL_law_622 : decode cL_law 622 = .ok (.aload_n 2, 1) := dk_44 (dk_at dksL_law_22 8 rfl rfl)
theorem dL_law_623 : decode cL_law 623 = .ok (.aload_n 0, 1) := dk_42 (dk_at dksL_law_22 9 rfl rfl)
theorem dL_law_624 : decode cL_law 624 = .ok (.iload_n 3, 1) := dk_29 (dk_at dksL_law_22 10 rfl rfl)
theorem dL_law_625 : decode cL_law 625 = .ok (.iconst 1, 1) := dk_4 (dk_at dksL_law_22 11 rfl rfl)
theorem dL_law_626 : decode cL_law 626 = .ok (.iadd, 1) := dk_96 (dk_at dksL_law_22 12 rfl rfl)
theorem dL_law_627 : decode cL_law 627 = .ok (.iaload, 1) := dk_46 (dk_at dksL_law_22 13 rfl rfl)
theorem dL_law_628 : decode cL_law 628 = .ok (.aload_n 0, 1) := dk_42 (dk_at dksL_law_22 14 rfl rfl)
theorem dL_law_629 : decode cL_law 629 = .ok (.iload_n 3, 1) := dk_29 (dk_at dksL_law_22 15 rfl rfl)
theorem dL_law_630 : decode cL_law 630 = .ok (.iconst 2, 1) := dk_5 (dk_at dksL_law_22 16 rfl rfl)
theorem dL_law_631 : decode cL_law 631 = .ok (.iadd, 1) := dk_96 (dk_at dksL_law_22 17 rfl rfl)
theorem dL_law_632 : decode cL_law 632 = .ok (.iaload, 1) := dk_46 (dk_at dksL_law_22 18 rfl rfl)
theorem dL_law_633 : decode cL_law 633 = .ok (.invokevirtual 82, 3) := dk_182 0 82 (dk_at dksL_law_22 19 rfl rfl)
theorem dL_law_636 : decode cL_law 636 = .ok (.if_icmp .eq 452, 3) := dk_159 1 196 (dk_at dksL_law_23 0 rfl rfl)
theorem dL_law_639 : decode cL_law 639 = .ok (.iconst 0, 1) := dk_3 (dk_at dksL_law_23 3 rfl rfl)
theorem dL_law_640 : decode cL_law 640 = .ok (.ireturn, 1) := dk_172 (dk_at dksL_law_23 4 rfl rfl)
theorem dL_law_641 : decode cL_law 641 = .ok (.aload_n 1, 1) := dk_43 (dk_at dksL_law_23 5 rfl rfl)
theorem dL_law_642 : decode cL_law 642 = .ok (.aload_n 0, 1) := dk_42 (dk_at dksL_law_23 6 rfl rfl)
theorem dL_law_643 : decode cL_law 643 = .ok (.iload_n 3, 1) := dk_29 (dk_at dksL_law_23 7 rfl rfl)
theorem dL_law_644 : decode cL_law 644 = .ok (.iconst 1, 1) := dk_4 (dk_at dksL_law_23 8 rfl rfl)
theorem dL_law_645 : decode cL_law 645 = .ok (.iadd, 1) := dk_96 (dk_at dksL_law_23 9 rfl rfl)
theorem dL_law_646 : decode cL_law 646 = .ok (.iaload, 1) := dk_46 (dk_at dksL_law_23 10 rfl rfl)
theorem dL_law_647 : decode cL_law 647 = .ok (.aload_n 0, 1) := dk_42 (dk_at dksL_law_23 11 rfl rfl)
theorem dL_law_648 : decode cL_law 648 = .ok (.iload_n 3, 1) := dk_29 (dk_at dksL_law_23 12 rfl rfl)
theorem dL_law_649 : decode cL_law 649 = .ok (.iconst 2, 1) := dk_5 (dk_at dksL_law_23 13 rfl rfl)
theorem dL_law_650 : decode cL_law 650 = .ok (.iadd, 1) := dk_96 (dk_at dksL_law_23 14 rfl rfl)
theorem dL_law_651 : decode cL_law 651 = .ok (.iaload, 1) := dk_46 (dk_at dksL_law_23 15 rfl rfl)
theorem dL_law_652 : decode cL_law 652 = .ok (.aload_n 0, 1) := dk_42 (dk_at dksL_law_23 16 rfl rfl)
theorem dL_law_653 : decode cL_law 653 = .ok (.iload_n 3, 1) := dk_29 (dk_at dksL_law_23 17 rfl rfl)
theorem dL_law_654 : decode cL_law 654 = .ok (.iconst 3, 1) := dk_6 (dk_at dksL_law_23 18 rfl rfl)
theorem dL_law_655 : decode cL_law 655 = .ok (.iadd, 1) := dk_96 (dk_at dksL_law_23 19 rfl rfl)
theorem dL_law_656 : decode cL_law 656 = .ok (.iaload, 1) := dk_46 (dk_at dksL_law_23 20 rfl rfl)
theorem dL_law_657 : decode cL_law 657 = .ok (.invokevirtual 83, 3) := dk_182 0 83 (dk_at dksL_law_23 21 rfl rfl)
theorem dL_law_660 : decode cL_law 660 = .ok (.aload_n 2, 1) := dk_44 (dk_at dksL_law_24 0 rfl rfl)
theorem dL_law_661 : decode cL_law 661 = .ok (.aload_n 0, 1) := dk_42 (dk_at dksL_law_24 1 rfl rfl)
theorem dL_law_662 : decode cL_law 662 = .ok (.iload_n 3, 1) := dk_29 (dk_at dksL_law_24 2 rfl rfl)
theorem dL_law_663 : decode cL_law 663 = .ok (.iconst 1, 1) := dk_4 (dk_at dksL_law_24 3 rfl rfl)
theorem dL_law_664 : decode cL_law 664 = .ok (.iadd, 1) := dk_96 (dk_at dksL_law_24 4 rfl rfl)
theorem dL_law_665 : decode cL_law 665 = .ok (.iaload, 1) := dk_46 (dk_at dksL_law_24 5 rfl rfl)
theorem dL_law_666 : decode cL_law 666 = .ok (.aload_n 0, 1) := dk_42 (dk_at dksL_law_24 6 rfl rfl)
theorem dL_law_667 : decode cL_law 667 = .ok (.iload_n 3, 1) := dk_29 (dk_at dksL_law_24 7 rfl rfl)
theorem dL_law_668 : decode cL_law 668 = .ok (.iconst 2, 1) := dk_5 (dk_at dksL_law_24 8 rfl rfl)
theorem dL_law_669 : decode cL_law 669 = .ok (.iadd, 1) := dk_96 (dk_at dksL_law_24 9 rfl rfl)
theorem dL_law_670 : decode cL_law 670 = .ok (.iaload, 1) := dk_46 (dk_at dksL_law_24 10 rfl rfl)
theorem dL_law_671 : decode cL_law 671 = .ok (.aload_n 0, 1) := dk_42 (dk_at dksL_law_24 11 rfl rfl)
theorem dL_law_672 : decode cL_law 672 = .ok (.iload_n 3, 1) := dk_29 (dk_at dksL_law_24 12 rfl rfl)
theorem dL_law_673 : decode cL_law 673 = .ok (.iconst 3, 1) := dk_6 (dk_at dksL_law_24 13 rfl rfl)
theorem dL_law_674 : decode cL_law 674 = .ok (.iadd, 1) := dk_96 (dk_at dksL_law_24 14 rfl rfl)
theorem dL_law_675 : decode cL_law 675 = .ok (.iaload, 1) := dk_46 (dk_at dksL_law_24 15 rfl rfl)
theorem dL_law_676 : decode cL_law 676 = .ok (.invokevirtual 86, 3) := dk_182 0 86 (dk_at dksL_law_24 16 rfl rfl)
theorem dL_law_679 : decode cL_law 679 = .ok (.if_icmp .eq 409, 3) := dk_159 1 153 (dk_at dksL_law_24 19 rfl rfl)
theorem dL_law_682 : decode cL_law 682 = .ok (.iconst 0, 1) := dk_3 (dk_at dksL_law_24 22 rfl rfl)
theorem dL_law_683 : decode cL_law 683 = .ok (.ireturn, 1) := dk_172 (dk_at dksL_law_24 23 rfl rfl)
theorem dL_law_684 : decode cL_law 684 = .ok (.aload_n 1, 1) := dk_43 (dk_at dksL_law_25 0 rfl rfl)
theorem dL_law_685 : decode cL_law 685 = .ok (.aload_n 0, 1) := dk_42 (dk_at dksL_law_25 1 rfl rfl)
theorem dL_law_686 : decode cL_law 686 = .ok (.iload_n 3, 1) := dk_29 (dk_at dksL_law_25 2 rfl rfl)
theorem dL_law_687 : decode cL_law 687 = .ok (.iconst 1, 1) := dk_4 (dk_at dksL_law_25 3 rfl rfl)
theorem dL_law_688 : decode cL_law 688 = .ok (.iadd, 1) := dk_96 (dk_at dksL_law_25 4 rfl rfl)
theorem dL_law_689 : decode cL_law 689 = .ok (.iaload, 1) := dk_46 (dk_at dksL_law_25 5 rfl rfl)
theorem dL_law_690 : decode cL_law 690 = .ok (.aload_n 0, 1) := dk_42 (dk_at dksL_law_25 6 rfl rfl)
theorem dL_law_691 : decode cL_law 691 = .ok (.iload_n 3, 1) := dk_29 (dk_at dksL_law_25 7 rfl rfl)
theorem dL_law_692 : decode cL_law 692 = .ok (.iconst 2, 1) := dk_5 (dk_at dksL_law_25 8 rfl rfl)
theorem dL_law_693 : decode cL_law 693 = .ok (.iadd, 1) := dk_96 (dk_at dksL_law_25 9 rfl rfl)
theorem dL_law_694 : decode cL_law 694 = .ok (.iaload, 1) := dk_46 (dk_at dksL_law_25 10 rfl rfl)
theorem dL_law_695 : decode cL_law 695 = .ok (.invokevirtual 87, 3) := dk_182 0 87 (dk_at dksL_law_25 11 rfl rfl)
theorem dL_law_698 : decode cL_law 698 = .ok (.aload_n 2, 1) := dk_44 (dk_at dksL_law_25 14 rfl rfl)
theorem dL_law_699 : decode cL_law 699 = .ok (.aload_n 0, 1) := dk_42 (dk_at dksL_law_25 15 rfl rfl)
theorem dL_law_700 : decode cL_law 700 = .ok (.iload_n 3, 1) := dk_29 (dk_at dksL_law_25 16 rfl rfl)
theorem dL_law_701 : decode cL_law 701 = .ok (.iconst 1, 1) := dk_4 (dk_at dksL_law_25 17 rfl rfl)
theorem dL_law_702 : decode cL_law 702 = .ok (.iadd, 1) := dk_96 (dk_at dksL_law_25 18 rfl rfl)
theorem dL_law_703 : decode cL_law 703 = .ok (.iaload, 1) := dk_46 (dk_at dksL_law_25 19 rfl rfl)
theorem dL_law_704 : decode cL_law 704 = .ok (.aload_n 0, 1) := dk_42 (dk_at dksL_law_25 20 rfl rfl)
theorem dL_law_705 : decode cL_law 705 = .ok (.iload_n 3, 1) := dk_29 (dk_at dksL_law_25 21 rfl rfl)
theorem dL_law_706 : decode cL_law 706 = .ok (.iconst 2, 1) := dk_5 (dk_at dksL_law_25 22 rfl rfl)
theorem dL_law_707 : decode cL_law 707 = .ok (.iadd, 1) := dk_96 (dk_at dksL_law_25 23 rfl rfl)
theorem dL_law_708 : decode cL_law 708 = .ok (.iaload, 1) := dk_46 (dk_at dksL_law_26 0 rfl rfl)
theorem dL_law_709 : decode cL_law 709 = .ok (.invokevirtual 90, 3) := dk_182 0 90 (dk_at dksL_law_26 1 rfl rfl)
theorem dL_law_712 : decode cL_law 712 = .ok (.if_icmp .eq 376, 3) := dk_159 1 120 (dk_at dksL_law_26 4 rfl rfl)
theorem dL_law_715 : decode cL_law 715 = .ok (.iconst 0, 1) := dk_3 (dk_at dksL_law_26 7 rfl rfl)
theorem dL_law_716 : decode cL_law 716 = .ok (.ireturn, 1) := dk_172 (dk_at dksL_law_26 8 rfl rfl)
theorem dL_law_717 : decode cL_law 717 = .ok (.aload_n 1, 1) := dk_43 (dk_at dksL_law_26 9 rfl rfl)
theorem dL_law_718 : decode cL_law 718 = .ok (.aload_n 0, 1) := dk_42 (dk_at dksL_law_26 10 rfl rfl)
theorem dL_law_719 : decode cL_law 719 = .ok (.iload_n 3, 1) := dk_29 (dk_at dksL_law_26 11 rfl rfl)
theorem dL_law_720 : decode cL_law 720 = .ok (.iconst 1, 1) := dk_4 (dk_at dksL_law_26 12 rfl rfl)
theorem dL_law_721 : decode cL_law 721 = .ok (.iadd, 1) := dk_96 (dk_at dksL_law_26 13 rfl rfl)
theorem dL_law_722 : decode cL_law 722 = .ok (.iaload, 1) := dk_46 (dk_at dksL_law_26 14 rfl rfl)
theorem dL_law_723 : decode cL_law 723 = .ok (.aload_n 0, 1) := dk_42 (dk_at dksL_law_26 15 rfl rfl)
theorem dL_law_724 : decode cL_law 724 = .ok (.iload_n 3, 1) := dk_29 (dk_at dksL_law_26 16 rfl rfl)
theorem dL_law_725 : decode cL_law 725 = .ok (.iconst 2, 1) := dk_5 (dk_at dksL_law_26 17 rfl rfl)
theorem dL_law_726 : decode cL_law 726 = .ok (.iadd, 1) := dk_96 (dk_at dksL_law_26 18 rfl rfl)
theorem dL_law_727 : decode cL_law 727 = .ok (.iaload, 1) := dk_46 (dk_at dksL_law_26 19 rfl rfl)
theorem dL_law_728 : decode cL_law 728 = .ok (.invokevirtual 91, 3) := dk_182 0 91 (dk_at dksL_law_26 20 rfl rfl)
theorem dL_law_731 : decode cL_law 731 = .ok (.aload_n 2, 1) := dk_44 (dk_at dksL_law_26 23 rfl rfl)
theorem dL_law_732 : decode cL_law 732 = .ok (.aload_n 0, 1) := dk_42 (dk_at dksL_law_27 0 rfl rfl)
theorem dL_law_733 : decode cL_law 733 = .ok (.iload_n 3, 1) := dk_29 (dk_at dksL_law_27 1 rfl rfl)
theorem dL_law_734 : decode cL_law 734 = .ok (.iconst 1, 1) := dk_4 (dk_at dksL_law_27 2 rfl rfl)
theorem dL_law_735 : decode cL_law 735 = .ok (.iadd, 1) := dk_96 (dk_at dksL_law_27 3 rfl rfl)
theorem dL_law_736 : decode cL_law 736 = .ok (.iaload, 1) := dk_46 (dk_at dksL_law_27 4 rfl rfl)
theorem dL_law_737 : decode cL_law 737 = .ok (.aload_n 0, 1) := dk_42 (dk_at dksL_law_27 5 rfl rfl)
theorem dL_law_738 : decode cL_law 738 = .ok (.iload_n 3, 1) := dk_29 (dk_at dksL_law_27 6 rfl rfl)
theorem dL_law_739 : decode cL_law 739 = .ok (.iconst 2, 1) := dk_5 (dk_at dksL_law_27 7 rfl rfl)
theorem dL_law_740 : decode cL_law 740 = .ok (.iadd, 1) := dk_96 (dk_at dksL_law_27 8 rfl rfl)
theorem dL_law_741 : decode cL_law 741 = .ok (.iaload, 1) := dk_46 (dk_at dksL_law_27 9 rfl rfl)
theorem dL_law_742 : decode cL_law 742 = .ok (.invokevirtual 94, 3) := dk_182 0 94 (dk_at dksL_law_27 10 rfl rfl)
theorem dL_law_745 : decode cL_law 745 = .ok (.if_icmp .eq 343, 3) := dk_159 1 87 (dk_at dksL_law_27 13 rfl rfl)
theorem dL_law_748 : decode cL_law 748 = .ok (.iconst 0, 1) := dk_3 (dk_at dksL_law_27 16 rfl rfl)
theorem dL_law_749 : decode cL_law 749 = .ok (.ireturn, 1) := dk_172 (dk_at dksL_law_27 17 rfl rfl)
theorem dL_law_750 : decode cL_law 750 = .ok (.aload_n 1, 1) := dk_43 (dk_at dksL_law_27 18 rfl rfl)
theorem dL_law_751 : decode cL_law 751 = .ok (.aload_n 0, 1) := dk_42 (dk_at dksL_law_27 19 rfl rfl)
theorem dL_law_752 : decode cL_law 752 = .ok (.iload_n 3, 1) := dk_29 (dk_at dksL_law_27 20 rfl rfl)
theorem dL_law_753 : decode cL_law 753 = .ok (.iconst 1, 1) := dk_4 (dk_at dksL_law_27 21 rfl rfl)
theorem dL_law_754 : decode cL_law 754 = .ok (.iadd, 1) := dk_96 (dk_at dksL_law_27 22 rfl rfl)
theorem dL_law_755 : decode cL_law 755 = .ok (.iaload, 1) := dk_46 (dk_at dksL_law_27 23 rfl rfl)
theorem dL_law_756 : decode cL_law 756 = .ok (.aload_n 0, 1) := dk_42 (dk_at dksL_law_28 0 rfl rfl)
theorem dL_law_757 : decode cL_law 757 = .ok (.iload_n 3, 1) := dk_29 (dk_at dksL_law_28 1 rfl rfl)
theorem dL_law_758 : decode cL_law 758 = .ok (.iconst 2, 1) := dk_5 (dk_at dksL_law_28 2 rfl rfl)
theorem dL_law_759 : decode cL_law 759 = .ok (.iadd, 1) := dk_96 (dk_at dksL_law_28 3 rfl rfl)
theorem dL_law_760 : decode cL_law 760 = .ok (.iaload, 1) := dk_46 (dk_at dksL_law_28 4 rfl rfl)
theorem dL_law_761 : decode cL_law 761 = .ok (.aload_n 0, 1) := dk_42 (dk_at dksL_law_28 5 rfl rfl)
theorem dL_law_762 : decode cL_law 762 = .ok (.iload_n 3, 1) := dk_29 (dk_at dksL_law_28 6 rfl rfl)
theorem dL_law_763 : decode cL_law 763 = .ok (.iconst 3, 1) := dk_6 (dk_at dksL_law_28 7 rfl rfl)
theorem dL_law_764 : decode cL_law 764 = .ok (.iadd, 1) := dk_96 (dk_at dksL_law_28 8 rfl rfl)
theorem dL_law_765 : decode cL_law 765 = .ok (.iaload, 1) := dk_46 (dk_at dksL_law_28 9 rfl rfl)
theorem dL_law_766 : decode cL_law 766 = .ok (.aload_n 0, 1) := dk_42 (dk_at dksL_law_28 10 rfl rfl)
theorem dL_law_767 : decode cL_law 767 = .ok (.iload_n 3, 1) := dk_29 (dk_at dksL_law_28 11 rfl rfl)
theorem dL_law_768 : decode cL_law 768 = .ok (.iconst 4, 1) := dk_7 (dk_at dksL_law_28 12 rfl rfl)
theorem dL_law_769 : decode cL_law 769 = .ok (.iadd, 1) := dk_96 (dk_at dksL_law_28 13 rfl rfl)
theorem dL_law_770 : decode cL_law 770 = .ok (.iaload, 1) := dk_46 (dk_at dksL_law_28 14 rfl rfl)
theorem dL_law_771 : decode cL_law 771 = .ok (.invokevirtual 95, 3) := dk_182 0 95 (dk_at dksL_law_28 15 rfl rfl)
theorem dL_law_774 : decode cL_law 774 = .ok (.aload_n 2, 1) := dk_44 (dk_at dksL_law_28 18 rfl rfl)
theorem dL_law_775 : decode cL_law 775 = .ok (.aload_n 0, 1) := dk_42 (dk_at dksL_law_28 19 rfl rfl)
theorem dL_law_776 : decode cL_law 776 = .ok (.iload_n 3, 1) := dk_29 (dk_at dksL_law_28 20 rfl rfl)
theorem dL_law_777 : decode cL_law 777 = .ok (.iconst 1, 1) := dk_4 (dk_at dksL_law_28 21 rfl rfl)
theorem dL_law_778 : decode cL_law 778 = .ok (.iadd, 1) := dk_96 (dk_at dksL_law_28 22 rfl rfl)
theorem dL_law_779 : decode cL_law 779 = .ok (.iaload, 1) := dk_46 (dk_at dksL_law_28 23 rfl rfl)
theorem dL_law_780 : decode cL_law 780 = .ok (.aload_n 0, 1) := dk_42 (dk_at dksL_law_29 0 rfl rfl)
theorem dL_law_781 : decode cL_law 781 = .ok (.iload_n 3, 1) := dk_29 (dk_at dksL_law_29 1 rfl rfl)
theorem dL_law_782 : decode cL_law 782 = .ok (.iconst 2, 1) := dk_5 (dk_at dksL_law_29 2 rfl rfl)
theorem dL_law_783 : decode cL_law 783 = .ok (.iadd, 1) := dk_96 (dk_at dksL_law_29 3 rfl rfl)
theorem dL_law_784 : decode cL_law 784 = .ok (.iaload, 1) := dk_46 (dk_at dksL_law_29 4 rfl rfl)
theorem dL_law_785 : decode cL_law 785 = .ok (.aload_n 0, 1) := dk_42 (dk_at dksL_law_29 5 rfl rfl)
theorem dL_law_786 : decode cL_law 786 = .ok (.iload_n 3, 1) := dk_29 (dk_at dksL_law_29 6 rfl rfl)
theorem dL_law_787 : decode cL_law 787 = .ok (.iconst 3, 1) := dk_6 (dk_at dksL_law_29 7 rfl rfl)
theorem dL_law_788 : decode cL_law 788 = .ok (.iadd, 1) := dk_96 (dk_at dksL_law_29 8 rfl rfl)
theorem dL_law_789 : decode cL_law 789 = .ok (.iaload, 1) := dk_46 (dk_at dksL_law_29 9 rfl rfl)
theorem dL_law_790 : decode cL_law 790 = .ok (.aload_n 0, 1) := dk_42 (dk_at dksL_law_29 10 rfl rfl)
theorem dL_law_791 : decode cL_law 791 = .ok (.iload_n 3, 1) := dk_29 (dk_at dksL_law_29 11 rfl rfl)
theorem dL_law_792 : decode cL_law 792 = .ok (.iconst 4, 1) := dk_7 (dk_at dksL_law_29 12 rfl rfl)
theorem dL_law_793 : decode cL_law 793 = .ok (.iadd, 1) := dk_96 (dk_at dksL_law_29 13 rfl rfl)
theorem dL_law_794 : decode cL_law 794 = .ok (.iaload, 1) := dk_46 (dk_at dksL_law_29 14 rfl rfl)
theorem dL_law_795 : decode cL_law 795 = .ok (.invokevirtual 99, 3) := dk_182 0 99 (dk_at dksL_law_29 15 rfl rfl)
theorem dL_law_798 : decode cL_law 798 = .ok (.lcmp, 1) := dk_148 (dk_at dksL_law_29 18 rfl rfl)
theorem dL_law_799 : decode cL_law 799 = .ok (.ifCond .eq 289, 3) := dk_153 1 33 (dk_at dksL_law_29 19 rfl rfl)
theorem dL_law_802 : decode cL_law 802 = .ok (.iconst 0, 1) := dk_3 (dk_at dksL_law_29 22 rfl rfl)
theorem dL_law_803 : decode cL_law 803 = .ok (.ireturn, 1) := dk_172 (dk_at dksL_law_29 23 rfl rfl)
theorem dL_law_804 : decode cL_law 804 = .ok (.aload_n 1, 1) := dk_43 (dk_at dksL_law_30 0 rfl rfl)
theorem dL_law_805 : decode cL_law 805 = .ok (.invokevirtual 100, 3) := dk_182 0 100 (dk_at dksL_law_30 1 rfl rfl)
theorem dL_law_808 : decode cL_law 808 = .ok (.aload_n 2, 1) := dk_44 (dk_at dksL_law_30 4 rfl rfl)
theorem dL_law_809 : decode cL_law 809 = .ok (.invokevirtual 103, 3) := dk_182 0 103 (dk_at dksL_law_30 5 rfl rfl)
theorem dL_law_812 : decode cL_law 812 = .ok (.if_icmp .eq 276, 3) := dk_159 1 20 (dk_at dksL_law_30 8 rfl rfl)
theorem dL_law_815 : decode cL_law 815 = .ok (.iconst 0, 1) := dk_3 (dk_at dksL_law_30 11 rfl rfl)
theorem dL_law_816 : decode cL_law 816 = .ok (.ireturn, 1) := dk_172 (dk_at dksL_law_30 12 rfl rfl)
theorem dL_law_817 : decode cL_law 817 = .ok (.aload_n 1, 1) := dk_43 (dk_at dksL_law_30 13 rfl rfl)
theorem dL_law_818 : decode cL_law 818 = .ok (.invokevirtual 104, 3) := dk_182 0 104 (dk_at dksL_law_30 14 rfl rfl)
theorem dL_law_821 : decode cL_law 821 = .ok (.aload_n 2, 1) := dk_44 (dk_at dksL_law_30 17 rfl rfl)
theorem dL_law_822 : decode cL_law 822 = .ok (.invokevirtual 107, 3) := dk_182 0 107 (dk_at dksL_law_30 18 rfl rfl)
theorem dL_law_825 : decode cL_law 825 = .ok (.if_icmp .eq 263, 3) := dk_159 1 7 (dk_at dksL_law_30 21 rfl rfl)
theorem dL_law_828 : decode cL_law 828 = .ok (.iconst 0, 1) := dk_3 (dk_at dksL_law_31 0 rfl rfl)
theorem dL_law_829 : decode cL_law 829 = .ok (.ireturn, 1) := dk_172 (dk_at dksL_law_31 1 rfl rfl)
theorem dL_law_830 : decode cL_law 830 = .ok (.aload_n 1, 1) := dk_43 (dk_at dksL_law_31 2 rfl rfl)
theorem dL_law_831 : decode cL_law 831 = .ok (.aload_n 0, 1) := dk_42 (dk_at dksL_law_31 3 rfl rfl)
theorem dL_law_832 : decode cL_law 832 = .ok (.iload_n 3, 1) := dk_29 (dk_at dksL_law_31 4 rfl rfl)
theorem dL_law_833 : decode cL_law 833 = .ok (.iconst 1, 1) := dk_4 (dk_at dksL_law_31 5 rfl rfl)
theorem dL_law_834 : decode cL_law 834 = .ok (.iadd, 1) := dk_96 (dk_at dksL_law_31 6 rfl rfl)
theorem dL_law_835 : decode cL_law 835 = .ok (.iaload, 1) := dk_46 (dk_at dksL_law_31 7 rfl rfl)
theorem dL_law_836 : decode cL_law 836 = .ok (.invokevirtual 108, 3) := dk_182 0 108 (dk_at dksL_law_31 8 rfl rfl)
theorem dL_law_839 : decode cL_law 839 = .ok (.aload_n 2, 1) := dk_44 (dk_at dksL_law_31 11 rfl rfl)
theorem dL_law_840 : decode cL_law 840 = .ok (.aload_n 0, 1) := dk_42 (dk_at dksL_law_31 12 rfl rfl)
theorem dL_law_841 : decode cL_law 841 = .ok (.iload_n 3, 1) := dk_29 (dk_at dksL_law_31 13 rfl rfl)
theorem dL_law_842 : decode cL_law 842 = .ok (.iconst 1, 1) := dk_4 (dk_at dksL_law_31 14 rfl rfl)
theorem dL_law_843 : decode cL_law 843 = .ok (.iadd, 1) := dk_96 (dk_at dksL_law_31 15 rfl rfl)
theorem dL_law_844 : decode cL_law 844 = .ok (.iaload, 1) := dk_46 (dk_at dksL_law_31 16 rfl rfl)
theorem dL_law_845 : decode cL_law 845 = .ok (.invokevirtual 111, 3) := dk_182 0 111 (dk_at dksL_law_31 17 rfl rfl)
theorem dL_law_848 : decode cL_law 848 = .ok (.if_icmp .eq 240, 3) := dk_159 0 240 (dk_at dksL_law_31 20 rfl rfl)
theorem dL_law_851 : decode cL_law 851 = .ok (.iconst 0, 1) := dk_3 (dk_at dksL_law_31 23 rfl rfl)
theorem dL_law_852 : decode cL_law 852 = .ok (.ireturn, 1) := dk_172 (dk_at dksL_law_32 0 rfl rfl)
theorem dL_law_853 : decode cL_law 853 = .ok (.aload_n 1, 1) := dk_43 (dk_at dksL_law_32 1 rfl rfl)
theorem dL_law_854 : decode cL_law 854 = .ok (.aload_n 0, 1) := dk_42 (dk_at dksL_law_32 2 rfl rfl)
theorem dL_law_855 : decode cL_law 855 = .ok (.iload_n 3, 1) := dk_29 (dk_at dksL_law_32 3 rfl rfl)
theorem dL_law_856 : decode cL_law 856 = .ok (.iconst 1, 1) := dk_4 (dk_at dksL_law_32 4 rfl rfl)
theorem dL_law_857 : decode cL_law 857 = .ok (.iadd, 1) := dk_96 (dk_at dksL_law_32 5 rfl rfl)
theorem dL_law_858 : decode cL_law 858 = .ok (.iaload, 1) := dk_46 (dk_at dksL_law_32 6 rfl rfl)
theorem dL_law_859 : decode cL_law 859 = .ok (.aload_n 0, 1) := dk_42 (dk_at dksL_law_32 7 rfl rfl)
theorem dL_law_860 : decode cL_law 860 = .ok (.iload_n 3, 1) := dk_29 (dk_at dksL_law_32 8 rfl rfl)
theorem dL_law_861 : decode cL_law 861 = .ok (.iconst 2, 1) := dk_5 (dk_at dksL_law_32 9 rfl rfl)
theorem dL_law_862 : decode cL_law 862 = .ok (.iadd, 1) := dk_96 (dk_at dksL_law_32 10 rfl rfl)
theorem dL_law_863 : decode cL_law 863 = .ok (.iaload, 1) := dk_46 (dk_at dksL_law_32 11 rfl rfl)
theorem dL_law_864 : decode cL_law 864 = .ok (.aload_n 0, 1) := dk_42 (dk_at dksL_law_32 12 rfl rfl)
theorem dL_law_865 : decode cL_law 865 = .ok (.iload_n 3, 1) := dk_29 (dk_at dksL_law_32 13 rfl rfl)
theorem dL_law_866 : decode cL_law 866 = .ok (.iconst 3, 1) := dk_6 (dk_at dksL_law_32 14 rfl rfl)
theorem dL_law_867 : decode cL_law 867 = .ok (.iadd, 1) := dk_96 (dk_at dksL_law_32 15 rfl rfl)
theorem dL_law_868 : decode cL_law 868 = .ok (.iaload, 1) := dk_46 (dk_at dksL_law_32 16 rfl rfl)
theorem dL_law_869 : decode cL_law 869 = .ok (.invokevirtual 112, 3) := dk_182 0 112 (dk_at dksL_law_32 17 rfl rfl)
theorem dL_law_872 : decode cL_law 872 = .ok (.aload_n 2, 1) := dk_44 (dk_at dksL_law_32 20 rfl rfl)
theorem dL_law_873 : decode cL_law 873 = .ok (.aload_n 0, 1) := dk_42 (dk_at dksL_law_32 21 rfl rfl)
theorem dL_law_874 : decode cL_law 874 = .ok (.iload_n 3, 1) := dk_29 (dk_at dksL_law_32 22 rfl rfl)
theorem dL_law_875 : decode cL_law 875 = .ok (.iconst 1, 1) := dk_4 (dk_at dksL_law_32 23 rfl rfl)
theorem dL_law_876 : decode cL_law 876 = .ok (.iadd, 1) := dk_96 (dk_at dksL_law_33 0 rfl rfl)
theorem dL_law_877 : decode cL_law 877 = .ok (.iaload, 1) := dk_46 (dk_at dksL_law_33 1 rfl rfl)
theorem dL_law_878 : decode cL_law 878 = .ok (.aload_n 0, 1) := dk_42 (dk_at dksL_law_33 2 rfl rfl)
theorem dL_law_879 : decode cL_law 879 = .ok (.iload_n 3, 1) := dk_29 (dk_at dksL_law_33 3 rfl rfl)
theorem dL_law_880 : decode cL_law 880 = .ok (.iconst 2, 1) := dk_5 (dk_at dksL_law_33 4 rfl rfl)
theorem dL_law_881 : decode cL_law 881 = .ok (.iadd, 1) := dk_96 (dk_at dksL_law_33 5 rfl rfl)
theorem dL_law_882 : decode cL_law 882 = .ok (.iaload, 1) := dk_46 (dk_at dksL_law_33 6 rfl rfl)
theorem dL_law_883 : decode cL_law 883 = .ok (.aload_n 0, 1) := dk_42 (dk_at dksL_law_33 7 rfl rfl)
theorem dL_law_884 : decode cL_law 884 = .ok (.iload_n 3, 1) := dk_29 (dk_at dksL_law_33 8 rfl rfl)
theorem dL_law_885 : decode cL_law 885 = .ok (.iconst 3, 1) := dk_6 (dk_at dksL_law_33 9 rfl rfl)
theorem dL_law_886 : decode cL_law 886 = .ok (.iadd, 1) := dk_96 (dk_at dksL_law_33 10 rfl rfl)
theorem dL_law_887 : decode cL_law 887 = .ok (.iaload, 1) := dk_46 (dk_at dksL_law_33 11 rfl rfl)
theorem dL_law_888 : decode cL_law 888 = .ok (.invokevirtual 115, 3) := dk_182 0 115 (dk_at dksL_law_33 12 rfl rfl)
theorem dL_law_891 : decode cL_law 891 = .ok (.if_icmp .eq 197, 3) := dk_159 0 197 (dk_at dksL_law_33 15 rfl rfl)
theorem dL_law_894 : decode cL_law 894 = .ok (.iconst 0, 1) := dk_3 (dk_at dksL_law_33 18 rfl rfl)
theorem dL_law_895 : decode cL_law 895 = .ok (.ireturn, 1) := dk_172 (dk_at dksL_law_33 19 rfl rfl)
theorem dL_law_896 : decode cL_law 896 = .ok (.aload_n 1, 1) := dk_43 (dk_at dksL_law_33 20 rfl rfl)
theorem dL_law_897 : decode cL_law 897 = .ok (.aload_n 0, 1) := dk_42 (dk_at dksL_law_33 21 rfl rfl)
theorem dL_law_898 : decode cL_law 898 = .ok (.iload_n 3, 1) := dk_29 (dk_at dksL_law_33 22 rfl rfl)
theorem dL_law_899 : decode cL_law 899 = .ok (.iconst 1, 1) := dk_4 (dk_at dksL_law_33 23 rfl rfl)
theorem dL_law_900 : decode cL_law 900 = .ok (.iadd, 1) := dk_96 (dk_at dksL_law_34 0 rfl rfl)
theorem dL_law_901 : decode cL_law 901 = .ok (.iaload, 1) := dk_46 (dk_at dksL_law_34 1 rfl rfl)
theorem dL_law_902 : decode cL_law 902 = .ok (.aload_n 0, 1) := dk_42 (dk_at dksL_law_34 2 rfl rfl)
theorem dL_law_903 : decode cL_law 903 = .ok (.iload_n 3, 1) := dk_29 (dk_at dksL_law_34 3 rfl rfl)
theorem dL_law_904 : decode cL_law 904 = .ok (.iconst 2, 1) := dk_5 (dk_at dksL_law_34 4 rfl rfl)
theorem dL_law_905 : decode cL_law 905 = .ok (.iadd, 1) := dk_96 (dk_at dksL_law_34 5 rfl rfl)
theorem dL_law_906 : decode cL_law 906 = .ok (.iaload, 1) := dk_46 (dk_at dksL_law_34 6 rfl rfl)
theorem dL_law_907 : decode cL_law 907 = .ok (.aload_n 0, 1) := dk_42 (dk_at dksL_law_34 7 rfl rfl)
theorem dL_law_908 : decode cL_law 908 = .ok (.iload_n 3, 1) := dk_29 (dk_at dksL_law_34 8 rfl rfl)
theorem dL_law_909 : decode cL_law 909 = .ok (.iconst 3, 1) := dk_6 (dk_at dksL_law_34 9 rfl rfl)
theorem dL_law_910 : decode cL_law 910 = .ok (.iadd, 1) := dk_96 (dk_at dksL_law_34 10 rfl rfl)
theorem dL_law_911 : decode cL_law 911 = .ok (.iaload, 1) := dk_46 (dk_at dksL_law_34 11 rfl rfl)
theorem dL_law_912 : decode cL_law 912 = .ok (.invokevirtual 116, 3) := dk_182 0 116 (dk_at dksL_law_34 12 rfl rfl)
theorem dL_law_915 : decode cL_law 915 = .ok (.aload_n 2, 1) := dk_44 (dk_at dksL_law_34 15 rfl rfl)
theorem dL_law_916 : decode cL_law 916 = .ok (.aload_n 0, 1) := dk_42 (dk_at dksL_law_34 16 rfl rfl)
theorem dL_law_917 : decode cL_law 917 = .ok (.iload_n 3, 1) := dk_29 (dk_at dksL_law_34 17 rfl rfl)
theorem dL_law_918 : decode cL_law 918 = .ok (.iconst 1, 1) := dk_4 (dk_at dksL_law_34 18 rfl rfl)
theorem dL_law_919 : decode cL_law 919 = .ok (.iadd, 1) := dk_96 (dk_at dksL_law_34 19 rfl rfl)
theorem dL_law_920 : decode cL_law 920 = .ok (.iaload, 1) := dk_46 (dk_at dksL_law_34 20 rfl rfl)
theorem dL_law_921 : decode cL_law 921 = .ok (.aload_n 0, 1) := dk_42 (dk_at dksL_law_34 21 rfl rfl)
theorem dL_law_922 : decode cL_law 922 = .ok (.iload_n 3, 1) := dk_29 (dk_at dksL_law_34 22 rfl rfl)
theorem dL_law_923 : decode cL_law 923 = .ok (.iconst 2, 1) := dk_5 (dk_at dksL_law_34 23 rfl rfl)
theorem dL_law_924 : decode cL_law 924 = .ok (.iadd, 1) := dk_96 (dk_at dksL_law_35 0 rfl rfl)
theorem dL_law_925 : decode cL_law 925 = .ok (.iaload, 1) := dk_46 (dk_at dksL_law_35 1 rfl rfl)
theorem dL_law_926 : decode cL_law 926 = .ok (.aload_n 0, 1) := dk_42 (dk_at dksL_law_35 2 rfl rfl)
theorem dL_law_927 : decode cL_law 927 = .ok (.iload_n 3, 1) := dk_29 (dk_at dksL_law_35 3 rfl rfl)
theorem dL_law_928 : decode cL_law 928 = .ok (.iconst 3, 1) := dk_6 (dk_at dksL_law_35 4 rfl rfl)
theorem dL_law_929 : decode cL_law 929 = .ok (.iadd, 1) := dk_96 (dk_at dksL_law_35 5 rfl rfl)
theorem dL_law_930 : decode cL_law 930 = .ok (.iaload, 1) := dk_46 (dk_at dksL_law_35 6 rfl rfl)
theorem dL_law_931 : decode cL_law 931 = .ok (.invokevirtual 119, 3) := dk_182 0 119 (dk_at dksL_law_35 7 rfl rfl)
theorem dL_law_934 : decode cL_law 934 = .ok (.if_icmp .eq 154, 3) := dk_159 0 154 (dk_at dksL_law_35 10 rfl rfl)
theorem dL_law_937 : decode cL_law 937 = .ok (.iconst 0, 1) := dk_3 (dk_at dksL_law_35 13 rfl rfl)
theorem dL_law_938 : decode cL_law 938 = .ok (.ireturn, 1) := dk_172 (dk_at dksL_law_35 14 rfl rfl)
theorem dL_law_939 : decode cL_law 939 = .ok (.aload_n 1, 1) := dk_43 (dk_at dksL_law_35 15 rfl rfl)
theorem dL_law_940 : decode cL_law 940 = .ok (.aload_n 0, 1) := dk_42 (dk_at dksL_law_35 16 rfl rfl)
theorem dL_law_941 : decode cL_law 941 = .ok (.iload_n 3, 1) := dk_29 (dk_at dksL_law_35 17 rfl rfl)
theorem dL_law_942 : decode cL_law 942 = .ok (.iconst 1, 1) := dk_4 (dk_at dksL_law_35 18 rfl rfl)
theorem dL_law_943 : decode cL_law 943 = .ok (.iadd, 1) := dk_96 (dk_at dksL_law_35 19 rfl rfl)
theorem dL_law_944 : decode cL_law 944 = .ok (.iaload, 1) := dk_46 (dk_at dksL_law_35 20 rfl rfl)
theorem dL_law_945 : decode cL_law 945 = .ok (.aload_n 0, 1) := dk_42 (dk_at dksL_law_35 21 rfl rfl)
theorem dL_law_946 : decode cL_law 946 = .ok (.iload_n 3, 1) := dk_29 (dk_at dksL_law_35 22 rfl rfl)
theorem dL_law_947 : decode cL_law 947 = .ok (.iconst 2, 1) := dk_5 (dk_at dksL_law_35 23 rfl rfl)
theorem dL_law_948 : decode cL_law 948 = .ok (.iadd, 1) := dk_96 (dk_at dksL_law_36 0 rfl rfl)
theorem dL_law_949 : decode cL_law 949 = .ok (.iaload, 1) := dk_46 (dk_at dksL_law_36 1 rfl rfl)
theorem dL_law_950 : decode cL_law 950 = .ok (.aload_n 0, 1) := dk_42 (dk_at dksL_law_36 2 rfl rfl)
theorem dL_law_951 : decode cL_law 951 = .ok (.iload_n 3, 1) := dk_29 (dk_at dksL_law_36 3 rfl rfl)
theorem dL_law_952 : decode cL_law 952 = .ok (.iconst 3, 1) := dk_6 (dk_at dksL_law_36 4 rfl rfl)
theorem dL_law_953 : decode cL_law 953 = .ok (.iadd, 1) := dk_96 (dk_at dksL_law_36 5 rfl rfl)
theorem dL_law_954 : decode cL_law 954 = .ok (.iaload, 1) := dk_46 (dk_at dksL_law_36 6 rfl rfl)
theorem dL_law_955 : decode cL_law 955 = .ok (.aload_n 0, 1) := dk_42 (dk_at dksL_law_36 7 rfl rfl)
theorem dL_law_956 : decode cL_law 956 = .ok (.iload_n 3, 1) := dk_29 (dk_at dksL_law_36 8 rfl rfl)
theorem dL_law_957 : decode cL_law 957 = .ok (.iconst 4, 1) := dk_7 (dk_at dksL_law_36 9 rfl rfl)
theorem dL_law_958 : decode cL_law 958 = .ok (.iadd, 1) := dk_96 (dk_at dksL_law_36 10 rfl rfl)
theorem dL_law_959 : decode cL_law 959 = .ok (.iaload, 1) := dk_46 (dk_at dksL_law_36 11 rfl rfl)
theorem dL_law_960 : decode cL_law 960 = .ok (.aload_n 0, 1) := dk_42 (dk_at dksL_law_36 12 rfl rfl)
theorem dL_law_961 : decode cL_law 961 = .ok (.iload_n 3, 1) := dk_29 (dk_at dksL_law_36 13 rfl rfl)
theorem dL_law_962 : decode cL_law 962 = .ok (.iconst 5, 1) := dk_8 (dk_at dksL_law_36 14 rfl rfl)
theorem dL_law_963 : decode cL_law 963 = .ok (.iadd, 1) := dk_96 (dk_at dksL_law_36 15 rfl rfl)
theorem dL_law_964 : decode cL_law 964 = .ok (.iaload, 1) := dk_46 (dk_at dksL_law_36 16 rfl rfl)
theorem dL_law_965 : decode cL_law 965 = .ok (.invokevirtual 120, 3) := dk_182 0 120 (dk_at dksL_law_36 17 rfl rfl)
theorem dL_law_968 : decode cL_law 968 = .ok (.aload_n 2, 1) := dk_44 (dk_at dksL_law_36 20 rfl rfl)
theorem dL_law_969 : decode cL_law 969 = .ok (.aload_n 0, 1) := dk_42 (dk_at dksL_law_36 21 rfl rfl)
theorem dL_law_970 : decode cL_law 970 = .ok (.iload_n 3, 1) := dk_29 (dk_at dksL_law_36 22 rfl rfl)
theorem dL_law_971 : decode cL_law 971 = .ok (.iconst 1, 1) := dk_4 (dk_at dksL_law_36 23 rfl rfl)
theorem dL_law_972 : decode cL_law 972 = .ok (.iadd, 1) := dk_96 (dk_at dksL_law_37 0 rfl rfl)
theorem dL_law_973 : decode cL_law 973 = .ok (.iaload, 1) := dk_46 (dk_at dksL_law_37 1 rfl rfl)
theorem dL_law_974 : decode cL_law 974 = .ok (.aload_n 0, 1) := dk_42 (dk_at dksL_law_37 2 rfl rfl)
theorem dL_law_975 : decode cL_law 975 = .ok (.iload_n 3, 1) := dk_29 (dk_at dksL_law_37 3 rfl rfl)
theorem dL_law_976 : decode cL_law 976 = .ok (.iconst 2, 1) := dk_5 (dk_at dksL_law_37 4 rfl rfl)
theorem dL_law_977 : decode cL_law 977 = .ok (.iadd, 1) := dk_96 (dk_at dksL_law_37 5 rfl rfl)
theorem dL_law_978 : decode cL_law 978 = .ok (.iaload, 1) := dk_46 (dk_at dksL_law_37 6 rfl rfl)
theorem dL_law_979 : decode cL_law 979 = .ok (.aload_n 0, 1) := dk_42 (dk_at dksL_law_37 7 rfl rfl)
theorem dL_law_980 : decode cL_law 980 = .ok (.iload_n 3, 1) := dk_29 (dk_at dksL_law_37 8 rfl rfl)
theorem dL_law_981 : decode cL_law 981 = .ok (.iconst 3, 1) := dk_6 (dk_at dksL_law_37 9 rfl rfl)
theorem dL_law_982 : decode cL_law 982 = .ok (.iadd, 1) := dk_96 (dk_at dksL_law_37 10 rfl rfl)
theorem dL_law_983 : decode cL_law 983 = .ok (.iaload, 1) := dk_46 (dk_at dksL_law_37 11 rfl rfl)
theorem dL_law_984 : decode cL_law 984 = .ok (.aload_n 0, 1) := dk_42 (dk_at dksL_law_37 12 rfl rfl)
theorem dL_law_985 : decode cL_law 985 = .ok (.iload_n 3, 1) := dk_29 (dk_at dksL_law_37 13 rfl rfl)
theorem dL_law_986 : decode cL_law 986 = .ok (.iconst 4, 1) := dk_7 (dk_at dksL_law_37 14 rfl rfl)
theorem dL_law_987 : decode cL_law 987 = .ok (.iadd, 1) := dk_96 (dk_at dksL_law_37 15 rfl rfl)
theorem dL_law_988 : decode cL_law 988 = .ok (.iaload, 1) := dk_46 (dk_at dksL_law_37 16 rfl rfl)
theorem dL_law_989 : decode cL_law 989 = .ok (.aload_n 0, 1) := dk_42 (dk_at dksL_law_37 17 rfl rfl)
theorem dL_law_990 : decode cL_law 990 = .ok (.iload_n 3, 1) := dk_29 (dk_at dksL_law_37 18 rfl rfl)
theorem dL_law_991 : decode cL_law 991 = .ok (.iconst 5, 1) := dk_8 (dk_at dksL_law_37 19 rfl rfl)
theorem dL_law_992 : decode cL_law 992 = .ok (.iadd, 1) := dk_96 (dk_at dksL_law_37 20 rfl rfl)
theorem dL_law_993 : decode cL_law 993 = .ok (.iaload, 1) := dk_46 (dk_at dksL_law_37 21 rfl rfl)
theorem dL_law_994 : decode cL_law 994 = .ok (.invokevirtual 124, 3) := dk_182 0 124 (dk_at dksL_law_38 0 rfl rfl)
theorem dL_law_997 : decode cL_law 997 = .ok (.if_icmp .eq 91, 3) := dk_159 0 91 (dk_at dksL_law_38 3 rfl rfl)
theorem dL_law_1000 : decode cL_law 1000 = .ok (.iconst 0, 1) := dk_3 (dk_at dksL_law_38 6 rfl rfl)
theorem dL_law_1001 : decode cL_law 1001 = .ok (.ireturn, 1) := dk_172 (dk_at dksL_law_38 7 rfl rfl)
theorem dL_law_1002 : decode cL_law 1002 = .ok (.aload_n 1, 1) := dk_43 (dk_at dksL_law_38 8 rfl rfl)
theorem dL_law_1003 : decode cL_law 1003 = .ok (.aload_n 0, 1) := dk_42 (dk_at dksL_law_38 9 rfl rfl)
theorem dL_law_1004 : decode cL_law 1004 = .ok (.iload_n 3, 1) := dk_29 (dk_at dksL_law_38 10 rfl rfl)
theorem dL_law_1005 : decode cL_law 1005 = .ok (.iconst 1, 1) := dk_4 (dk_at dksL_law_38 11 rfl rfl)
theorem dL_law_1006 : decode cL_law 1006 = .ok (.iadd, 1) := dk_96 (dk_at dksL_law_38 12 rfl rfl)
theorem dL_law_1007 : decode cL_law 1007 = .ok (.iaload, 1) := dk_46 (dk_at dksL_law_38 13 rfl rfl)
theorem dL_law_1008 : decode cL_law 1008 = .ok (.aload_n 0, 1) := dk_42 (dk_at dksL_law_38 14 rfl rfl)
theorem dL_law_1009 : decode cL_law 1009 = .ok (.iload_n 3, 1) := dk_29 (dk_at dksL_law_38 15 rfl rfl)
theorem dL_law_1010 : decode cL_law 1010 = .ok (.iconst 2, 1) := dk_5 (dk_at dksL_law_38 16 rfl rfl)
theorem dL_law_1011 : decode cL_law 1011 = .ok (.iadd, 1) := dk_96 (dk_at dksL_law_38 17 rfl rfl)
theorem dL_law_1012 : decode cL_law 1012 = .ok (.iaload, 1) := dk_46 (dk_at dksL_law_38 18 rfl rfl)
theorem dL_law_1013 : decode cL_law 1013 = .ok (.aload_n 0, 1) := dk_42 (dk_at dksL_law_38 19 rfl rfl)
theorem dL_law_1014 : decode cL_law 1014 = .ok (.iload_n 3, 1) := dk_29 (dk_at dksL_law_38 20 rfl rfl)
theorem dL_law_1015 : decode cL_law 1015 = .ok (.iconst 3, 1) := dk_6 (dk_at dksL_law_38 21 rfl rfl)
theorem dL_law_1016 : decode cL_law 1016 = .ok (.iadd, 1) := dk_96 (dk_at dksL_law_38 22 rfl rfl)
theorem dL_law_1017 : decode cL_law 1017 = .ok (.iaload, 1) := dk_46 (dk_at dksL_law_38 23 rfl rfl)
theorem dL_law_1018 : decode cL_law 1018 = .ok (.aload_n 0, 1) := dk_42 (dk_at dksL_law_39 0 rfl rfl)
theorem dL_law_1019 : decode cL_law 1019 = .ok (.iload_n 3, 1) := dk_29 (dk_at dksL_law_39 1 rfl rfl)
theorem dL_law_1020 : decode cL_law 1020 = .ok (.iconst 4, 1) := dk_7 (dk_at dksL_law_39 2 rfl rfl)
theorem dL_law_1021 : decode cL_law 1021 = .ok (.iadd, 1) := dk_96 (dk_at dksL_law_39 3 rfl rfl)
theorem dL_law_1022 : decode cL_law 1022 = .ok (.iaload, 1) := dk_46 (dk_at dksL_law_39 4 rfl rfl)
theorem dL_law_1023 : decode cL_law 1023 = .ok (.invokevirtual 125, 3) := dk_182 0 125 (dk_at dksL_law_39 5 rfl rfl)
theorem dL_law_1026 : decode cL_law 1026 = .ok (.aload_n 2, 1) := dk_44 (dk_at dksL_law_39 8 rfl rfl)
theorem dL_law_1027 : decode cL_law 1027 = .ok (.aload_n 0, 1) := dk_42 (dk_at dksL_law_39 9 rfl rfl)
theorem dL_law_1028 : decode cL_law 1028 = .ok (.iload_n 3, 1) := dk_29 (dk_at dksL_law_39 10 rfl rfl)
theorem dL_law_1029 : decode cL_law 1029 = .ok (.iconst 1, 1) := dk_4 (dk_at dksL_law_39 11 rfl rfl)
theorem dL_law_1030 : decode cL_law 1030 = .ok (.iadd, 1) := dk_96 (dk_at dksL_law_39 12 rfl rfl)
theorem dL_law_1031 : decode cL_law 1031 = .ok (.iaload, 1) := dk_46 (dk_at dksL_law_39 13 rfl rfl)
theorem dL_law_1032 : decode cL_law 1032 = .ok (.aload_n 0, 1) := dk_42 (dk_at dksL_law_39 14 rfl rfl)
theorem dL_law_1033 : decode cL_law 1033 = .ok (.iload_n 3, 1) := dk_29 (dk_at dksL_law_39 15 rfl rfl)
theorem dL_law_1034 : decode cL_law 1034 = .ok (.iconst 2, 1) := dk_5 (dk_at dksL_law_39 16 rfl rfl)
theorem dL_law_1035 : decode cL_law 1035 = .ok (.iadd, 1) := dk_96 (dk_at dksL_law_39 17 rfl rfl)
theorem dL_law_1036 : decode cL_law 1036 = .ok (.iaload, 1) := dk_46 (dk_at dksL_law_39 18 rfl rfl)
theorem dL_law_1037 : decode cL_law 1037 = .ok (.aload_n 0, 1) := dk_42 (dk_at dksL_law_39 19 rfl rfl)
theorem dL_law_1038 : decode cL_law 1038 = .ok (.iload_n 3, 1) := dk_29 (dk_at dksL_law_39 20 rfl rfl)
theorem dL_law_1039 : decode cL_law 1039 = .ok (.iconst 3, 1) := dk_6 (dk_at dksL_law_39 21 rfl rfl)
theorem dL_law_1040 : decode cL_law 1040 = .ok (.iadd, 1) := dk_96 (dk_at dksL_law_39 22 rfl rfl)
theorem dL_law_1041 : decode cL_law 1041 = .ok (.iaload, 1) := dk_46 (dk_at dksL_law_39 23 rfl rfl)
theorem dL_law_1042 : decode cL_law 1042 = .ok (.aload_n 0, 1) := dk_42 (dk_at dksL_law_40 0 rfl rfl)
theorem dL_law_1043 : decode cL_law 1043 = .ok (.iload_n 3, 1) := dk_29 (dk_at dksL_law_40 1 rfl rfl)
theorem dL_law_1044 : decode cL_law 1044 = .ok (.iconst 4, 1) := dk_7 (dk_at dksL_law_40 2 rfl rfl)
theorem dL_law_1045 : decode cL_law 1045 = .ok (.iadd, 1) := dk_96 (dk_at dksL_law_40 3 rfl rfl)
theorem dL_law_1046 : decode cL_law 1046 = .ok (.iaload, 1) := dk_46 (dk_at dksL_law_40 4 rfl rfl)
theorem dL_law_1047 : decode cL_law 1047 = .ok (.invokevirtual 129, 3) := dk_182 0 129 (dk_at dksL_law_40 5 rfl rfl)
theorem dL_law_1050 : decode cL_law 1050 = .ok (.if_icmp .eq 38, 3) := dk_159 0 38 (dk_at dksL_law_40 8 rfl rfl)
theorem dL_law_1053 : decode cL_law 1053 = .ok (.iconst 0, 1) := dk_3 (dk_at dksL_law_40 11 rfl rfl)
theorem dL_law_1054 : decode cL_law 1054 = .ok (.ireturn, 1) := dk_172 (dk_at dksL_law_40 12 rfl rfl)
theorem dL_law_1055 : decode cL_law 1055 = .ok (.aload_n 1, 1) := dk_43 (dk_at dksL_law_40 13 rfl rfl)
theorem dL_law_1056 : decode cL_law 1056 = .ok (.aload_n 0, 1) := dk_42 (dk_at dksL_law_40 14 rfl rfl)
theorem dL_law_1057 : decode cL_law 1057 = .ok (.iload_n 3, 1) := dk_29 (dk_at dksL_law_40 15 rfl rfl)
theorem dL_law_1058 : decode cL_law 1058 = .ok (.iconst 1, 1) := dk_4 (dk_at dksL_law_40 16 rfl rfl)
theorem dL_law_1059 : decode cL_law 1059 = .ok (.iadd, 1) := dk_96 (dk_at dksL_law_40 17 rfl rfl)
theorem dL_law_1060 : decode cL_law 1060 = .ok (.iaload, 1) := dk_46 (dk_at dksL_law_40 18 rfl rfl)
theorem dL_law_1061 : decode cL_law 1061 = .ok (.aload_n 0, 1) := dk_42 (dk_at dksL_law_40 19 rfl rfl)
theorem dL_law_1062 : decode cL_law 1062 = .ok (.iload_n 3, 1) := dk_29 (dk_at dksL_law_40 20 rfl rfl)
theorem dL_law_1063 : decode cL_law 1063 = .ok (.iconst 2, 1) := dk_5 (dk_at dksL_law_40 21 rfl rfl)
theorem dL_law_1064 : decode cL_law 1064 = .ok (.iadd, 1) := dk_96 (dk_at dksL_law_40 22 rfl rfl)
theorem dL_law_1065 : decode cL_law 1065 = .ok (.iaload, 1) := dk_46 (dk_at dksL_law_40 23 rfl rfl)
theorem dL_law_1066 : decode cL_law 1066 = .ok (.invokevirtual 130, 3) := dk_182 0 130 (dk_at dksL_law_41 0 rfl rfl)
theorem dL_law_1069 : decode cL_law 1069 = .ok (.aload_n 2, 1) := dk_44 (dk_at dksL_law_41 3 rfl rfl)
theorem dL_law_1070 : decode cL_law 1070 = .ok (.aload_n 0, 1) := dk_42 (dk_at dksL_law_41 4 rfl rfl)
theorem dL_law_1071 : decode cL_law 1071 = .ok (.iload_n 3, 1) := dk_29 (dk_at dksL_law_41 5 rfl rfl)
theorem dL_law_1072 : decode cL_law 1072 = .ok (.iconst 1, 1) := dk_4 (dk_at dksL_law_41 6 rfl rfl)
theorem dL_law_1073 : decode cL_law 1073 = .ok (.iadd, 1) := dk_96 (dk_at dksL_law_41 7 rfl rfl)
theorem dL_law_1074 : decode cL_law 1074 = .ok (.iaload, 1) := dk_46 (dk_at dksL_law_41 8 rfl rfl)
theorem dL_law_1075 : decode cL_law 1075 = .ok (.aload_n 0, 1) := dk_42 (dk_at dksL_law_41 9 rfl rfl)
theorem dL_law_1076 : decode cL_law 1076 = .ok (.iload_n 3, 1) := dk_29 (dk_at dksL_law_41 10 rfl rfl)
theorem dL_law_1077 : decode cL_law 1077 = .ok (.iconst 2, 1) := dk_5 (dk_at dksL_law_41 11 rfl rfl)
theorem dL_law_1078 : decode cL_law 1078 = .ok (.iadd, 1) := dk_96 (dk_at dksL_law_41 12 rfl rfl)
theorem dL_law_1079 : decode cL_law 1079 = .ok (.iaload, 1) := dk_46 (dk_at dksL_law_41 13 rfl rfl)
theorem dL_law_1080 : decode cL_law 1080 = .ok (.invokevirtual 133, 3) := dk_182 0 133 (dk_at dksL_law_41 14 rfl rfl)
theorem dL_law_1083 : decode cL_law 1083 = .ok (.if_icmp .eq 5, 3) := dk_159 0 5 (dk_at dksL_law_41 17 rfl rfl)
theorem dL_law_1086 : decode cL_law 1086 = .ok (.iconst 0, 1) := dk_3 (dk_at dksL_law_41 20 rfl rfl)
theorem dL_law_1087 : decode cL_law 1087 = .ok (.ireturn, 1) := dk_172 (dk_at dksL_law_41 21 rfl rfl)
theorem dL_law_1088 : decode cL_law 1088 = .ok (.iinc 3 6, 3) := dk_132 3 6 (dk_at dksL_law_42 0 rfl rfl)
theorem dL_law_1091 : decode cL_law 1091 = .ok (.goto (-1073), 3) := dk_167 251 207 (dk_at dksL_law_42 3 rfl rfl)
theorem dL_law_1094 : decode cL_law 1094 = .ok (.iconst 1, 1) := dk_4 (dk_at dksL_law_42 6 rfl rfl)
theorem dL_law_1095 : decode cL_law 1095 = .ok (.ireturn, 1) := dk_172 (dk_at dksL_law_42 7 rfl rfl)
