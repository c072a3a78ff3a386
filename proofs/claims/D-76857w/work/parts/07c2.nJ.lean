set_option maxRecDepth 100000
abbrev cJ30_requireNonNull : ByteArray := prog_80_method_10_code
def yJ30_requireNonNull : MethodName := ⟨RJ30, "requireNonNull", "(Ljava/lang/Object;)Ljava/lang/Object;"⟩
def dkwJ30_requireNonNull_0 : List UInt8 := [42, 199, 0, 11, 187, 0, 84, 89, 183, 0, 86, 191, 42, 176]
abbrev dktJ30_requireNonNull_0 : List UInt8 := dkwJ30_requireNonNull_0 ++ []
theorem dksJ30_requireNonNull_0 : cJ30_requireNonNull.data.toList.drop 0 = dktJ30_requireNonNull_0 := by decide +kernel
theorem dJ30_requireNonNull_0 : decode cJ30_requireNonNull 0 = .ok (.aload_n 0, 1) := dk_42 (dk_at dksJ30_requireNonNull_0 0 rfl rfl)
theorem dJ30_requireNonNull_1 : decode cJ30_requireNonNull 1 = .ok (.ifnonnull 11, 3) := dk_199 0 11 (dk_at dksJ30_requireNonNull_0 1 rfl rfl)
theorem dJ30_requireNonNull_4 : decode cJ30_requireNonNull 4 = .ok (.new 84, 3) := dk_187 0 84 (dk_at dksJ30_requireNonNull_0 4 rfl rfl)
theorem dJ30_requireNonNull_7 : decode cJ30_requireNonNull 7 = .ok (.dup, 1) := dk_89 (dk_at dksJ30_requireNonNull_0 7 rfl rfl)
theorem dJ30_requireNonNull_8 : decode cJ30_requireNonNull 8 = .ok (.invokespecial 86, 3) := dk_183 0 86 (dk_at dksJ30_requireNonNull_0 8 rfl rfl)
theorem dJ30_requireNonNull_11 : decode cJ30_requireNonNull 11 = .ok (.athrow, 1) := dk_191 (dk_at dksJ30_requireNonNull_0 11 rfl rfl)
theorem dJ30_requireNonNull_12 : decode cJ30_requireNonNull 12 = .ok (.aload_n 0, 1) := dk_42 (dk_at dksJ30_requireNonNull_0 12 rfl rfl)
theorem dJ30_requireNonNull_13 : decode cJ30_requireNonNull 13 = .ok (.areturn, 1) := dk_176 (dk_at dksJ30_requireNonNull_0 13 rfl rfl)
theorem q164 : (Jvm.Cond.initialized "java/util/Objects") ∈ lw_all := lw_g (lw_at lw_m1 38 rfl) rfl
theorem q1165 : (Jvm.Cond.static ({ cls := "java/util/Objects", name := "requireNonNull", desc := "(Ljava/lang/Object;)Ljava/lang/Object;" } : Jvm.MethodName)) ∈ lw_all := lw_g (lw_at lw_m5 79 rfl) rfl
theorem q1166 : (Jvm.Cond.code ({ cls := "java/util/Objects", name := "requireNonNull", desc := "(Ljava/lang/Object;)Ljava/lang/Object;" } : Jvm.MethodName) prog_80_method_10_code (1 : Nat) (Option.some (Jvm.ClassFile.FieldType.object "java/lang/Object"))) ∈ lw_all := lw_g (lw_at lw_m5 80 rfl) rfl
theorem q1167 : (Jvm.Cond.classLink "java/util/Objects" (84 : Nat) "java/lang/NullPointerException") ∈ lw_all := lw_g (lw_at lw_m5 81 rfl) rfl
theorem q1175 : (Jvm.Cond.methodLink "java/util/Objects" (86 : Nat) ({ cls := "java/lang/NullPointerException", name := "<init>", desc := "()V" } : Jvm.MethodName)) ∈ lw_all := lw_g (lw_at lw_m5 89 rfl) rfl
set_option maxRecDepth 100000
abbrev cJ31_getMessage : ByteArray := prog_35_method_4_code
def yJ31_getMessage : MethodName := ⟨RJ31, "getMessage", "()Ljava/lang/String;"⟩
def dkwJ31_getMessage_2 : List UInt8 := [176]
abbrev dktJ31_getMessage_2 : List UInt8 := dkwJ31_getMessage_2 ++ []
def dkwJ31_getMessage_1 : List UInt8 := [182, 0, 16, 181, 0, 20, 42, 5, 181, 0, 10, 42, 180, 0, 20, 44, 195, 176, 78, 44, 195, 45, 191, 43]
abbrev dktJ31_getMessage_1 : List UInt8 := dkwJ31_getMessage_1 ++ dktJ31_getMessage_2
def dkwJ31_getMessage_0 : List UInt8 := [42, 183, 0, 28, 76, 43, 199, 0, 40, 42, 89, 77, 194, 42, 180, 0, 10, 4, 160, 0, 16, 42, 42]
abbrev dktJ31_getMessage_0 : List UInt8 := dkwJ31_getMessage_0 ++ dktJ31_getMessage_1
theorem dksJ31_getMessage_0 : cJ31_getMessage.data.toList.drop 0 = dktJ31_getMessage_0 := by decide +kernel
theorem dksJ31_getMessage_1 : cJ31_getMessage.data.toList.drop 23 = dktJ31_getMessage_1 := dk_seg dksJ31_getMessage_0 23 rfl rfl
theorem dksJ31_getMessage_2 : cJ31_getMessage.data.toList.drop 47 = dktJ31_getMessage_2 := dk_seg dksJ31_getMessage_1 24 rfl rfl
theorem dJ31_getMessage_0 : decode cJ31_getMessage 0 = .ok (.aload_n 0, 1) := dk_42 (dk_at dksJ31_getMessage_0 0 rfl rfl)
theorem dJ31_getMessage_1 : decode cJ31_getMessage 1 = .ok (.invokespecial 28, 3) := dk_183 0 28 (dk_at dksJ31_getMessage_0 1 rfl rfl)
theorem dJ31_getMessage_4 : decode cJ31_getMessage 4 = .ok (.astore_n 1, 1) := dk_76 (dk_at dksJ31_getMessage_0 4 rfl rfl)
theorem dJ31_getMessage_5 : decode cJ31_getMessage 5 = .ok (.aload_n 1, 1) := dk_43 (dk_at dksJ31_getMessage_0 5 rfl rfl)
theorem dJ31_getMessage_6 : decode cJ31_getMessage 6 = .ok (.ifnonnull 40, 3) := dk_199 0 40 (dk_at dksJ31_getMessage_0 6 rfl rfl)
theorem dJ31_getMessage_9 : decode cJ31_getMessage 9 = .ok (.aload_n 0, 1) := dk_42 (dk_at dksJ31_getMessage_0 9 rfl rfl)
theorem dJ31_getMessage_10 : decode cJ31_getMessage 10 = .ok (.dup, 1) := dk_89 (dk_at dksJ31_getMessage_0 10 rfl rfl)
theorem dJ31_getMessage_11 : decode cJ31_getMessage 11 = .ok (.astore_n 2, 1) := dk_77 (dk_at dksJ31_getMessage_0 11 rfl rfl)
theorem dJ31_getMessage_12 : decode cJ31_getMessage 12 = .ok (.monitorenter, 1) := dk_194 (dk_at dksJ31_getMessage_0 12 rfl rfl)
theorem dJ31_getMessage_13 : decode cJ31_getMessage 13 = .ok (.aload_n 0, 1) := dk_42 (dk_at dksJ31_getMessage_0 13 rfl rfl)
theorem dJ31_getMessage_14 : decode cJ31_getMessage 14 = .ok (.getfield 10, 3) := dk_180 0 10 (dk_at dksJ31_getMessage_0 14 rfl rfl)
theorem dJ31_getMessage_17 : decode cJ31_getMessage 17 = .ok (.iconst 1, 1) := dk_4 (dk_at dksJ31_getMessage_0 17 rfl rfl)
theorem dJ31_getMessage_18 : decode cJ31_getMessage 18 = .ok (.if_icmp .ne 16, 3) := dk_160 0 16 (dk_at dksJ31_getMessage_0 18 rfl rfl)
theorem dJ31_getMessage_21 : decode cJ31_getMessage 21 = .ok (.aload_n 0, 1) := dk_42 (dk_at dksJ31_getMessage_0 21 rfl rfl)
theorem dJ31_getMessage_22 : decode cJ31_getMessage 22 = .ok (.aload_n 0, 1) := dk_42 (dk_at dksJ31_getMessage_0 22 rfl rfl)
theorem dJ31_getMessage_23 : decode cJ31_getMessage 23 = .ok (.invokevirtual 16, 3) := dk_182 0 16 (dk_at dksJ31_getMessage_1 0 rfl rfl)
theorem dJ31_getMessage_26 : decode cJ31_getMessage 26 = .ok (.putfield 20, 3) := dk_181 0 20 (dk_at dksJ31_getMessage_1 3 rfl rfl)
theorem dJ31_getMessage_29 : decode cJ31_getMessage 29 = .ok (.aload_n 0, 1) := dk_42 (dk_at dksJ31_getMessage_1 6 rfl rfl)
theorem dJ31_getMessage_30 : decode cJ31_getMessage 30 = .ok (.iconst 2, 1) := dk_5 (dk_at dksJ31_getMessage_1 7 rfl rfl)
theorem dJ31_getMessage_31 : decode cJ31_getMessage 31 = .ok (.putfield 10, 3) := dk_181 0 10 (dk_at dksJ31_getMessage_1 8 rfl rfl)
theorem dJ31_getMessage_34 : decode cJ31_getMessage 34 = .ok (.aload_n 0, 1) := dk_42 (dk_at dksJ31_getMessage_1 11 rfl rfl)
theorem dJ31_getMessage_35 : decode cJ31_getMessage 35 = .ok (.getfield 20, 3) := dk_180 0 20 (dk_at dksJ31_getMessage_1 12 rfl rfl)
theorem dJ31_getMessage_38 : decode cJ31_getMessage 38 = .ok (.aload_n 2, 1) := dk_44 (dk_at dksJ31_getMessage_1 15 rfl rfl)
theorem dJ31_getMessage_39 : decode cJ31_getMessage 39 = .ok (.monitorexit, 1) := dk_195 (dk_at dksJ31_getMessage_1 16 rfl rfl)
theorem dJ31_getMessage_40 : decode cJ31_getMessage 40 = .ok (.areturn, 1) := dk_176 (dk_at dksJ31_getMessage_1 17 rfl rfl)
theorem dJ31_getMessage_41 : decode cJ31_getMessage 41 = .ok (.astore_n 3, 1) := dk_78 (dk_at dksJ31_getMessage_1 18 rfl rfl)
theorem dJ31_getMessage_42 : decode cJ31_getMessage 42 = .ok (.aload_n 2, 1) := dk_44 (dk_at dksJ31_getMessage_1 19 rfl rfl)
theorem dJ31_getMessage_43 : decode cJ31_getMessage 43 = .ok (.monitorexit, 1) := dk_195 (dk_at dksJ31_getMessage_1 20 rfl rfl)
theorem dJ31_getMessage_44 : decode cJ31_getMessage 44 = .ok (.aload_n 3, 1) := dk_45 (dk_at dksJ31_getMessage_1 21 rfl rfl)
theorem dJ31_getMessage_45 : decode cJ31_getMessage 45 = .ok (.athrow, 1) := dk_191 (dk_at dksJ31_getMessage_1 22 rfl rfl)
theorem dJ31_getMessage_46 : decode cJ31_getMessage 46 = .ok (.aload_n 1, 1) := dk_43 (dk_at dksJ31_getMessage_1 23 rfl rfl)
theorem dJ31_getMessage_47 : decode cJ31_getMessage 47 = .ok (.areturn, 1) := dk_176 (dk_at dksJ31_getMessage_2 0 rfl rfl)
abbrev cJ31_init : ByteArray := prog_35_method_1_code
def yJ31_init : MethodName := ⟨RJ31, "<init>", "()V"⟩
theorem dJ31_init_0 : decode cJ31_init 0 = .ok (.aload_n 0, 1) := by decide +kernel
theorem dJ31_init_1 : decode cJ31_init 1 = .ok (.invokespecial 1, 3) := by decide +kernel
theorem dJ31_init_4 : decode cJ31_init 4 = .ok (.return_, 1) := by decide +kernel
theorem q165 : (Jvm.Cond.initialized "java/lang/NullPointerException") ∈ lw_all := lw_g (lw_at lw_m1 39 rfl) rfl
theorem q322 : (Jvm.Cond.selects "java/lang/NullPointerException" ({ cls := "java/lang/Throwable", name := "fillInStackTrace", desc := "()Ljava/lang/Throwable;" } : Jvm.MethodName) ({ cls := "java/lang/NullPointerException", name := "fillInStackTrace", desc := "()Ljava/lang/Throwable;" } : Jvm.MethodName)) ∈ lw_all := lw_g (lw_at lw_m1 196 rfl) rfl
theorem q323 : (Jvm.Cond.instanceMethod ({ cls := "java/lang/NullPointerException", name := "fillInStackTrace", desc := "()Ljava/lang/Throwable;" } : Jvm.MethodName)) ∈ lw_all := lw_g (lw_at lw_m1 197 rfl) rfl
theorem q324 : (Jvm.Cond.codeSync ({ cls := "java/lang/NullPointerException", name := "fillInStackTrace", desc := "()Ljava/lang/Throwable;" } : Jvm.MethodName) prog_35_method_3_code (1 : Nat) (Option.some (Jvm.ClassFile.FieldType.object "java/lang/Throwable"))) ∈ lw_all := lw_g (lw_at lw_m1 198 rfl) rfl
theorem q325 : (Jvm.Cond.methodLink "java/lang/NullPointerException" (16 : Nat) ({ cls := "java/lang/NullPointerException", name := "getExtendedNPEMessage", desc := "()Ljava/lang/String;" } : Jvm.MethodName)) ∈ lw_all := lw_g (lw_at lw_m1 199 rfl) rfl
theorem q326 : (Jvm.Cond.privateMethod ({ cls := "java/lang/NullPointerException", name := "getExtendedNPEMessage", desc := "()Ljava/lang/String;" } : Jvm.MethodName)) ∈ lw_tbl := lw_at lw_m1 200 rfl
theorem q327 : (Jvm.Cond.instanceMethod ({ cls := "java/lang/NullPointerException", name := "getExtendedNPEMessage", desc := "()Ljava/lang/String;" } : Jvm.MethodName)) ∈ lw_all := lw_g (lw_at lw_m1 201 rfl) rfl
theorem q328 : (Jvm.Cond.instantiable "java/lang/NullPointerException" (8 : Nat)) ∈ lw_all := lw_g (lw_at lw_m1 202 rfl) rfl
theorem q329 : (Jvm.Cond.native ({ cls := "java/lang/NullPointerException", name := "getExtendedNPEMessage", desc := "()Ljava/lang/String;" } : Jvm.MethodName)) ∈ lw_all := lw_g (lw_at lw_m1 203 rfl) rfl
theorem q330 : (Jvm.Cond.methodLink "java/lang/NullPointerException" (24 : Nat) ({ cls := "java/lang/RuntimeException", name := "fillInStackTrace", desc := "()Ljava/lang/Throwable;" } : Jvm.MethodName)) ∈ lw_all := lw_g (lw_at lw_m1 204 rfl) rfl
theorem q333 : (Jvm.Cond.superclass "java/lang/NullPointerException" "java/lang/RuntimeException") ∈ lw_all := lw_g (lw_at lw_m1 207 rfl) rfl
theorem q974 : (Jvm.Cond.selects "java/lang/NullPointerException" ({ cls := "java/lang/Throwable", name := "toString", desc := "()Ljava/lang/String;" } : Jvm.MethodName) ({ cls := "java/lang/Throwable", name := "toString", desc := "()Ljava/lang/String;" } : Jvm.MethodName)) ∈ lw_all := lw_g (lw_at lw_m4 128 rfl) rfl
theorem q998 : (Jvm.Cond.selects "java/lang/NullPointerException" ({ cls := "java/lang/Object", name := "getClass", desc := "()Ljava/lang/Class;" } : Jvm.MethodName) ({ cls := "java/lang/Object", name := "getClass", desc := "()Ljava/lang/Class;" } : Jvm.MethodName)) ∈ lw_all := lw_g (lw_at lw_m4 152 rfl) rfl
theorem q1032 : (Jvm.Cond.selects "java/lang/NullPointerException" ({ cls := "java/lang/Throwable", name := "getLocalizedMessage", desc := "()Ljava/lang/String;" } : Jvm.MethodName) ({ cls := "java/lang/Throwable", name := "getLocalizedMessage", desc := "()Ljava/lang/String;" } : Jvm.MethodName)) ∈ lw_all := lw_g (lw_at lw_m4 186 rfl) rfl
theorem q1044 : (Jvm.Cond.selects "java/lang/NullPointerException" ({ cls := "java/lang/Throwable", name := "getMessage", desc := "()Ljava/lang/String;" } : Jvm.MethodName) ({ cls := "java/lang/NullPointerException", name := "getMessage", desc := "()Ljava/lang/String;" } : Jvm.MethodName)) ∈ lw_all := lw_g (lw_at lw_m4 198 rfl) rfl
theorem q1045 : (Jvm.Cond.instanceMethod ({ cls := "java/lang/NullPointerException", name := "getMessage", desc := "()Ljava/lang/String;" } : Jvm.MethodName)) ∈ lw_all := lw_g (lw_at lw_m4 199 rfl) rfl
theorem q1046 : (Jvm.Cond.codeWith ({ cls := "java/lang/NullPointerException", name := "getMessage", desc := "()Ljava/lang/String;" } : Jvm.MethodName) prog_35_method_4_code (4 : Nat) (Option.some (Jvm.ClassFile.FieldType.object "java/lang/String")) [((13 : Nat), (40 : Nat), (41 : Nat), (0 : Nat)), ((41 : Nat), (44 : Nat), (41 : Nat), (0 : Nat))]) ∈ lw_all := lw_g (lw_at lw_m4 200 rfl) rfl
theorem q1047 : (Jvm.Cond.methodLink "java/lang/NullPointerException" (28 : Nat) ({ cls := "java/lang/RuntimeException", name := "getMessage", desc := "()Ljava/lang/String;" } : Jvm.MethodName)) ∈ lw_all := lw_g (lw_at lw_m4 201 rfl) rfl
theorem q1168 : (Jvm.Cond.castable "java/lang/NullPointerException" "java/lang/NullPointerException") ∈ lw_tbl := lw_at lw_m5 82 rfl
theorem q1169 : (Jvm.Cond.selects "java/lang/NullPointerException" ({ cls := "java/lang/Throwable", name := "fillInStackTrace", desc := "(I)Ljava/lang/Throwable;" } : Jvm.MethodName) ({ cls := "java/lang/Throwable", name := "fillInStackTrace", desc := "(I)Ljava/lang/Throwable;" } : Jvm.MethodName)) ∈ lw_all := lw_g (lw_at lw_m5 83 rfl) rfl
theorem q1170 : (Jvm.Cond.lays "java/lang/NullPointerException" "java/lang/Throwable" "cause" "Ljava/lang/Throwable;") ∈ lw_all := lw_g (lw_at lw_m5 84 rfl) rfl
theorem q1171 : (Jvm.Cond.lays "java/lang/NullPointerException" "java/lang/Throwable" "stackTrace" "[Ljava/lang/StackTraceElement;") ∈ lw_all := lw_g (lw_at lw_m5 85 rfl) rfl
theorem q1172 : (Jvm.Cond.lays "java/lang/NullPointerException" "java/lang/Throwable" "suppressedExceptions" "Ljava/util/List;") ∈ lw_all := lw_g (lw_at lw_m5 86 rfl) rfl
theorem q1173 : (Jvm.Cond.lays "java/lang/NullPointerException" "java/lang/Throwable" "detailMessage" "Ljava/lang/String;") ∈ lw_all := lw_g (lw_at lw_m5 87 rfl) rfl
theorem q1174 : (Jvm.Cond.lays "java/lang/NullPointerException" "java/lang/Throwable" "backtrace" "Ljava/lang/Object;") ∈ lw_all := lw_g (lw_at lw_m5 88 rfl) rfl
theorem q1176 : (Jvm.Cond.instanceMethod ({ cls := "java/lang/NullPointerException", name := "<init>", desc := "()V" } : Jvm.MethodName)) ∈ lw_all := lw_g (lw_at lw_m5 90 rfl) rfl
theorem q1177 : (Jvm.Cond.code ({ cls := "java/lang/NullPointerException", name := "<init>", desc := "()V" } : Jvm.MethodName) prog_35_method_1_code (1 : Nat) (Option.none : Option Jvm.ClassFile.FieldType)) ∈ lw_all := lw_g (lw_at lw_m5 91 rfl) rfl
theorem q1178 : (Jvm.Cond.methodLink "java/lang/NullPointerException" (1 : Nat) ({ cls := "java/lang/RuntimeException", name := "<init>", desc := "()V" } : Jvm.MethodName)) ∈ lw_all := lw_g (lw_at lw_m5 92 rfl) rfl
theorem q1179 : (Jvm.Cond.fieldLink "java/lang/NullPointerException" (10 : Nat) "java/lang/NullPointerException" "extendedMessageState" "I") ∈ lw_all := lw_g (lw_at lw_m5 93 rfl) rfl
theorem q1180 : (Jvm.Cond.fieldLink "java/lang/NullPointerException" (20 : Nat) "java/lang/NullPointerException" "extendedMessage" "Ljava/lang/String;") ∈ lw_all := lw_g (lw_at lw_m5 94 rfl) rfl
theorem q1181 : (Jvm.Cond.lays "java/lang/NullPointerException" "java/lang/NullPointerException" "extendedMessageState" "I") ∈ lw_all := lw_g (lw_at lw_m5 95 rfl) rfl
theorem q1182 : (Jvm.Cond.soleField "java/lang/NullPointerException" "extendedMessageState") ∈ lw_all := lw_g (lw_at lw_m5 96 rfl) rfl
theorem q1183 : (Jvm.Cond.lays "java/lang/NullPointerException" "java/lang/NullPointerException" "extendedMessage" "Ljava/lang/String;") ∈ lw_all := lw_g (lw_at lw_m5 97 rfl) rfl
theorem q1184 : (Jvm.Cond.soleField "java/lang/NullPointerException" "extendedMessage") ∈ lw_all := lw_g (lw_at lw_m5 98 rfl) rfl
theorem q1185 : (Jvm.Cond.lays "java/lang/NullPointerException" "java/lang/Throwable" "depth" "I") ∈ lw_all := lw_g (lw_at lw_m5 99 rfl) rfl
theorem q2143 : (Jvm.Cond.selects "java/lang/NullPointerException" ({ cls := "java/lang/Object", name := "equals", desc := "(Ljava/lang/Object;)Z" } : Jvm.MethodName) ({ cls := "java/lang/Object", name := "equals", desc := "(Ljava/lang/Object;)Z" } : Jvm.MethodName)) ∈ lw_all := lw_g (lw_at lw_m9 97 rfl) rfl
theorem q3618 : (Jvm.Cond.castable "java/lang/NullPointerException" "java/lang/Object") ∈ lw_tbl := lw_at lw_m15 132 rfl
set_option maxRecDepth 100000
abbrev cJ32_init : ByteArray := prog_64_method_1_code
def yJ32_init : MethodName := ⟨RJ32, "<init>", "()V"⟩
theorem dJ32_init_0 : decode cJ32_init 0 = .ok (.aload_n 0, 1) := by decide +kernel
theorem dJ32_init_1 : decode cJ32_init 1 = .ok (.invokespecial 1, 3) := by decide +kernel
theorem dJ32_init_4 : decode cJ32_init 4 = .ok (.return_, 1) := by decide +kernel
theorem q166 : (Jvm.Cond.initialized "java/util/ImmutableCollections$AbstractImmutableCollection") ∈ lw_all := lw_g (lw_at lw_m1 40 rfl) rfl
theorem q1197 : (Jvm.Cond.instanceMethod ({ cls := "java/util/ImmutableCollections$AbstractImmutableCollection", name := "<init>", desc := "()V" } : Jvm.MethodName)) ∈ lw_all := lw_g (lw_at lw_m5 111 rfl) rfl
theorem q1198 : (Jvm.Cond.code ({ cls := "java/util/ImmutableCollections$AbstractImmutableCollection", name := "<init>", desc := "()V" } : Jvm.MethodName) prog_64_method_1_code (1 : Nat) (Option.none : Option Jvm.ClassFile.FieldType)) ∈ lw_all := lw_g (lw_at lw_m5 112 rfl) rfl
theorem q1199 : (Jvm.Cond.methodLink "java/util/ImmutableCollections$AbstractImmutableCollection" (1 : Nat) ({ cls := "java/util/AbstractCollection", name := "<init>", desc := "()V" } : Jvm.MethodName)) ∈ lw_all := lw_g (lw_at lw_m5 113 rfl) rfl
set_option maxRecDepth 100000
abbrev cJ33_init : ByteArray := prog_65_method_1_code
def yJ33_init : MethodName := ⟨RJ33, "<init>", "()V"⟩
theorem dJ33_init_0 : decode cJ33_init 0 = .ok (.aload_n 0, 1) := by decide +kernel
theorem dJ33_init_1 : decode cJ33_init 1 = .ok (.invokespecial 1, 3) := by decide +kernel
theorem dJ33_init_4 : decode cJ33_init 4 = .ok (.return_, 1) := by decide +kernel
abbrev cJ33_iterator : ByteArray := prog_65_method_10_code
def yJ33_iterator : MethodName := ⟨RJ33, "iterator", "()Ljava/util/Iterator;"⟩
def dkwJ33_iterator_0 : List UInt8 := [187, 0, 61, 89, 42, 42, 182, 0, 13, 183, 0, 63, 176]
abbrev dktJ33_iterator_0 : List UInt8 := dkwJ33_iterator_0 ++ []
theorem dksJ33_iterator_0 : cJ33_iterator.data.toList.drop 0 = dktJ33_iterator_0 := by decide +kernel
theorem dJ33_iterator_0 : decode cJ33_iterator 0 = .ok (.new 61, 3) := dk_187 0 61 (dk_at dksJ33_iterator_0 0 rfl rfl)
theorem dJ33_iterator_3 : decode cJ33_iterator 3 = .ok (.dup, 1) := dk_89 (dk_at dksJ33_iterator_0 3 rfl rfl)
theorem dJ33_iterator_4 : decode cJ33_iterator 4 = .ok (.aload_n 0, 1) := dk_42 (dk_at dksJ33_iterator_0 4 rfl rfl)
theorem dJ33_iterator_5 : decode cJ33_iterator 5 = .ok (.aload_n 0, 1) := dk_42 (dk_at dksJ33_iterator_0 5 rfl rfl)
theorem dJ33_iterator_6 : decode cJ33_iterator 6 = .ok (.invokevirtual 13, 3) := dk_182 0 13 (dk_at dksJ33_iterator_0 6 rfl rfl)
theorem dJ33_iterator_9 : decode cJ33_iterator 9 = .ok (.invokespecial 63, 3) := dk_183 0 63 (dk_at dksJ33_iterator_0 9 rfl rfl)
theorem dJ33_iterator_12 : decode cJ33_iterator 12 = .ok (.areturn, 1) := dk_176 (dk_at dksJ33_iterator_0 12 rfl rfl)
theorem q167 : (Jvm.Cond.initialized "java/util/ImmutableCollections$AbstractImmutableList") ∈ lw_all := lw_g (lw_at lw_m1 41 rfl) rfl
theorem q1194 : (Jvm.Cond.instanceMethod ({ cls := "java/util/ImmutableCollections$AbstractImmutableList", name := "<init>", desc := "()V" } : Jvm.MethodName)) ∈ lw_all := lw_g (lw_at lw_m5 108 rfl) rfl
theorem q1195 : (Jvm.Cond.code ({ cls := "java/util/ImmutableCollections$AbstractImmutableList", name := "<init>", desc := "()V" } : Jvm.MethodName) prog_65_method_1_code (1 : Nat) (Option.none : Option Jvm.ClassFile.FieldType)) ∈ lw_all := lw_g (lw_at lw_m5 109 rfl) rfl
theorem q1196 : (Jvm.Cond.methodLink "java/util/ImmutableCollections$AbstractImmutableList" (1 : Nat) ({ cls := "java/util/ImmutableCollections$AbstractImmutableCollection", name := "<init>", desc := "()V" } : Jvm.MethodName)) ∈ lw_all := lw_g (lw_at lw_m5 110 rfl) rfl
theorem q2711 : (Jvm.Cond.instanceMethod ({ cls := "java/util/ImmutableCollections$AbstractImmutableList", name := "iterator", desc := "()Ljava/util/Iterator;" } : Jvm.MethodName)) ∈ lw_all := lw_g (lw_at lw_m11 185 rfl) rfl
theorem q2712 : (Jvm.Cond.publicMethod ({ cls := "java/util/ImmutableCollections$AbstractImmutableList", name := "iterator", desc := "()Ljava/util/Iterator;" } : Jvm.MethodName)) ∈ lw_tbl := lw_at lw_m11 186 rfl
theorem q2713 : (Jvm.Cond.code ({ cls := "java/util/ImmutableCollections$AbstractImmutableList", name := "iterator", desc := "()Ljava/util/Iterator;" } : Jvm.MethodName) prog_65_method_10_code (1 : Nat) (Option.some (Jvm.ClassFile.FieldType.object "java/util/Iterator"))) ∈ lw_all := lw_g (lw_at lw_m11 187 rfl) rfl
theorem q2714 : (Jvm.Cond.classLink "java/util/ImmutableCollections$AbstractImmutableList" (61 : Nat) "java/util/ImmutableCollections$ListItr") ∈ lw_all := lw_g (lw_at lw_m11 188 rfl) rfl
theorem q2716 : (Jvm.Cond.methodLink "java/util/ImmutableCollections$AbstractImmutableList" (13 : Nat) ({ cls := "java/util/ImmutableCollections$AbstractImmutableList", name := "size", desc := "()I" } : Jvm.MethodName)) ∈ lw_all := lw_g (lw_at lw_m11 190 rfl) rfl
theorem q2717 : (Jvm.Cond.sameMethod "java/util/ImmutableCollections$AbstractImmutableList" "java/util/AbstractCollection" "size" "()I") ∈ lw_all := lw_g (lw_at lw_m11 191 rfl) rfl
theorem q2720 : (Jvm.Cond.methodLink "java/util/ImmutableCollections$AbstractImmutableList" (63 : Nat) ({ cls := "java/util/ImmutableCollections$ListItr", name := "<init>", desc := "(Ljava/util/List;I)V" } : Jvm.MethodName)) ∈ lw_all := lw_g (lw_at lw_m11 194 rfl) rfl
set_option maxRecDepth 100000
abbrev cJ34_get : ByteArray := prog_66_method_5_code
def yJ34_get : MethodName := ⟨RJ34, "get", "(I)Ljava/lang/Object;"⟩
def dkwJ34_get_1 : List UInt8 := [42, 180, 0, 24, 176, 42, 27, 182, 0, 27, 191]
abbrev dktJ34_get_1 : List UInt8 := dkwJ34_get_1 ++ []
def dkwJ34_get_0 : List UInt8 := [27, 154, 0, 8, 42, 180, 0, 13, 176, 27, 4, 160, 0, 18, 42, 180, 0, 24, 178, 0, 19, 165, 0, 8]
abbrev dktJ34_get_0 : List UInt8 := dkwJ34_get_0 ++ dktJ34_get_1
theorem dksJ34_get_0 : cJ34_get.data.toList.drop 0 = dktJ34_get_0 := by decide +kernel
theorem dksJ34_get_1 : cJ34_get.data.toList.drop 24 = dktJ34_get_1 := dk_seg dksJ34_get_0 24 rfl rfl
theorem dJ34_get_0 : decode cJ34_get 0 = .ok (.iload_n 1, 1) := dk_27 (dk_at dksJ34_get_0 0 rfl rfl)
theorem dJ34_get_1 : decode cJ34_get 1 = .ok (.ifCond .ne 8, 3) := dk_154 0 8 (dk_at dksJ34_get_0 1 rfl rfl)
theorem dJ34_get_4 : decode cJ34_get 4 = .ok (.aload_n 0, 1) := dk_42 (dk_at dksJ34_get_0 4 rfl rfl)
theorem dJ34_get_5 : decode cJ34_get 5 = .ok (.getfield 13, 3) := dk_180 0 13 (dk_at dksJ34_get_0 5 rfl rfl)
theorem dJ34_get_8 : decode cJ34_get 8 = .ok (.areturn, 1) := dk_176 (dk_at dksJ34_get_0 8 rfl rfl)
theorem dJ34_get_9 : decode cJ34_get 9 = .ok (.iload_n 1, 1) := dk_27 (dk_at dksJ34_get_0 9 rfl rfl)
theorem dJ34_get_10 : decode cJ34_get 10 = .ok (.iconst 1, 1) := dk_4 (dk_at dksJ34_get_0 10 rfl rfl)
theorem dJ34_get_11 : decode cJ34_get 11 = .ok (.if_icmp .ne 18, 3) := dk_160 0 18 (dk_at dksJ34_get_0 11 rfl rfl)
theorem dJ34_get_14 : decode cJ34_get 14 = .ok (.aload_n 0, 1) := dk_42 (dk_at dksJ34_get_0 14 rfl rfl)
theorem dJ34_get_15 : decode cJ34_get 15 = .ok (.getfield 24, 3) := dk_180 0 24 (dk_at dksJ34_get_0 15 rfl rfl)
theorem dJ34_get_18 : decode cJ34_get 18 = .ok (.getstatic 19, 3) := dk_178 0 19 (dk_at dksJ34_get_0 18 rfl rfl)
theorem dJ34_get_21 : decode cJ34_get 21 = .ok (.if_acmp .eq 8, 3) := dk_165 0 8 (dk_at dksJ34_get_0 21 rfl rfl)
theorem dJ34_get_24 : decode cJ34_get 24 = .ok (.aload_n 0, 1) := dk_42 (dk_at dksJ34_get_1 0 rfl rfl)
theorem dJ34_get_25 : decode cJ34_get 25 = .ok (.getfield 24, 3) := dk_180 0 24 (dk_at dksJ34_get_1 1 rfl rfl)
theorem dJ34_get_28 : decode cJ34_get 28 = .ok (.areturn, 1) := dk_176 (dk_at dksJ34_get_1 4 rfl rfl)
theorem dJ34_get_29 : decode cJ34_get 29 = .ok (.aload_n 0, 1) := dk_42 (dk_at dksJ34_get_1 5 rfl rfl)
theorem dJ34_get_30 : decode cJ34_get 30 = .ok (.iload_n 1, 1) := dk_27 (dk_at dksJ34_get_1 6 rfl rfl)
theorem dJ34_get_31 : decode cJ34_get 31 = .ok (.invokevirtual 27, 3) := dk_182 0 27 (dk_at dksJ34_get_1 7 rfl rfl)
theorem dJ34_get_34 : decode cJ34_get 34 = .ok (.athrow, 1) := dk_191 (dk_at dksJ34_get_1 10 rfl rfl)
abbrev cJ34_init : ByteArray := prog_66_method_1_code
def yJ34_init : MethodName := ⟨RJ34, "<init>", "(Ljava/lang/Object;)V"⟩
def dkwJ34_init_0 : List UInt8 := [42, 183, 0, 1, 42, 43, 184, 0, 7, 181, 0, 13, 42, 178, 0, 19, 181, 0, 24, 177]
abbrev dktJ34_init_0 : List UInt8 := dkwJ34_init_0 ++ []
theorem dksJ34_init_0 : cJ34_init.data.toList.drop 0 = dktJ34_init_0 := by decide +kernel
theorem dJ34_init_0 : decode cJ34_init 0 = .ok (.aload_n 0, 1) := dk_42 (dk_at dksJ34_init_0 0 rfl rfl)
theorem dJ34_init_1 : decode cJ34_init 1 = .ok (.invokespecial 1, 3) := dk_183 0 1 (dk_at dksJ34_init_0 1 rfl rfl)
theorem dJ34_init_4 : decode cJ34_init 4 = .ok (.aload_n 0, 1) := dk_42 (dk_at dksJ34_init_0 4 rfl rfl)
theorem dJ34_init_5 : decode cJ34_init 5 = .ok (.aload_n 1, 1) := dk_43 (dk_at dksJ34_init_0 5 rfl rfl)
theorem dJ34_init_6 : decode cJ34_init 6 = .ok (.invokestatic 7, 3) := dk_184 0 7 (dk_at dksJ34_init_0 6 rfl rfl)
theorem dJ34_init_9 : decode cJ34_init 9 = .ok (.putfield 13, 3) := dk_181 0 13 (dk_at dksJ34_init_0 9 rfl rfl)
theorem dJ34_init_12 : decode cJ34_init 12 = .ok (.aload_n 0, 1) := dk_42 (dk_at dksJ34_init_0 12 rfl rfl)
theorem dJ34_init_13 : decode cJ34_init 13 = .ok (.getstatic 19, 3) := dk_178 0 19 (dk_at dksJ34_init_0 13 rfl rfl)
theorem dJ34_init_16 : decode cJ34_init 16 = .ok (.putfield 24, 3) := dk_181 0 24 (dk_at dksJ34_init_0 16 rfl rfl)
theorem dJ34_init_19 : decode cJ34_init 19 = .ok (.return_, 1) := dk_177 (dk_at dksJ34_init_0 19 rfl rfl)
abbrev cJ34_init_2 : ByteArray := prog_66_method_2_code
def yJ34_init_2 : MethodName := ⟨RJ34, "<init>", "(Ljava/lang/Object;Ljava/lang/Object;)V"⟩
def dkwJ34_init_2_0 : List UInt8 := [42, 183, 0, 1, 42, 43, 184, 0, 7, 181, 0, 13, 42, 44, 184, 0, 7, 181, 0, 24, 177]
abbrev dktJ34_init_2_0 : List UInt8 := dkwJ34_init_2_0 ++ []
theorem dksJ34_init_2_0 : cJ34_init_2.data.toList.drop 0 = dktJ34_init_2_0 := by decide +kernel
theorem dJ34_init_2_0 : decode cJ34_init_2 0 = .ok (.aload_n 0, 1) := dk_42 (dk_at dksJ34_init_2_0 0 rfl rfl)
theorem dJ34_init_2_1 : decode cJ34_init_2 1 = .ok (.invokespecial 1, 3) := dk_183 0 1 (dk_at dksJ34_init_2_0 1 rfl rfl)
theorem dJ34_init_2_4 : decode cJ34_init_2 4 = .ok (.aload_n 0, 1) := dk_42 (dk_at dksJ34_init_2_0 4 rfl rfl)
theorem dJ34_init_2_5 : decode cJ34_init_2 5 = .ok (.aload_n 1, 1) := dk_43 (dk_at dksJ34_init_2_0 5 rfl rfl)
theorem dJ34_init_2_6 : decode cJ34_init_2 6 = .ok (.invokestatic 7, 3) := dk_184 0 7 (dk_at dksJ34_init_2_0 6 rfl rfl)
theorem dJ34_init_2_9 : decode cJ34_init_2 9 = .ok (.putfield 13, 3) := dk_181 0 13 (dk_at dksJ34_init_2_0 9 rfl rfl)
theorem dJ34_init_2_12 : decode cJ34_init_2 12 = .ok (.aload_n 0, 1) := dk_42 (dk_at dksJ34_init_2_0 12 rfl rfl)
theorem dJ34_init_2_13 : decode cJ34_init_2 13 = .ok (.aload_n 2, 1) := dk_44 (dk_at dksJ34_init_2_0 13 rfl rfl)
theorem dJ34_init_2_14 : decode cJ34_init_2 14 = .ok (.invokestatic 7, 3) := dk_184 0 7 (dk_at dksJ34_init_2_0 14 rfl rfl)
theorem dJ34_init_2_17 : decode cJ34_init_2 17 = .ok (.putfield 24, 3) := dk_181 0 24 (dk_at dksJ34_init_2_0 17 rfl rfl)
theorem dJ34_init_2_20 : decode cJ34_init_2 20 = .ok (.return_, 1) := dk_177 (dk_at dksJ34_init_2_0 20 rfl rfl)
abbrev cJ34_size : ByteArray := prog_66_method_3_code
def yJ34_size : MethodName := ⟨RJ34, "size", "()I"⟩
def dkwJ34_size_0 : List UInt8 := [42, 180, 0, 24, 178, 0, 19, 165, 0, 7, 5, 167, 0, 4, 4, 172]
abbrev dktJ34_size_0 : List UInt8 := dkwJ34_size_0 ++ []
theorem dksJ34_size_0 : cJ34_size.data.toList.drop 0 = dktJ34_size_0 := by decide +kernel
theorem dJ34_size_0 : decode cJ34_size 0 = .ok (.aload_n 0, 1) := dk_42 (dk_at dksJ34_size_0 0 rfl rfl)
theorem dJ34_size_1 : decode cJ34_size 1 = .ok (.getfield 24, 3) := dk_180 0 24 (dk_at dksJ34_size_0 1 rfl rfl)
theorem dJ34_size_4 : decode cJ34_size 4 = .ok (.getstatic 19, 3) := dk_178 0 19 (dk_at dksJ34_size_0 4 rfl rfl)
theorem dJ34_size_7 : decode cJ34_size 7 = .ok (.if_acmp .eq 7, 3) := dk_165 0 7 (dk_at dksJ34_size_0 7 rfl rfl)
theorem dJ34_size_10 : decode cJ34_size 10 = .ok (.iconst 2, 1) := dk_5 (dk_at dksJ34_size_0 10 rfl rfl)
theorem dJ34_size_11 : decode cJ34_size 11 = .ok (.goto 4, 3) := dk_167 0 4 (dk_at dksJ34_size_0 11 rfl rfl)
theorem dJ34_size_14 : decode cJ34_size 14 = .ok (.iconst 1, 1) := dk_4 (dk_at dksJ34_size_0 14 rfl rfl)
theorem dJ34_size_15 : decode cJ34_size 15 = .ok (.ireturn, 1) := dk_172 (dk_at dksJ34_size_0 15 rfl rfl)
theorem q168 : (Jvm.Cond.initialized "java/util/ImmutableCollections$List12") ∈ lw_all := lw_g (lw_at lw_m1 42 rfl) rfl
theorem q1006 : (Jvm.Cond.selects "java/util/ImmutableCollections$List12" ({ cls := "java/lang/Object", name := "getClass", desc := "()Ljava/lang/Class;" } : Jvm.MethodName) ({ cls := "java/lang/Object", name := "getClass", desc := "()Ljava/lang/Class;" } : Jvm.MethodName)) ∈ lw_all := lw_g (lw_at lw_m4 160 rfl) rfl
theorem q1080 : (Jvm.Cond.castable "java/util/ImmutableCollections$List12" "java/util/List") ∈ lw_tbl := lw_at lw_m4 234 rfl
theorem q1081 : (Jvm.Cond.selects "java/util/ImmutableCollections$List12" ({ cls := "java/util/List", name := "get", desc := "(I)Ljava/lang/Object;" } : Jvm.MethodName) ({ cls := "java/util/ImmutableCollections$List12", name := "get", desc := "(I)Ljava/lang/Object;" } : Jvm.MethodName)) ∈ lw_all := lw_g (lw_at lw_m4 235 rfl) rfl
theorem q1082 : (Jvm.Cond.unhidden "java/util/ImmutableCollections$List12" "get" "(I)Ljava/lang/Object;") ∈ lw_tbl := lw_at lw_m4 236 rfl
theorem q1083 : (Jvm.Cond.instanceMethod ({ cls := "java/util/ImmutableCollections$List12", name := "get", desc := "(I)Ljava/lang/Object;" } : Jvm.MethodName)) ∈ lw_all := lw_g (lw_at lw_m4 237 rfl) rfl
theorem q1084 : (Jvm.Cond.publicMethod ({ cls := "java/util/ImmutableCollections$List12", name := "get", desc := "(I)Ljava/lang/Object;" } : Jvm.MethodName)) ∈ lw_tbl := lw_at lw_m4 238 rfl
theorem q1085 : (Jvm.Cond.code ({ cls := "java/util/ImmutableCollections$List12", name := "get", desc := "(I)Ljava/lang/Object;" } : Jvm.MethodName) prog_66_method_5_code (2 : Nat) (Option.some (Jvm.ClassFile.FieldType.object "java/lang/Object"))) ∈ lw_all := lw_g (lw_at lw_m4 239 rfl) rfl
theorem q1086 : (Jvm.Cond.fieldLinkNest "java/util/ImmutableCollections$List12" (19 : Nat) "java/util/ImmutableCollections" "EMPTY" "Ljava/lang/Object;" "java/util/ImmutableCollections") ∈ lw_tbl := lw_at lw_m5 0 rfl
theorem q1189 : (Jvm.Cond.instantiable "java/util/ImmutableCollections$List12" (2 : Nat)) ∈ lw_all := lw_g (lw_at lw_m5 103 rfl) rfl
theorem q1191 : (Jvm.Cond.instanceMethod ({ cls := "java/util/ImmutableCollections$List12", name := "<init>", desc := "(Ljava/lang/Object;)V" } : Jvm.MethodName)) ∈ lw_all := lw_g (lw_at lw_m5 105 rfl) rfl
theorem q1192 : (Jvm.Cond.code ({ cls := "java/util/ImmutableCollections$List12", name := "<init>", desc := "(Ljava/lang/Object;)V" } : Jvm.MethodName) prog_66_method_1_code (2 : Nat) (Option.none : Option Jvm.ClassFile.FieldType)) ∈ lw_all := lw_g (lw_at lw_m5 106 rfl) rfl
theorem q1193 : (Jvm.Cond.methodLink "java/util/ImmutableCollections$List12" (1 : Nat) ({ cls := "java/util/ImmutableCollections$AbstractImmutableList", name := "<init>", desc := "()V" } : Jvm.MethodName)) ∈ lw_all := lw_g (lw_at lw_m5 107 rfl) rfl
theorem q1200 : (Jvm.Cond.methodLink "java/util/ImmutableCollections$List12" (7 : Nat) ({ cls := "java/util/Objects", name := "requireNonNull", desc := "(Ljava/lang/Object;)Ljava/lang/Object;" } : Jvm.MethodName)) ∈ lw_all := lw_g (lw_at lw_m5 114 rfl) rfl
theorem q1201 : (Jvm.Cond.fieldLink "java/util/ImmutableCollections$List12" (13 : Nat) "java/util/ImmutableCollections$List12" "e0" "Ljava/lang/Object;") ∈ lw_all := lw_g (lw_at lw_m5 115 rfl) rfl
theorem q1202 : (Jvm.Cond.fieldLink "java/util/ImmutableCollections$List12" (24 : Nat) "java/util/ImmutableCollections$List12" "e1" "Ljava/lang/Object;") ∈ lw_all := lw_g (lw_at lw_m5 116 rfl) rfl
theorem q1203 : (Jvm.Cond.laysFinal "java/util/ImmutableCollections$List12" "java/util/ImmutableCollections$List12" "e0" "Ljava/lang/Object;") ∈ lw_all := lw_g (lw_at lw_m5 117 rfl) rfl
theorem q1204 : (Jvm.Cond.soleField "java/util/ImmutableCollections$List12" "e0") ∈ lw_all := lw_g (lw_at lw_m5 118 rfl) rfl
theorem q1205 : (Jvm.Cond.laysFinal "java/util/ImmutableCollections$List12" "java/util/ImmutableCollections$List12" "e1" "Ljava/lang/Object;") ∈ lw_all := lw_g (lw_at lw_m5 119 rfl) rfl
theorem q1206 : (Jvm.Cond.soleField "java/util/ImmutableCollections$List12" "e1") ∈ lw_all := lw_g (lw_at lw_m5 120 rfl) rfl
theorem q1207 : (Jvm.Cond.superclass "java/util/ImmutableCollections$List12" "java/util/ImmutableCollections$AbstractImmutableList") ∈ lw_all := lw_g (lw_at lw_m5 121 rfl) rfl
theorem q1209 : (Jvm.Cond.instanceMethod ({ cls := "java/util/ImmutableCollections$List12", name := "<init>", desc := "(Ljava/lang/Object;Ljava/lang/Object;)V" } : Jvm.MethodName)) ∈ lw_all := lw_g (lw_at lw_m5 123 rfl) rfl
theorem q1210 : (Jvm.Cond.code ({ cls := "java/util/ImmutableCollections$List12", name := "<init>", desc := "(Ljava/lang/Object;Ljava/lang/Object;)V" } : Jvm.MethodName) prog_66_method_2_code (3 : Nat) (Option.none : Option Jvm.ClassFile.FieldType)) ∈ lw_all := lw_g (lw_at lw_m5 124 rfl) rfl
theorem q2176 : (Jvm.Cond.instanceMethod ({ cls := "java/util/ImmutableCollections$List12", name := "size", desc := "()I" } : Jvm.MethodName)) ∈ lw_all := lw_g (lw_at lw_m9 130 rfl) rfl
theorem q2177 : (Jvm.Cond.code ({ cls := "java/util/ImmutableCollections$List12", name := "size", desc := "()I" } : Jvm.MethodName) prog_66_method_3_code (1 : Nat) (Option.some Jvm.ClassFile.FieldType.int)) ∈ lw_all := lw_g (lw_at lw_m9 131 rfl) rfl
theorem q2708 : (Jvm.Cond.castable "java/util/ImmutableCollections$List12" "java/util/Collection") ∈ lw_tbl := lw_at lw_m11 182 rfl
theorem q2709 : (Jvm.Cond.selects "java/util/ImmutableCollections$List12" ({ cls := "java/util/Collection", name := "iterator", desc := "()Ljava/util/Iterator;" } : Jvm.MethodName) ({ cls := "java/util/ImmutableCollections$AbstractImmutableList", name := "iterator", desc := "()Ljava/util/Iterator;" } : Jvm.MethodName)) ∈ lw_all := lw_g (lw_at lw_m11 183 rfl) rfl
theorem q2710 : (Jvm.Cond.unhidden "java/util/ImmutableCollections$List12" "iterator" "()Ljava/util/Iterator;") ∈ lw_tbl := lw_at lw_m11 184 rfl
theorem q2718 : (Jvm.Cond.selects "java/util/ImmutableCollections$List12" ({ cls := "java/util/ImmutableCollections$AbstractImmutableList", name := "size", desc := "()I" } : Jvm.MethodName) ({ cls := "java/util/ImmutableCollections$List12", name := "size", desc := "()I" } : Jvm.MethodName)) ∈ lw_all := lw_g (lw_at lw_m11 192 rfl) rfl
theorem q2960 : (Jvm.Cond.selects "java/util/ImmutableCollections$List12" ({ cls := "java/util/List", name := "size", desc := "()I" } : Jvm.MethodName) ({ cls := "java/util/ImmutableCollections$List12", name := "size", desc := "()I" } : Jvm.MethodName)) ∈ lw_all := lw_g (lw_at lw_m12 194 rfl) rfl
theorem q2961 : (Jvm.Cond.unhidden "java/util/ImmutableCollections$List12" "size" "()I") ∈ lw_tbl := lw_at lw_m12 195 rfl
theorem q2962 : (Jvm.Cond.publicMethod ({ cls := "java/util/ImmutableCollections$List12", name := "size", desc := "()I" } : Jvm.MethodName)) ∈ lw_tbl := lw_at lw_m12 196 rfl
theorem q3590 : (Jvm.Cond.selects "java/util/ImmutableCollections$List12" ({ cls := "java/util/AbstractCollection", name := "size", desc := "()I" } : Jvm.MethodName) ({ cls := "java/util/ImmutableCollections$List12", name := "size", desc := "()I" } : Jvm.MethodName)) ∈ lw_all := lw_g (lw_at lw_m15 104 rfl) rfl
theorem q3620 : (Jvm.Cond.castable "java/util/ImmutableCollections$List12" "java/lang/Object") ∈ lw_tbl := lw_at lw_m15 134 rfl
set_option maxRecDepth 100000
abbrev cJ35_get : ByteArray := prog_68_method_4_code
def yJ35_get : MethodName := ⟨RJ35, "get", "(I)Ljava/lang/Object;"⟩
def dkwJ35_get_0 : List UInt8 := [42, 180, 0, 7, 27, 50, 176]
abbrev dktJ35_get_0 : List UInt8 := dkwJ35_get_0 ++ []
theorem dksJ35_get_0 : cJ35_get.data.toList.drop 0 = dktJ35_get_0 := by decide +kernel
theorem dJ35_get_0 : decode cJ35_get 0 = .ok (.aload_n 0, 1) := dk_42 (dk_at dksJ35_get_0 0 rfl rfl)
theorem dJ35_get_1 : decode cJ35_get 1 = .ok (.getfield 7, 3) := dk_180 0 7 (dk_at dksJ35_get_0 1 rfl rfl)
theorem dJ35_get_4 : decode cJ35_get 4 = .ok (.iload_n 1, 1) := dk_27 (dk_at dksJ35_get_0 4 rfl rfl)
theorem dJ35_get_5 : decode cJ35_get 5 = .ok (.aaload, 1) := dk_50 (dk_at dksJ35_get_0 5 rfl rfl)
theorem dJ35_get_6 : decode cJ35_get 6 = .ok (.areturn, 1) := dk_176 (dk_at dksJ35_get_0 6 rfl rfl)
abbrev cJ35_init : ByteArray := prog_68_method_1_code
def yJ35_init : MethodName := ⟨RJ35, "<init>", "([Ljava/lang/Object;Z)V"⟩
def dkwJ35_init_0 : List UInt8 := [42, 183, 0, 1, 42, 43, 181, 0, 7, 42, 28, 181, 0, 13, 177]
abbrev dktJ35_init_0 : List UInt8 := dkwJ35_init_0 ++ []
theorem dksJ35_init_0 : cJ35_init.data.toList.drop 0 = dktJ35_init_0 := by decide +kernel
theorem dJ35_init_0 : decode cJ35_init 0 = .ok (.aload_n 0, 1) := dk_42 (dk_at dksJ35_init_0 0 rfl rfl)
theorem dJ35_init_1 : decode cJ35_init 1 = .ok (.invokespecial 1, 3) := dk_183 0 1 (dk_at dksJ35_init_0 1 rfl rfl)
theorem dJ35_init_4 : decode cJ35_init 4 = .ok (.aload_n 0, 1) := dk_42 (dk_at dksJ35_init_0 4 rfl rfl)
theorem dJ35_init_5 : decode cJ35_init 5 = .ok (.aload_n 1, 1) := dk_43 (dk_at dksJ35_init_0 5 rfl rfl)
theorem dJ35_init_6 : decode cJ35_init 6 = .ok (.putfield 7, 3) := dk_181 0 7 (dk_at dksJ35_init_0 6 rfl rfl)
theorem dJ35_init_9 : decode cJ35_init 9 = .ok (.aload_n 0, 1) := dk_42 (dk_at dksJ35_init_0 9 rfl rfl)
theorem dJ35_init_10 : decode cJ35_init 10 = .ok (.iload_n 2, 1) := dk_28 (dk_at dksJ35_init_0 10 rfl rfl)
theorem dJ35_init_11 : decode cJ35_init 11 = .ok (.putfield 13, 3) := dk_181 0 13 (dk_at dksJ35_init_0 11 rfl rfl)
theorem dJ35_init_14 : decode cJ35_init 14 = .ok (.return_, 1) := dk_177 (dk_at dksJ35_init_0 14 rfl rfl)
abbrev cJ35_size : ByteArray := prog_68_method_3_code
def yJ35_size : MethodName := ⟨RJ35, "size", "()I"⟩
def dkwJ35_size_0 : List UInt8 := [42, 180, 0, 7, 190, 172]
abbrev dktJ35_size_0 : List UInt8 := dkwJ35_size_0 ++ []
theorem dksJ35_size_0 : cJ35_size.data.toList.drop 0 = dktJ35_size_0 := by decide +kernel
theorem dJ35_size_0 : decode cJ35_size 0 = .ok (.aload_n 0, 1) := dk_42 (dk_at dksJ35_size_0 0 rfl rfl)
theorem dJ35_size_1 : decode cJ35_size 1 = .ok (.getfield 7, 3) := dk_180 0 7 (dk_at dksJ35_size_0 1 rfl rfl)
theorem dJ35_size_4 : decode cJ35_size 4 = .ok (.arraylength, 1) := dk_190 (dk_at dksJ35_size_0 4 rfl rfl)
theorem dJ35_size_5 : decode cJ35_size 5 = .ok (.ireturn, 1) := dk_172 (dk_at dksJ35_size_0 5 rfl rfl)
theorem q169 : (Jvm.Cond.initialized "java/util/ImmutableCollections$ListN") ∈ lw_all := lw_g (lw_at lw_m1 43 rfl) rfl
theorem q1008 : (Jvm.Cond.selects "java/util/ImmutableCollections$ListN" ({ cls := "java/lang/Object", name := "getClass", desc := "()Ljava/lang/Class;" } : Jvm.MethodName) ({ cls := "java/lang/Object", name := "getClass", desc := "()Ljava/lang/Class;" } : Jvm.MethodName)) ∈ lw_all := lw_g (lw_at lw_m4 162 rfl) rfl
theorem q1088 : (Jvm.Cond.castable "java/util/ImmutableCollections$ListN" "java/util/List") ∈ lw_tbl := lw_at lw_m5 2 rfl
theorem q1089 : (Jvm.Cond.selects "java/util/ImmutableCollections$ListN" ({ cls := "java/util/List", name := "get", desc := "(I)Ljava/lang/Object;" } : Jvm.MethodName) ({ cls := "java/util/ImmutableCollections$ListN", name := "get", desc := "(I)Ljava/lang/Object;" } : Jvm.MethodName)) ∈ lw_all := lw_g (lw_at lw_m5 3 rfl) rfl
theorem q1090 : (Jvm.Cond.unhidden "java/util/ImmutableCollections$ListN" "get" "(I)Ljava/lang/Object;") ∈ lw_tbl := lw_at lw_m5 4 rfl
theorem q1091 : (Jvm.Cond.instanceMethod ({ cls := "java/util/ImmutableCollections$ListN", name := "get", desc := "(I)Ljava/lang/Object;" } : Jvm.MethodName)) ∈ lw_all := lw_g (lw_at lw_m5 5 rfl) rfl
theorem q1092 : (Jvm.Cond.publicMethod ({ cls := "java/util/ImmutableCollections$ListN", name := "get", desc := "(I)Ljava/lang/Object;" } : Jvm.MethodName)) ∈ lw_tbl := lw_at lw_m5 6 rfl
theorem q1093 : (Jvm.Cond.code ({ cls := "java/util/ImmutableCollections$ListN", name := "get", desc := "(I)Ljava/lang/Object;" } : Jvm.MethodName) prog_68_method_4_code (2 : Nat) (Option.some (Jvm.ClassFile.FieldType.object "java/lang/Object"))) ∈ lw_all := lw_g (lw_at lw_m5 7 rfl) rfl
theorem q1212 : (Jvm.Cond.instantiable "java/util/ImmutableCollections$ListN" (2 : Nat)) ∈ lw_all := lw_g (lw_at lw_m5 126 rfl) rfl
theorem q1214 : (Jvm.Cond.instanceMethod ({ cls := "java/util/ImmutableCollections$ListN", name := "<init>", desc := "([Ljava/lang/Object;Z)V" } : Jvm.MethodName)) ∈ lw_all := lw_g (lw_at lw_m5 128 rfl) rfl
theorem q1215 : (Jvm.Cond.code ({ cls := "java/util/ImmutableCollections$ListN", name := "<init>", desc := "([Ljava/lang/Object;Z)V" } : Jvm.MethodName) prog_68_method_1_code (3 : Nat) (Option.none : Option Jvm.ClassFile.FieldType)) ∈ lw_all := lw_g (lw_at lw_m5 129 rfl) rfl
theorem q1216 : (Jvm.Cond.methodLink "java/util/ImmutableCollections$ListN" (1 : Nat) ({ cls := "java/util/ImmutableCollections$AbstractImmutableList", name := "<init>", desc := "()V" } : Jvm.MethodName)) ∈ lw_all := lw_g (lw_at lw_m5 130 rfl) rfl
theorem q1217 : (Jvm.Cond.fieldLink "java/util/ImmutableCollections$ListN" (7 : Nat) "java/util/ImmutableCollections$ListN" "elements" "[Ljava/lang/Object;") ∈ lw_all := lw_g (lw_at lw_m5 131 rfl) rfl
theorem q1218 : (Jvm.Cond.fieldLink "java/util/ImmutableCollections$ListN" (13 : Nat) "java/util/ImmutableCollections$ListN" "allowNulls" "Z") ∈ lw_all := lw_g (lw_at lw_m5 132 rfl) rfl
theorem q1219 : (Jvm.Cond.laysFinal "java/util/ImmutableCollections$ListN" "java/util/ImmutableCollections$ListN" "elements" "[Ljava/lang/Object;") ∈ lw_all := lw_g (lw_at lw_m5 133 rfl) rfl
theorem q1220 : (Jvm.Cond.soleField "java/util/ImmutableCollections$ListN" "elements") ∈ lw_all := lw_g (lw_at lw_m5 134 rfl) rfl
theorem q1221 : (Jvm.Cond.laysFinal "java/util/ImmutableCollections$ListN" "java/util/ImmutableCollections$ListN" "allowNulls" "Z") ∈ lw_all := lw_g (lw_at lw_m5 135 rfl) rfl
theorem q1222 : (Jvm.Cond.soleField "java/util/ImmutableCollections$ListN" "allowNulls") ∈ lw_all := lw_g (lw_at lw_m5 136 rfl) rfl
theorem q1223 : (Jvm.Cond.superclass "java/util/ImmutableCollections$ListN" "java/util/ImmutableCollections$AbstractImmutableList") ∈ lw_all := lw_g (lw_at lw_m5 137 rfl) rfl
theorem q2178 : (Jvm.Cond.instanceMethod ({ cls := "java/util/ImmutableCollections$ListN", name := "size", desc := "()I" } : Jvm.MethodName)) ∈ lw_all := lw_g (lw_at lw_m9 132 rfl) rfl
theorem q2179 : (Jvm.Cond.code ({ cls := "java/util/ImmutableCollections$ListN", name := "size", desc := "()I" } : Jvm.MethodName) prog_68_method_3_code (1 : Nat) (Option.some Jvm.ClassFile.FieldType.int)) ∈ lw_all := lw_g (lw_at lw_m9 133 rfl) rfl
theorem q2719 : (Jvm.Cond.selects "java/util/ImmutableCollections$ListN" ({ cls := "java/util/ImmutableCollections$AbstractImmutableList", name := "size", desc := "()I" } : Jvm.MethodName) ({ cls := "java/util/ImmutableCollections$ListN", name := "size", desc := "()I" } : Jvm.MethodName)) ∈ lw_all := lw_g (lw_at lw_m11 193 rfl) rfl
theorem q2737 : (Jvm.Cond.castable "java/util/ImmutableCollections$ListN" "java/util/Collection") ∈ lw_tbl := lw_at lw_m11 211 rfl
theorem q2738 : (Jvm.Cond.selects "java/util/ImmutableCollections$ListN" ({ cls := "java/util/Collection", name := "iterator", desc := "()Ljava/util/Iterator;" } : Jvm.MethodName) ({ cls := "java/util/ImmutableCollections$AbstractImmutableList", name := "iterator", desc := "()Ljava/util/Iterator;" } : Jvm.MethodName)) ∈ lw_all := lw_g (lw_at lw_m11 212 rfl) rfl
theorem q2739 : (Jvm.Cond.unhidden "java/util/ImmutableCollections$ListN" "iterator" "()Ljava/util/Iterator;") ∈ lw_tbl := lw_at lw_m11 213 rfl
theorem q2963 : (Jvm.Cond.selects "java/util/ImmutableCollections$ListN" ({ cls := "java/util/List", name := "size", desc := "()I" } : Jvm.MethodName) ({ cls := "java/util/ImmutableCollections$ListN", name := "size", desc := "()I" } : Jvm.MethodName)) ∈ lw_all := lw_g (lw_at lw_m12 197 rfl) rfl
theorem q2964 : (Jvm.Cond.unhidden "java/util/ImmutableCollections$ListN" "size" "()I") ∈ lw_tbl := lw_at lw_m12 198 rfl
theorem q2965 : (Jvm.Cond.publicMethod ({ cls := "java/util/ImmutableCollections$ListN", name := "size", desc := "()I" } : Jvm.MethodName)) ∈ lw_tbl := lw_at lw_m12 199 rfl
theorem q3591 : (Jvm.Cond.selects "java/util/ImmutableCollections$ListN" ({ cls := "java/util/AbstractCollection", name := "size", desc := "()I" } : Jvm.MethodName) ({ cls := "java/util/ImmutableCollections$ListN", name := "size", desc := "()I" } : Jvm.MethodName)) ∈ lw_all := lw_g (lw_at lw_m15 105 rfl) rfl
theorem q3619 : (Jvm.Cond.castable "java/util/ImmutableCollections$ListN" "java/lang/Object") ∈ lw_tbl := lw_at lw_m15 133 rfl
set_option maxRecDepth 100000
abbrev cJ36_init : ByteArray := prog_72_method_1_code
def yJ36_init : MethodName := ⟨RJ36, "<init>", "(Ljava/util/LinkedList$Node;Ljava/lang/Object;Ljava/util/LinkedList$Node;)V"⟩
def dkwJ36_init_0 : List UInt8 := [42, 183, 0, 1, 42, 44, 181, 0, 7, 42, 45, 181, 0, 13, 42, 43, 181, 0, 17, 177]
abbrev dktJ36_init_0 : List UInt8 := dkwJ36_init_0 ++ []
theorem dksJ36_init_0 : cJ36_init.data.toList.drop 0 = dktJ36_init_0 := by decide +kernel
theorem dJ36_init_0 : decode cJ36_init 0 = .ok (.aload_n 0, 1) := dk_42 (dk_at dksJ36_init_0 0 rfl rfl)
theorem dJ36_init_1 : decode cJ36_init 1 = .ok (.invokespecial 1, 3) := dk_183 0 1 (dk_at dksJ36_init_0 1 rfl rfl)
theorem dJ36_init_4 : decode cJ36_init 4 = .ok (.aload_n 0, 1) := dk_42 (dk_at dksJ36_init_0 4 rfl rfl)
theorem dJ36_init_5 : decode cJ36_init 5 = .ok (.aload_n 2, 1) := dk_44 (dk_at dksJ36_init_0 5 rfl rfl)
theorem dJ36_init_6 : decode cJ36_init 6 = .ok (.putfield 7, 3) := dk_181 0 7 (dk_at dksJ36_init_0 6 rfl rfl)
theorem dJ36_init_9 : decode cJ36_init 9 = .ok (.aload_n 0, 1) := dk_42 (dk_at dksJ36_init_0 9 rfl rfl)
theorem dJ36_init_10 : decode cJ36_init 10 = .ok (.aload_n 3, 1) := dk_45 (dk_at dksJ36_init_0 10 rfl rfl)
theorem dJ36_init_11 : decode cJ36_init 11 = .ok (.putfield 13, 3) := dk_181 0 13 (dk_at dksJ36_init_0 11 rfl rfl)
theorem dJ36_init_14 : decode cJ36_init 14 = .ok (.aload_n 0, 1) := dk_42 (dk_at dksJ36_init_0 14 rfl rfl)
theorem dJ36_init_15 : decode cJ36_init 15 = .ok (.aload_n 1, 1) := dk_43 (dk_at dksJ36_init_0 15 rfl rfl)
theorem dJ36_init_16 : decode cJ36_init 16 = .ok (.putfield 17, 3) := dk_181 0 17 (dk_at dksJ36_init_0 16 rfl rfl)
theorem dJ36_init_19 : decode cJ36_init 19 = .ok (.return_, 1) := dk_177 (dk_at dksJ36_init_0 19 rfl rfl)
theorem q173 : (Jvm.Cond.initialized "java/util/LinkedList$Node") ∈ lw_all := lw_g (lw_at lw_m1 47 rfl) rfl
theorem q1011 : (Jvm.Cond.selects "java/util/LinkedList$Node" ({ cls := "java/lang/Object", name := "getClass", desc := "()Ljava/lang/Class;" } : Jvm.MethodName) ({ cls := "java/lang/Object", name := "getClass", desc := "()Ljava/lang/Class;" } : Jvm.MethodName)) ∈ lw_all := lw_g (lw_at lw_m4 165 rfl) rfl
theorem q1392 : (Jvm.Cond.instantiable "java/util/LinkedList$Node" (3 : Nat)) ∈ lw_all := lw_g (lw_at lw_m6 66 rfl) rfl
theorem q1394 : (Jvm.Cond.instanceMethod ({ cls := "java/util/LinkedList$Node", name := "<init>", desc := "(Ljava/util/LinkedList$Node;Ljava/lang/Object;Ljava/util/LinkedList$Node;)V" } : Jvm.MethodName)) ∈ lw_all := lw_g (lw_at lw_m6 68 rfl) rfl
theorem q1395 : (Jvm.Cond.code ({ cls := "java/util/LinkedList$Node", name := "<init>", desc := "(Ljava/util/LinkedList$Node;Ljava/lang/Object;Ljava/util/LinkedList$Node;)V" } : Jvm.MethodName) prog_72_method_1_code (4 : Nat) (Option.none : Option Jvm.ClassFile.FieldType)) ∈ lw_all := lw_g (lw_at lw_m6 69 rfl) rfl
theorem q1396 : (Jvm.Cond.methodLink "java/util/LinkedList$Node" (1 : Nat) ({ cls := "java/lang/Object", name := "<init>", desc := "()V" } : Jvm.MethodName)) ∈ lw_all := lw_g (lw_at lw_m6 70 rfl) rfl
theorem q1397 : (Jvm.Cond.fieldLink "java/util/LinkedList$Node" (7 : Nat) "java/util/LinkedList$Node" "item" "Ljava/lang/Object;") ∈ lw_all := lw_g (lw_at lw_m6 71 rfl) rfl
theorem q1400 : (Jvm.Cond.fieldLink "java/util/LinkedList$Node" (13 : Nat) "java/util/LinkedList$Node" "next" "Ljava/util/LinkedList$Node;") ∈ lw_all := lw_g (lw_at lw_m6 74 rfl) rfl
theorem q1403 : (Jvm.Cond.fieldLink "java/util/LinkedList$Node" (17 : Nat) "java/util/LinkedList$Node" "prev" "Ljava/util/LinkedList$Node;") ∈ lw_all := lw_g (lw_at lw_m6 77 rfl) rfl
theorem q1405 : (Jvm.Cond.lays "java/util/LinkedList$Node" "java/util/LinkedList$Node" "item" "Ljava/lang/Object;") ∈ lw_all := lw_g (lw_at lw_m6 79 rfl) rfl
theorem q1406 : (Jvm.Cond.soleField "java/util/LinkedList$Node" "item") ∈ lw_all := lw_g (lw_at lw_m6 80 rfl) rfl
theorem q1407 : (Jvm.Cond.lays "java/util/LinkedList$Node" "java/util/LinkedList$Node" "next" "Ljava/util/LinkedList$Node;") ∈ lw_all := lw_g (lw_at lw_m6 81 rfl) rfl
theorem q1408 : (Jvm.Cond.soleField "java/util/LinkedList$Node" "next") ∈ lw_all := lw_g (lw_at lw_m6 82 rfl) rfl
theorem q1409 : (Jvm.Cond.lays "java/util/LinkedList$Node" "java/util/LinkedList$Node" "prev" "Ljava/util/LinkedList$Node;") ∈ lw_all := lw_g (lw_at lw_m6 83 rfl) rfl
theorem q1410 : (Jvm.Cond.soleField "java/util/LinkedList$Node" "prev") ∈ lw_all := lw_g (lw_at lw_m6 84 rfl) rfl
theorem q1411 : (Jvm.Cond.superclass "java/util/LinkedList$Node" "java/lang/Object") ∈ lw_all := lw_g (lw_at lw_m6 85 rfl) rfl
theorem q3623 : (Jvm.Cond.castable "java/util/LinkedList$Node" "java/lang/Object") ∈ lw_tbl := lw_at lw_m15 137 rfl
set_option maxRecDepth 100000
abbrev cJ37_init : ByteArray := prog_27_method_1_code
def yJ37_init : MethodName := ⟨RJ37, "<init>", "()V"⟩
theorem dJ37_init_0 : decode cJ37_init 0 = .ok (.aload_n 0, 1) := by decide +kernel
theorem dJ37_init_1 : decode cJ37_init 1 = .ok (.invokespecial 1, 3) := by decide +kernel
theorem dJ37_init_4 : decode cJ37_init 4 = .ok (.return_, 1) := by decide +kernel
theorem q174 : (Jvm.Cond.initialized "java/lang/IllegalStateException") ∈ lw_all := lw_g (lw_at lw_m1 48 rfl) rfl
theorem q321 : (Jvm.Cond.selects "java/lang/IllegalStateException" ({ cls := "java/lang/Throwable", name := "fillInStackTrace", desc := "()Ljava/lang/Throwable;" } : Jvm.MethodName) ({ cls := "java/lang/Throwable", name := "fillInStackTrace", desc := "()Ljava/lang/Throwable;" } : Jvm.MethodName)) ∈ lw_all := lw_g (lw_at lw_m1 195 rfl) rfl
theorem q972 : (Jvm.Cond.selects "java/lang/IllegalStateException" ({ cls := "java/lang/Throwable", name := "toString", desc := "()Ljava/lang/String;" } : Jvm.MethodName) ({ cls := "java/lang/Throwable", name := "toString", desc := "()Ljava/lang/String;" } : Jvm.MethodName)) ∈ lw_all := lw_g (lw_at lw_m4 126 rfl) rfl
theorem q995 : (Jvm.Cond.selects "java/lang/IllegalStateException" ({ cls := "java/lang/Object", name := "getClass", desc := "()Ljava/lang/Class;" } : Jvm.MethodName) ({ cls := "java/lang/Object", name := "getClass", desc := "()Ljava/lang/Class;" } : Jvm.MethodName)) ∈ lw_all := lw_g (lw_at lw_m4 149 rfl) rfl
theorem q1030 : (Jvm.Cond.selects "java/lang/IllegalStateException" ({ cls := "java/lang/Throwable", name := "getLocalizedMessage", desc := "()Ljava/lang/String;" } : Jvm.MethodName) ({ cls := "java/lang/Throwable", name := "getLocalizedMessage", desc := "()Ljava/lang/String;" } : Jvm.MethodName)) ∈ lw_all := lw_g (lw_at lw_m4 184 rfl) rfl
theorem q1042 : (Jvm.Cond.selects "java/lang/IllegalStateException" ({ cls := "java/lang/Throwable", name := "getMessage", desc := "()Ljava/lang/String;" } : Jvm.MethodName) ({ cls := "java/lang/Throwable", name := "getMessage", desc := "()Ljava/lang/String;" } : Jvm.MethodName)) ∈ lw_all := lw_g (lw_at lw_m4 196 rfl) rfl
theorem q1534 : (Jvm.Cond.instantiable "java/lang/IllegalStateException" (6 : Nat)) ∈ lw_all := lw_g (lw_at lw_m6 208 rfl) rfl
theorem q1535 : (Jvm.Cond.castable "java/lang/IllegalStateException" "java/lang/IllegalStateException") ∈ lw_tbl := lw_at lw_m6 209 rfl
theorem q1536 : (Jvm.Cond.selects "java/lang/IllegalStateException" ({ cls := "java/lang/Throwable", name := "fillInStackTrace", desc := "(I)Ljava/lang/Throwable;" } : Jvm.MethodName) ({ cls := "java/lang/Throwable", name := "fillInStackTrace", desc := "(I)Ljava/lang/Throwable;" } : Jvm.MethodName)) ∈ lw_all := lw_g (lw_at lw_m6 210 rfl) rfl
theorem q1537 : (Jvm.Cond.lays "java/lang/IllegalStateException" "java/lang/Throwable" "cause" "Ljava/lang/Throwable;") ∈ lw_all := lw_g (lw_at lw_m6 211 rfl) rfl
theorem q1538 : (Jvm.Cond.lays "java/lang/IllegalStateException" "java/lang/Throwable" "stackTrace" "[Ljava/lang/StackTraceElement;") ∈ lw_all := lw_g (lw_at lw_m6 212 rfl) rfl
theorem q1539 : (Jvm.Cond.lays "java/lang/IllegalStateException" "java/lang/Throwable" "suppressedExceptions" "Ljava/util/List;") ∈ lw_all := lw_g (lw_at lw_m6 213 rfl) rfl
theorem q1540 : (Jvm.Cond.lays "java/lang/IllegalStateException" "java/lang/Throwable" "detailMessage" "Ljava/lang/String;") ∈ lw_all := lw_g (lw_at lw_m6 214 rfl) rfl
theorem q1541 : (Jvm.Cond.lays "java/lang/IllegalStateException" "java/lang/Throwable" "backtrace" "Ljava/lang/Object;") ∈ lw_all := lw_g (lw_at lw_m6 215 rfl) rfl
theorem q1543 : (Jvm.Cond.instanceMethod ({ cls := "java/lang/IllegalStateException", name := "<init>", desc := "()V" } : Jvm.MethodName)) ∈ lw_all := lw_g (lw_at lw_m6 217 rfl) rfl
theorem q1544 : (Jvm.Cond.code ({ cls := "java/lang/IllegalStateException", name := "<init>", desc := "()V" } : Jvm.MethodName) prog_27_method_1_code (1 : Nat) (Option.none : Option Jvm.ClassFile.FieldType)) ∈ lw_all := lw_g (lw_at lw_m6 218 rfl) rfl
theorem q1545 : (Jvm.Cond.methodLink "java/lang/IllegalStateException" (1 : Nat) ({ cls := "java/lang/RuntimeException", name := "<init>", desc := "()V" } : Jvm.MethodName)) ∈ lw_all := lw_g (lw_at lw_m6 219 rfl) rfl
theorem q1546 : (Jvm.Cond.lays "java/lang/IllegalStateException" "java/lang/Throwable" "depth" "I") ∈ lw_all := lw_g (lw_at lw_m6 220 rfl) rfl
theorem q1547 : (Jvm.Cond.superclass "java/lang/IllegalStateException" "java/lang/RuntimeException") ∈ lw_all := lw_g (lw_at lw_m6 221 rfl) rfl
theorem q2137 : (Jvm.Cond.selects "java/lang/IllegalStateException" ({ cls := "java/lang/Object", name := "equals", desc := "(Ljava/lang/Object;)Z" } : Jvm.MethodName) ({ cls := "java/lang/Object", name := "equals", desc := "(Ljava/lang/Object;)Z" } : Jvm.MethodName)) ∈ lw_all := lw_g (lw_at lw_m9 91 rfl) rfl
theorem q3624 : (Jvm.Cond.castable "java/lang/IllegalStateException" "java/lang/Object") ∈ lw_tbl := lw_at lw_m15 138 rfl
set_option maxRecDepth 100000
abbrev cJ38_init : ByteArray := prog_61_method_1_code
def yJ38_init : MethodName := ⟨RJ38, "<init>", "()V"⟩
theorem dJ38_init_0 : decode cJ38_init 0 = .ok (.aload_n 0, 1) := by decide +kernel
theorem dJ38_init_1 : decode cJ38_init 1 = .ok (.invokespecial 1, 3) := by decide +kernel
theorem dJ38_init_4 : decode cJ38_init 4 = .ok (.return_, 1) := by decide +kernel
theorem q175 : (Jvm.Cond.initialized "java/util/ConcurrentModificationException") ∈ lw_all := lw_g (lw_at lw_m1 49 rfl) rfl
theorem q342 : (Jvm.Cond.selects "java/util/ConcurrentModificationException" ({ cls := "java/lang/Throwable", name := "fillInStackTrace", desc := "()Ljava/lang/Throwable;" } : Jvm.MethodName) ({ cls := "java/lang/Throwable", name := "fillInStackTrace", desc := "()Ljava/lang/Throwable;" } : Jvm.MethodName)) ∈ lw_all := lw_g (lw_at lw_m1 216 rfl) rfl
theorem q975 : (Jvm.Cond.selects "java/util/ConcurrentModificationException" ({ cls := "java/lang/Throwable", name := "toString", desc := "()Ljava/lang/String;" } : Jvm.MethodName) ({ cls := "java/lang/Throwable", name := "toString", desc := "()Ljava/lang/String;" } : Jvm.MethodName)) ∈ lw_all := lw_g (lw_at lw_m4 129 rfl) rfl
theorem q1005 : (Jvm.Cond.selects "java/util/ConcurrentModificationException" ({ cls := "java/lang/Object", name := "getClass", desc := "()Ljava/lang/Class;" } : Jvm.MethodName) ({ cls := "java/lang/Object", name := "getClass", desc := "()Ljava/lang/Class;" } : Jvm.MethodName)) ∈ lw_all := lw_g (lw_at lw_m4 159 rfl) rfl
theorem q1033 : (Jvm.Cond.selects "java/util/ConcurrentModificationException" ({ cls := "java/lang/Throwable", name := "getLocalizedMessage", desc := "()Ljava/lang/String;" } : Jvm.MethodName) ({ cls := "java/lang/Throwable", name := "getLocalizedMessage", desc := "()Ljava/lang/String;" } : Jvm.MethodName)) ∈ lw_all := lw_g (lw_at lw_m4 187 rfl) rfl
theorem q1051 : (Jvm.Cond.selects "java/util/ConcurrentModificationException" ({ cls := "java/lang/Throwable", name := "getMessage", desc := "()Ljava/lang/String;" } : Jvm.MethodName) ({ cls := "java/lang/Throwable", name := "getMessage", desc := "()Ljava/lang/String;" } : Jvm.MethodName)) ∈ lw_all := lw_g (lw_at lw_m4 205 rfl) rfl
theorem q1560 : (Jvm.Cond.instantiable "java/util/ConcurrentModificationException" (6 : Nat)) ∈ lw_all := lw_g (lw_at lw_m6 234 rfl) rfl
theorem q1561 : (Jvm.Cond.castable "java/util/ConcurrentModificationException" "java/util/ConcurrentModificationException") ∈ lw_tbl := lw_at lw_m6 235 rfl
theorem q1562 : (Jvm.Cond.selects "java/util/ConcurrentModificationException" ({ cls := "java/lang/Throwable", name := "fillInStackTrace", desc := "(I)Ljava/lang/Throwable;" } : Jvm.MethodName) ({ cls := "java/lang/Throwable", name := "fillInStackTrace", desc := "(I)Ljava/lang/Throwable;" } : Jvm.MethodName)) ∈ lw_all := lw_g (lw_at lw_m6 236 rfl) rfl
theorem q1563 : (Jvm.Cond.lays "java/util/ConcurrentModificationException" "java/lang/Throwable" "cause" "Ljava/lang/Throwable;") ∈ lw_all := lw_g (lw_at lw_m6 237 rfl) rfl
theorem q1564 : (Jvm.Cond.lays "java/util/ConcurrentModificationException" "java/lang/Throwable" "stackTrace" "[Ljava/lang/StackTraceElement;") ∈ lw_all := lw_g (lw_at lw_m6 238 rfl) rfl
theorem q1565 : (Jvm.Cond.lays "java/util/ConcurrentModificationException" "java/lang/Throwable" "suppressedExceptions" "Ljava/util/List;") ∈ lw_all := lw_g (lw_at lw_m6 239 rfl) rfl
theorem q1566 : (Jvm.Cond.lays "java/util/ConcurrentModificationException" "java/lang/Throwable" "detailMessage" "Ljava/lang/String;") ∈ lw_all := lw_g (lw_at lw_m7 0 rfl) rfl
theorem q1567 : (Jvm.Cond.lays "java/util/ConcurrentModificationException" "java/lang/Throwable" "backtrace" "Ljava/lang/Object;") ∈ lw_all := lw_g (lw_at lw_m7 1 rfl) rfl
theorem q1569 : (Jvm.Cond.instanceMethod ({ cls := "java/util/ConcurrentModificationException", name := "<init>", desc := "()V" } : Jvm.MethodName)) ∈ lw_all := lw_g (lw_at lw_m7 3 rfl) rfl
theorem q1570 : (Jvm.Cond.code ({ cls := "java/util/ConcurrentModificationException", name := "<init>", desc := "()V" } : Jvm.MethodName) prog_61_method_1_code (1 : Nat) (Option.none : Option Jvm.ClassFile.FieldType)) ∈ lw_all := lw_g (lw_at lw_m7 4 rfl) rfl
theorem q1571 : (Jvm.Cond.methodLink "java/util/ConcurrentModificationException" (1 : Nat) ({ cls := "java/lang/RuntimeException", name := "<init>", desc := "()V" } : Jvm.MethodName)) ∈ lw_all := lw_g (lw_at lw_m7 5 rfl) rfl
theorem q1572 : (Jvm.Cond.lays "java/util/ConcurrentModificationException" "java/lang/Throwable" "depth" "I") ∈ lw_all := lw_g (lw_at lw_m7 6 rfl) rfl
theorem q1573 : (Jvm.Cond.superclass "java/util/ConcurrentModificationException" "java/lang/RuntimeException") ∈ lw_all := lw_g (lw_at lw_m7 7 rfl) rfl
theorem q3625 : (Jvm.Cond.castable "java/util/ConcurrentModificationException" "java/lang/Object") ∈ lw_tbl := lw_at lw_m15 139 rfl
set_option maxRecDepth 100000
abbrev cJ39_compare : ByteArray := prog_32_method_42_code
def yJ39_compare : MethodName := ⟨RJ39, "compare", "(JJ)I"⟩
def dkwJ39_compare_0 : List UInt8 := [30, 32, 148, 156, 0, 7, 2, 167, 0, 14, 30, 32, 148, 154, 0, 7, 3, 167, 0, 4, 4, 172]
abbrev dktJ39_compare_0 : List UInt8 := dkwJ39_compare_0 ++ []
theorem dksJ39_compare_0 : cJ39_compare.data.toList.drop 0 = dktJ39_compare_0 := by decide +kernel
theorem dJ39_compare_0 : decode cJ39_compare 0 = .ok (.lload_n 0, 1) := dk_30 (dk_at dksJ39_compare_0 0 rfl rfl)
theorem dJ39_compare_1 : decode cJ39_compare 1 = .ok (.lload_n 2, 1) := dk_32 (dk_at dksJ39_compare_0 1 rfl rfl)
theorem dJ39_compare_2 : decode cJ39_compare 2 = .ok (.lcmp, 1) := dk_148 (dk_at dksJ39_compare_0 2 rfl rfl)
theorem dJ39_compare_3 : decode cJ39_compare 3 = .ok (.ifCond .ge 7, 3) := dk_156 0 7 (dk_at dksJ39_compare_0 3 rfl rfl)
theorem dJ39_compare_6 : decode cJ39_compare 6 = .ok (.iconst (-1), 1) := dk_2 (dk_at dksJ39_compare_0 6 rfl rfl)
theorem dJ39_compare_7 : decode cJ39_compare 7 = .ok (.goto 14, 3) := dk_167 0 14 (dk_at dksJ39_compare_0 7 rfl rfl)
theorem dJ39_compare_10 : decode cJ39_compare 10 = .ok (.lload_n 0, 1) := dk_30 (dk_at dksJ39_compare_0 10 rfl rfl)
theorem dJ39_compare_11 : decode cJ39_compare 11 = .ok (.lload_n 2, 1) := dk_32 (dk_at dksJ39_compare_0 11 rfl rfl)
theorem dJ39_compare_12 : decode cJ39_compare 12 = .ok (.lcmp, 1) := dk_148 (dk_at dksJ39_compare_0 12 rfl rfl)
theorem dJ39_compare_13 : decode cJ39_compare 13 = .ok (.ifCond .ne 7, 3) := dk_154 0 7 (dk_at dksJ39_compare_0 13 rfl rfl)
theorem dJ39_compare_16 : decode cJ39_compare 16 = .ok (.iconst 0, 1) := dk_3 (dk_at dksJ39_compare_0 16 rfl rfl)
theorem dJ39_compare_17 : decode cJ39_compare 17 = .ok (.goto 4, 3) := dk_167 0 4 (dk_at dksJ39_compare_0 17 rfl rfl)
theorem dJ39_compare_20 : decode cJ39_compare 20 = .ok (.iconst 1, 1) := dk_4 (dk_at dksJ39_compare_0 20 rfl rfl)
theorem dJ39_compare_21 : decode cJ39_compare 21 = .ok (.ireturn, 1) := dk_172 (dk_at dksJ39_compare_0 21 rfl rfl)
abbrev cJ39_numberOfLeadingZeros : ByteArray := prog_32_method_48_code
def yJ39_numberOfLeadingZeros : MethodName := ⟨RJ39, "numberOfLeadingZeros", "(J)I"⟩
def dkwJ39_numberOfLeadingZeros_1 : List UInt8 := [184, 1, 52, 172]
abbrev dktJ39_numberOfLeadingZeros_1 : List UInt8 := dkwJ39_numberOfLeadingZeros_1 ++ []
def dkwJ39_numberOfLeadingZeros_0 : List UInt8 := [30, 16, 32, 125, 136, 61, 28, 154, 0, 14, 16, 32, 30, 136, 184, 1, 52, 96, 167, 0, 7, 28]
abbrev dktJ39_numberOfLeadingZeros_0 : List UInt8 := dkwJ39_numberOfLeadingZeros_0 ++ dktJ39_numberOfLeadingZeros_1
theorem dksJ39_numberOfLeadingZeros_0 : cJ39_numberOfLeadingZeros.data.toList.drop 0 = dktJ39_numberOfLeadingZeros_0 := by decide +kernel
theorem dksJ39_numberOfLeadingZeros_1 : cJ39_numberOfLeadingZeros.data.toList.drop 22 = dktJ39_numberOfLeadingZeros_1 := dk_seg dksJ39_numberOfLeadingZeros_0 22 rfl rfl
theorem dJ39_numberOfLeadingZeros_0 : decode cJ39_numberOfLeadingZeros 0 = .ok (.lload_n 0, 1) := dk_30 (dk_at dksJ39_numberOfLeadingZeros_0 0 rfl rfl)
theorem dJ39_numberOfLeadingZeros_1 : decode cJ39_numberOfLeadingZeros 1 = .ok (.bipush 32, 2) := dk_16 32 (dk_at dksJ39_numberOfLeadingZeros_0 1 rfl rfl)
theorem dJ39_numberOfLeadingZeros_3 : decode cJ39_numberOfLeadingZeros 3 = .ok (.lushr, 1) := dk_125 (dk_at dksJ39_numberOfLeadingZeros_0 3 rfl rfl)
theorem dJ39_numberOfLeadingZeros_4 : decode cJ39_numberOfLeadingZeros 4 = .ok (.l2i, 1) := dk_136 (dk_at dksJ39_numberOfLeadingZeros_0 4 rfl rfl)
theorem dJ39_numberOfLeadingZeros_5 : decode cJ39_numberOfLeadingZeros 5 = .ok (.istore_n 2, 1) := dk_61 (dk_at dksJ39_numberOfLeadingZeros_0 5 rfl rfl)
theorem dJ39_numberOfLeadingZeros_6 : decode cJ39_numberOfLeadingZeros 6 = .ok (.iload_n 2, 1) := dk_28 (dk_at dksJ39_numberOfLeadingZeros_0 6 rfl rfl)
theorem dJ39_numberOfLeadingZeros_7 : decode cJ39_numberOfLeadingZeros 7 = .ok (.ifCond .ne 14, 3) := dk_154 0 14 (dk_at dksJ39_numberOfLeadingZeros_0 7 rfl rfl)
theorem dJ39_numberOfLeadingZeros_10 : decode cJ39_numberOfLeadingZeros 10 = .ok (.bipush 32, 2) := dk_16 32 (dk_at dksJ39_numberOfLeadingZeros_0 10 rfl rfl)
theorem dJ39_numberOfLeadingZeros_12 : decode cJ39_numberOfLeadingZeros 12 = .ok (.lload_n 0, 1) := dk_30 (dk_at dksJ39_numberOfLeadingZeros_0 12 rfl rfl)
theorem dJ39_numberOfLeadingZeros_13 : decode cJ39_numberOfLeadingZeros 13 = .ok (.l2i, 1) := dk_136 (dk_at dksJ39_numberOfLeadingZeros_0 13 rfl rfl)
theorem dJ39_numberOfLeadingZeros_14 : decode cJ39_numberOfLeadingZeros 14 = .ok (.invokestatic 308, 3) := dk_184 1 52 (dk_at dksJ39_numberOfLeadingZeros_0 14 rfl rfl)
theorem dJ39_numberOfLeadingZeros_17 : decode cJ39_numberOfLeadingZeros 17 = .ok (.iadd, 1) := dk_96 (dk_at dksJ39_numberOfLeadingZeros_0 17 rfl rfl)
theorem dJ39_numberOfLeadingZeros_18 : decode cJ39_numberOfLeadingZeros 18 = .ok (.goto 7, 3) := dk_167 0 7 (dk_at dksJ39_numberOfLeadingZeros_0 18 rfl rfl)
theorem dJ39_numberOfLeadingZeros_21 : decode cJ39_numberOfLeadingZeros 21 = .ok (.iload_n 2, 1) := dk_28 (dk_at dksJ39_numberOfLeadingZeros_0 21 rfl rfl)
theorem dJ39_numberOfLeadingZeros_22 : decode cJ39_numberOfLeadingZeros 22 = .ok (.invokestatic 308, 3) := dk_184 1 52 (dk_at dksJ39_numberOfLeadingZeros_1 0 rfl rfl)
theorem dJ39_numberOfLeadingZeros_25 : decode cJ39_numberOfLeadingZeros 25 = .ok (.ireturn, 1) := dk_172 (dk_at dksJ39_numberOfLeadingZeros_1 3 rfl rfl)
abbrev cJ39_numberOfTrailingZeros : ByteArray := prog_32_method_49_code
def yJ39_numberOfTrailingZeros : MethodName := ⟨RJ39, "numberOfTrailingZeros", "(J)I"⟩
def dkwJ39_numberOfTrailingZeros_1 : List UInt8 := [184, 1, 55, 172]
abbrev dktJ39_numberOfTrailingZeros_1 : List UInt8 := dkwJ39_numberOfTrailingZeros_1 ++ []
def dkwJ39_numberOfTrailingZeros_0 : List UInt8 := [30, 136, 61, 28, 154, 0, 17, 16, 32, 30, 16, 32, 125, 136, 184, 1, 55, 96, 167, 0, 7, 28]
abbrev dktJ39_numberOfTrailingZeros_0 : List UInt8 := dkwJ39_numberOfTrailingZeros_0 ++ dktJ39_numberOfTrailingZeros_1
theorem dksJ39_numberOfTrailingZeros_0 : cJ39_numberOfTrailingZeros.data.toList.drop 0 = dktJ39_numberOfTrailingZeros_0 := by decide +kernel
theorem dksJ39_numberOfTrailingZeros_1 : cJ39_numberOfTrailingZeros.data.toList.drop 22 = dktJ39_numberOfTrailingZeros_1 := dk_seg dksJ39_numberOfTrailingZeros_0 22 rfl rfl
theorem dJ39_numberOfTrailingZeros_0 : decode cJ39_numberOfTrailingZeros 0 = .ok (.lload_n 0, 1) := dk_30 (dk_at dksJ39_numberOfTrailingZeros_0 0 rfl rfl)
theorem dJ39_numberOfTrailingZeros_1 : decode cJ39_numberOfTrailingZeros 1 = .ok (.l2i, 1) := dk_136 (dk_at dksJ39_numberOfTrailingZeros_0 1 rfl rfl)
theorem dJ39_numberOfTrailingZeros_2 : decode cJ39_numberOfTrailingZeros 2 = .ok (.istore_n 2, 1) := dk_61 (dk_at dksJ39_numberOfTrailingZeros_0 2 rfl rfl)
theorem dJ39_numberOfTrailingZeros_3 : decode cJ39_numberOfTrailingZeros 3 = .ok (.iload_n 2, 1) := dk_28 (dk_at dksJ39_numberOfTrailingZeros_0 3 rfl rfl)
theorem dJ39_numberOfTrailingZeros_4 : decode cJ39_numberOfTrailingZeros 4 = .ok (.ifCond .ne 17, 3) := dk_154 0 17 (dk_at dksJ39_numberOfTrailingZeros_0 4 rfl rfl)
theorem dJ39_numberOfTrailingZeros_7 : decode cJ39_numberOfTrailingZeros 7 = .ok (.bipush 32, 2) := dk_16 32 (dk_at dksJ39_numberOfTrailingZeros_0 7 rfl rfl)
theorem dJ39_numberOfTrailingZeros_9 : decode cJ39_numberOfTrailingZeros 9 = .ok (.lload_n 0, 1) := dk_30 (dk_at dksJ39_numberOfTrailingZeros_0 9 rfl rfl)
theorem dJ39_numberOfTrailingZeros_10 : decode cJ39_numberOfTrailingZeros 10 = .ok (.bipush 32, 2) := dk_16 32 (dk_at dksJ39_numberOfTrailingZeros_0 10 rfl rfl)
theorem dJ39_numberOfTrailingZeros_12 : decode cJ39_numberOfTrailingZeros 12 = .ok (.lushr, 1) := dk_125 (dk_at dksJ39_numberOfTrailingZeros_0 12 rfl rfl)
theorem dJ39_numberOfTrailingZeros_13 : decode cJ39_numberOfTrailingZeros 13 = .ok (.l2i, 1) := dk_136 (dk_at dksJ39_numberOfTrailingZeros_0 13 rfl rfl)
theorem dJ39_numberOfTrailingZeros_14 : decode cJ39_numberOfTrailingZeros 14 = .ok (.invokestatic 311, 3) := dk_184 1 55 (dk_at dksJ39_numberOfTrailingZeros_0 14 rfl rfl)
theorem dJ39_numberOfTrailingZeros_17 : decode cJ39_numberOfTrailingZeros 17 = .ok (.iadd, 1) := dk_96 (dk_at dksJ39_numberOfTrailingZeros_0 17 rfl rfl)
theorem dJ39_numberOfTrailingZeros_18 : decode cJ39_numberOfTrailingZeros 18 = .ok (.goto 7, 3) := dk_167 0 7 (dk_at dksJ39_numberOfTrailingZeros_0 18 rfl rfl)
theorem dJ39_numberOfTrailingZeros_21 : decode cJ39_numberOfTrailingZeros 21 = .ok (.iload_n 2, 1) := dk_28 (dk_at dksJ39_numberOfTrailingZeros_0 21 rfl rfl)
theorem dJ39_numberOfTrailingZeros_22 : decode cJ39_numberOfTrailingZeros 22 = .ok (.invokestatic 311, 3) := dk_184 1 55 (dk_at dksJ39_numberOfTrailingZeros_1 0 rfl rfl)
theorem dJ39_numberOfTrailingZeros_25 : decode cJ39_numberOfTrailingZeros 25 = .ok (.ireturn, 1) := dk_172 (dk_at dksJ39_numberOfTrailingZeros_1 3 rfl rfl)
theorem q176 : (Jvm.Cond.initialized "java/lang/Long") ∈ lw_all := lw_g (lw_at lw_m1 50 rfl) rfl
theorem q1664 : (Jvm.Cond.static ({ cls := "java/lang/Long", name := "compare", desc := "(JJ)I" } : Jvm.MethodName)) ∈ lw_all := lw_g (lw_at lw_m7 98 rfl) rfl
theorem q1665 : (Jvm.Cond.code ({ cls := "java/lang/Long", name := "compare", desc := "(JJ)I" } : Jvm.MethodName) prog_32_method_42_code (4 : Nat) (Option.some Jvm.ClassFile.FieldType.int)) ∈ lw_all := lw_g (lw_at lw_m7 99 rfl) rfl
theorem q1778 : (Jvm.Cond.static ({ cls := "java/lang/Long", name := "numberOfLeadingZeros", desc := "(J)I" } : Jvm.MethodName)) ∈ lw_all := lw_g (lw_at lw_m7 212 rfl) rfl
theorem q1779 : (Jvm.Cond.code ({ cls := "java/lang/Long", name := "numberOfLeadingZeros", desc := "(J)I" } : Jvm.MethodName) prog_32_method_48_code (3 : Nat) (Option.some Jvm.ClassFile.FieldType.int)) ∈ lw_all := lw_g (lw_at lw_m7 213 rfl) rfl
theorem q1780 : (Jvm.Cond.methodLink "java/lang/Long" (308 : Nat) ({ cls := "java/lang/Integer", name := "numberOfLeadingZeros", desc := "(I)I" } : Jvm.MethodName)) ∈ lw_all := lw_g (lw_at lw_m7 214 rfl) rfl
theorem q1787 : (Jvm.Cond.static ({ cls := "java/lang/Long", name := "numberOfTrailingZeros", desc := "(J)I" } : Jvm.MethodName)) ∈ lw_all := lw_g (lw_at lw_m7 221 rfl) rfl
theorem q1788 : (Jvm.Cond.code ({ cls := "java/lang/Long", name := "numberOfTrailingZeros", desc := "(J)I" } : Jvm.MethodName) prog_32_method_49_code (3 : Nat) (Option.some Jvm.ClassFile.FieldType.int)) ∈ lw_all := lw_g (lw_at lw_m7 222 rfl) rfl
theorem q1789 : (Jvm.Cond.methodLink "java/lang/Long" (311 : Nat) ({ cls := "java/lang/Integer", name := "numberOfTrailingZeros", desc := "(I)I" } : Jvm.MethodName)) ∈ lw_all := lw_g (lw_at lw_m7 223 rfl) rfl
set_option maxRecDepth 100000
abbrev cJ40_getLongUnaligned : ByteArray := prog_100_method_334_code
def yJ40_getLongUnaligned : MethodName := ⟨RJ40, "getLongUnaligned", "(Ljava/lang/Object;J)J"⟩
def dkwJ40_getLongUnaligned_7 : List UInt8 := [182, 0, 39, 184, 2, 197, 173]
abbrev dktJ40_getLongUnaligned_7 : List UInt8 := dkwJ40_getLongUnaligned_7 ++ []
def dkwJ40_getLongUnaligned_6 : List UInt8 := [20, 2, 195, 97, 182, 0, 39, 42, 43, 32, 20, 2, 190, 97, 182, 0, 39, 42, 43, 32, 20, 2, 184, 97]
abbrev dktJ40_getLongUnaligned_6 : List UInt8 := dkwJ40_getLongUnaligned_6 ++ dktJ40_getLongUnaligned_7
def dkwJ40_getLongUnaligned_5 : List UInt8 := [43, 32, 20, 1, 93, 97, 182, 0, 39, 42, 43, 32, 20, 0, 205, 97, 182, 0, 39, 42, 43, 32]
abbrev dktJ40_getLongUnaligned_5 : List UInt8 := dkwJ40_getLongUnaligned_5 ++ dktJ40_getLongUnaligned_6
def dkwJ40_getLongUnaligned_4 : List UInt8 := [43, 32, 182, 0, 39, 42, 43, 32, 10, 97, 182, 0, 39, 42, 43, 32, 20, 0, 203, 97, 182, 0, 39, 42]
abbrev dktJ40_getLongUnaligned_4 : List UInt8 := dkwJ40_getLongUnaligned_4 ++ dktJ40_getLongUnaligned_5
def dkwJ40_getLongUnaligned_3 : List UInt8 := [43, 32, 20, 0, 205, 97, 182, 0, 47, 42, 43, 32, 20, 2, 190, 97, 182, 0, 47, 184, 2, 192, 173, 42]
abbrev dktJ40_getLongUnaligned_3 : List UInt8 := dkwJ40_getLongUnaligned_3 ++ dktJ40_getLongUnaligned_4
def dkwJ40_getLongUnaligned_2 : List UInt8 := [10, 127, 9, 148, 154, 0, 43, 42, 43, 32, 182, 0, 47, 42, 43, 32, 20, 0, 203, 97, 182, 0, 47, 42]
abbrev dktJ40_getLongUnaligned_2 : List UInt8 := dkwJ40_getLongUnaligned_2 ++ dktJ40_getLongUnaligned_3
def dkwJ40_getLongUnaligned_1 : List UInt8 := [154, 0, 23, 42, 43, 32, 182, 0, 17, 42, 43, 32, 20, 0, 205, 97, 182, 0, 17, 184, 2, 186, 173, 32]
abbrev dktJ40_getLongUnaligned_1 : List UInt8 := dkwJ40_getLongUnaligned_1 ++ dktJ40_getLongUnaligned_2
def dkwJ40_getLongUnaligned_0 : List UInt8 := [32, 20, 2, 184, 127, 9, 148, 154, 0, 10, 42, 43, 32, 182, 0, 27, 173, 32, 20, 1, 93, 127, 9, 148]
abbrev dktJ40_getLongUnaligned_0 : List UInt8 := dkwJ40_getLongUnaligned_0 ++ dktJ40_getLongUnaligned_1
theorem dksJ40_getLongUnaligned_0 : cJ40_getLongUnaligned.data.toList.drop 0 = dktJ40_getLongUnaligned_0 := by decide +kernel
theorem dksJ40_getLongUnaligned_1 : cJ40_getLongUnaligned.data.toList.drop 24 = dktJ40_getLongUnaligned_1 := dk_seg dksJ40_getLongUnaligned_0 24 rfl rfl
theorem dksJ40_getLongUnaligned_2 : cJ40_getLongUnaligned.data.toList.drop 48 = dktJ40_getLongUnaligned_2 := dk_seg dksJ40_getLongUnaligned_1 24 rfl rfl
theorem dksJ40_getLongUnaligned_3 : cJ40_getLongUnaligned.data.toList.drop 72 = dktJ40_getLongUnaligned_3 := dk_seg dksJ40_getLongUnaligned_2 24 rfl rfl
theorem dksJ40_getLongUnaligned_4 : cJ40_getLongUnaligned.data.toList.drop 96 = dktJ40_getLongUnaligned_4 := dk_seg dksJ40_getLongUnaligned_3 24 rfl rfl
theorem dksJ40_getLongUnaligned_5 : cJ40_getLongUnaligned.data.toList.drop 120 = dktJ40_getLongUnaligned_5 := dk_seg dksJ40_getLongUnaligned_4 24 rfl rfl
theorem dksJ40_getLongUnaligned_6 : cJ40_getLongUnaligned.data.toList.drop 142 = dktJ40_getLongUnaligned_6 := dk_seg dksJ40_getLongUnaligned_5 22 rfl rfl
theorem dksJ40_getLongUnaligned_7 : cJ40_getLongUnaligned.data.toList.drop 166 = dktJ40_getLongUnaligned_7 := dk_seg dksJ40_getLongUnaligned_6 24 rfl rfl
theorem dJ40_getLongUnaligned_0 : decode cJ40_getLongUnaligned 0 = .ok (.lload_n 2, 1) := dk_32 (dk_at dksJ40_getLongUnaligned_0 0 rfl rfl)
theorem dJ40_getLongUnaligned_1 : decode cJ40_getLongUnaligned 1 = .ok (.ldc2_w 696, 3) := dk_20 2 184 (dk_at dksJ40_getLongUnaligned_0 1 rfl rfl)
theorem dJ40_getLongUnaligned_4 : decode cJ40_getLongUnaligned 4 = .ok (.land, 1) := dk_127 (dk_at dksJ40_getLongUnaligned_0 4 rfl rfl)
theorem dJ40_getLongUnaligned_5 : decode cJ40_getLongUnaligned 5 = .ok (.lconst 0, 1) := dk_9 (dk_at dksJ40_getLongUnaligned_0 5 rfl rfl)
theorem dJ40_getLongUnaligned_6 : decode cJ40_getLongUnaligned 6 = .ok (.lcmp, 1) := dk_148 (dk_at dksJ40_getLongUnaligned_0 6 rfl rfl)
theorem dJ40_getLongUnaligned_7 : decode cJ40_getLongUnaligned 7 = .ok (.ifCond .ne 10, 3) := dk_154 0 10 (dk_at dksJ40_getLongUnaligned_0 7 rfl rfl)
theorem dJ40_getLongUnaligned_10 : decode cJ40_getLongUnaligned 10 = .ok (.aload_n 0, 1) := dk_42 (dk_at dksJ40_getLongUnaligned_0 10 rfl rfl)
theorem dJ40_getLongUnaligned_11 : decode cJ40_getLongUnaligned 11 = .ok (.aload_n 1, 1) := dk_43 (dk_at dksJ40_getLongUnaligned_0 11 rfl rfl)
theorem dJ40_getLongUnaligned_12 : decode cJ40_getLongUnaligned 12 = .ok (.lload_n 2, 1) := dk_32 (dk_at dksJ40_getLongUnaligned_0 12 rfl rfl)
theorem dJ40_getLongUnaligned_13 : decode cJ40_getLongUnaligned 13 = .ok (.invokevirtual 27, 3) := dk_182 0 27 (dk_at dksJ40_getLongUnaligned_0 13 rfl rfl)
theorem dJ40_getLongUnaligned_16 : decode cJ40_getLongUnaligned 16 = .ok (.lreturn, 1) := dk_173 (dk_at dksJ40_getLongUnaligned_0 16 rfl rfl)
theorem dJ40_getLongUnaligned_17 : decode cJ40_getLongUnaligned 17 = .ok (.lload_n 2, 1) := dk_32 (dk_at dksJ40_getLongUnaligned_0 17 rfl rfl)
theorem dJ40_getLongUnaligned_18 : decode cJ40_getLongUnaligned 18 = .ok (.ldc2_w 349, 3) := dk_20 1 93 (dk_at dksJ40_getLongUnaligned_0 18 rfl rfl)
theorem dJ40_getLongUnaligned_21 : decode cJ40_getLongUnaligned 21 = .ok (.land, 1) := dk_127 (dk_at dksJ40_getLongUnaligned_0 21 rfl rfl)
theorem dJ40_getLongUnaligned_22 : decode cJ40_getLongUnaligned 22 = .ok (.lconst 0, 1) := dk_9 (dk_at dksJ40_getLongUnaligned_0 22 rfl rfl)
theorem dJ40_getLongUnaligned_23 : decode cJ40_getLongUnaligned 23 = .ok (.lcmp, 1) := dk_148 (dk_at dksJ40_getLongUnaligned_0 23 rfl rfl)
theorem dJ40_getLongUnaligned_24 : decode cJ40_getLongUnaligned 24 = .ok (.ifCond .ne 23, 3) := dk_154 0 23 (dk_at dksJ40_getLongUnaligned_1 0 rfl rfl)
theorem dJ40_getLongUnaligned_27 : decode cJ40_getLongUnaligned 27 = .ok (.aload_n 0, 1) := dk_42 (dk_at dksJ40_getLongUnaligned_1 3 rfl rfl)
theorem dJ40_getLongUnaligned_28 : decode cJ40_getLongUnaligned 28 = .ok (.aload_n 1, 1) := dk_43 (dk_at dksJ40_getLongUnaligned_1 4 rfl rfl)
theorem dJ40_getLongUnaligned_29 : decode cJ40_getLongUnaligned 29 = .ok (.lload_n 2, 1) := dk_32 (dk_at dksJ40_getLongUnaligned_1 5 rfl rfl)
theorem dJ40_getLongUnaligned_30 : decode cJ40_getLongUnaligned 30 = .ok (.invokevirtual 17, 3) := dk_182 0 17 (dk_at dksJ40_getLongUnaligned_1 6 rfl rfl)
theorem dJ40_getLongUnaligned_33 : decode cJ40_getLongUnaligned 33 = .ok (.aload_n 0, 1) := dk_42 (dk_at dksJ40_getLongUnaligned_1 9 rfl rfl)
theorem dJ40_getLongUnaligned_34 : decode cJ40_getLongUnaligned 34 = .ok (.aload_n 1, 1) := dk_43 (dk_at dksJ40_getLongUnaligned_1 10 rfl rfl)
theorem dJ40_getLongUnaligned_35 : decode cJ40_getLongUnaligned 35 = .ok (.lload_n 2, 1) := dk_32 (dk_at dksJ40_getLongUnaligned_1 11 rfl rfl)
theorem dJ40_getLongUnaligned_36 : decode cJ40_getLongUnaligned 36 = .ok (.ldc2_w 205, 3) := dk_20 0 205 (dk_at dksJ40_getLongUnaligned_1 12 rfl rfl)
theorem dJ40_getLongUnaligned_39 : decode cJ40_getLongUnaligned 39 = .ok (.ladd, 1) := dk_97 (dk_at dksJ40_getLongUnaligned_1 15 rfl rfl)
theorem dJ40_getLongUnaligned_40 : decode cJ40_getLongUnaligned 40 = .ok (.invokevirtual 17, 3) := dk_182 0 17 (dk_at dksJ40_getLongUnaligned_1 16 rfl rfl)
theorem dJ40_getLongUnaligned_43 : decode cJ40_getLongUnaligned 43 = .ok (.invokestatic 698, 3) := dk_184 2 186 (dk_at dksJ40_getLongUnaligned_1 19 rfl rfl)
theorem dJ40_getLongUnaligned_46 : decode cJ40_getLongUnaligned 46 = .ok (.lreturn, 1) := dk_173 (dk_at dksJ40_getLongUnaligned_1 22 rfl rfl)
theorem dJ40_getLongUnaligned_47 : decode cJ40_getLongUnaligned 47 = .ok (.lload_n 2, 1) := dk_32 (dk_at dksJ40_getLongUnaligned_1 23 rfl rfl)
theorem dJ40_getLongUnaligned_48 : decode cJ40_getLongUnaligned 48 = .ok (.lconst 1, 1) := dk_10 (dk_at dksJ40_getLongUnaligned_2 0 rfl rfl)
theorem dJ40_getLongUnaligned_49 : decode cJ40_getLongUnaligned 49 = .ok (.land, 1) := dk_127 (dk_at dksJ40_getLongUnaligned_2 1 rfl rfl)
theorem dJ40_getLongUnaligned_50 : decode cJ40_getLongUnaligned 50 = .ok (.lconst 0, 1) := dk_9 (dk_at dksJ40_getLongUnaligned_2 2 rfl rfl)
theorem dJ40_getLongUnaligned_51 : decode cJ40_getLongUnaligned 51 = .ok (.lcmp, 1) := dk_148 (dk_at dksJ40_getLongUnaligned_2 3 rfl rfl)
theorem dJ40_getLongUnaligned_52 : decode cJ40_getLongUnaligned 52 = .ok (.ifCond .ne 43, 3) := dk_154 0 43 (dk_at dksJ40_getLongUnaligned_2 4 rfl rfl)
theorem dJ40_getLongUnaligned_55 : decode cJ40_getLongUnaligned 55 = .ok (.aload_n 0, 1) := dk_42 (dk_at dksJ40_getLongUnaligned_2 7 rfl rfl)
theorem dJ40_getLongUnaligned_56 : decode cJ40_getLongUnaligned 56 = .ok (.aload_n 1, 1) := dk_43 (dk_at dksJ40_getLongUnaligned_2 8 rfl rfl)
theorem dJ40_getLongUnaligned_57 : decode cJ40_getLongUnaligned 57 = .ok (.lload_n 2, 1) := dk_32 (dk_at dksJ40_getLongUnaligned_2 9 rfl rfl)
theorem dJ40_getLongUnaligned_58 : decode cJ40_getLongUnaligned 58 = .ok (.invokevirtual 47, 3) := dk_182 0 47 (dk_at dksJ40_getLongUnaligned_2 10 rfl rfl)
theorem dJ40_getLongUnaligned_61 : decode cJ40_getLongUnaligned 61 = .ok (.aload_n 0, 1) := dk_42 (dk_at dksJ40_getLongUnaligned_2 13 rfl rfl)
theorem dJ40_getLongUnaligned_62 : decode cJ40_getLongUnaligned 62 = .ok (.aload_n 1, 1) := dk_43 (dk_at dksJ40_getLongUnaligned_2 14 rfl rfl)
theorem dJ40_getLongUnaligned_63 : decode cJ40_getLongUnaligned 63 = .ok (.lload_n 2, 1) := dk_32 (dk_at dksJ40_getLongUnaligned_2 15 rfl rfl)
theorem dJ40_getLongUnaligned_64 : decode cJ40_getLongUnaligned 64 = .ok (.ldc2_w 203, 3) := dk_20 0 203 (dk_at dksJ40_getLongUnaligned_2 16 rfl rfl)
theorem dJ40_getLongUnaligned_67 : decode cJ40_getLongUnaligned 67 = .ok (.ladd, 1) := dk_97 (dk_at dksJ40_getLongUnaligned_2 19 rfl rfl)
theorem dJ40_getLongUnaligned_68 : decode cJ40_getLongUnaligned 68 = .ok (.invokevirtual 47, 3) := dk_182 0 47 (dk_at dksJ40_getLongUnaligned_2 20 rfl rfl)
theorem dJ40_getLongUnaligned_71 : decode cJ40_getLongUnaligned 71 = .ok (.aload_n 0, 1) := dk_42 (dk_at dksJ40_getLongUnaligned_2 23 rfl rfl)
theorem dJ40_getLongUnaligned_72 : decode cJ40_getLongUnaligned 72 = .ok (.aload_n 1, 1) := dk_43 (dk_at dksJ40_getLongUnaligned_3 0 rfl rfl)
theorem dJ40_getLongUnaligned_73 : decode cJ40_getLongUnaligned 73 = .ok (.lload_n 2, 1) := dk_32 (dk_at dksJ40_getLongUnaligned_3 1 rfl rfl)
theorem dJ40_getLongUnaligned_74 : decode cJ40_getLongUnaligned 74 = .ok (.ldc2_w 205, 3) := dk_20 0 205 (dk_at dksJ40_getLongUnaligned_3 2 rfl rfl)
theorem dJ40_getLongUnaligned_77 : decode cJ40_getLongUnaligned 77 = .ok (.ladd, 1) := dk_97 (dk_at dksJ40_getLongUnaligned_3 5 rfl rfl)
theorem dJ40_getLongUnaligned_78 : decode cJ40_getLongUnaligned 78 = .ok (.invokevirtual 47, 3) := dk_182 0 47 (dk_at dksJ40_getLongUnaligned_3 6 rfl rfl)
theorem dJ40_getLongUnaligned_81 : decode cJ40_getLongUnaligned 81 = .ok (.aload_n 0, 1) := dk_42 (dk_at dksJ40_getLongUnaligned_3 9 rfl rfl)
theorem dJ40_getLongUnaligned_82 : decode cJ40_getLongUnaligned 82 = .ok (.aload_n 1, 1) := dk_43 (dk_at dksJ40_getLongUnaligned_3 10 rfl rfl)
theorem dJ40_getLongUnaligned_83 : decode cJ40_getLongUnaligned 83 = .ok (.lload_n 2, 1) := dk_32 (dk_at dksJ40_getLongUnaligned_3 11 rfl rfl)
theorem dJ40_getLongUnaligned_84 : decode cJ40_getLongUnaligned 84 = .ok (.ldc2_w 702, 3) := dk_20 2 190 (dk_at dksJ40_getLongUnaligned_3 12 rfl rfl)
theorem dJ40_getLongUnaligned_87 : decode cJ40_getLongUnaligned 87 = .ok (.ladd, 1) := dk_97 (dk_at dksJ40_getLongUnaligned_3 15 rfl rfl)
theorem dJ40_getLongUnaligned_88 : decode cJ40_getLongUnaligned 88 = .ok (.invokevirtual 47, 3) := dk_182 0 47 (dk_at dksJ40_getLongUnaligned_3 16 rfl rfl)
theorem dJ40_getLongUnaligned_91 : decode cJ40_getLongUnaligned 91 = .ok (.invokestatic 704, 3) := dk_184 2 192 (dk_at dksJ40_getLongUnaligned_3 19 rfl rfl)
theorem dJ40_getLongUnaligned_94 : decode cJ40_getLongUnaligned 94 = .ok (.lreturn, 1) := dk_173 (dk_at dksJ40_getLongUnaligned_3 22 rfl rfl)
theorem dJ40_getLongUnaligned_95 : decode cJ40_getLongUnaligned 95 = .ok (.aload_n 0, 1) := dk_42 (dk_at dksJ40_getLongUnaligned_3 23 rfl rfl)
theorem dJ40_getLongUnaligned_96 : decode cJ40_getLongUnaligned 96 = .ok (.aload_n 1, 1) := dk_43 (dk_at dksJ40_getLongUnaligned_4 0 rfl rfl)
theorem dJ40_getLongUnaligned_97 : decode cJ40_getLongUnaligned 97 = .ok (.lload_n 2, 1) := dk_32 (dk_at dksJ40_getLongUnaligned_4 1 rfl rfl)
theorem dJ40_getLongUnaligned_98 : decode cJ40_getLongUnaligned 98 = .ok (.invokevirtual 39, 3) := dk_182 0 39 (dk_at dksJ40_getLongUnaligned_4 2 rfl rfl)
theorem dJ40_getLongUnaligned_101 : decode cJ40_getLongUnaligned 101 = .ok (.aload_n 0, 1) := dk_42 (dk_at dksJ40_getLongUnaligned_4 5 rfl rfl)
theorem dJ40_getLongUnaligned_102 : decode cJ40_getLongUnaligned 102 = .ok (.aload_n 1, 1) := dk_43 (dk_at dksJ40_getLongUnaligned_4 6 rfl rfl)
theorem dJ40_getLongUnaligned_103 : decode cJ40_getLongUnaligned 103 = .ok (.lload_n 2, 1) := dk_32 (dk_at dksJ40_getLongUnaligned_4 7 rfl rfl)
theorem dJ40_getLongUnaligned_104 : decode cJ40_getLongUnaligned 104 = .ok (.lconst 1, 1) := dk_10 (dk_at dksJ40_getLongUnaligned_4 8 rfl rfl)
theorem dJ40_getLongUnaligned_105 : decode cJ40_getLongUnaligned 105 = .ok (.ladd, 1) := dk_97 (dk_at dksJ40_getLongUnaligned_4 9 rfl rfl)
theorem dJ40_getLongUnaligned_106 : decode cJ40_getLongUnaligned 106 = .ok (.invokevirtual 39, 3) := dk_182 0 39 (dk_at dksJ40_getLongUnaligned_4 10 rfl rfl)
theorem dJ40_getLongUnaligned_109 : decode cJ40_getLongUnaligned 109 = .ok (.aload_n 0, 1) := dk_42 (dk_at dksJ40_getLongUnaligned_4 13 rfl rfl)
theorem dJ40_getLongUnaligned_110 : decode cJ40_getLongUnaligned 110 = .ok (.aload_n 1, 1) := dk_43 (dk_at dksJ40_getLongUnaligned_4 14 rfl rfl)
theorem dJ40_getLongUnaligned_111 : decode cJ40_getLongUnaligned 111 = .ok (.lload_n 2, 1) := dk_32 (dk_at dksJ40_getLongUnaligned_4 15 rfl rfl)
theorem dJ40_getLongUnaligned_112 : decode cJ40_getLongUnaligned 112 = .ok (.ldc2_w 203, 3) := dk_20 0 203 (dk_at dksJ40_getLongUnaligned_4 16 rfl rfl)
theorem dJ40_getLongUnaligned_115 : decode cJ40_getLongUnaligned 115 = .ok (.ladd, 1) := dk_97 (dk_at dksJ40_getLongUnaligned_4 19 rfl rfl)
theorem dJ40_getLongUnaligned_116 : decode cJ40_getLongUnaligned 116 = .ok (.invokevirtual 39, 3) := dk_182 0 39 (dk_at dksJ40_getLongUnaligned_4 20 rfl rfl)
theorem dJ40_getLongUnaligned_119 : decode cJ40_getLongUnaligned 119 = .ok (.aload_n 0, 1) := dk_42 (dk_at dksJ40_getLongUnaligned_4 23 rfl rfl)
theorem dJ40_getLongUnaligned_120 : decode cJ40_getLongUnaligned 120 = .ok (.aload_n 1, 1) := dk_43 (dk_at dksJ40_getLongUnaligned_5 0 rfl rfl)
theorem dJ40_getLongUnaligned_121 : decode cJ40_getLongUnaligned 121 = .ok (.lload_n 2, 1) := dk_32 (dk_at dksJ40_getLongUnaligned_5 1 rfl rfl)
theorem dJ40_getLongUnaligned_122 : decode cJ40_getLongUnaligned 122 = .ok (.ldc2_w 349, 3) := dk_20 1 93 (dk_at dksJ40_getLongUnaligned_5 2 rfl rfl)
theorem dJ40_getLongUnaligned_125 : decode cJ40_getLongUnaligned 125 = .ok (.ladd, 1) := dk_97 (dk_at dksJ40_getLongUnaligned_5 5 rfl rfl)
theorem dJ40_getLongUnaligned_126 : decode cJ40_getLongUnaligned 126 = .ok (.invokevirtual 39, 3) := dk_182 0 39 (dk_at dksJ40_getLongUnaligned_5 6 rfl rfl)
theorem dJ40_getLongUnaligned_129 : decode cJ40_getLongUnaligned 129 = .ok (.aload_n 0, 1) := dk_42 (dk_at dksJ40_getLongUnaligned_5 9 rfl rfl)
theorem dJ40_getLongUnaligned_130 : decode cJ40_getLongUnaligned 130 = .ok (.aload_n 1, 1) := dk_43 (dk_at dksJ40_getLongUnaligned_5 10 rfl rfl)
theorem dJ40_getLongUnaligned_131 : decode cJ40_getLongUnaligned 131 = .ok (.lload_n 2, 1) := dk_32 (dk_at dksJ40_getLongUnaligned_5 11 rfl rfl)
theorem dJ40_getLongUnaligned_132 : decode cJ40_getLongUnaligned 132 = .ok (.ldc2_w 205, 3) := dk_20 0 205 (dk_at dksJ40_getLongUnaligned_5 12 rfl rfl)
theorem dJ40_getLongUnaligned_135 : decode cJ40_getLongUnaligned 135 = .ok (.ladd, 1) := dk_97 (dk_at dksJ40_getLongUnaligned_5 15 rfl rfl)
theorem dJ40_getLongUnaligned_136 : decode cJ40_getLongUnaligned 136 = .ok (.invokevirtual 39, 3) := dk_182 0 39 (dk_at dksJ40_getLongUnaligned_5 16 rfl rfl)
theorem dJ40_getLongUnaligned_139 : decode cJ40_getLongUnaligned 139 = .ok (.aload_n 0, 1) := dk_42 (dk_at dksJ40_getLongUnaligned_5 19 rfl rfl)
theorem dJ40_getLongUnaligned_140 : decode cJ40_getLongUnaligned 140 = .ok (.aload_n 1, 1) := dk_43 (dk_at dksJ40_getLongUnaligned_5 20 rfl rfl)
theorem dJ40_getLongUnaligned_141 : decode cJ40_getLongUnaligned 141 = .ok (.lload_n 2, 1) := dk_32 (dk_at dksJ40_getLongUnaligned_5 21 rfl rfl)
theorem dJ40_getLongUnaligned_142 : decode cJ40_getLongUnaligned 142 = .ok (.ldc2_w 707, 3) := dk_20 2 195 (dk_at dksJ40_getLongUnaligned_6 0 rfl rfl)
theorem dJ40_getLongUnaligned_145 : decode cJ40_getLongUnaligned 145 = .ok (.ladd, 1) := dk_97 (dk_at dksJ40_getLongUnaligned_6 3 rfl rfl)
theorem dJ40_getLongUnaligned_146 : decode cJ40_getLongUnaligned 146 = .ok (.invokevirtual 39, 3) := dk_182 0 39 (dk_at dksJ40_getLongUnaligned_6 4 rfl rfl)
theorem dJ40_getLongUnaligned_149 : decode cJ40_getLongUnaligned 149 = .ok (.aload_n 0, 1) := dk_42 (dk_at dksJ40_getLongUnaligned_6 7 rfl rfl)
theorem dJ40_getLongUnaligned_150 : decode cJ40_getLongUnaligned 150 = .ok (.aload_n 1, 1) := dk_43 (dk_at dksJ40_getLongUnaligned_6 8 rfl rfl)
theorem dJ40_getLongUnaligned_151 : decode cJ40_getLongUnaligned 151 = .ok (.lload_n 2, 1) := dk_32 (dk_at dksJ40_getLongUnaligned_6 9 rfl rfl)
theorem dJ40_getLongUnaligned_152 : decode cJ40_getLongUnaligned 152 = .ok (.ldc2_w 702, 3) := dk_20 2 190 (dk_at dksJ40_getLongUnaligned_6 10 rfl rfl)
theorem dJ40_getLongUnaligned_155 : decode cJ40_getLongUnaligned 155 = .ok (.ladd, 1) := dk_97 (dk_at dksJ40_getLongUnaligned_6 13 rfl rfl)
theorem dJ40_getLongUnaligned_156 : decode cJ40_getLongUnaligned 156 = .ok (.invokevirtual 39, 3) := dk_182 0 39 (dk_at dksJ40_getLongUnaligned_6 14 rfl rfl)
theorem dJ40_getLongUnaligned_159 : decode cJ40_getLongUnaligned 159 = .ok (.aload_n 0, 1) := dk_42 (dk_at dksJ40_getLongUnaligned_6 17 rfl rfl)
theorem dJ40_getLongUnaligned_160 : decode cJ40_getLongUnaligned 160 = .ok (.aload_n 1, 1) := dk_43 (dk_at dksJ40_getLongUnaligned_6 18 rfl rfl)
theorem dJ40_getLongUnaligned_161 : decode cJ40_getLongUnaligned 161 = .ok (.lload_n 2, 1) := dk_32 (dk_at dksJ40_getLongUnaligned_6 19 rfl rfl)
theorem dJ40_getLongUnaligned_162 : decode cJ40_getLongUnaligned 162 = .ok (.ldc2_w 696, 3) := dk_20 2 184 (dk_at dksJ40_getLongUnaligned_6 20 rfl rfl)
theorem dJ40_getLongUnaligned_165 : decode cJ40_getLongUnaligned 165 = .ok (.ladd, 1) := dk_97 (dk_at dksJ40_getLongUnaligned_6 23 rfl rfl)
theorem dJ40_getLongUnaligned_166 : decode cJ40_getLongUnaligned 166 = .ok (.invokevirtual 39, 3) := dk_182 0 39 (dk_at dksJ40_getLongUnaligned_7 0 rfl rfl)
theorem dJ40_getLongUnaligned_169 : decode cJ40_getLongUnaligned 169 = .ok (.invokestatic 709, 3) := dk_184 2 197 (dk_at dksJ40_getLongUnaligned_7 3 rfl rfl)
theorem dJ40_getLongUnaligned_172 : decode cJ40_getLongUnaligned 172 = .ok (.lreturn, 1) := dk_173 (dk_at dksJ40_getLongUnaligned_7 6 rfl rfl)
abbrev cJ40_makeLong : ByteArray := prog_100_method_353_code
def yJ40_makeLong : MethodName := ⟨RJ40, "makeLong", "(II)J"⟩
def dkwJ40_makeLong_1 : List UInt8 := [173]
abbrev dktJ40_makeLong_1 : List UInt8 := dkwJ40_makeLong_1 ++ []
def dkwJ40_makeLong_0 : List UInt8 := [26, 184, 3, 23, 16, 32, 3, 184, 3, 16, 121, 27, 184, 3, 23, 16, 32, 16, 32, 184, 3, 16, 121, 129]
abbrev dktJ40_makeLong_0 : List UInt8 := dkwJ40_makeLong_0 ++ dktJ40_makeLong_1
theorem dksJ40_makeLong_0 : cJ40_makeLong.data.toList.drop 0 = dktJ40_makeLong_0 := by decide +kernel
theorem dksJ40_makeLong_1 : cJ40_makeLong.data.toList.drop 24 = dktJ40_makeLong_1 := dk_seg dksJ40_makeLong_0 24 rfl rfl
theorem dJ40_makeLong_0 : decode cJ40_makeLong 0 = .ok (.iload_n 0, 1) := dk_26 (dk_at dksJ40_makeLong_0 0 rfl rfl)
theorem dJ40_makeLong_1 : decode cJ40_makeLong 1 = .ok (.invokestatic 791, 3) := dk_184 3 23 (dk_at dksJ40_makeLong_0 1 rfl rfl)
theorem dJ40_makeLong_4 : decode cJ40_makeLong 4 = .ok (.bipush 32, 2) := dk_16 32 (dk_at dksJ40_makeLong_0 4 rfl rfl)
theorem dJ40_makeLong_6 : decode cJ40_makeLong 6 = .ok (.iconst 0, 1) := dk_3 (dk_at dksJ40_makeLong_0 6 rfl rfl)
theorem dJ40_makeLong_7 : decode cJ40_makeLong 7 = .ok (.invokestatic 784, 3) := dk_184 3 16 (dk_at dksJ40_makeLong_0 7 rfl rfl)
theorem dJ40_makeLong_10 : decode cJ40_makeLong 10 = .ok (.lshl, 1) := dk_121 (dk_at dksJ40_makeLong_0 10 rfl rfl)
theorem dJ40_makeLong_11 : decode cJ40_makeLong 11 = .ok (.iload_n 1, 1) := dk_27 (dk_at dksJ40_makeLong_0 11 rfl rfl)
theorem dJ40_makeLong_12 : decode cJ40_makeLong 12 = .ok (.invokestatic 791, 3) := dk_184 3 23 (dk_at dksJ40_makeLong_0 12 rfl rfl)
theorem dJ40_makeLong_15 : decode cJ40_makeLong 15 = .ok (.bipush 32, 2) := dk_16 32 (dk_at dksJ40_makeLong_0 15 rfl rfl)
theorem dJ40_makeLong_17 : decode cJ40_makeLong 17 = .ok (.bipush 32, 2) := dk_16 32 (dk_at dksJ40_makeLong_0 17 rfl rfl)
theorem dJ40_makeLong_19 : decode cJ40_makeLong 19 = .ok (.invokestatic 784, 3) := dk_184 3 16 (dk_at dksJ40_makeLong_0 19 rfl rfl)
theorem dJ40_makeLong_22 : decode cJ40_makeLong 22 = .ok (.lshl, 1) := dk_121 (dk_at dksJ40_makeLong_0 22 rfl rfl)
theorem dJ40_makeLong_23 : decode cJ40_makeLong 23 = .ok (.lor, 1) := dk_129 (dk_at dksJ40_makeLong_0 23 rfl rfl)
theorem dJ40_makeLong_24 : decode cJ40_makeLong 24 = .ok (.lreturn, 1) := dk_173 (dk_at dksJ40_makeLong_1 0 rfl rfl)
abbrev cJ40_toUnsignedLong : ByteArray := prog_100_method_370_code
def yJ40_toUnsignedLong : MethodName := ⟨RJ40, "toUnsignedLong", "(I)J"⟩
def dkwJ40_toUnsignedLong_0 : List UInt8 := [26, 133, 20, 3, 44, 127, 173]
abbrev dktJ40_toUnsignedLong_0 : List UInt8 := dkwJ40_toUnsignedLong_0 ++ []
theorem dksJ40_toUnsignedLong_0 : cJ40_toUnsignedLong.data.toList.drop 0 = dktJ40_toUnsignedLong_0 := by decide +kernel
theorem dJ40_toUnsignedLong_0 : decode cJ40_toUnsignedLong 0 = .ok (.iload_n 0, 1) := dk_26 (dk_at dksJ40_toUnsignedLong_0 0 rfl rfl)
theorem dJ40_toUnsignedLong_1 : decode cJ40_toUnsignedLong 1 = .ok (.i2l, 1) := dk_133 (dk_at dksJ40_toUnsignedLong_0 1 rfl rfl)
theorem dJ40_toUnsignedLong_2 : decode cJ40_toUnsignedLong 2 = .ok (.ldc2_w 812, 3) := dk_20 3 44 (dk_at dksJ40_toUnsignedLong_0 2 rfl rfl)
theorem dJ40_toUnsignedLong_5 : decode cJ40_toUnsignedLong 5 = .ok (.land, 1) := dk_127 (dk_at dksJ40_toUnsignedLong_0 5 rfl rfl)
theorem dJ40_toUnsignedLong_6 : decode cJ40_toUnsignedLong 6 = .ok (.lreturn, 1) := dk_173 (dk_at dksJ40_toUnsignedLong_0 6 rfl rfl)
abbrev cJ40_pickPos : ByteArray := prog_100_method_350_code
def yJ40_pickPos : MethodName := ⟨RJ40, "pickPos", "(II)I"⟩
def dkwJ40_pickPos_0 : List UInt8 := [178, 1, 95, 153, 0, 9, 26, 27, 100, 167, 0, 4, 27, 172]
abbrev dktJ40_pickPos_0 : List UInt8 := dkwJ40_pickPos_0 ++ []
theorem dksJ40_pickPos_0 : cJ40_pickPos.data.toList.drop 0 = dktJ40_pickPos_0 := by decide +kernel
theorem dJ40_pickPos_0 : decode cJ40_pickPos 0 = .ok (.getstatic 351, 3) := dk_178 1 95 (dk_at dksJ40_pickPos_0 0 rfl rfl)
theorem dJ40_pickPos_3 : decode cJ40_pickPos 3 = .ok (.ifCond .eq 9, 3) := dk_153 0 9 (dk_at dksJ40_pickPos_0 3 rfl rfl)
theorem dJ40_pickPos_6 : decode cJ40_pickPos 6 = .ok (.iload_n 0, 1) := dk_26 (dk_at dksJ40_pickPos_0 6 rfl rfl)
theorem dJ40_pickPos_7 : decode cJ40_pickPos 7 = .ok (.iload_n 1, 1) := dk_27 (dk_at dksJ40_pickPos_0 7 rfl rfl)
theorem dJ40_pickPos_8 : decode cJ40_pickPos 8 = .ok (.isub, 1) := dk_100 (dk_at dksJ40_pickPos_0 8 rfl rfl)
theorem dJ40_pickPos_9 : decode cJ40_pickPos 9 = .ok (.goto 4, 3) := dk_167 0 4 (dk_at dksJ40_pickPos_0 9 rfl rfl)
theorem dJ40_pickPos_12 : decode cJ40_pickPos 12 = .ok (.iload_n 1, 1) := dk_27 (dk_at dksJ40_pickPos_0 12 rfl rfl)
theorem dJ40_pickPos_13 : decode cJ40_pickPos 13 = .ok (.ireturn, 1) := dk_172 (dk_at dksJ40_pickPos_0 13 rfl rfl)
abbrev cJ40_makeLong_2 : ByteArray := prog_100_method_352_code
def yJ40_makeLong_2 : MethodName := ⟨RJ40, "makeLong", "(SSSS)J"⟩
def dkwJ40_makeLong_2_2 : List UInt8 := [121, 129, 173]
abbrev dktJ40_makeLong_2_2 : List UInt8 := dkwJ40_makeLong_2_2 ++ []
def dkwJ40_makeLong_2_1 : List UInt8 := [28, 184, 3, 20, 16, 48, 16, 32, 184, 3, 16, 121, 129, 29, 184, 3, 20, 16, 48, 16, 48, 184, 3, 16]
abbrev dktJ40_makeLong_2_1 : List UInt8 := dkwJ40_makeLong_2_1 ++ dktJ40_makeLong_2_2
def dkwJ40_makeLong_2_0 : List UInt8 := [26, 184, 3, 20, 16, 48, 3, 184, 3, 16, 121, 27, 184, 3, 20, 16, 48, 16, 16, 184, 3, 16, 121, 129]
abbrev dktJ40_makeLong_2_0 : List UInt8 := dkwJ40_makeLong_2_0 ++ dktJ40_makeLong_2_1
theorem dksJ40_makeLong_2_0 : cJ40_makeLong_2.data.toList.drop 0 = dktJ40_makeLong_2_0 := by decide +kernel
theorem dksJ40_makeLong_2_1 : cJ40_makeLong_2.data.toList.drop 24 = dktJ40_makeLong_2_1 := dk_seg dksJ40_makeLong_2_0 24 rfl rfl
theorem dksJ40_makeLong_2_2 : cJ40_makeLong_2.data.toList.drop 48 = dktJ40_makeLong_2_2 := dk_seg dksJ40_makeLong_2_1 24 rfl rfl
theorem dJ40_makeLong_2_0 : decode cJ40_makeLong_2 0 = .ok (.iload_n 0, 1) := dk_26 (dk_at dksJ40_makeLong_2_0 0 rfl rfl)
theorem dJ40_makeLong_2_1 : decode cJ40_makeLong_2 1 = .ok (.invokestatic 788, 3) := dk_184 3 20 (dk_at dksJ40_makeLong_2_0 1 rfl rfl)
theorem dJ40_makeLong_2_4 : decode cJ40_makeLong_2 4 = .ok (.bipush 48, 2) := dk_16 48 (dk_at dksJ40_makeLong_2_0 4 rfl rfl)
theorem dJ40_makeLong_2_6 : decode cJ40_makeLong_2 6 = .ok (.iconst 0, 1) := dk_3 (dk_at dksJ40_makeLong_2_0 6 rfl rfl)
theorem dJ40_makeLong_2_7 : decode cJ40_makeLong_2 7 = .ok (.invokestatic 784, 3) := dk_184 3 16 (dk_at dksJ40_makeLong_2_0 7 rfl rfl)
theorem dJ40_makeLong_2_10 : decode cJ40_makeLong_2 10 = .ok (.lshl, 1) := dk_121 (dk_at dksJ40_makeLong_2_0 10 rfl rfl)
theorem dJ40_makeLong_2_11 : decode cJ40_makeLong_2 11 = .ok (.iload_n 1, 1) := dk_27 (dk_at dksJ40_makeLong_2_0 11 rfl rfl)
theorem dJ40_makeLong_2_12 : decode cJ40_makeLong_2 12 = .ok (.invokestatic 788, 3) := dk_184 3 20 (dk_at dksJ40_makeLong_2_0 12 rfl rfl)
theorem dJ40_makeLong_2_15 : decode cJ40_makeLong_2 15 = .ok (.bipush 48, 2) := dk_16 48 (dk_at dksJ40_makeLong_2_0 15 rfl rfl)
theorem dJ40_makeLong_2_17 : decode cJ40_makeLong_2 17 = .ok (.bipush 16, 2) := dk_16 16 (dk_at dksJ40_makeLong_2_0 17 rfl rfl)
theorem dJ40_makeLong_2_19 : decode cJ40_makeLong_2 19 = .ok (.invokestatic 784, 3) := dk_184 3 16 (dk_at dksJ40_makeLong_2_0 19 rfl rfl)
theorem dJ40_makeLong_2_22 : decode cJ40_makeLong_2 22 = .ok (.lshl, 1) := dk_121 (dk_at dksJ40_makeLong_2_0 22 rfl rfl)
theorem dJ40_makeLong_2_23 : decode cJ40_makeLong_2 23 = .ok (.lor, 1) := dk_129 (dk_at dksJ40_makeLong_2_0 23 rfl rfl)
theorem dJ40_makeLong_2_24 : decode cJ40_makeLong_2 24 = .ok (.iload_n 2, 1) := dk_28 (dk_at dksJ40_makeLong_2_1 0 rfl rfl)
theorem dJ40_makeLong_2_25 : decode cJ40_makeLong_2 25 = .ok (.invokestatic 788, 3) := dk_184 3 20 (dk_at dksJ40_makeLong_2_1 1 rfl rfl)
theorem dJ40_makeLong_2_28 : decode cJ40_makeLong_2 28 = .ok (.bipush 48, 2) := dk_16 48 (dk_at dksJ40_makeLong_2_1 4 rfl rfl)
theorem dJ40_makeLong_2_30 : decode cJ40_makeLong_2 30 = .ok (.bipush 32, 2) := dk_16 32 (dk_at dksJ40_makeLong_2_1 6 rfl rfl)
theorem dJ40_makeLong_2_32 : decode cJ40_makeLong_2 32 = .ok (.invokestatic 784, 3) := dk_184 3 16 (dk_at dksJ40_makeLong_2_1 8 rfl rfl)
theorem dJ40_makeLong_2_35 : decode cJ40_makeLong_2 35 = .ok (.lshl, 1) := dk_121 (dk_at dksJ40_makeLong_2_1 11 rfl rfl)
theorem dJ40_makeLong_2_36 : decode cJ40_makeLong_2 36 = .ok (.lor, 1) := dk_129 (dk_at dksJ40_makeLong_2_1 12 rfl rfl)
theorem dJ40_makeLong_2_37 : decode cJ40_makeLong_2 37 = .ok (.iload_n 3, 1) := dk_29 (dk_at dksJ40_makeLong_2_1 13 rfl rfl)
theorem dJ40_makeLong_2_38 : decode cJ40_makeLong_2 38 = .ok (.invokestatic 788, 3) := dk_184 3 20 (dk_at dksJ40_makeLong_2_1 14 rfl rfl)
theorem dJ40_makeLong_2_41 : decode cJ40_makeLong_2 41 = .ok (.bipush 48, 2) := dk_16 48 (dk_at dksJ40_makeLong_2_1 17 rfl rfl)
theorem dJ40_makeLong_2_43 : decode cJ40_makeLong_2 43 = .ok (.bipush 48, 2) := dk_16 48 (dk_at dksJ40_makeLong_2_1 19 rfl rfl)
theorem dJ40_makeLong_2_45 : decode cJ40_makeLong_2 45 = .ok (.invokestatic 784, 3) := dk_184 3 16 (dk_at dksJ40_makeLong_2_1 21 rfl rfl)
theorem dJ40_makeLong_2_48 : decode cJ40_makeLong_2 48 = .ok (.lshl, 1) := dk_121 (dk_at dksJ40_makeLong_2_2 0 rfl rfl)
theorem dJ40_makeLong_2_49 : decode cJ40_makeLong_2 49 = .ok (.lor, 1) := dk_129 (dk_at dksJ40_makeLong_2_2 1 rfl rfl)
theorem dJ40_makeLong_2_50 : decode cJ40_makeLong_2 50 = .ok (.lreturn, 1) := dk_173 (dk_at dksJ40_makeLong_2_2 2 rfl rfl)
abbrev cJ40_toUnsignedLong_2 : ByteArray := prog_100_method_369_code
def yJ40_toUnsignedLong_2 : MethodName := ⟨RJ40, "toUnsignedLong", "(S)J"⟩
def dkwJ40_toUnsignedLong_2_0 : List UInt8 := [26, 133, 20, 3, 42, 127, 173]
abbrev dktJ40_toUnsignedLong_2_0 : List UInt8 := dkwJ40_toUnsignedLong_2_0 ++ []
theorem dksJ40_toUnsignedLong_2_0 : cJ40_toUnsignedLong_2.data.toList.drop 0 = dktJ40_toUnsignedLong_2_0 := by decide +kernel
theorem dJ40_toUnsignedLong_2_0 : decode cJ40_toUnsignedLong_2 0 = .ok (.iload_n 0, 1) := dk_26 (dk_at dksJ40_toUnsignedLong_2_0 0 rfl rfl)
theorem dJ40_toUnsignedLong_2_1 : decode cJ40_toUnsignedLong_2 1 = .ok (.i2l, 1) := dk_133 (dk_at dksJ40_toUnsignedLong_2_0 1 rfl rfl)
theorem dJ40_toUnsignedLong_2_2 : decode cJ40_toUnsignedLong_2 2 = .ok (.ldc2_w 810, 3) := dk_20 3 42 (dk_at dksJ40_toUnsignedLong_2_0 2 rfl rfl)
theorem dJ40_toUnsignedLong_2_5 : decode cJ40_toUnsignedLong_2 5 = .ok (.land, 1) := dk_127 (dk_at dksJ40_toUnsignedLong_2_0 5 rfl rfl)
theorem dJ40_toUnsignedLong_2_6 : decode cJ40_toUnsignedLong_2 6 = .ok (.lreturn, 1) := dk_173 (dk_at dksJ40_toUnsignedLong_2_0 6 rfl rfl)
abbrev cJ40_makeLong_3 : ByteArray := prog_100_method_351_code
def yJ40_makeLong_3 : MethodName := ⟨RJ40, "makeLong", "(BBBBBBBB)J"⟩
def dkwJ40_makeLong_3_4 : List UInt8 := [184, 3, 13, 16, 56, 16, 56, 184, 3, 16, 121, 129, 173]
abbrev dktJ40_makeLong_3_4 : List UInt8 := dkwJ40_makeLong_3_4 ++ []
def dkwJ40_makeLong_3_3 : List UInt8 := [16, 40, 184, 3, 16, 121, 129, 21, 6, 184, 3, 13, 16, 56, 16, 48, 184, 3, 16, 121, 129, 21, 7]
abbrev dktJ40_makeLong_3_3 : List UInt8 := dkwJ40_makeLong_3_3 ++ dktJ40_makeLong_3_4
def dkwJ40_makeLong_3_2 : List UInt8 := [121, 129, 21, 4, 184, 3, 13, 16, 56, 16, 32, 184, 3, 16, 121, 129, 21, 5, 184, 3, 13, 16, 56]
abbrev dktJ40_makeLong_3_2 : List UInt8 := dkwJ40_makeLong_3_2 ++ dktJ40_makeLong_3_3
def dkwJ40_makeLong_3_1 : List UInt8 := [28, 184, 3, 13, 16, 56, 16, 16, 184, 3, 16, 121, 129, 29, 184, 3, 13, 16, 56, 16, 24, 184, 3, 16]
abbrev dktJ40_makeLong_3_1 : List UInt8 := dkwJ40_makeLong_3_1 ++ dktJ40_makeLong_3_2
def dkwJ40_makeLong_3_0 : List UInt8 := [26, 184, 3, 13, 16, 56, 3, 184, 3, 16, 121, 27, 184, 3, 13, 16, 56, 16, 8, 184, 3, 16, 121, 129]
abbrev dktJ40_makeLong_3_0 : List UInt8 := dkwJ40_makeLong_3_0 ++ dktJ40_makeLong_3_1
theorem dksJ40_makeLong_3_0 : cJ40_makeLong_3.data.toList.drop 0 = dktJ40_makeLong_3_0 := by decide +kernel
theorem dksJ40_makeLong_3_1 : cJ40_makeLong_3.data.toList.drop 24 = dktJ40_makeLong_3_1 := dk_seg dksJ40_makeLong_3_0 24 rfl rfl
theorem dksJ40_makeLong_3_2 : cJ40_makeLong_3.data.toList.drop 48 = dktJ40_makeLong_3_2 := dk_seg dksJ40_makeLong_3_1 24 rfl rfl
theorem dksJ40_makeLong_3_3 : cJ40_makeLong_3.data.toList.drop 71 = dktJ40_makeLong_3_3 := dk_seg dksJ40_makeLong_3_2 23 rfl rfl
theorem dksJ40_makeLong_3_4 : cJ40_makeLong_3.data.toList.drop 94 = dktJ40_makeLong_3_4 := dk_seg dksJ40_makeLong_3_3 23 rfl rfl
theorem dJ40_makeLong_3_0 : decode cJ40_makeLong_3 0 = .ok (.iload_n 0, 1) := dk_26 (dk_at dksJ40_makeLong_3_0 0 rfl rfl)
theorem dJ40_makeLong_3_1 : decode cJ40_makeLong_3 1 = .ok (.invokestatic 781, 3) := dk_184 3 13 (dk_at dksJ40_makeLong_3_0 1 rfl rfl)
theorem dJ40_makeLong_3_4 : decode cJ40_makeLong_3 4 = .ok (.bipush 56, 2) := dk_16 56 (dk_at dksJ40_makeLong_3_0 4 rfl rfl)
theorem dJ40_makeLong_3_6 : decode cJ40_makeLong_3 6 = .ok (.iconst 0, 1) := dk_3 (dk_at dksJ40_makeLong_3_0 6 rfl rfl)
theorem dJ40_makeLong_3_7 : decode cJ40_makeLong_3 7 = .ok (.invokestatic 784, 3) := dk_184 3 16 (dk_at dksJ40_makeLong_3_0 7 rfl rfl)
theorem dJ40_makeLong_3_10 : decode cJ40_makeLong_3 10 = .ok (.lshl, 1) := dk_121 (dk_at dksJ40_makeLong_3_0 10 rfl rfl)
theorem dJ40_makeLong_3_11 : decode cJ40_makeLong_3 11 = .ok (.iload_n 1, 1) := dk_27 (dk_at dksJ40_makeLong_3_0 11 rfl rfl)
theorem dJ40_makeLong_3_12 : decode cJ40_makeLong_3 12 = .ok (.invokestatic 781, 3) := dk_184 3 13 (dk_at dksJ40_makeLong_3_0 12 rfl rfl)
theorem dJ40_makeLong_3_15 : decode cJ40_makeLong_3 15 = .ok (.bipush 56, 2) := dk_16 56 (dk_at dksJ40_makeLong_3_0 15 rfl rfl)
theorem dJ40_makeLong_3_17 : decode cJ40_makeLong_3 17 = .ok (.bipush 8, 2) := dk_16 8 (dk_at dksJ40_makeLong_3_0 17 rfl rfl)
theorem dJ40_makeLong_3_19 : decode cJ40_makeLong_3 19 = .ok (.invokestatic 784, 3) := dk_184 3 16 (dk_at dksJ40_makeLong_3_0 19 rfl rfl)
theorem dJ40_makeLong_3_22 : decode cJ40_makeLong_3 22 = .ok (.lshl, 1) := dk_121 (dk_at dksJ40_makeLong_3_0 22 rfl rfl)
theorem dJ40_makeLong_3_23 : decode cJ40_makeLong_3 23 = .ok (.lor, 1) := dk_129 (dk_at dksJ40_makeLong_3_0 23 rfl rfl)
theorem dJ40_makeLong_3_24 : decode cJ40_makeLong_3 24 = .ok (.iload_n 2, 1) := dk_28 (dk_at dksJ40_makeLong_3_1 0 rfl rfl)
theorem dJ40_makeLong_3_25 : decode cJ40_makeLong_3 25 = .ok (.invokestatic 781, 3) := dk_184 3 13 (dk_at dksJ40_makeLong_3_1 1 rfl rfl)
theorem dJ40_makeLong_3_28 : decode cJ40_makeLong_3 28 = .ok (.bipush 56, 2) := dk_16 56 (dk_at dksJ40_makeLong_3_1 4 rfl rfl)
theorem dJ40_makeLong_3_30 : decode cJ40_makeLong_3 30 = .ok (.bipush 16, 2) := dk_16 16 (dk_at dksJ40_makeLong_3_1 6 rfl rfl)
theorem dJ40_makeLong_3_32 : decode cJ40_makeLong_3 32 = .ok (.invokestatic 784, 3) := dk_184 3 16 (dk_at dksJ40_makeLong_3_1 8 rfl rfl)
theorem dJ40_makeLong_3_35 : decode cJ40_makeLong_3 35 = .ok (.lshl, 1) := dk_121 (dk_at dksJ40_makeLong_3_1 11 rfl rfl)
theorem dJ40_makeLong_3_36 : decode cJ40_makeLong_3 36 = .ok (.lor, 1) := dk_129 (dk_at dksJ40_makeLong_3_1 12 rfl rfl)
theorem dJ40_makeLong_3_37 : decode cJ40_makeLong_3 37 = .ok (.iload_n 3, 1) := dk_29 (dk_at dksJ40_makeLong_3_1 13 rfl rfl)
theorem dJ40_makeLong_3_38 : decode cJ40_makeLong_3 38 = .ok (.invokestatic 781, 3) := dk_184 3 13 (dk_at dksJ40_makeLong_3_1 14 rfl rfl)
theorem dJ40_makeLong_3_41 : decode cJ40_makeLong_3 41 = .ok (.bipush 56, 2) := dk_16 56 (dk_at dksJ40_makeLong_3_1 17 rfl rfl)
theorem dJ40_makeLong_3_43 : decode cJ40_makeLong_3 43 = .ok (.bipush 24, 2) := dk_16 24 (dk_at dksJ40_makeLong_3_1 19 rfl rfl)
theorem dJ40_makeLong_3_45 : decode cJ40_makeLong_3 45 = .ok (.invokestatic 784, 3) := dk_184 3 16 (dk_at dksJ40_makeLong_3_1 21 rfl rfl)
theorem dJ40_makeLong_3_48 : decode cJ40_makeLong_3 48 = .ok (.lshl, 1) := dk_121 (dk_at dksJ40_makeLong_3_2 0 rfl rfl)
theorem dJ40_makeLong_3_49 : decode cJ40_makeLong_3 49 = .ok (.lor, 1) := dk_129 (dk_at dksJ40_makeLong_3_2 1 rfl rfl)
theorem dJ40_makeLong_3_50 : decode cJ40_makeLong_3 50 = .ok (.iload 4, 2) := dk_21 4 (dk_at dksJ40_makeLong_3_2 2 rfl rfl)
theorem dJ40_makeLong_3_52 : decode cJ40_makeLong_3 52 = .ok (.invokestatic 781, 3) := dk_184 3 13 (dk_at dksJ40_makeLong_3_2 4 rfl rfl)
theorem dJ40_makeLong_3_55 : decode cJ40_makeLong_3 55 = .ok (.bipush 56, 2) := dk_16 56 (dk_at dksJ40_makeLong_3_2 7 rfl rfl)
theorem dJ40_makeLong_3_57 : decode cJ40_makeLong_3 57 = .ok (.bipush 32, 2) := dk_16 32 (dk_at dksJ40_makeLong_3_2 9 rfl rfl)
theorem dJ40_makeLong_3_59 : decode cJ40_makeLong_3 59 = .ok (.invokestatic 784, 3) := dk_184 3 16 (dk_at dksJ40_makeLong_3_2 11 rfl rfl)
theorem dJ40_makeLong_3_62 : decode cJ40_makeLong_3 62 = .ok (.lshl, 1) := dk_121 (dk_at dksJ40_makeLong_3_2 14 rfl rfl)
theorem dJ40_makeLong_3_63 : decode cJ40_makeLong_3 63 = .ok (.lor, 1) := dk_129 (dk_at dksJ40_makeLong_3_2 15 rfl rfl)
theorem dJ40_makeLong_3_64 : decode cJ40_makeLong_3 64 = .ok (.iload 5, 2) := dk_21 5 (dk_at dksJ40_makeLong_3_2 16 rfl rfl)
theorem dJ40_makeLong_3_66 : decode cJ40_makeLong_3 66 = .ok (.invokestatic 781, 3) := dk_184 3 13 (dk_at dksJ40_makeLong_3_2 18 rfl rfl)
theorem dJ40_makeLong_3_69 : decode cJ40_makeLong_3 69 = .ok (.bipush 56, 2) := dk_16 56 (dk_at dksJ40_makeLong_3_2 21 rfl rfl)
theorem dJ40_makeLong_3_71 : decode cJ40_makeLong_3 71 = .ok (.bipush 40, 2) := dk_16 40 (dk_at dksJ40_makeLong_3_3 0 rfl rfl)
theorem dJ40_makeLong_3_73 : decode cJ40_makeLong_3 73 = .ok (.invokestatic 784, 3) := dk_184 3 16 (dk_at dksJ40_makeLong_3_3 2 rfl rfl)
theorem dJ40_makeLong_3_76 : decode cJ40_makeLong_3 76 = .ok (.lshl, 1) := dk_121 (dk_at dksJ40_makeLong_3_3 5 rfl rfl)
theorem dJ40_makeLong_3_77 : decode cJ40_makeLong_3 77 = .ok (.lor, 1) := dk_129 (dk_at dksJ40_makeLong_3_3 6 rfl rfl)
theorem dJ40_makeLong_3_78 : decode cJ40_makeLong_3 78 = .ok (.iload 6, 2) := dk_21 6 (dk_at dksJ40_makeLong_3_3 7 rfl rfl)
theorem dJ40_makeLong_3_80 : decode cJ40_makeLong_3 80 = .ok (.invokestatic 781, 3) := dk_184 3 13 (dk_at dksJ40_makeLong_3_3 9 rfl rfl)
theorem dJ40_makeLong_3_83 : decode cJ40_makeLong_3 83 = .ok (.bipush 56, 2) := dk_16 56 (dk_at dksJ40_makeLong_3_3 12 rfl rfl)
theorem dJ40_makeLong_3_85 : decode cJ40_makeLong_3 85 = .ok (.bipush 48, 2) := dk_16 48 (dk_at dksJ40_makeLong_3_3 14 rfl rfl)
theorem dJ40_makeLong_3_87 : decode cJ40_makeLong_3 87 = .ok (.invokestatic 784, 3) := dk_184 3 16 (dk_at dksJ40_makeLong_3_3 16 rfl rfl)
theorem dJ40_makeLong_3_90 : decode cJ40_makeLong_3 90 = .ok (.lshl, 1) := dk_121 (dk_at dksJ40_makeLong_3_3 19 rfl rfl)
theorem dJ40_makeLong_3_91 : decode cJ40_makeLong_3 91 = .ok (.lor, 1) := dk_129 (dk_at dksJ40_makeLong_3_3 20 rfl rfl)
theorem dJ40_makeLong_3_92 : decode cJ40_makeLong_3 92 = .ok (.iload 7, 2) := dk_21 7 (dk_at dksJ40_makeLong_3_3 21 rfl rfl)
theorem dJ40_makeLong_3_94 : decode cJ40_makeLong_3 94 = .ok (.invokestatic 781, 3) := dk_184 3 13 (dk_at dksJ40_makeLong_3_4 0 rfl rfl)
theorem dJ40_makeLong_3_97 : decode cJ40_makeLong_3 97 = .ok (.bipush 56, 2) := dk_16 56 (dk_at dksJ40_makeLong_3_4 3 rfl rfl)
theorem dJ40_makeLong_3_99 : decode cJ40_makeLong_3 99 = .ok (.bipush 56, 2) := dk_16 56 (dk_at dksJ40_makeLong_3_4 5 rfl rfl)
theorem dJ40_makeLong_3_101 : decode cJ40_makeLong_3 101 = .ok (.invokestatic 784, 3) := dk_184 3 16 (dk_at dksJ40_makeLong_3_4 7 rfl rfl)
theorem dJ40_makeLong_3_104 : decode cJ40_makeLong_3 104 = .ok (.lshl, 1) := dk_121 (dk_at dksJ40_makeLong_3_4 10 rfl rfl)
theorem dJ40_makeLong_3_105 : decode cJ40_makeLong_3 105 = .ok (.lor, 1) := dk_129 (dk_at dksJ40_makeLong_3_4 11 rfl rfl)
theorem dJ40_makeLong_3_106 : decode cJ40_makeLong_3 106 = .ok (.lreturn, 1) := dk_173 (dk_at dksJ40_makeLong_3_4 12 rfl rfl)
abbrev cJ40_toUnsignedLong_3 : ByteArray := prog_100_method_368_code
def yJ40_toUnsignedLong_3 : MethodName := ⟨RJ40, "toUnsignedLong", "(B)J"⟩
def dkwJ40_toUnsignedLong_3_0 : List UInt8 := [26, 133, 20, 3, 40, 127, 173]
abbrev dktJ40_toUnsignedLong_3_0 : List UInt8 := dkwJ40_toUnsignedLong_3_0 ++ []
theorem dksJ40_toUnsignedLong_3_0 : cJ40_toUnsignedLong_3.data.toList.drop 0 = dktJ40_toUnsignedLong_3_0 := by decide +kernel
theorem dJ40_toUnsignedLong_3_0 : decode cJ40_toUnsignedLong_3 0 = .ok (.iload_n 0, 1) := dk_26 (dk_at dksJ40_toUnsignedLong_3_0 0 rfl rfl)
theorem dJ40_toUnsignedLong_3_1 : decode cJ40_toUnsignedLong_3 1 = .ok (.i2l, 1) := dk_133 (dk_at dksJ40_toUnsignedLong_3_0 1 rfl rfl)
theorem dJ40_toUnsignedLong_3_2 : decode cJ40_toUnsignedLong_3 2 = .ok (.ldc2_w 808, 3) := dk_20 3 40 (dk_at dksJ40_toUnsignedLong_3_0 2 rfl rfl)
theorem dJ40_toUnsignedLong_3_5 : decode cJ40_toUnsignedLong_3 5 = .ok (.land, 1) := dk_127 (dk_at dksJ40_toUnsignedLong_3_0 5 rfl rfl)
theorem dJ40_toUnsignedLong_3_6 : decode cJ40_toUnsignedLong_3 6 = .ok (.lreturn, 1) := dk_173 (dk_at dksJ40_toUnsignedLong_3_0 6 rfl rfl)
abbrev cJ40_getIntUnaligned : ByteArray := prog_100_method_336_code
def yJ40_getIntUnaligned : MethodName := ⟨RJ40, "getIntUnaligned", "(Ljava/lang/Object;J)I"⟩
def dkwJ40_getIntUnaligned_3 : List UInt8 := [43, 32, 20, 1, 93, 97, 182, 0, 39, 184, 2, 211, 172]
abbrev dktJ40_getIntUnaligned_3 : List UInt8 := dkwJ40_getIntUnaligned_3 ++ []
def dkwJ40_getIntUnaligned_2 : List UInt8 := [43, 32, 182, 0, 39, 42, 43, 32, 10, 97, 182, 0, 39, 42, 43, 32, 20, 0, 203, 97, 182, 0, 39, 42]
abbrev dktJ40_getIntUnaligned_2 : List UInt8 := dkwJ40_getIntUnaligned_2 ++ dktJ40_getIntUnaligned_3
def dkwJ40_getIntUnaligned_1 : List UInt8 := [154, 0, 23, 42, 43, 32, 182, 0, 47, 42, 43, 32, 20, 0, 203, 97, 182, 0, 47, 184, 2, 207, 172, 42]
abbrev dktJ40_getIntUnaligned_1 : List UInt8 := dkwJ40_getIntUnaligned_1 ++ dktJ40_getIntUnaligned_2
def dkwJ40_getIntUnaligned_0 : List UInt8 := [32, 20, 1, 93, 127, 9, 148, 154, 0, 10, 42, 43, 32, 182, 0, 17, 172, 32, 10, 127, 9, 148]
abbrev dktJ40_getIntUnaligned_0 : List UInt8 := dkwJ40_getIntUnaligned_0 ++ dktJ40_getIntUnaligned_1
theorem dksJ40_getIntUnaligned_0 : cJ40_getIntUnaligned.data.toList.drop 0 = dktJ40_getIntUnaligned_0 := by decide +kernel
theorem dksJ40_getIntUnaligned_1 : cJ40_getIntUnaligned.data.toList.drop 22 = dktJ40_getIntUnaligned_1 := dk_seg dksJ40_getIntUnaligned_0 22 rfl rfl
theorem dksJ40_getIntUnaligned_2 : cJ40_getIntUnaligned.data.toList.drop 46 = dktJ40_getIntUnaligned_2 := dk_seg dksJ40_getIntUnaligned_1 24 rfl rfl
theorem dksJ40_getIntUnaligned_3 : cJ40_getIntUnaligned.data.toList.drop 70 = dktJ40_getIntUnaligned_3 := dk_seg dksJ40_getIntUnaligned_2 24 rfl rfl
theorem dJ40_getIntUnaligned_0 : decode cJ40_getIntUnaligned 0 = .ok (.lload_n 2, 1) := dk_32 (dk_at dksJ40_getIntUnaligned_0 0 rfl rfl)
theorem dJ40_getIntUnaligned_1 : decode cJ40_getIntUnaligned 1 = .ok (.ldc2_w 349, 3) := dk_20 1 93 (dk_at dksJ40_getIntUnaligned_0 1 rfl rfl)
theorem dJ40_getIntUnaligned_4 : decode cJ40_getIntUnaligned 4 = .ok (.land, 1) := dk_127 (dk_at dksJ40_getIntUnaligned_0 4 rfl rfl)
theorem dJ40_getIntUnaligned_5 : decode cJ40_getIntUnaligned 5 = .ok (.lconst 0, 1) := dk_9 (dk_at dksJ40_getIntUnaligned_0 5 rfl rfl)
theorem dJ40_getIntUnaligned_6 : decode cJ40_getIntUnaligned 6 = .ok (.lcmp, 1) := dk_148 (dk_at dksJ40_getIntUnaligned_0 6 rfl rfl)
theorem dJ40_getIntUnaligned_7 : decode cJ40_getIntUnaligned 7 = .ok (.ifCond .ne 10, 3) := dk_154 0 10 (dk_at dksJ40_getIntUnaligned_0 7 rfl rfl)
theorem dJ40_getIntUnaligned_10 : decode cJ40_getIntUnaligned 10 = .ok (.aload_n 0, 1) := dk_42 (dk_at dksJ40_getIntUnaligned_0 10 rfl rfl)
theorem dJ40_getIntUnaligned_11 : decode cJ40_getIntUnaligned 11 = .ok (.aload_n 1, 1) := dk_43 (dk_at dksJ40_getIntUnaligned_0 11 rfl rfl)
theorem dJ40_getIntUnaligned_12 : decode cJ40_getIntUnaligned 12 = .ok (.lload_n 2, 1) := dk_32 (dk_at dksJ40_getIntUnaligned_0 12 rfl rfl)
theorem dJ40_getIntUnaligned_13 : decode cJ40_getIntUnaligned 13 = .ok (.invokevirtual 17, 3) := dk_182 0 17 (dk_at dksJ40_getIntUnaligned_0 13 rfl rfl)
theorem dJ40_getIntUnaligned_16 : decode cJ40_getIntUnaligned 16 = .ok (.ireturn, 1) := dk_172 (dk_at dksJ40_getIntUnaligned_0 16 rfl rfl)
theorem dJ40_getIntUnaligned_17 : decode cJ40_getIntUnaligned 17 = .ok (.lload_n 2, 1) := dk_32 (dk_at dksJ40_getIntUnaligned_0 17 rfl rfl)
theorem dJ40_getIntUnaligned_18 : decode cJ40_getIntUnaligned 18 = .ok (.lconst 1, 1) := dk_10 (dk_at dksJ40_getIntUnaligned_0 18 rfl rfl)
theorem dJ40_getIntUnaligned_19 : decode cJ40_getIntUnaligned 19 = .ok (.land, 1) := dk_127 (dk_at dksJ40_getIntUnaligned_0 19 rfl rfl)
theorem dJ40_getIntUnaligned_20 : decode cJ40_getIntUnaligned 20 = .ok (.lconst 0, 1) := dk_9 (dk_at dksJ40_getIntUnaligned_0 20 rfl rfl)
theorem dJ40_getIntUnaligned_21 : decode cJ40_getIntUnaligned 21 = .ok (.lcmp, 1) := dk_148 (dk_at dksJ40_getIntUnaligned_0 21 rfl rfl)
theorem dJ40_getIntUnaligned_22 : decode cJ40_getIntUnaligned 22 = .ok (.ifCond .ne 23, 3) := dk_154 0 23 (dk_at dksJ40_getIntUnaligned_1 0 rfl rfl)
theorem dJ40_getIntUnaligned_25 : decode cJ40_getIntUnaligned 25 = .ok (.aload_n 0, 1) := dk_42 (dk_at dksJ40_getIntUnaligned_1 3 rfl rfl)
theorem dJ40_getIntUnaligned_26 : decode cJ40_getIntUnaligned 26 = .ok (.aload_n 1, 1) := dk_43 (dk_at dksJ40_getIntUnaligned_1 4 rfl rfl)
theorem dJ40_getIntUnaligned_27 : decode cJ40_getIntUnaligned 27 = .ok (.lload_n 2, 1) := dk_32 (dk_at dksJ40_getIntUnaligned_1 5 rfl rfl)
theorem dJ40_getIntUnaligned_28 : decode cJ40_getIntUnaligned 28 = .ok (.invokevirtual 47, 3) := dk_182 0 47 (dk_at dksJ40_getIntUnaligned_1 6 rfl rfl)
theorem dJ40_getIntUnaligned_31 : decode cJ40_getIntUnaligned 31 = .ok (.aload_n 0, 1) := dk_42 (dk_at dksJ40_getIntUnaligned_1 9 rfl rfl)
theorem dJ40_getIntUnaligned_32 : decode cJ40_getIntUnaligned 32 = .ok (.aload_n 1, 1) := dk_43 (dk_at dksJ40_getIntUnaligned_1 10 rfl rfl)
theorem dJ40_getIntUnaligned_33 : decode cJ40_getIntUnaligned 33 = .ok (.lload_n 2, 1) := dk_32 (dk_at dksJ40_getIntUnaligned_1 11 rfl rfl)
theorem dJ40_getIntUnaligned_34 : decode cJ40_getIntUnaligned 34 = .ok (.ldc2_w 203, 3) := dk_20 0 203 (dk_at dksJ40_getIntUnaligned_1 12 rfl rfl)
theorem dJ40_getIntUnaligned_37 : decode cJ40_getIntUnaligned 37 = .ok (.ladd, 1) := dk_97 (dk_at dksJ40_getIntUnaligned_1 15 rfl rfl)
theorem dJ40_getIntUnaligned_38 : decode cJ40_getIntUnaligned 38 = .ok (.invokevirtual 47, 3) := dk_182 0 47 (dk_at dksJ40_getIntUnaligned_1 16 rfl rfl)
theorem dJ40_getIntUnaligned_41 : decode cJ40_getIntUnaligned 41 = .ok (.invokestatic 719, 3) := dk_184 2 207 (dk_at dksJ40_getIntUnaligned_1 19 rfl rfl)
theorem dJ40_getIntUnaligned_44 : decode cJ40_getIntUnaligned 44 = .ok (.ireturn, 1) := dk_172 (dk_at dksJ40_getIntUnaligned_1 22 rfl rfl)
theorem dJ40_getIntUnaligned_45 : decode cJ40_getIntUnaligned 45 = .ok (.aload_n 0, 1) := dk_42 (dk_at dksJ40_getIntUnaligned_1 23 rfl rfl)
theorem dJ40_getIntUnaligned_46 : decode cJ40_getIntUnaligned 46 = .ok (.aload_n 1, 1) := dk_43 (dk_at dksJ40_getIntUnaligned_2 0 rfl rfl)
theorem dJ40_getIntUnaligned_47 : decode cJ40_getIntUnaligned 47 = .ok (.lload_n 2, 1) := dk_32 (dk_at dksJ40_getIntUnaligned_2 1 rfl rfl)
theorem dJ40_getIntUnaligned_48 : decode cJ40_getIntUnaligned 48 = .ok (.invokevirtual 39, 3) := dk_182 0 39 (dk_at dksJ40_getIntUnaligned_2 2 rfl rfl)
theorem dJ40_getIntUnaligned_51 : decode cJ40_getIntUnaligned 51 = .ok (.aload_n 0, 1) := dk_42 (dk_at dksJ40_getIntUnaligned_2 5 rfl rfl)
theorem dJ40_getIntUnaligned_52 : decode cJ40_getIntUnaligned 52 = .ok (.aload_n 1, 1) := dk_43 (dk_at dksJ40_getIntUnaligned_2 6 rfl rfl)
theorem dJ40_getIntUnaligned_53 : decode cJ40_getIntUnaligned 53 = .ok (.lload_n 2, 1) := dk_32 (dk_at dksJ40_getIntUnaligned_2 7 rfl rfl)
theorem dJ40_getIntUnaligned_54 : decode cJ40_getIntUnaligned 54 = .ok (.lconst 1, 1) := dk_10 (dk_at dksJ40_getIntUnaligned_2 8 rfl rfl)
theorem dJ40_getIntUnaligned_55 : decode cJ40_getIntUnaligned 55 = .ok (.ladd, 1) := dk_97 (dk_at dksJ40_getIntUnaligned_2 9 rfl rfl)
theorem dJ40_getIntUnaligned_56 : decode cJ40_getIntUnaligned 56 = .ok (.invokevirtual 39, 3) := dk_182 0 39 (dk_at dksJ40_getIntUnaligned_2 10 rfl rfl)
theorem dJ40_getIntUnaligned_59 : decode cJ40_getIntUnaligned 59 = .ok (.aload_n 0, 1) := dk_42 (dk_at dksJ40_getIntUnaligned_2 13 rfl rfl)
theorem dJ40_getIntUnaligned_60 : decode cJ40_getIntUnaligned 60 = .ok (.aload_n 1, 1) := dk_43 (dk_at dksJ40_getIntUnaligned_2 14 rfl rfl)
theorem dJ40_getIntUnaligned_61 : decode cJ40_getIntUnaligned 61 = .ok (.lload_n 2, 1) := dk_32 (dk_at dksJ40_getIntUnaligned_2 15 rfl rfl)
theorem dJ40_getIntUnaligned_62 : decode cJ40_getIntUnaligned 62 = .ok (.ldc2_w 203, 3) := dk_20 0 203 (dk_at dksJ40_getIntUnaligned_2 16 rfl rfl)
theorem dJ40_getIntUnaligned_65 : decode cJ40_getIntUnaligned 65 = .ok (.ladd, 1) := dk_97 (dk_at dksJ40_getIntUnaligned_2 19 rfl rfl)
theorem dJ40_getIntUnaligned_66 : decode cJ40_getIntUnaligned 66 = .ok (.invokevirtual 39, 3) := dk_182 0 39 (dk_at dksJ40_getIntUnaligned_2 20 rfl rfl)
theorem dJ40_getIntUnaligned_69 : decode cJ40_getIntUnaligned 69 = .ok (.aload_n 0, 1) := dk_42 (dk_at dksJ40_getIntUnaligned_2 23 rfl rfl)
theorem dJ40_getIntUnaligned_70 : decode cJ40_getIntUnaligned 70 = .ok (.aload_n 1, 1) := dk_43 (dk_at dksJ40_getIntUnaligned_3 0 rfl rfl)
theorem dJ40_getIntUnaligned_71 : decode cJ40_getIntUnaligned 71 = .ok (.lload_n 2, 1) := dk_32 (dk_at dksJ40_getIntUnaligned_3 1 rfl rfl)
theorem dJ40_getIntUnaligned_72 : decode cJ40_getIntUnaligned 72 = .ok (.ldc2_w 349, 3) := dk_20 1 93 (dk_at dksJ40_getIntUnaligned_3 2 rfl rfl)
theorem dJ40_getIntUnaligned_75 : decode cJ40_getIntUnaligned 75 = .ok (.ladd, 1) := dk_97 (dk_at dksJ40_getIntUnaligned_3 5 rfl rfl)
theorem dJ40_getIntUnaligned_76 : decode cJ40_getIntUnaligned 76 = .ok (.invokevirtual 39, 3) := dk_182 0 39 (dk_at dksJ40_getIntUnaligned_3 6 rfl rfl)
theorem dJ40_getIntUnaligned_79 : decode cJ40_getIntUnaligned 79 = .ok (.invokestatic 723, 3) := dk_184 2 211 (dk_at dksJ40_getIntUnaligned_3 9 rfl rfl)
theorem dJ40_getIntUnaligned_82 : decode cJ40_getIntUnaligned 82 = .ok (.ireturn, 1) := dk_172 (dk_at dksJ40_getIntUnaligned_3 12 rfl rfl)
abbrev cJ40_makeInt : ByteArray := prog_100_method_354_code
def yJ40_makeInt : MethodName := ⟨RJ40, "makeInt", "(SS)I"⟩
def dkwJ40_makeInt_1 : List UInt8 := [172]
abbrev dktJ40_makeInt_1 : List UInt8 := dkwJ40_makeInt_1 ++ []
def dkwJ40_makeInt_0 : List UInt8 := [26, 184, 3, 24, 16, 16, 3, 184, 3, 16, 120, 27, 184, 3, 24, 16, 16, 16, 16, 184, 3, 16, 120, 128]
abbrev dktJ40_makeInt_0 : List UInt8 := dkwJ40_makeInt_0 ++ dktJ40_makeInt_1
theorem dksJ40_makeInt_0 : cJ40_makeInt.data.toList.drop 0 = dktJ40_makeInt_0 := by decide +kernel
theorem dksJ40_makeInt_1 : cJ40_makeInt.data.toList.drop 24 = dktJ40_makeInt_1 := dk_seg dksJ40_makeInt_0 24 rfl rfl
theorem dJ40_makeInt_0 : decode cJ40_makeInt 0 = .ok (.iload_n 0, 1) := dk_26 (dk_at dksJ40_makeInt_0 0 rfl rfl)
theorem dJ40_makeInt_1 : decode cJ40_makeInt 1 = .ok (.invokestatic 792, 3) := dk_184 3 24 (dk_at dksJ40_makeInt_0 1 rfl rfl)
theorem dJ40_makeInt_4 : decode cJ40_makeInt 4 = .ok (.bipush 16, 2) := dk_16 16 (dk_at dksJ40_makeInt_0 4 rfl rfl)
theorem dJ40_makeInt_6 : decode cJ40_makeInt 6 = .ok (.iconst 0, 1) := dk_3 (dk_at dksJ40_makeInt_0 6 rfl rfl)
theorem dJ40_makeInt_7 : decode cJ40_makeInt 7 = .ok (.invokestatic 784, 3) := dk_184 3 16 (dk_at dksJ40_makeInt_0 7 rfl rfl)
theorem dJ40_makeInt_10 : decode cJ40_makeInt 10 = .ok (.ishl, 1) := dk_120 (dk_at dksJ40_makeInt_0 10 rfl rfl)
theorem dJ40_makeInt_11 : decode cJ40_makeInt 11 = .ok (.iload_n 1, 1) := dk_27 (dk_at dksJ40_makeInt_0 11 rfl rfl)
theorem dJ40_makeInt_12 : decode cJ40_makeInt 12 = .ok (.invokestatic 792, 3) := dk_184 3 24 (dk_at dksJ40_makeInt_0 12 rfl rfl)
theorem dJ40_makeInt_15 : decode cJ40_makeInt 15 = .ok (.bipush 16, 2) := dk_16 16 (dk_at dksJ40_makeInt_0 15 rfl rfl)
theorem dJ40_makeInt_17 : decode cJ40_makeInt 17 = .ok (.bipush 16, 2) := dk_16 16 (dk_at dksJ40_makeInt_0 17 rfl rfl)
theorem dJ40_makeInt_19 : decode cJ40_makeInt 19 = .ok (.invokestatic 784, 3) := dk_184 3 16 (dk_at dksJ40_makeInt_0 19 rfl rfl)
theorem dJ40_makeInt_22 : decode cJ40_makeInt 22 = .ok (.ishl, 1) := dk_120 (dk_at dksJ40_makeInt_0 22 rfl rfl)
theorem dJ40_makeInt_23 : decode cJ40_makeInt 23 = .ok (.ior, 1) := dk_128 (dk_at dksJ40_makeInt_0 23 rfl rfl)
theorem dJ40_makeInt_24 : decode cJ40_makeInt 24 = .ok (.ireturn, 1) := dk_172 (dk_at dksJ40_makeInt_1 0 rfl rfl)
abbrev cJ40_toUnsignedInt : ByteArray := prog_100_method_367_code
def yJ40_toUnsignedInt : MethodName := ⟨RJ40, "toUnsignedInt", "(S)I"⟩
def dkwJ40_toUnsignedInt_0 : List UInt8 := [26, 19, 1, 118, 126, 172]
abbrev dktJ40_toUnsignedInt_0 : List UInt8 := dkwJ40_toUnsignedInt_0 ++ []
theorem dksJ40_toUnsignedInt_0 : cJ40_toUnsignedInt.data.toList.drop 0 = dktJ40_toUnsignedInt_0 := by decide +kernel
theorem dJ40_toUnsignedInt_0 : decode cJ40_toUnsignedInt 0 = .ok (.iload_n 0, 1) := dk_26 (dk_at dksJ40_toUnsignedInt_0 0 rfl rfl)
theorem dJ40_toUnsignedInt_1 : decode cJ40_toUnsignedInt 1 = .ok (.ldc_w 374, 3) := dk_19 1 118 (dk_at dksJ40_toUnsignedInt_0 1 rfl rfl)
theorem dJ40_toUnsignedInt_4 : decode cJ40_toUnsignedInt 4 = .ok (.iand, 1) := dk_126 (dk_at dksJ40_toUnsignedInt_0 4 rfl rfl)
theorem dJ40_toUnsignedInt_5 : decode cJ40_toUnsignedInt 5 = .ok (.ireturn, 1) := dk_172 (dk_at dksJ40_toUnsignedInt_0 5 rfl rfl)
abbrev cJ40_makeInt_2 : ByteArray := prog_100_method_355_code
def yJ40_makeInt_2 : MethodName := ⟨RJ40, "makeInt", "(BBBB)I"⟩
def dkwJ40_makeInt_2_2 : List UInt8 := [120, 128, 172]
abbrev dktJ40_makeInt_2_2 : List UInt8 := dkwJ40_makeInt_2_2 ++ []
def dkwJ40_makeInt_2_1 : List UInt8 := [28, 184, 3, 28, 16, 24, 16, 16, 184, 3, 16, 120, 128, 29, 184, 3, 28, 16, 24, 16, 24, 184, 3, 16]
abbrev dktJ40_makeInt_2_1 : List UInt8 := dkwJ40_makeInt_2_1 ++ dktJ40_makeInt_2_2
def dkwJ40_makeInt_2_0 : List UInt8 := [26, 184, 3, 28, 16, 24, 3, 184, 3, 16, 120, 27, 184, 3, 28, 16, 24, 16, 8, 184, 3, 16, 120, 128]
abbrev dktJ40_makeInt_2_0 : List UInt8 := dkwJ40_makeInt_2_0 ++ dktJ40_makeInt_2_1
theorem dksJ40_makeInt_2_0 : cJ40_makeInt_2.data.toList.drop 0 = dktJ40_makeInt_2_0 := by decide +kernel
theorem dksJ40_makeInt_2_1 : cJ40_makeInt_2.data.toList.drop 24 = dktJ40_makeInt_2_1 := dk_seg dksJ40_makeInt_2_0 24 rfl rfl
theorem dksJ40_makeInt_2_2 : cJ40_makeInt_2.data.toList.drop 48 = dktJ40_makeInt_2_2 := dk_seg dksJ40_makeInt_2_1 24 rfl rfl
theorem dJ40_makeInt_2_0 : decode cJ40_makeInt_2 0 = .ok (.iload_n 0, 1) := dk_26 (dk_at dksJ40_makeInt_2_0 0 rfl rfl)
theorem dJ40_makeInt_2_1 : decode cJ40_makeInt_2 1 = .ok (.invokestatic 796, 3) := dk_184 3 28 (dk_at dksJ40_makeInt_2_0 1 rfl rfl)
theorem dJ40_makeInt_2_4 : decode cJ40_makeInt_2 4 = .ok (.bipush 24, 2) := dk_16 24 (dk_at dksJ40_makeInt_2_0 4 rfl rfl)
theorem dJ40_makeInt_2_6 : decode cJ40_makeInt_2 6 = .ok (.iconst 0, 1) := dk_3 (dk_at dksJ40_makeInt_2_0 6 rfl rfl)
theorem dJ40_makeInt_2_7 : decode cJ40_makeInt_2 7 = .ok (.invokestatic 784, 3) := dk_184 3 16 (dk_at dksJ40_makeInt_2_0 7 rfl rfl)
theorem dJ40_makeInt_2_10 : decode cJ40_makeInt_2 10 = .ok (.ishl, 1) := dk_120 (dk_at dksJ40_makeInt_2_0 10 rfl rfl)
theorem dJ40_makeInt_2_11 : decode cJ40_makeInt_2 11 = .ok (.iload_n 1, 1) := dk_27 (dk_at dksJ40_makeInt_2_0 11 rfl rfl)
theorem dJ40_makeInt_2_12 : decode cJ40_makeInt_2 12 = .ok (.invokestatic 796, 3) := dk_184 3 28 (dk_at dksJ40_makeInt_2_0 12 rfl rfl)
theorem dJ40_makeInt_2_15 : decode cJ40_makeInt_2 15 = .ok (.bipush 24, 2) := dk_16 24 (dk_at dksJ40_makeInt_2_0 15 rfl rfl)
theorem dJ40_makeInt_2_17 : decode cJ40_makeInt_2 17 = .ok (.bipush 8, 2) := dk_16 8 (dk_at dksJ40_makeInt_2_0 17 rfl rfl)
theorem dJ40_makeInt_2_19 : decode cJ40_makeInt_2 19 = .ok (.invokestatic 784, 3) := dk_184 3 16 (dk_at dksJ40_makeInt_2_0 19 rfl rfl)
theorem dJ40_makeInt_2_22 : decode cJ40_makeInt_2 22 = .ok (.ishl, 1) := dk_120 (dk_at dksJ40_makeInt_2_0 22 rfl rfl)
theorem dJ40_makeInt_2_23 : decode cJ40_makeInt_2 23 = .ok (.ior, 1) := dk_128 (dk_at dksJ40_makeInt_2_0 23 rfl rfl)
theorem dJ40_makeInt_2_24 : decode cJ40_makeInt_2 24 = .ok (.iload_n 2, 1) := dk_28 (dk_at dksJ40_makeInt_2_1 0 rfl rfl)
theorem dJ40_makeInt_2_25 : decode cJ40_makeInt_2 25 = .ok (.invokestatic 796, 3) := dk_184 3 28 (dk_at dksJ40_makeInt_2_1 1 rfl rfl)
theorem dJ40_makeInt_2_28 : decode cJ40_makeInt_2 28 = .ok (.bipush 24, 2) := dk_16 24 (dk_at dksJ40_makeInt_2_1 4 rfl rfl)
theorem dJ40_makeInt_2_30 : decode cJ40_makeInt_2 30 = .ok (.bipush 16, 2) := dk_16 16 (dk_at dksJ40_makeInt_2_1 6 rfl rfl)
theorem dJ40_makeInt_2_32 : decode cJ40_makeInt_2 32 = .ok (.invokestatic 784, 3) := dk_184 3 16 (dk_at dksJ40_makeInt_2_1 8 rfl rfl)
theorem dJ40_makeInt_2_35 : decode cJ40_makeInt_2 35 = .ok (.ishl, 1) := dk_120 (dk_at dksJ40_makeInt_2_1 11 rfl rfl)
theorem dJ40_makeInt_2_36 : decode cJ40_makeInt_2 36 = .ok (.ior, 1) := dk_128 (dk_at dksJ40_makeInt_2_1 12 rfl rfl)
theorem dJ40_makeInt_2_37 : decode cJ40_makeInt_2 37 = .ok (.iload_n 3, 1) := dk_29 (dk_at dksJ40_makeInt_2_1 13 rfl rfl)
theorem dJ40_makeInt_2_38 : decode cJ40_makeInt_2 38 = .ok (.invokestatic 796, 3) := dk_184 3 28 (dk_at dksJ40_makeInt_2_1 14 rfl rfl)
theorem dJ40_makeInt_2_41 : decode cJ40_makeInt_2 41 = .ok (.bipush 24, 2) := dk_16 24 (dk_at dksJ40_makeInt_2_1 17 rfl rfl)
theorem dJ40_makeInt_2_43 : decode cJ40_makeInt_2 43 = .ok (.bipush 24, 2) := dk_16 24 (dk_at dksJ40_makeInt_2_1 19 rfl rfl)
theorem dJ40_makeInt_2_45 : decode cJ40_makeInt_2 45 = .ok (.invokestatic 784, 3) := dk_184 3 16 (dk_at dksJ40_makeInt_2_1 21 rfl rfl)
theorem dJ40_makeInt_2_48 : decode cJ40_makeInt_2 48 = .ok (.ishl, 1) := dk_120 (dk_at dksJ40_makeInt_2_2 0 rfl rfl)
theorem dJ40_makeInt_2_49 : decode cJ40_makeInt_2 49 = .ok (.ior, 1) := dk_128 (dk_at dksJ40_makeInt_2_2 1 rfl rfl)
theorem dJ40_makeInt_2_50 : decode cJ40_makeInt_2 50 = .ok (.ireturn, 1) := dk_172 (dk_at dksJ40_makeInt_2_2 2 rfl rfl)
abbrev cJ40_toUnsignedInt_2 : ByteArray := prog_100_method_366_code
def yJ40_toUnsignedInt_2 : MethodName := ⟨RJ40, "toUnsignedInt", "(B)I"⟩
def dkwJ40_toUnsignedInt_2_0 : List UInt8 := [26, 17, 0, 255, 126, 172]
abbrev dktJ40_toUnsignedInt_2_0 : List UInt8 := dkwJ40_toUnsignedInt_2_0 ++ []
theorem dksJ40_toUnsignedInt_2_0 : cJ40_toUnsignedInt_2.data.toList.drop 0 = dktJ40_toUnsignedInt_2_0 := by decide +kernel
theorem dJ40_toUnsignedInt_2_0 : decode cJ40_toUnsignedInt_2 0 = .ok (.iload_n 0, 1) := dk_26 (dk_at dksJ40_toUnsignedInt_2_0 0 rfl rfl)
theorem dJ40_toUnsignedInt_2_1 : decode cJ40_toUnsignedInt_2 1 = .ok (.sipush 255, 3) := dk_17 0 255 (dk_at dksJ40_toUnsignedInt_2_0 1 rfl rfl)
theorem dJ40_toUnsignedInt_2_4 : decode cJ40_toUnsignedInt_2 4 = .ok (.iand, 1) := dk_126 (dk_at dksJ40_toUnsignedInt_2_0 4 rfl rfl)
theorem dJ40_toUnsignedInt_2_5 : decode cJ40_toUnsignedInt_2 5 = .ok (.ireturn, 1) := dk_172 (dk_at dksJ40_toUnsignedInt_2_0 5 rfl rfl)
theorem q177 : (Jvm.Cond.initialized "jdk/internal/misc/Unsafe") ∈ lw_all := lw_g (lw_at lw_m1 51 rfl) rfl
theorem q1022 : (Jvm.Cond.selects "jdk/internal/misc/Unsafe" ({ cls := "java/lang/Object", name := "getClass", desc := "()Ljava/lang/Class;" } : Jvm.MethodName) ({ cls := "java/lang/Object", name := "getClass", desc := "()Ljava/lang/Class;" } : Jvm.MethodName)) ∈ lw_all := lw_g (lw_at lw_m4 176 rfl) rfl
theorem q1713 : (Jvm.Cond.laysStatic "jdk/internal/misc/Unsafe" "ARRAY_BYTE_BASE_OFFSET" "I") ∈ lw_tbl := lw_at lw_m7 147 rfl
theorem q1724 : (Jvm.Cond.instanceMethod ({ cls := "jdk/internal/misc/Unsafe", name := "getLongUnaligned", desc := "(Ljava/lang/Object;J)J" } : Jvm.MethodName)) ∈ lw_all := lw_g (lw_at lw_m7 158 rfl) rfl
theorem q1725 : (Jvm.Cond.selects "jdk/internal/misc/Unsafe" ({ cls := "jdk/internal/misc/Unsafe", name := "getLongUnaligned", desc := "(Ljava/lang/Object;J)J" } : Jvm.MethodName) ({ cls := "jdk/internal/misc/Unsafe", name := "getLongUnaligned", desc := "(Ljava/lang/Object;J)J" } : Jvm.MethodName)) ∈ lw_all := lw_g (lw_at lw_m7 159 rfl) rfl
theorem q1726 : (Jvm.Cond.code ({ cls := "jdk/internal/misc/Unsafe", name := "getLongUnaligned", desc := "(Ljava/lang/Object;J)J" } : Jvm.MethodName) prog_100_method_334_code (4 : Nat) (Option.some Jvm.ClassFile.FieldType.long)) ∈ lw_all := lw_g (lw_at lw_m7 160 rfl) rfl
theorem q1727 : (Jvm.Cond.constantLong "jdk/internal/misc/Unsafe" (696 : Nat) (7 : Int64)) ∈ lw_all := lw_g (lw_at lw_m7 161 rfl) rfl
theorem q1728 : (Jvm.Cond.methodLink "jdk/internal/misc/Unsafe" (27 : Nat) ({ cls := "jdk/internal/misc/Unsafe", name := "getLong", desc := "(Ljava/lang/Object;J)J" } : Jvm.MethodName)) ∈ lw_all := lw_g (lw_at lw_m7 162 rfl) rfl
theorem q1729 : (Jvm.Cond.instanceMethod ({ cls := "jdk/internal/misc/Unsafe", name := "getLong", desc := "(Ljava/lang/Object;J)J" } : Jvm.MethodName)) ∈ lw_all := lw_g (lw_at lw_m7 163 rfl) rfl
theorem q1730 : (Jvm.Cond.selects "jdk/internal/misc/Unsafe" ({ cls := "jdk/internal/misc/Unsafe", name := "getLong", desc := "(Ljava/lang/Object;J)J" } : Jvm.MethodName) ({ cls := "jdk/internal/misc/Unsafe", name := "getLong", desc := "(Ljava/lang/Object;J)J" } : Jvm.MethodName)) ∈ lw_all := lw_g (lw_at lw_m7 164 rfl) rfl
theorem q1731 : (Jvm.Cond.native ({ cls := "jdk/internal/misc/Unsafe", name := "getLong", desc := "(Ljava/lang/Object;J)J" } : Jvm.MethodName)) ∈ lw_all := lw_g (lw_at lw_m7 165 rfl) rfl
theorem q1732 : (Jvm.Cond.constantLong "jdk/internal/misc/Unsafe" (349 : Nat) (3 : Int64)) ∈ lw_all := lw_g (lw_at lw_m7 166 rfl) rfl
theorem q1733 : (Jvm.Cond.methodLink "jdk/internal/misc/Unsafe" (17 : Nat) ({ cls := "jdk/internal/misc/Unsafe", name := "getInt", desc := "(Ljava/lang/Object;J)I" } : Jvm.MethodName)) ∈ lw_all := lw_g (lw_at lw_m7 167 rfl) rfl
theorem q1734 : (Jvm.Cond.instanceMethod ({ cls := "jdk/internal/misc/Unsafe", name := "getInt", desc := "(Ljava/lang/Object;J)I" } : Jvm.MethodName)) ∈ lw_all := lw_g (lw_at lw_m7 168 rfl) rfl
theorem q1735 : (Jvm.Cond.selects "jdk/internal/misc/Unsafe" ({ cls := "jdk/internal/misc/Unsafe", name := "getInt", desc := "(Ljava/lang/Object;J)I" } : Jvm.MethodName) ({ cls := "jdk/internal/misc/Unsafe", name := "getInt", desc := "(Ljava/lang/Object;J)I" } : Jvm.MethodName)) ∈ lw_all := lw_g (lw_at lw_m7 169 rfl) rfl
theorem q1736 : (Jvm.Cond.native ({ cls := "jdk/internal/misc/Unsafe", name := "getInt", desc := "(Ljava/lang/Object;J)I" } : Jvm.MethodName)) ∈ lw_all := lw_g (lw_at lw_m7 170 rfl) rfl
theorem q1737 : (Jvm.Cond.constantLong "jdk/internal/misc/Unsafe" (205 : Nat) (4 : Int64)) ∈ lw_all := lw_g (lw_at lw_m7 171 rfl) rfl
theorem q1738 : (Jvm.Cond.methodLink "jdk/internal/misc/Unsafe" (698 : Nat) ({ cls := "jdk/internal/misc/Unsafe", name := "makeLong", desc := "(II)J" } : Jvm.MethodName)) ∈ lw_all := lw_g (lw_at lw_m7 172 rfl) rfl
theorem q1739 : (Jvm.Cond.static ({ cls := "jdk/internal/misc/Unsafe", name := "makeLong", desc := "(II)J" } : Jvm.MethodName)) ∈ lw_all := lw_g (lw_at lw_m7 173 rfl) rfl
theorem q1740 : (Jvm.Cond.code ({ cls := "jdk/internal/misc/Unsafe", name := "makeLong", desc := "(II)J" } : Jvm.MethodName) prog_100_method_353_code (2 : Nat) (Option.some Jvm.ClassFile.FieldType.long)) ∈ lw_all := lw_g (lw_at lw_m7 174 rfl) rfl
theorem q1741 : (Jvm.Cond.methodLink "jdk/internal/misc/Unsafe" (791 : Nat) ({ cls := "jdk/internal/misc/Unsafe", name := "toUnsignedLong", desc := "(I)J" } : Jvm.MethodName)) ∈ lw_all := lw_g (lw_at lw_m7 175 rfl) rfl
theorem q1742 : (Jvm.Cond.static ({ cls := "jdk/internal/misc/Unsafe", name := "toUnsignedLong", desc := "(I)J" } : Jvm.MethodName)) ∈ lw_all := lw_g (lw_at lw_m7 176 rfl) rfl
theorem q1743 : (Jvm.Cond.code ({ cls := "jdk/internal/misc/Unsafe", name := "toUnsignedLong", desc := "(I)J" } : Jvm.MethodName) prog_100_method_370_code (1 : Nat) (Option.some Jvm.ClassFile.FieldType.long)) ∈ lw_all := lw_g (lw_at lw_m7 177 rfl) rfl
theorem q1744 : (Jvm.Cond.constantLong "jdk/internal/misc/Unsafe" (812 : Nat) (4294967295 : Int64)) ∈ lw_all := lw_g (lw_at lw_m7 178 rfl) rfl
theorem q1745 : (Jvm.Cond.methodLink "jdk/internal/misc/Unsafe" (784 : Nat) ({ cls := "jdk/internal/misc/Unsafe", name := "pickPos", desc := "(II)I" } : Jvm.MethodName)) ∈ lw_all := lw_g (lw_at lw_m7 179 rfl) rfl
theorem q1746 : (Jvm.Cond.static ({ cls := "jdk/internal/misc/Unsafe", name := "pickPos", desc := "(II)I" } : Jvm.MethodName)) ∈ lw_all := lw_g (lw_at lw_m7 180 rfl) rfl
theorem q1747 : (Jvm.Cond.code ({ cls := "jdk/internal/misc/Unsafe", name := "pickPos", desc := "(II)I" } : Jvm.MethodName) prog_100_method_350_code (2 : Nat) (Option.some Jvm.ClassFile.FieldType.int)) ∈ lw_all := lw_g (lw_at lw_m7 181 rfl) rfl
theorem q1748 : (Jvm.Cond.fieldLink "jdk/internal/misc/Unsafe" (351 : Nat) "jdk/internal/misc/UnsafeConstants" "BIG_ENDIAN" "Z") ∈ lw_all := lw_g (lw_at lw_m7 182 rfl) rfl
theorem q1750 : (Jvm.Cond.methodLink "jdk/internal/misc/Unsafe" (47 : Nat) ({ cls := "jdk/internal/misc/Unsafe", name := "getShort", desc := "(Ljava/lang/Object;J)S" } : Jvm.MethodName)) ∈ lw_all := lw_g (lw_at lw_m7 184 rfl) rfl
theorem q1751 : (Jvm.Cond.instanceMethod ({ cls := "jdk/internal/misc/Unsafe", name := "getShort", desc := "(Ljava/lang/Object;J)S" } : Jvm.MethodName)) ∈ lw_all := lw_g (lw_at lw_m7 185 rfl) rfl
theorem q1752 : (Jvm.Cond.selects "jdk/internal/misc/Unsafe" ({ cls := "jdk/internal/misc/Unsafe", name := "getShort", desc := "(Ljava/lang/Object;J)S" } : Jvm.MethodName) ({ cls := "jdk/internal/misc/Unsafe", name := "getShort", desc := "(Ljava/lang/Object;J)S" } : Jvm.MethodName)) ∈ lw_all := lw_g (lw_at lw_m7 186 rfl) rfl
theorem q1753 : (Jvm.Cond.native ({ cls := "jdk/internal/misc/Unsafe", name := "getShort", desc := "(Ljava/lang/Object;J)S" } : Jvm.MethodName)) ∈ lw_all := lw_g (lw_at lw_m7 187 rfl) rfl
theorem q1754 : (Jvm.Cond.constantLong "jdk/internal/misc/Unsafe" (203 : Nat) (2 : Int64)) ∈ lw_all := lw_g (lw_at lw_m7 188 rfl) rfl
theorem q1755 : (Jvm.Cond.constantLong "jdk/internal/misc/Unsafe" (702 : Nat) (6 : Int64)) ∈ lw_all := lw_g (lw_at lw_m7 189 rfl) rfl
theorem q1756 : (Jvm.Cond.methodLink "jdk/internal/misc/Unsafe" (704 : Nat) ({ cls := "jdk/internal/misc/Unsafe", name := "makeLong", desc := "(SSSS)J" } : Jvm.MethodName)) ∈ lw_all := lw_g (lw_at lw_m7 190 rfl) rfl
theorem q1757 : (Jvm.Cond.static ({ cls := "jdk/internal/misc/Unsafe", name := "makeLong", desc := "(SSSS)J" } : Jvm.MethodName)) ∈ lw_all := lw_g (lw_at lw_m7 191 rfl) rfl
theorem q1758 : (Jvm.Cond.code ({ cls := "jdk/internal/misc/Unsafe", name := "makeLong", desc := "(SSSS)J" } : Jvm.MethodName) prog_100_method_352_code (4 : Nat) (Option.some Jvm.ClassFile.FieldType.long)) ∈ lw_all := lw_g (lw_at lw_m7 192 rfl) rfl
theorem q1759 : (Jvm.Cond.methodLink "jdk/internal/misc/Unsafe" (788 : Nat) ({ cls := "jdk/internal/misc/Unsafe", name := "toUnsignedLong", desc := "(S)J" } : Jvm.MethodName)) ∈ lw_all := lw_g (lw_at lw_m7 193 rfl) rfl
theorem q1760 : (Jvm.Cond.static ({ cls := "jdk/internal/misc/Unsafe", name := "toUnsignedLong", desc := "(S)J" } : Jvm.MethodName)) ∈ lw_all := lw_g (lw_at lw_m7 194 rfl) rfl
theorem q1761 : (Jvm.Cond.code ({ cls := "jdk/internal/misc/Unsafe", name := "toUnsignedLong", desc := "(S)J" } : Jvm.MethodName) prog_100_method_369_code (1 : Nat) (Option.some Jvm.ClassFile.FieldType.long)) ∈ lw_all := lw_g (lw_at lw_m7 195 rfl) rfl
theorem q1762 : (Jvm.Cond.constantLong "jdk/internal/misc/Unsafe" (810 : Nat) (65535 : Int64)) ∈ lw_all := lw_g (lw_at lw_m7 196 rfl) rfl
theorem q1763 : (Jvm.Cond.methodLink "jdk/internal/misc/Unsafe" (39 : Nat) ({ cls := "jdk/internal/misc/Unsafe", name := "getByte", desc := "(Ljava/lang/Object;J)B" } : Jvm.MethodName)) ∈ lw_all := lw_g (lw_at lw_m7 197 rfl) rfl
theorem q1764 : (Jvm.Cond.instanceMethod ({ cls := "jdk/internal/misc/Unsafe", name := "getByte", desc := "(Ljava/lang/Object;J)B" } : Jvm.MethodName)) ∈ lw_all := lw_g (lw_at lw_m7 198 rfl) rfl
theorem q1765 : (Jvm.Cond.selects "jdk/internal/misc/Unsafe" ({ cls := "jdk/internal/misc/Unsafe", name := "getByte", desc := "(Ljava/lang/Object;J)B" } : Jvm.MethodName) ({ cls := "jdk/internal/misc/Unsafe", name := "getByte", desc := "(Ljava/lang/Object;J)B" } : Jvm.MethodName)) ∈ lw_all := lw_g (lw_at lw_m7 199 rfl) rfl
theorem q1766 : (Jvm.Cond.native ({ cls := "jdk/internal/misc/Unsafe", name := "getByte", desc := "(Ljava/lang/Object;J)B" } : Jvm.MethodName)) ∈ lw_all := lw_g (lw_at lw_m7 200 rfl) rfl
theorem q1767 : (Jvm.Cond.constantLong "jdk/internal/misc/Unsafe" (707 : Nat) (5 : Int64)) ∈ lw_all := lw_g (lw_at lw_m7 201 rfl) rfl
theorem q1768 : (Jvm.Cond.methodLink "jdk/internal/misc/Unsafe" (709 : Nat) ({ cls := "jdk/internal/misc/Unsafe", name := "makeLong", desc := "(BBBBBBBB)J" } : Jvm.MethodName)) ∈ lw_all := lw_g (lw_at lw_m7 202 rfl) rfl
theorem q1769 : (Jvm.Cond.static ({ cls := "jdk/internal/misc/Unsafe", name := "makeLong", desc := "(BBBBBBBB)J" } : Jvm.MethodName)) ∈ lw_all := lw_g (lw_at lw_m7 203 rfl) rfl
theorem q1770 : (Jvm.Cond.code ({ cls := "jdk/internal/misc/Unsafe", name := "makeLong", desc := "(BBBBBBBB)J" } : Jvm.MethodName) prog_100_method_351_code (8 : Nat) (Option.some Jvm.ClassFile.FieldType.long)) ∈ lw_all := lw_g (lw_at lw_m7 204 rfl) rfl
theorem q1771 : (Jvm.Cond.methodLink "jdk/internal/misc/Unsafe" (781 : Nat) ({ cls := "jdk/internal/misc/Unsafe", name := "toUnsignedLong", desc := "(B)J" } : Jvm.MethodName)) ∈ lw_all := lw_g (lw_at lw_m7 205 rfl) rfl
theorem q1772 : (Jvm.Cond.static ({ cls := "jdk/internal/misc/Unsafe", name := "toUnsignedLong", desc := "(B)J" } : Jvm.MethodName)) ∈ lw_all := lw_g (lw_at lw_m7 206 rfl) rfl
theorem q1773 : (Jvm.Cond.code ({ cls := "jdk/internal/misc/Unsafe", name := "toUnsignedLong", desc := "(B)J" } : Jvm.MethodName) prog_100_method_368_code (1 : Nat) (Option.some Jvm.ClassFile.FieldType.long)) ∈ lw_all := lw_g (lw_at lw_m7 207 rfl) rfl
theorem q1774 : (Jvm.Cond.constantLong "jdk/internal/misc/Unsafe" (808 : Nat) (255 : Int64)) ∈ lw_all := lw_g (lw_at lw_m7 208 rfl) rfl
theorem q1795 : (Jvm.Cond.instanceMethod ({ cls := "jdk/internal/misc/Unsafe", name := "getIntUnaligned", desc := "(Ljava/lang/Object;J)I" } : Jvm.MethodName)) ∈ lw_all := lw_g (lw_at lw_m7 229 rfl) rfl
theorem q1796 : (Jvm.Cond.selects "jdk/internal/misc/Unsafe" ({ cls := "jdk/internal/misc/Unsafe", name := "getIntUnaligned", desc := "(Ljava/lang/Object;J)I" } : Jvm.MethodName) ({ cls := "jdk/internal/misc/Unsafe", name := "getIntUnaligned", desc := "(Ljava/lang/Object;J)I" } : Jvm.MethodName)) ∈ lw_all := lw_g (lw_at lw_m7 230 rfl) rfl
theorem q1797 : (Jvm.Cond.code ({ cls := "jdk/internal/misc/Unsafe", name := "getIntUnaligned", desc := "(Ljava/lang/Object;J)I" } : Jvm.MethodName) prog_100_method_336_code (4 : Nat) (Option.some Jvm.ClassFile.FieldType.int)) ∈ lw_all := lw_g (lw_at lw_m7 231 rfl) rfl
theorem q1798 : (Jvm.Cond.methodLink "jdk/internal/misc/Unsafe" (719 : Nat) ({ cls := "jdk/internal/misc/Unsafe", name := "makeInt", desc := "(SS)I" } : Jvm.MethodName)) ∈ lw_all := lw_g (lw_at lw_m7 232 rfl) rfl
theorem q1799 : (Jvm.Cond.static ({ cls := "jdk/internal/misc/Unsafe", name := "makeInt", desc := "(SS)I" } : Jvm.MethodName)) ∈ lw_all := lw_g (lw_at lw_m7 233 rfl) rfl
theorem q1800 : (Jvm.Cond.code ({ cls := "jdk/internal/misc/Unsafe", name := "makeInt", desc := "(SS)I" } : Jvm.MethodName) prog_100_method_354_code (2 : Nat) (Option.some Jvm.ClassFile.FieldType.int)) ∈ lw_all := lw_g (lw_at lw_m7 234 rfl) rfl
theorem q1801 : (Jvm.Cond.methodLink "jdk/internal/misc/Unsafe" (792 : Nat) ({ cls := "jdk/internal/misc/Unsafe", name := "toUnsignedInt", desc := "(S)I" } : Jvm.MethodName)) ∈ lw_all := lw_g (lw_at lw_m7 235 rfl) rfl
theorem q1802 : (Jvm.Cond.static ({ cls := "jdk/internal/misc/Unsafe", name := "toUnsignedInt", desc := "(S)I" } : Jvm.MethodName)) ∈ lw_all := lw_g (lw_at lw_m7 236 rfl) rfl
theorem q1803 : (Jvm.Cond.code ({ cls := "jdk/internal/misc/Unsafe", name := "toUnsignedInt", desc := "(S)I" } : Jvm.MethodName) prog_100_method_367_code (1 : Nat) (Option.some Jvm.ClassFile.FieldType.int)) ∈ lw_all := lw_g (lw_at lw_m7 237 rfl) rfl
theorem q1804 : (Jvm.Cond.constant "jdk/internal/misc/Unsafe" (374 : Nat) (65535 : Int32)) ∈ lw_all := lw_g (lw_at lw_m7 238 rfl) rfl
theorem q1805 : (Jvm.Cond.methodLink "jdk/internal/misc/Unsafe" (723 : Nat) ({ cls := "jdk/internal/misc/Unsafe", name := "makeInt", desc := "(BBBB)I" } : Jvm.MethodName)) ∈ lw_all := lw_g (lw_at lw_m7 239 rfl) rfl
theorem q1806 : (Jvm.Cond.static ({ cls := "jdk/internal/misc/Unsafe", name := "makeInt", desc := "(BBBB)I" } : Jvm.MethodName)) ∈ lw_all := lw_g (lw_at lw_m8 0 rfl) rfl
theorem q1807 : (Jvm.Cond.code ({ cls := "jdk/internal/misc/Unsafe", name := "makeInt", desc := "(BBBB)I" } : Jvm.MethodName) prog_100_method_355_code (4 : Nat) (Option.some Jvm.ClassFile.FieldType.int)) ∈ lw_all := lw_g (lw_at lw_m8 1 rfl) rfl
theorem q1808 : (Jvm.Cond.methodLink "jdk/internal/misc/Unsafe" (796 : Nat) ({ cls := "jdk/internal/misc/Unsafe", name := "toUnsignedInt", desc := "(B)I" } : Jvm.MethodName)) ∈ lw_all := lw_g (lw_at lw_m8 2 rfl) rfl
theorem q1809 : (Jvm.Cond.static ({ cls := "jdk/internal/misc/Unsafe", name := "toUnsignedInt", desc := "(B)I" } : Jvm.MethodName)) ∈ lw_all := lw_g (lw_at lw_m8 3 rfl) rfl
theorem q1810 : (Jvm.Cond.code ({ cls := "jdk/internal/misc/Unsafe", name := "toUnsignedInt", desc := "(B)I" } : Jvm.MethodName) prog_100_method_366_code (1 : Nat) (Option.some Jvm.ClassFile.FieldType.int)) ∈ lw_all := lw_g (lw_at lw_m8 4 rfl) rfl
theorem q2151 : (Jvm.Cond.selects "jdk/internal/misc/Unsafe" ({ cls := "java/lang/Object", name := "equals", desc := "(Ljava/lang/Object;)Z" } : Jvm.MethodName) ({ cls := "java/lang/Object", name := "equals", desc := "(Ljava/lang/Object;)Z" } : Jvm.MethodName)) ∈ lw_all := lw_g (lw_at lw_m9 105 rfl) rfl
theorem q3628 : (Jvm.Cond.castable "jdk/internal/misc/Unsafe" "java/lang/Object") ∈ lw_tbl := lw_at lw_m15 142 rfl
set_option maxRecDepth 100000
abbrev cJ41_init : ByteArray := prog_21_method_2_code
def yJ41_init : MethodName := ⟨RJ41, "<init>", "(Ljava/lang/String;)V"⟩
def dkwJ41_init_0 : List UInt8 := [42, 43, 183, 0, 7, 177]
abbrev dktJ41_init_0 : List UInt8 := dkwJ41_init_0 ++ []
theorem dksJ41_init_0 : cJ41_init.data.toList.drop 0 = dktJ41_init_0 := by decide +kernel
theorem dJ41_init_0 : decode cJ41_init 0 = .ok (.aload_n 0, 1) := dk_42 (dk_at dksJ41_init_0 0 rfl rfl)
theorem dJ41_init_1 : decode cJ41_init 1 = .ok (.aload_n 1, 1) := dk_43 (dk_at dksJ41_init_0 1 rfl rfl)
theorem dJ41_init_2 : decode cJ41_init 2 = .ok (.invokespecial 7, 3) := dk_183 0 7 (dk_at dksJ41_init_0 2 rfl rfl)
theorem dJ41_init_5 : decode cJ41_init 5 = .ok (.return_, 1) := dk_177 (dk_at dksJ41_init_0 5 rfl rfl)
theorem q180 : (Jvm.Cond.initialized "java/lang/ArithmeticException") ∈ lw_all := lw_g (lw_at lw_m1 54 rfl) rfl
theorem q319 : (Jvm.Cond.selects "java/lang/ArithmeticException" ({ cls := "java/lang/Throwable", name := "fillInStackTrace", desc := "()Ljava/lang/Throwable;" } : Jvm.MethodName) ({ cls := "java/lang/Throwable", name := "fillInStackTrace", desc := "()Ljava/lang/Throwable;" } : Jvm.MethodName)) ∈ lw_all := lw_g (lw_at lw_m1 193 rfl) rfl
theorem q970 : (Jvm.Cond.selects "java/lang/ArithmeticException" ({ cls := "java/lang/Throwable", name := "toString", desc := "()Ljava/lang/String;" } : Jvm.MethodName) ({ cls := "java/lang/Throwable", name := "toString", desc := "()Ljava/lang/String;" } : Jvm.MethodName)) ∈ lw_all := lw_g (lw_at lw_m4 124 rfl) rfl
theorem q993 : (Jvm.Cond.selects "java/lang/ArithmeticException" ({ cls := "java/lang/Object", name := "getClass", desc := "()Ljava/lang/Class;" } : Jvm.MethodName) ({ cls := "java/lang/Object", name := "getClass", desc := "()Ljava/lang/Class;" } : Jvm.MethodName)) ∈ lw_all := lw_g (lw_at lw_m4 147 rfl) rfl
theorem q1028 : (Jvm.Cond.selects "java/lang/ArithmeticException" ({ cls := "java/lang/Throwable", name := "getLocalizedMessage", desc := "()Ljava/lang/String;" } : Jvm.MethodName) ({ cls := "java/lang/Throwable", name := "getLocalizedMessage", desc := "()Ljava/lang/String;" } : Jvm.MethodName)) ∈ lw_all := lw_g (lw_at lw_m4 182 rfl) rfl
theorem q1040 : (Jvm.Cond.selects "java/lang/ArithmeticException" ({ cls := "java/lang/Throwable", name := "getMessage", desc := "()Ljava/lang/String;" } : Jvm.MethodName) ({ cls := "java/lang/Throwable", name := "getMessage", desc := "()Ljava/lang/String;" } : Jvm.MethodName)) ∈ lw_all := lw_g (lw_at lw_m4 194 rfl) rfl
theorem q2054 : (Jvm.Cond.instantiable "java/lang/ArithmeticException" (6 : Nat)) ∈ lw_all := lw_g (lw_at lw_m9 8 rfl) rfl
theorem q2055 : (Jvm.Cond.instanceMethod ({ cls := "java/lang/ArithmeticException", name := "<init>", desc := "(Ljava/lang/String;)V" } : Jvm.MethodName)) ∈ lw_all := lw_g (lw_at lw_m9 9 rfl) rfl
theorem q2056 : (Jvm.Cond.code ({ cls := "java/lang/ArithmeticException", name := "<init>", desc := "(Ljava/lang/String;)V" } : Jvm.MethodName) prog_21_method_2_code (2 : Nat) (Option.none : Option Jvm.ClassFile.FieldType)) ∈ lw_all := lw_g (lw_at lw_m9 10 rfl) rfl
theorem q2057 : (Jvm.Cond.methodLink "java/lang/ArithmeticException" (7 : Nat) ({ cls := "java/lang/RuntimeException", name := "<init>", desc := "(Ljava/lang/String;)V" } : Jvm.MethodName)) ∈ lw_all := lw_g (lw_at lw_m9 11 rfl) rfl
theorem q2058 : (Jvm.Cond.lays "java/lang/ArithmeticException" "java/lang/Throwable" "backtrace" "Ljava/lang/Object;") ∈ lw_all := lw_g (lw_at lw_m9 12 rfl) rfl
theorem q2059 : (Jvm.Cond.lays "java/lang/ArithmeticException" "java/lang/Throwable" "detailMessage" "Ljava/lang/String;") ∈ lw_all := lw_g (lw_at lw_m9 13 rfl) rfl
theorem q2060 : (Jvm.Cond.lays "java/lang/ArithmeticException" "java/lang/Throwable" "cause" "Ljava/lang/Throwable;") ∈ lw_all := lw_g (lw_at lw_m9 14 rfl) rfl
theorem q2061 : (Jvm.Cond.lays "java/lang/ArithmeticException" "java/lang/Throwable" "stackTrace" "[Ljava/lang/StackTraceElement;") ∈ lw_all := lw_g (lw_at lw_m9 15 rfl) rfl
theorem q2062 : (Jvm.Cond.lays "java/lang/ArithmeticException" "java/lang/Throwable" "depth" "I") ∈ lw_all := lw_g (lw_at lw_m9 16 rfl) rfl
theorem q2063 : (Jvm.Cond.lays "java/lang/ArithmeticException" "java/lang/Throwable" "suppressedExceptions" "Ljava/util/List;") ∈ lw_all := lw_g (lw_at lw_m9 17 rfl) rfl
theorem q2064 : (Jvm.Cond.superclass "java/lang/ArithmeticException" "java/lang/RuntimeException") ∈ lw_all := lw_g (lw_at lw_m9 18 rfl) rfl
theorem q2065 : (Jvm.Cond.castable "java/lang/ArithmeticException" "java/lang/ArithmeticException") ∈ lw_tbl := lw_at lw_m9 19 rfl
theorem q2066 : (Jvm.Cond.selects "java/lang/ArithmeticException" ({ cls := "java/lang/Throwable", name := "fillInStackTrace", desc := "(I)Ljava/lang/Throwable;" } : Jvm.MethodName) ({ cls := "java/lang/Throwable", name := "fillInStackTrace", desc := "(I)Ljava/lang/Throwable;" } : Jvm.MethodName)) ∈ lw_all := lw_g (lw_at lw_m9 20 rfl) rfl
theorem q2135 : (Jvm.Cond.selects "java/lang/ArithmeticException" ({ cls := "java/lang/Object", name := "equals", desc := "(Ljava/lang/Object;)Z" } : Jvm.MethodName) ({ cls := "java/lang/Object", name := "equals", desc := "(Ljava/lang/Object;)Z" } : Jvm.MethodName)) ∈ lw_all := lw_g (lw_at lw_m9 89 rfl) rfl
theorem q3627 : (Jvm.Cond.castable "java/lang/ArithmeticException" "java/lang/Object") ∈ lw_tbl := lw_at lw_m15 141 rfl
set_option maxRecDepth 100000
abbrev cJ42_init : ByteArray := prog_53_method_1_code
def yJ42_init : MethodName := ⟨RJ42, "<init>", "()V"⟩
theorem dJ42_init_0 : decode cJ42_init 0 = .ok (.aload_n 0, 1) := by decide +kernel
theorem dJ42_init_1 : decode cJ42_init 1 = .ok (.invokespecial 1, 3) := by decide +kernel
theorem dJ42_init_4 : decode cJ42_init 4 = .ok (.return_, 1) := by decide +kernel
theorem q181 : (Jvm.Cond.initialized "java/util/AbstractSet") ∈ lw_all := lw_g (lw_at lw_m1 55 rfl) rfl
theorem q2366 : (Jvm.Cond.instanceMethod ({ cls := "java/util/AbstractSet", name := "<init>", desc := "()V" } : Jvm.MethodName)) ∈ lw_all := lw_g (lw_at lw_m10 80 rfl) rfl
theorem q2367 : (Jvm.Cond.code ({ cls := "java/util/AbstractSet", name := "<init>", desc := "()V" } : Jvm.MethodName) prog_53_method_1_code (1 : Nat) (Option.none : Option Jvm.ClassFile.FieldType)) ∈ lw_all := lw_g (lw_at lw_m10 81 rfl) rfl
theorem q2368 : (Jvm.Cond.methodLink "java/util/AbstractSet" (1 : Nat) ({ cls := "java/util/AbstractCollection", name := "<init>", desc := "()V" } : Jvm.MethodName)) ∈ lw_all := lw_g (lw_at lw_m10 82 rfl) rfl
set_option maxRecDepth 100000
abbrev cJ43_size : ByteArray := prog_99_method_9_code
def yJ43_size : MethodName := ⟨RJ43, "size", "()I"⟩
def dkwJ43_size_0 : List UInt8 := [42, 180, 0, 7, 185, 0, 53, 1, 0, 172]
abbrev dktJ43_size_0 : List UInt8 := dkwJ43_size_0 ++ []
theorem dksJ43_size_0 : cJ43_size.data.toList.drop 0 = dktJ43_size_0 := by decide +kernel
theorem dJ43_size_0 : decode cJ43_size 0 = .ok (.aload_n 0, 1) := dk_42 (dk_at dksJ43_size_0 0 rfl rfl)
theorem dJ43_size_1 : decode cJ43_size 1 = .ok (.getfield 7, 3) := dk_180 0 7 (dk_at dksJ43_size_0 1 rfl rfl)
theorem dJ43_size_4 : decode cJ43_size 4 = .ok (.invokeinterface 53 1, 5) := by decide +kernel
theorem dJ43_size_9 : decode cJ43_size 9 = .ok (.ireturn, 1) := dk_172 (dk_at dksJ43_size_0 9 rfl rfl)
abbrev cJ43_init : ByteArray := prog_99_method_3_code
def yJ43_init : MethodName := ⟨RJ43, "<init>", "(Ljava/util/Comparator;)V"⟩
def dkwJ43_init_0 : List UInt8 := [42, 187, 0, 13, 89, 43, 183, 0, 19, 183, 0, 16, 177]
abbrev dktJ43_init_0 : List UInt8 := dkwJ43_init_0 ++ []
theorem dksJ43_init_0 : cJ43_init.data.toList.drop 0 = dktJ43_init_0 := by decide +kernel
theorem dJ43_init_0 : decode cJ43_init 0 = .ok (.aload_n 0, 1) := dk_42 (dk_at dksJ43_init_0 0 rfl rfl)
theorem dJ43_init_1 : decode cJ43_init 1 = .ok (.new 13, 3) := dk_187 0 13 (dk_at dksJ43_init_0 1 rfl rfl)
theorem dJ43_init_4 : decode cJ43_init 4 = .ok (.dup, 1) := dk_89 (dk_at dksJ43_init_0 4 rfl rfl)
theorem dJ43_init_5 : decode cJ43_init 5 = .ok (.aload_n 1, 1) := dk_43 (dk_at dksJ43_init_0 5 rfl rfl)
theorem dJ43_init_6 : decode cJ43_init 6 = .ok (.invokespecial 19, 3) := dk_183 0 19 (dk_at dksJ43_init_0 6 rfl rfl)
theorem dJ43_init_9 : decode cJ43_init 9 = .ok (.invokespecial 16, 3) := dk_183 0 16 (dk_at dksJ43_init_0 9 rfl rfl)
theorem dJ43_init_12 : decode cJ43_init 12 = .ok (.return_, 1) := dk_177 (dk_at dksJ43_init_0 12 rfl rfl)
abbrev cJ43_init_2 : ByteArray := prog_99_method_1_code
def yJ43_init_2 : MethodName := ⟨RJ43, "<init>", "(Ljava/util/NavigableMap;)V"⟩
def dkwJ43_init_2_0 : List UInt8 := [42, 183, 0, 1, 42, 43, 181, 0, 7, 177]
abbrev dktJ43_init_2_0 : List UInt8 := dkwJ43_init_2_0 ++ []
theorem dksJ43_init_2_0 : cJ43_init_2.data.toList.drop 0 = dktJ43_init_2_0 := by decide +kernel
theorem dJ43_init_2_0 : decode cJ43_init_2 0 = .ok (.aload_n 0, 1) := dk_42 (dk_at dksJ43_init_2_0 0 rfl rfl)
theorem dJ43_init_2_1 : decode cJ43_init_2 1 = .ok (.invokespecial 1, 3) := dk_183 0 1 (dk_at dksJ43_init_2_0 1 rfl rfl)
theorem dJ43_init_2_4 : decode cJ43_init_2 4 = .ok (.aload_n 0, 1) := dk_42 (dk_at dksJ43_init_2_0 4 rfl rfl)
theorem dJ43_init_2_5 : decode cJ43_init_2 5 = .ok (.aload_n 1, 1) := dk_43 (dk_at dksJ43_init_2_0 5 rfl rfl)
theorem dJ43_init_2_6 : decode cJ43_init_2 6 = .ok (.putfield 7, 3) := dk_181 0 7 (dk_at dksJ43_init_2_0 6 rfl rfl)
theorem dJ43_init_2_9 : decode cJ43_init_2 9 = .ok (.return_, 1) := dk_177 (dk_at dksJ43_init_2_0 9 rfl rfl)
abbrev cJ43_add : ByteArray := prog_99_method_12_code
def yJ43_add : MethodName := ⟨RJ43, "add", "(Ljava/lang/Object;)Z"⟩
def dkwJ43_add_0 : List UInt8 := [42, 180, 0, 7, 43, 178, 0, 65, 185, 0, 69, 3, 0, 199, 0, 7, 4, 167, 0, 4, 3, 172]
abbrev dktJ43_add_0 : List UInt8 := dkwJ43_add_0 ++ []
theorem dksJ43_add_0 : cJ43_add.data.toList.drop 0 = dktJ43_add_0 := by decide +kernel
theorem dJ43_add_0 : decode cJ43_add 0 = .ok (.aload_n 0, 1) := dk_42 (dk_at dksJ43_add_0 0 rfl rfl)
theorem dJ43_add_1 : decode cJ43_add 1 = .ok (.getfield 7, 3) := dk_180 0 7 (dk_at dksJ43_add_0 1 rfl rfl)
theorem dJ43_add_4 : decode cJ43_add 4 = .ok (.aload_n 1, 1) := dk_43 (dk_at dksJ43_add_0 4 rfl rfl)
theorem dJ43_add_5 : decode cJ43_add 5 = .ok (.getstatic 65, 3) := dk_178 0 65 (dk_at dksJ43_add_0 5 rfl rfl)
theorem dJ43_add_8 : decode cJ43_add 8 = .ok (.invokeinterface 69 3, 5) := by decide +kernel
theorem dJ43_add_13 : decode cJ43_add 13 = .ok (.ifnonnull 7, 3) := dk_199 0 7 (dk_at dksJ43_add_0 13 rfl rfl)
theorem dJ43_add_16 : decode cJ43_add 16 = .ok (.iconst 1, 1) := dk_4 (dk_at dksJ43_add_0 16 rfl rfl)
theorem dJ43_add_17 : decode cJ43_add 17 = .ok (.goto 4, 3) := dk_167 0 4 (dk_at dksJ43_add_0 17 rfl rfl)
theorem dJ43_add_20 : decode cJ43_add 20 = .ok (.iconst 0, 1) := dk_3 (dk_at dksJ43_add_0 20 rfl rfl)
theorem dJ43_add_21 : decode cJ43_add 21 = .ok (.ireturn, 1) := dk_172 (dk_at dksJ43_add_0 21 rfl rfl)
abbrev cJ43_iterator : ByteArray := prog_99_method_6_code
def yJ43_iterator : MethodName := ⟨RJ43, "iterator", "()Ljava/util/Iterator;"⟩
def dkwJ43_iterator_0 : List UInt8 := [42, 180, 0, 7, 185, 0, 34, 1, 0, 185, 0, 40, 1, 0, 176]
abbrev dktJ43_iterator_0 : List UInt8 := dkwJ43_iterator_0 ++ []
theorem dksJ43_iterator_0 : cJ43_iterator.data.toList.drop 0 = dktJ43_iterator_0 := by decide +kernel
theorem dJ43_iterator_0 : decode cJ43_iterator 0 = .ok (.aload_n 0, 1) := dk_42 (dk_at dksJ43_iterator_0 0 rfl rfl)
theorem dJ43_iterator_1 : decode cJ43_iterator 1 = .ok (.getfield 7, 3) := dk_180 0 7 (dk_at dksJ43_iterator_0 1 rfl rfl)
theorem dJ43_iterator_4 : decode cJ43_iterator 4 = .ok (.invokeinterface 34 1, 5) := by decide +kernel
theorem dJ43_iterator_9 : decode cJ43_iterator 9 = .ok (.invokeinterface 40 1, 5) := by decide +kernel
theorem dJ43_iterator_14 : decode cJ43_iterator 14 = .ok (.areturn, 1) := dk_176 (dk_at dksJ43_iterator_0 14 rfl rfl)
theorem q182 : (Jvm.Cond.initialized "java/util/TreeSet") ∈ lw_all := lw_g (lw_at lw_m1 56 rfl) rfl
theorem q1021 : (Jvm.Cond.selects "java/util/TreeSet" ({ cls := "java/lang/Object", name := "getClass", desc := "()Ljava/lang/Class;" } : Jvm.MethodName) ({ cls := "java/lang/Object", name := "getClass", desc := "()Ljava/lang/Class;" } : Jvm.MethodName)) ∈ lw_all := lw_g (lw_at lw_m4 175 rfl) rfl
theorem q2196 : (Jvm.Cond.instanceMethod ({ cls := "java/util/TreeSet", name := "size", desc := "()I" } : Jvm.MethodName)) ∈ lw_all := lw_g (lw_at lw_m9 150 rfl) rfl
theorem q2197 : (Jvm.Cond.code ({ cls := "java/util/TreeSet", name := "size", desc := "()I" } : Jvm.MethodName) prog_99_method_9_code (1 : Nat) (Option.some Jvm.ClassFile.FieldType.int)) ∈ lw_all := lw_g (lw_at lw_m9 151 rfl) rfl
theorem q2198 : (Jvm.Cond.interfaceEntry "java/util/TreeSet" (53 : Nat)) ∈ lw_tbl := lw_at lw_m9 152 rfl
theorem q2323 : (Jvm.Cond.instantiable "java/util/TreeSet" (1 : Nat)) ∈ lw_all := lw_g (lw_at lw_m10 37 rfl) rfl
theorem q2325 : (Jvm.Cond.instanceMethod ({ cls := "java/util/TreeSet", name := "<init>", desc := "(Ljava/util/Comparator;)V" } : Jvm.MethodName)) ∈ lw_all := lw_g (lw_at lw_m10 39 rfl) rfl
theorem q2326 : (Jvm.Cond.code ({ cls := "java/util/TreeSet", name := "<init>", desc := "(Ljava/util/Comparator;)V" } : Jvm.MethodName) prog_99_method_3_code (2 : Nat) (Option.none : Option Jvm.ClassFile.FieldType)) ∈ lw_all := lw_g (lw_at lw_m10 40 rfl) rfl
theorem q2327 : (Jvm.Cond.classLink "java/util/TreeSet" (13 : Nat) "java/util/TreeMap") ∈ lw_all := lw_g (lw_at lw_m10 41 rfl) rfl
theorem q2328 : (Jvm.Cond.methodLink "java/util/TreeSet" (19 : Nat) ({ cls := "java/util/TreeMap", name := "<init>", desc := "(Ljava/util/Comparator;)V" } : Jvm.MethodName)) ∈ lw_all := lw_g (lw_at lw_m10 42 rfl) rfl
theorem q2362 : (Jvm.Cond.methodLink "java/util/TreeSet" (16 : Nat) ({ cls := "java/util/TreeSet", name := "<init>", desc := "(Ljava/util/NavigableMap;)V" } : Jvm.MethodName)) ∈ lw_all := lw_g (lw_at lw_m10 76 rfl) rfl
theorem q2363 : (Jvm.Cond.instanceMethod ({ cls := "java/util/TreeSet", name := "<init>", desc := "(Ljava/util/NavigableMap;)V" } : Jvm.MethodName)) ∈ lw_all := lw_g (lw_at lw_m10 77 rfl) rfl
theorem q2364 : (Jvm.Cond.code ({ cls := "java/util/TreeSet", name := "<init>", desc := "(Ljava/util/NavigableMap;)V" } : Jvm.MethodName) prog_99_method_1_code (2 : Nat) (Option.none : Option Jvm.ClassFile.FieldType)) ∈ lw_all := lw_g (lw_at lw_m10 78 rfl) rfl
theorem q2365 : (Jvm.Cond.methodLink "java/util/TreeSet" (1 : Nat) ({ cls := "java/util/AbstractSet", name := "<init>", desc := "()V" } : Jvm.MethodName)) ∈ lw_all := lw_g (lw_at lw_m10 79 rfl) rfl
theorem q2369 : (Jvm.Cond.fieldLink "java/util/TreeSet" (7 : Nat) "java/util/TreeSet" "m" "Ljava/util/NavigableMap;") ∈ lw_all := lw_g (lw_at lw_m10 83 rfl) rfl
theorem q2370 : (Jvm.Cond.lays "java/util/TreeSet" "java/util/TreeSet" "m" "Ljava/util/NavigableMap;") ∈ lw_all := lw_g (lw_at lw_m10 84 rfl) rfl
theorem q2371 : (Jvm.Cond.soleField "java/util/TreeSet" "m") ∈ lw_all := lw_g (lw_at lw_m10 85 rfl) rfl
theorem q2372 : (Jvm.Cond.superclass "java/util/TreeSet" "java/util/AbstractSet") ∈ lw_all := lw_g (lw_at lw_m10 86 rfl) rfl
theorem q2393 : (Jvm.Cond.instanceMethod ({ cls := "java/util/TreeSet", name := "add", desc := "(Ljava/lang/Object;)Z" } : Jvm.MethodName)) ∈ lw_all := lw_g (lw_at lw_m10 107 rfl) rfl
theorem q2394 : (Jvm.Cond.selects "java/util/TreeSet" ({ cls := "java/util/TreeSet", name := "add", desc := "(Ljava/lang/Object;)Z" } : Jvm.MethodName) ({ cls := "java/util/TreeSet", name := "add", desc := "(Ljava/lang/Object;)Z" } : Jvm.MethodName)) ∈ lw_all := lw_g (lw_at lw_m10 108 rfl) rfl
theorem q2395 : (Jvm.Cond.code ({ cls := "java/util/TreeSet", name := "add", desc := "(Ljava/lang/Object;)Z" } : Jvm.MethodName) prog_99_method_12_code (2 : Nat) (Option.some Jvm.ClassFile.FieldType.boolean)) ∈ lw_all := lw_g (lw_at lw_m10 109 rfl) rfl
theorem q2396 : (Jvm.Cond.fieldLink "java/util/TreeSet" (65 : Nat) "java/util/TreeSet" "PRESENT" "Ljava/lang/Object;") ∈ lw_all := lw_g (lw_at lw_m10 110 rfl) rfl
theorem q2397 : (Jvm.Cond.laysStatic "java/util/TreeSet" "PRESENT" "Ljava/lang/Object;") ∈ lw_tbl := lw_at lw_m10 111 rfl
theorem q2398 : (Jvm.Cond.interfaceEntry "java/util/TreeSet" (69 : Nat)) ∈ lw_tbl := lw_at lw_m10 112 rfl
theorem q2466 : (Jvm.Cond.instanceMethod ({ cls := "java/util/TreeSet", name := "iterator", desc := "()Ljava/util/Iterator;" } : Jvm.MethodName)) ∈ lw_all := lw_g (lw_at lw_m10 180 rfl) rfl
theorem q2467 : (Jvm.Cond.selects "java/util/TreeSet" ({ cls := "java/util/TreeSet", name := "iterator", desc := "()Ljava/util/Iterator;" } : Jvm.MethodName) ({ cls := "java/util/TreeSet", name := "iterator", desc := "()Ljava/util/Iterator;" } : Jvm.MethodName)) ∈ lw_all := lw_g (lw_at lw_m10 181 rfl) rfl
theorem q2468 : (Jvm.Cond.code ({ cls := "java/util/TreeSet", name := "iterator", desc := "()Ljava/util/Iterator;" } : Jvm.MethodName) prog_99_method_6_code (1 : Nat) (Option.some (Jvm.ClassFile.FieldType.object "java/util/Iterator"))) ∈ lw_all := lw_g (lw_at lw_m10 182 rfl) rfl
theorem q2469 : (Jvm.Cond.interfaceEntry "java/util/TreeSet" (34 : Nat)) ∈ lw_tbl := lw_at lw_m10 183 rfl
theorem q2470 : (Jvm.Cond.methodLink "java/util/TreeSet" (34 : Nat) ({ cls := "java/util/NavigableMap", name := "navigableKeySet", desc := "()Ljava/util/NavigableSet;" } : Jvm.MethodName)) ∈ lw_all := lw_g (lw_at lw_m10 184 rfl) rfl
theorem q2488 : (Jvm.Cond.interfaceEntry "java/util/TreeSet" (40 : Nat)) ∈ lw_tbl := lw_at lw_m10 202 rfl
theorem q2489 : (Jvm.Cond.methodLink "java/util/TreeSet" (40 : Nat) ({ cls := "java/util/NavigableSet", name := "iterator", desc := "()Ljava/util/Iterator;" } : Jvm.MethodName)) ∈ lw_all := lw_g (lw_at lw_m10 203 rfl) rfl
theorem q2533 : (Jvm.Cond.castable "java/util/TreeSet" "java/util/NavigableSet") ∈ lw_tbl := lw_at lw_m11 7 rfl
theorem q2534 : (Jvm.Cond.selects "java/util/TreeSet" ({ cls := "java/util/NavigableSet", name := "iterator", desc := "()Ljava/util/Iterator;" } : Jvm.MethodName) ({ cls := "java/util/TreeSet", name := "iterator", desc := "()Ljava/util/Iterator;" } : Jvm.MethodName)) ∈ lw_all := lw_g (lw_at lw_m11 8 rfl) rfl
theorem q2535 : (Jvm.Cond.unhidden "java/util/TreeSet" "iterator" "()Ljava/util/Iterator;") ∈ lw_tbl := lw_at lw_m11 9 rfl
theorem q2536 : (Jvm.Cond.publicMethod ({ cls := "java/util/TreeSet", name := "iterator", desc := "()Ljava/util/Iterator;" } : Jvm.MethodName)) ∈ lw_tbl := lw_at lw_m11 10 rfl
theorem q2795 : (Jvm.Cond.castable "java/util/TreeSet" "java/util/Collection") ∈ lw_tbl := lw_at lw_m12 29 rfl
theorem q2796 : (Jvm.Cond.selects "java/util/TreeSet" ({ cls := "java/util/Collection", name := "iterator", desc := "()Ljava/util/Iterator;" } : Jvm.MethodName) ({ cls := "java/util/TreeSet", name := "iterator", desc := "()Ljava/util/Iterator;" } : Jvm.MethodName)) ∈ lw_all := lw_g (lw_at lw_m12 30 rfl) rfl
theorem q3597 : (Jvm.Cond.selects "java/util/TreeSet" ({ cls := "java/util/AbstractCollection", name := "size", desc := "()I" } : Jvm.MethodName) ({ cls := "java/util/TreeSet", name := "size", desc := "()I" } : Jvm.MethodName)) ∈ lw_all := lw_g (lw_at lw_m15 111 rfl) rfl
theorem q3629 : (Jvm.Cond.castable "java/util/TreeSet" "java/lang/Object") ∈ lw_tbl := lw_at lw_m15 143 rfl
set_option maxRecDepth 100000
abbrev cJ44_init : ByteArray := prog_92_method_1_code
def yJ44_init : MethodName := ⟨RJ44, "<init>", "(Ljava/lang/Object;Ljava/lang/Object;Ljava/util/TreeMap$Entry;)V"⟩
def dkwJ44_init_1 : List UInt8 := [177]
abbrev dktJ44_init_1 : List UInt8 := dkwJ44_init_1 ++ []
def dkwJ44_init_0 : List UInt8 := [42, 183, 0, 3, 42, 4, 181, 0, 9, 42, 43, 181, 0, 15, 42, 44, 181, 0, 19, 42, 45, 181, 0, 22]
abbrev dktJ44_init_0 : List UInt8 := dkwJ44_init_0 ++ dktJ44_init_1
theorem dksJ44_init_0 : cJ44_init.data.toList.drop 0 = dktJ44_init_0 := by decide +kernel
theorem dksJ44_init_1 : cJ44_init.data.toList.drop 24 = dktJ44_init_1 := dk_seg dksJ44_init_0 24 rfl rfl
theorem dJ44_init_0 : decode cJ44_init 0 = .ok (.aload_n 0, 1) := dk_42 (dk_at dksJ44_init_0 0 rfl rfl)
theorem dJ44_init_1 : decode cJ44_init 1 = .ok (.invokespecial 3, 3) := dk_183 0 3 (dk_at dksJ44_init_0 1 rfl rfl)
theorem dJ44_init_4 : decode cJ44_init 4 = .ok (.aload_n 0, 1) := dk_42 (dk_at dksJ44_init_0 4 rfl rfl)
theorem dJ44_init_5 : decode cJ44_init 5 = .ok (.iconst 1, 1) := dk_4 (dk_at dksJ44_init_0 5 rfl rfl)
theorem dJ44_init_6 : decode cJ44_init 6 = .ok (.putfield 9, 3) := dk_181 0 9 (dk_at dksJ44_init_0 6 rfl rfl)
theorem dJ44_init_9 : decode cJ44_init 9 = .ok (.aload_n 0, 1) := dk_42 (dk_at dksJ44_init_0 9 rfl rfl)
theorem dJ44_init_10 : decode cJ44_init 10 = .ok (.aload_n 1, 1) := dk_43 (dk_at dksJ44_init_0 10 rfl rfl)
theorem dJ44_init_11 : decode cJ44_init 11 = .ok (.putfield 15, 3) := dk_181 0 15 (dk_at dksJ44_init_0 11 rfl rfl)
theorem dJ44_init_14 : decode cJ44_init 14 = .ok (.aload_n 0, 1) := dk_42 (dk_at dksJ44_init_0 14 rfl rfl)
theorem dJ44_init_15 : decode cJ44_init 15 = .ok (.aload_n 2, 1) := dk_44 (dk_at dksJ44_init_0 15 rfl rfl)
theorem dJ44_init_16 : decode cJ44_init 16 = .ok (.putfield 19, 3) := dk_181 0 19 (dk_at dksJ44_init_0 16 rfl rfl)
theorem dJ44_init_19 : decode cJ44_init 19 = .ok (.aload_n 0, 1) := dk_42 (dk_at dksJ44_init_0 19 rfl rfl)
theorem dJ44_init_20 : decode cJ44_init 20 = .ok (.aload_n 3, 1) := dk_45 (dk_at dksJ44_init_0 20 rfl rfl)
theorem dJ44_init_21 : decode cJ44_init 21 = .ok (.putfield 22, 3) := dk_181 0 22 (dk_at dksJ44_init_0 21 rfl rfl)
theorem dJ44_init_24 : decode cJ44_init 24 = .ok (.return_, 1) := dk_177 (dk_at dksJ44_init_1 0 rfl rfl)
theorem q184 : (Jvm.Cond.initialized "java/util/TreeMap$Entry") ∈ lw_all := lw_g (lw_at lw_m1 58 rfl) rfl
theorem q1016 : (Jvm.Cond.selects "java/util/TreeMap$Entry" ({ cls := "java/lang/Object", name := "getClass", desc := "()Ljava/lang/Class;" } : Jvm.MethodName) ({ cls := "java/lang/Object", name := "getClass", desc := "()Ljava/lang/Class;" } : Jvm.MethodName)) ∈ lw_all := lw_g (lw_at lw_m4 170 rfl) rfl
theorem q2424 : (Jvm.Cond.instantiable "java/util/TreeMap$Entry" (6 : Nat)) ∈ lw_all := lw_g (lw_at lw_m10 138 rfl) rfl
theorem q2426 : (Jvm.Cond.instanceMethod ({ cls := "java/util/TreeMap$Entry", name := "<init>", desc := "(Ljava/lang/Object;Ljava/lang/Object;Ljava/util/TreeMap$Entry;)V" } : Jvm.MethodName)) ∈ lw_all := lw_g (lw_at lw_m10 140 rfl) rfl
theorem q2427 : (Jvm.Cond.code ({ cls := "java/util/TreeMap$Entry", name := "<init>", desc := "(Ljava/lang/Object;Ljava/lang/Object;Ljava/util/TreeMap$Entry;)V" } : Jvm.MethodName) prog_92_method_1_code (4 : Nat) (Option.none : Option Jvm.ClassFile.FieldType)) ∈ lw_all := lw_g (lw_at lw_m10 141 rfl) rfl
theorem q2428 : (Jvm.Cond.methodLink "java/util/TreeMap$Entry" (3 : Nat) ({ cls := "java/lang/Object", name := "<init>", desc := "()V" } : Jvm.MethodName)) ∈ lw_all := lw_g (lw_at lw_m10 142 rfl) rfl
theorem q2429 : (Jvm.Cond.fieldLink "java/util/TreeMap$Entry" (15 : Nat) "java/util/TreeMap$Entry" "key" "Ljava/lang/Object;") ∈ lw_all := lw_g (lw_at lw_m10 143 rfl) rfl
theorem q2432 : (Jvm.Cond.fieldLink "java/util/TreeMap$Entry" (19 : Nat) "java/util/TreeMap$Entry" "value" "Ljava/lang/Object;") ∈ lw_all := lw_g (lw_at lw_m10 146 rfl) rfl
theorem q2439 : (Jvm.Cond.fieldLink "java/util/TreeMap$Entry" (22 : Nat) "java/util/TreeMap$Entry" "parent" "Ljava/util/TreeMap$Entry;") ∈ lw_all := lw_g (lw_at lw_m10 153 rfl) rfl
theorem q2441 : (Jvm.Cond.fieldLink "java/util/TreeMap$Entry" (9 : Nat) "java/util/TreeMap$Entry" "color" "Z") ∈ lw_all := lw_g (lw_at lw_m10 155 rfl) rfl
theorem q2443 : (Jvm.Cond.lays "java/util/TreeMap$Entry" "java/util/TreeMap$Entry" "key" "Ljava/lang/Object;") ∈ lw_all := lw_g (lw_at lw_m10 157 rfl) rfl
theorem q2444 : (Jvm.Cond.soleField "java/util/TreeMap$Entry" "key") ∈ lw_all := lw_g (lw_at lw_m10 158 rfl) rfl
theorem q2445 : (Jvm.Cond.lays "java/util/TreeMap$Entry" "java/util/TreeMap$Entry" "value" "Ljava/lang/Object;") ∈ lw_all := lw_g (lw_at lw_m10 159 rfl) rfl
theorem q2446 : (Jvm.Cond.soleField "java/util/TreeMap$Entry" "value") ∈ lw_all := lw_g (lw_at lw_m10 160 rfl) rfl
theorem q2447 : (Jvm.Cond.lays "java/util/TreeMap$Entry" "java/util/TreeMap$Entry" "left" "Ljava/util/TreeMap$Entry;") ∈ lw_all := lw_g (lw_at lw_m10 161 rfl) rfl
theorem q2448 : (Jvm.Cond.soleField "java/util/TreeMap$Entry" "left") ∈ lw_all := lw_g (lw_at lw_m10 162 rfl) rfl
theorem q2449 : (Jvm.Cond.lays "java/util/TreeMap$Entry" "java/util/TreeMap$Entry" "right" "Ljava/util/TreeMap$Entry;") ∈ lw_all := lw_g (lw_at lw_m10 163 rfl) rfl
theorem q2450 : (Jvm.Cond.soleField "java/util/TreeMap$Entry" "right") ∈ lw_all := lw_g (lw_at lw_m10 164 rfl) rfl
theorem q2451 : (Jvm.Cond.lays "java/util/TreeMap$Entry" "java/util/TreeMap$Entry" "parent" "Ljava/util/TreeMap$Entry;") ∈ lw_all := lw_g (lw_at lw_m10 165 rfl) rfl
theorem q2452 : (Jvm.Cond.soleField "java/util/TreeMap$Entry" "parent") ∈ lw_all := lw_g (lw_at lw_m10 166 rfl) rfl
theorem q2453 : (Jvm.Cond.lays "java/util/TreeMap$Entry" "java/util/TreeMap$Entry" "color" "Z") ∈ lw_all := lw_g (lw_at lw_m10 167 rfl) rfl
theorem q2454 : (Jvm.Cond.soleField "java/util/TreeMap$Entry" "color") ∈ lw_all := lw_g (lw_at lw_m10 168 rfl) rfl
theorem q2455 : (Jvm.Cond.superclass "java/util/TreeMap$Entry" "java/lang/Object") ∈ lw_all := lw_g (lw_at lw_m10 169 rfl) rfl
theorem q3632 : (Jvm.Cond.castable "java/util/TreeMap$Entry" "java/lang/Object") ∈ lw_tbl := lw_at lw_m15 146 rfl
set_option maxRecDepth 100000
abbrev cJ45_size : ByteArray := prog_94_method_4_code
def yJ45_size : MethodName := ⟨RJ45, "size", "()I"⟩
def dkwJ45_size_0 : List UInt8 := [42, 180, 0, 7, 185, 0, 26, 1, 0, 172]
abbrev dktJ45_size_0 : List UInt8 := dkwJ45_size_0 ++ []
theorem dksJ45_size_0 : cJ45_size.data.toList.drop 0 = dktJ45_size_0 := by decide +kernel
theorem dJ45_size_0 : decode cJ45_size 0 = .ok (.aload_n 0, 1) := dk_42 (dk_at dksJ45_size_0 0 rfl rfl)
theorem dJ45_size_1 : decode cJ45_size 1 = .ok (.getfield 7, 3) := dk_180 0 7 (dk_at dksJ45_size_0 1 rfl rfl)
theorem dJ45_size_4 : decode cJ45_size 4 = .ok (.invokeinterface 26 1, 5) := by decide +kernel
theorem dJ45_size_9 : decode cJ45_size 9 = .ok (.ireturn, 1) := dk_172 (dk_at dksJ45_size_0 9 rfl rfl)
abbrev cJ45_init : ByteArray := prog_94_method_1_code
def yJ45_init : MethodName := ⟨RJ45, "<init>", "(Ljava/util/NavigableMap;)V"⟩
def dkwJ45_init_0 : List UInt8 := [42, 183, 0, 1, 42, 43, 181, 0, 7, 177]
abbrev dktJ45_init_0 : List UInt8 := dkwJ45_init_0 ++ []
theorem dksJ45_init_0 : cJ45_init.data.toList.drop 0 = dktJ45_init_0 := by decide +kernel
theorem dJ45_init_0 : decode cJ45_init 0 = .ok (.aload_n 0, 1) := dk_42 (dk_at dksJ45_init_0 0 rfl rfl)
theorem dJ45_init_1 : decode cJ45_init 1 = .ok (.invokespecial 1, 3) := dk_183 0 1 (dk_at dksJ45_init_0 1 rfl rfl)
theorem dJ45_init_4 : decode cJ45_init 4 = .ok (.aload_n 0, 1) := dk_42 (dk_at dksJ45_init_0 4 rfl rfl)
theorem dJ45_init_5 : decode cJ45_init 5 = .ok (.aload_n 1, 1) := dk_43 (dk_at dksJ45_init_0 5 rfl rfl)
theorem dJ45_init_6 : decode cJ45_init 6 = .ok (.putfield 7, 3) := dk_181 0 7 (dk_at dksJ45_init_0 6 rfl rfl)
theorem dJ45_init_9 : decode cJ45_init 9 = .ok (.return_, 1) := dk_177 (dk_at dksJ45_init_0 9 rfl rfl)
abbrev cJ45_iterator : ByteArray := prog_94_method_2_code
def yJ45_iterator : MethodName := ⟨RJ45, "iterator", "()Ljava/util/Iterator;"⟩
def dkwJ45_iterator_1 : List UInt8 := [180, 0, 7, 192, 0, 19, 182, 0, 21, 176]
abbrev dktJ45_iterator_1 : List UInt8 := dkwJ45_iterator_1 ++ []
def dkwJ45_iterator_0 : List UInt8 := [42, 180, 0, 7, 193, 0, 13, 153, 0, 14, 42, 180, 0, 7, 192, 0, 13, 182, 0, 15, 176, 42]
abbrev dktJ45_iterator_0 : List UInt8 := dkwJ45_iterator_0 ++ dktJ45_iterator_1
theorem dksJ45_iterator_0 : cJ45_iterator.data.toList.drop 0 = dktJ45_iterator_0 := by decide +kernel
theorem dksJ45_iterator_1 : cJ45_iterator.data.toList.drop 22 = dktJ45_iterator_1 := dk_seg dksJ45_iterator_0 22 rfl rfl
theorem dJ45_iterator_0 : decode cJ45_iterator 0 = .ok (.aload_n 0, 1) := dk_42 (dk_at dksJ45_iterator_0 0 rfl rfl)
theorem dJ45_iterator_1 : decode cJ45_iterator 1 = .ok (.getfield 7, 3) := dk_180 0 7 (dk_at dksJ45_iterator_0 1 rfl rfl)
theorem dJ45_iterator_4 : decode cJ45_iterator 4 = .ok (.instanceof 13, 3) := dk_193 0 13 (dk_at dksJ45_iterator_0 4 rfl rfl)
theorem dJ45_iterator_7 : decode cJ45_iterator 7 = .ok (.ifCond .eq 14, 3) := dk_153 0 14 (dk_at dksJ45_iterator_0 7 rfl rfl)
theorem dJ45_iterator_10 : decode cJ45_iterator 10 = .ok (.aload_n 0, 1) := dk_42 (dk_at dksJ45_iterator_0 10 rfl rfl)
theorem dJ45_iterator_11 : decode cJ45_iterator 11 = .ok (.getfield 7, 3) := dk_180 0 7 (dk_at dksJ45_iterator_0 11 rfl rfl)
theorem dJ45_iterator_14 : decode cJ45_iterator 14 = .ok (.checkcast 13, 3) := dk_192 0 13 (dk_at dksJ45_iterator_0 14 rfl rfl)
theorem dJ45_iterator_17 : decode cJ45_iterator 17 = .ok (.invokevirtual 15, 3) := dk_182 0 15 (dk_at dksJ45_iterator_0 17 rfl rfl)
theorem dJ45_iterator_20 : decode cJ45_iterator 20 = .ok (.areturn, 1) := dk_176 (dk_at dksJ45_iterator_0 20 rfl rfl)
theorem dJ45_iterator_21 : decode cJ45_iterator 21 = .ok (.aload_n 0, 1) := dk_42 (dk_at dksJ45_iterator_0 21 rfl rfl)
theorem dJ45_iterator_22 : decode cJ45_iterator 22 = .ok (.getfield 7, 3) := dk_180 0 7 (dk_at dksJ45_iterator_1 0 rfl rfl)
theorem dJ45_iterator_25 : decode cJ45_iterator 25 = .ok (.checkcast 19, 3) := dk_192 0 19 (dk_at dksJ45_iterator_1 3 rfl rfl)
theorem dJ45_iterator_28 : decode cJ45_iterator 28 = .ok (.invokevirtual 21, 3) := dk_182 0 21 (dk_at dksJ45_iterator_1 6 rfl rfl)
theorem dJ45_iterator_31 : decode cJ45_iterator 31 = .ok (.areturn, 1) := dk_176 (dk_at dksJ45_iterator_1 9 rfl rfl)
theorem q185 : (Jvm.Cond.initialized "java/util/TreeMap$KeySet") ∈ lw_all := lw_g (lw_at lw_m1 59 rfl) rfl
theorem q1018 : (Jvm.Cond.selects "java/util/TreeMap$KeySet" ({ cls := "java/lang/Object", name := "getClass", desc := "()Ljava/lang/Class;" } : Jvm.MethodName) ({ cls := "java/lang/Object", name := "getClass", desc := "()Ljava/lang/Class;" } : Jvm.MethodName)) ∈ lw_all := lw_g (lw_at lw_m4 172 rfl) rfl
theorem q2182 : (Jvm.Cond.instanceMethod ({ cls := "java/util/TreeMap$KeySet", name := "size", desc := "()I" } : Jvm.MethodName)) ∈ lw_all := lw_g (lw_at lw_m9 136 rfl) rfl
theorem q2183 : (Jvm.Cond.code ({ cls := "java/util/TreeMap$KeySet", name := "size", desc := "()I" } : Jvm.MethodName) prog_94_method_4_code (1 : Nat) (Option.some Jvm.ClassFile.FieldType.int)) ∈ lw_all := lw_g (lw_at lw_m9 137 rfl) rfl
theorem q2184 : (Jvm.Cond.interfaceEntry "java/util/TreeMap$KeySet" (26 : Nat)) ∈ lw_tbl := lw_at lw_m9 138 rfl
theorem q2479 : (Jvm.Cond.instantiable "java/util/TreeMap$KeySet" (1 : Nat)) ∈ lw_all := lw_g (lw_at lw_m10 193 rfl) rfl
theorem q2481 : (Jvm.Cond.instanceMethod ({ cls := "java/util/TreeMap$KeySet", name := "<init>", desc := "(Ljava/util/NavigableMap;)V" } : Jvm.MethodName)) ∈ lw_all := lw_g (lw_at lw_m10 195 rfl) rfl
theorem q2482 : (Jvm.Cond.code ({ cls := "java/util/TreeMap$KeySet", name := "<init>", desc := "(Ljava/util/NavigableMap;)V" } : Jvm.MethodName) prog_94_method_1_code (2 : Nat) (Option.none : Option Jvm.ClassFile.FieldType)) ∈ lw_all := lw_g (lw_at lw_m10 196 rfl) rfl
theorem q2483 : (Jvm.Cond.methodLink "java/util/TreeMap$KeySet" (1 : Nat) ({ cls := "java/util/AbstractSet", name := "<init>", desc := "()V" } : Jvm.MethodName)) ∈ lw_all := lw_g (lw_at lw_m10 197 rfl) rfl
theorem q2484 : (Jvm.Cond.fieldLink "java/util/TreeMap$KeySet" (7 : Nat) "java/util/TreeMap$KeySet" "m" "Ljava/util/NavigableMap;") ∈ lw_all := lw_g (lw_at lw_m10 198 rfl) rfl
theorem q2485 : (Jvm.Cond.laysFinal "java/util/TreeMap$KeySet" "java/util/TreeMap$KeySet" "m" "Ljava/util/NavigableMap;") ∈ lw_all := lw_g (lw_at lw_m10 199 rfl) rfl
theorem q2486 : (Jvm.Cond.soleField "java/util/TreeMap$KeySet" "m") ∈ lw_all := lw_g (lw_at lw_m10 200 rfl) rfl
theorem q2487 : (Jvm.Cond.superclass "java/util/TreeMap$KeySet" "java/util/AbstractSet") ∈ lw_all := lw_g (lw_at lw_m10 201 rfl) rfl
theorem q2492 : (Jvm.Cond.castable "java/util/TreeMap$KeySet" "java/util/NavigableSet") ∈ lw_tbl := lw_at lw_m10 206 rfl
theorem q2493 : (Jvm.Cond.selects "java/util/TreeMap$KeySet" ({ cls := "java/util/NavigableSet", name := "iterator", desc := "()Ljava/util/Iterator;" } : Jvm.MethodName) ({ cls := "java/util/TreeMap$KeySet", name := "iterator", desc := "()Ljava/util/Iterator;" } : Jvm.MethodName)) ∈ lw_all := lw_g (lw_at lw_m10 207 rfl) rfl
theorem q2494 : (Jvm.Cond.unhidden "java/util/TreeMap$KeySet" "iterator" "()Ljava/util/Iterator;") ∈ lw_tbl := lw_at lw_m10 208 rfl
theorem q2495 : (Jvm.Cond.instanceMethod ({ cls := "java/util/TreeMap$KeySet", name := "iterator", desc := "()Ljava/util/Iterator;" } : Jvm.MethodName)) ∈ lw_all := lw_g (lw_at lw_m10 209 rfl) rfl
theorem q2496 : (Jvm.Cond.publicMethod ({ cls := "java/util/TreeMap$KeySet", name := "iterator", desc := "()Ljava/util/Iterator;" } : Jvm.MethodName)) ∈ lw_tbl := lw_at lw_m10 210 rfl
theorem q2497 : (Jvm.Cond.code ({ cls := "java/util/TreeMap$KeySet", name := "iterator", desc := "()Ljava/util/Iterator;" } : Jvm.MethodName) prog_94_method_2_code (1 : Nat) (Option.some (Jvm.ClassFile.FieldType.object "java/util/Iterator"))) ∈ lw_all := lw_g (lw_at lw_m10 211 rfl) rfl
theorem q2498 : (Jvm.Cond.classLink "java/util/TreeMap$KeySet" (13 : Nat) "java/util/TreeMap") ∈ lw_all := lw_g (lw_at lw_m10 212 rfl) rfl
theorem q2499 : (Jvm.Cond.methodLink "java/util/TreeMap$KeySet" (15 : Nat) ({ cls := "java/util/TreeMap", name := "keyIterator", desc := "()Ljava/util/Iterator;" } : Jvm.MethodName)) ∈ lw_all := lw_g (lw_at lw_m10 213 rfl) rfl
theorem q2529 : (Jvm.Cond.classLink "java/util/TreeMap$KeySet" (19 : Nat) "java/util/TreeMap$NavigableSubMap") ∈ lw_all := lw_g (lw_at lw_m11 3 rfl) rfl
theorem q2530 : (Jvm.Cond.methodLink "java/util/TreeMap$KeySet" (21 : Nat) ({ cls := "java/util/TreeMap$NavigableSubMap", name := "keyIterator", desc := "()Ljava/util/Iterator;" } : Jvm.MethodName)) ∈ lw_all := lw_g (lw_at lw_m11 4 rfl) rfl
theorem q2775 : (Jvm.Cond.castable "java/util/TreeMap$KeySet" "java/util/Collection") ∈ lw_tbl := lw_at lw_m12 9 rfl
theorem q2776 : (Jvm.Cond.selects "java/util/TreeMap$KeySet" ({ cls := "java/util/Collection", name := "iterator", desc := "()Ljava/util/Iterator;" } : Jvm.MethodName) ({ cls := "java/util/TreeMap$KeySet", name := "iterator", desc := "()Ljava/util/Iterator;" } : Jvm.MethodName)) ∈ lw_all := lw_g (lw_at lw_m12 10 rfl) rfl
theorem q3594 : (Jvm.Cond.selects "java/util/TreeMap$KeySet" ({ cls := "java/util/AbstractCollection", name := "size", desc := "()I" } : Jvm.MethodName) ({ cls := "java/util/TreeMap$KeySet", name := "size", desc := "()I" } : Jvm.MethodName)) ∈ lw_all := lw_g (lw_at lw_m15 108 rfl) rfl
theorem q3633 : (Jvm.Cond.castable "java/util/TreeMap$KeySet" "java/lang/Object") ∈ lw_tbl := lw_at lw_m15 147 rfl
set_option maxRecDepth 100000
abbrev cJ46_hasNext : ByteArray := prog_96_method_2_code
def yJ46_hasNext : MethodName := ⟨RJ46, "hasNext", "()Z"⟩
def dkwJ46_hasNext_0 : List UInt8 := [42, 180, 0, 26, 198, 0, 7, 4, 167, 0, 4, 3, 172]
abbrev dktJ46_hasNext_0 : List UInt8 := dkwJ46_hasNext_0 ++ []
theorem dksJ46_hasNext_0 : cJ46_hasNext.data.toList.drop 0 = dktJ46_hasNext_0 := by decide +kernel
theorem dJ46_hasNext_0 : decode cJ46_hasNext 0 = .ok (.aload_n 0, 1) := dk_42 (dk_at dksJ46_hasNext_0 0 rfl rfl)
theorem dJ46_hasNext_1 : decode cJ46_hasNext 1 = .ok (.getfield 26, 3) := dk_180 0 26 (dk_at dksJ46_hasNext_0 1 rfl rfl)
theorem dJ46_hasNext_4 : decode cJ46_hasNext 4 = .ok (.ifnull 7, 3) := dk_198 0 7 (dk_at dksJ46_hasNext_0 4 rfl rfl)
theorem dJ46_hasNext_7 : decode cJ46_hasNext 7 = .ok (.iconst 1, 1) := dk_4 (dk_at dksJ46_hasNext_0 7 rfl rfl)
theorem dJ46_hasNext_8 : decode cJ46_hasNext 8 = .ok (.goto 4, 3) := dk_167 0 4 (dk_at dksJ46_hasNext_0 8 rfl rfl)
theorem dJ46_hasNext_11 : decode cJ46_hasNext 11 = .ok (.iconst 0, 1) := dk_3 (dk_at dksJ46_hasNext_0 11 rfl rfl)
theorem dJ46_hasNext_12 : decode cJ46_hasNext 12 = .ok (.ireturn, 1) := dk_172 (dk_at dksJ46_hasNext_0 12 rfl rfl)
abbrev cJ46_nextEntry : ByteArray := prog_96_method_3_code
def yJ46_nextEntry : MethodName := ⟨RJ46, "nextEntry", "()Ljava/util/TreeMap$Entry;"⟩
def dkwJ46_nextEntry_2 : List UInt8 := [43, 181, 0, 22, 43, 176]
abbrev dktJ46_nextEntry_2 : List UInt8 := dkwJ46_nextEntry_2 ++ []
def dkwJ46_nextEntry_1 : List UInt8 := [42, 180, 0, 19, 159, 0, 11, 187, 0, 32, 89, 183, 0, 34, 191, 42, 43, 184, 0, 35, 181, 0, 26, 42]
abbrev dktJ46_nextEntry_1 : List UInt8 := dkwJ46_nextEntry_1 ++ dktJ46_nextEntry_2
def dkwJ46_nextEntry_0 : List UInt8 := [42, 180, 0, 26, 76, 43, 199, 0, 11, 187, 0, 29, 89, 183, 0, 31, 191, 42, 180, 0, 1, 180, 0, 13]
abbrev dktJ46_nextEntry_0 : List UInt8 := dkwJ46_nextEntry_0 ++ dktJ46_nextEntry_1
theorem dksJ46_nextEntry_0 : cJ46_nextEntry.data.toList.drop 0 = dktJ46_nextEntry_0 := by decide +kernel
theorem dksJ46_nextEntry_1 : cJ46_nextEntry.data.toList.drop 24 = dktJ46_nextEntry_1 := dk_seg dksJ46_nextEntry_0 24 rfl rfl
theorem dksJ46_nextEntry_2 : cJ46_nextEntry.data.toList.drop 48 = dktJ46_nextEntry_2 := dk_seg dksJ46_nextEntry_1 24 rfl rfl
theorem dJ46_nextEntry_0 : decode cJ46_nextEntry 0 = .ok (.aload_n 0, 1) := dk_42 (dk_at dksJ46_nextEntry_0 0 rfl rfl)
theorem dJ46_nextEntry_1 : decode cJ46_nextEntry 1 = .ok (.getfield 26, 3) := dk_180 0 26 (dk_at dksJ46_nextEntry_0 1 rfl rfl)
theorem dJ46_nextEntry_4 : decode cJ46_nextEntry 4 = .ok (.astore_n 1, 1) := dk_76 (dk_at dksJ46_nextEntry_0 4 rfl rfl)
theorem dJ46_nextEntry_5 : decode cJ46_nextEntry 5 = .ok (.aload_n 1, 1) := dk_43 (dk_at dksJ46_nextEntry_0 5 rfl rfl)
theorem dJ46_nextEntry_6 : decode cJ46_nextEntry 6 = .ok (.ifnonnull 11, 3) := dk_199 0 11 (dk_at dksJ46_nextEntry_0 6 rfl rfl)
theorem dJ46_nextEntry_9 : decode cJ46_nextEntry 9 = .ok (.new 29, 3) := dk_187 0 29 (dk_at dksJ46_nextEntry_0 9 rfl rfl)
theorem dJ46_nextEntry_12 : decode cJ46_nextEntry 12 = .ok (.dup, 1) := dk_89 (dk_at dksJ46_nextEntry_0 12 rfl rfl)
theorem dJ46_nextEntry_13 : decode cJ46_nextEntry 13 = .ok (.invokespecial 31, 3) := dk_183 0 31 (dk_at dksJ46_nextEntry_0 13 rfl rfl)
theorem dJ46_nextEntry_16 : decode cJ46_nextEntry 16 = .ok (.athrow, 1) := dk_191 (dk_at dksJ46_nextEntry_0 16 rfl rfl)
theorem dJ46_nextEntry_17 : decode cJ46_nextEntry 17 = .ok (.aload_n 0, 1) := dk_42 (dk_at dksJ46_nextEntry_0 17 rfl rfl)
theorem dJ46_nextEntry_18 : decode cJ46_nextEntry 18 = .ok (.getfield 1, 3) := dk_180 0 1 (dk_at dksJ46_nextEntry_0 18 rfl rfl)
theorem dJ46_nextEntry_21 : decode cJ46_nextEntry 21 = .ok (.getfield 13, 3) := dk_180 0 13 (dk_at dksJ46_nextEntry_0 21 rfl rfl)
theorem dJ46_nextEntry_24 : decode cJ46_nextEntry 24 = .ok (.aload_n 0, 1) := dk_42 (dk_at dksJ46_nextEntry_1 0 rfl rfl)
theorem dJ46_nextEntry_25 : decode cJ46_nextEntry 25 = .ok (.getfield 19, 3) := dk_180 0 19 (dk_at dksJ46_nextEntry_1 1 rfl rfl)
theorem dJ46_nextEntry_28 : decode cJ46_nextEntry 28 = .ok (.if_icmp .eq 11, 3) := dk_159 0 11 (dk_at dksJ46_nextEntry_1 4 rfl rfl)
theorem dJ46_nextEntry_31 : decode cJ46_nextEntry 31 = .ok (.new 32, 3) := dk_187 0 32 (dk_at dksJ46_nextEntry_1 7 rfl rfl)
theorem dJ46_nextEntry_34 : decode cJ46_nextEntry 34 = .ok (.dup, 1) := dk_89 (dk_at dksJ46_nextEntry_1 10 rfl rfl)
theorem dJ46_nextEntry_35 : decode cJ46_nextEntry 35 = .ok (.invokespecial 34, 3) := dk_183 0 34 (dk_at dksJ46_nextEntry_1 11 rfl rfl)
theorem dJ46_nextEntry_38 : decode cJ46_nextEntry 38 = .ok (.athrow, 1) := dk_191 (dk_at dksJ46_nextEntry_1 14 rfl rfl)
theorem dJ46_nextEntry_39 : decode cJ46_nextEntry 39 = .ok (.aload_n 0, 1) := dk_42 (dk_at dksJ46_nextEntry_1 15 rfl rfl)
theorem dJ46_nextEntry_40 : decode cJ46_nextEntry 40 = .ok (.aload_n 1, 1) := dk_43 (dk_at dksJ46_nextEntry_1 16 rfl rfl)
theorem dJ46_nextEntry_41 : decode cJ46_nextEntry 41 = .ok (.invokestatic 35, 3) := dk_184 0 35 (dk_at dksJ46_nextEntry_1 17 rfl rfl)
theorem dJ46_nextEntry_44 : decode cJ46_nextEntry 44 = .ok (.putfield 26, 3) := dk_181 0 26 (dk_at dksJ46_nextEntry_1 20 rfl rfl)
theorem dJ46_nextEntry_47 : decode cJ46_nextEntry 47 = .ok (.aload_n 0, 1) := dk_42 (dk_at dksJ46_nextEntry_1 23 rfl rfl)
theorem dJ46_nextEntry_48 : decode cJ46_nextEntry 48 = .ok (.aload_n 1, 1) := dk_43 (dk_at dksJ46_nextEntry_2 0 rfl rfl)
theorem dJ46_nextEntry_49 : decode cJ46_nextEntry 49 = .ok (.putfield 22, 3) := dk_181 0 22 (dk_at dksJ46_nextEntry_2 1 rfl rfl)
theorem dJ46_nextEntry_52 : decode cJ46_nextEntry 52 = .ok (.aload_n 1, 1) := dk_43 (dk_at dksJ46_nextEntry_2 4 rfl rfl)
theorem dJ46_nextEntry_53 : decode cJ46_nextEntry 53 = .ok (.areturn, 1) := dk_176 (dk_at dksJ46_nextEntry_2 5 rfl rfl)
abbrev cJ46_remove : ByteArray := prog_96_method_5_code
def yJ46_remove : MethodName := ⟨RJ46, "remove", "()V"⟩
def dkwJ46_remove_3 : List UInt8 := [180, 0, 22, 182, 0, 53, 42, 42, 180, 0, 1, 180, 0, 13, 181, 0, 19, 42, 1, 181, 0, 22, 177]
abbrev dktJ46_remove_3 : List UInt8 := dkwJ46_remove_3 ++ []
def dkwJ46_remove_2 : List UInt8 := [42, 180, 0, 22, 180, 0, 50, 198, 0, 11, 42, 42, 180, 0, 22, 181, 0, 26, 42, 180, 0, 1, 42]
abbrev dktJ46_remove_2 : List UInt8 := dkwJ46_remove_2 ++ dktJ46_remove_3
def dkwJ46_remove_1 : List UInt8 := [180, 0, 19, 159, 0, 11, 187, 0, 32, 89, 183, 0, 34, 191, 42, 180, 0, 22, 180, 0, 45, 198, 0, 21]
abbrev dktJ46_remove_1 : List UInt8 := dkwJ46_remove_1 ++ dktJ46_remove_2
def dkwJ46_remove_0 : List UInt8 := [42, 180, 0, 22, 199, 0, 11, 187, 0, 42, 89, 183, 0, 44, 191, 42, 180, 0, 1, 180, 0, 13, 42]
abbrev dktJ46_remove_0 : List UInt8 := dkwJ46_remove_0 ++ dktJ46_remove_1
theorem dksJ46_remove_0 : cJ46_remove.data.toList.drop 0 = dktJ46_remove_0 := by decide +kernel
theorem dksJ46_remove_1 : cJ46_remove.data.toList.drop 23 = dktJ46_remove_1 := dk_seg dksJ46_remove_0 23 rfl rfl
theorem dksJ46_remove_2 : cJ46_remove.data.toList.drop 47 = dktJ46_remove_2 := dk_seg dksJ46_remove_1 24 rfl rfl
theorem dksJ46_remove_3 : cJ46_remove.data.toList.drop 70 = dktJ46_remove_3 := dk_seg dksJ46_remove_2 23 rfl rfl
theorem dJ46_remove_0 : decode cJ46_remove 0 = .ok (.aload_n 0, 1) := dk_42 (dk_at dksJ46_remove_0 0 rfl rfl)
theorem dJ46_remove_1 : decode cJ46_remove 1 = .ok (.getfield 22, 3) := dk_180 0 22 (dk_at dksJ46_remove_0 1 rfl rfl)
theorem dJ46_remove_4 : decode cJ46_remove 4 = .ok (.ifnonnull 11, 3) := dk_199 0 11 (dk_at dksJ46_remove_0 4 rfl rfl)
theorem dJ46_remove_7 : decode cJ46_remove 7 = .ok (.new 42, 3) := dk_187 0 42 (dk_at dksJ46_remove_0 7 rfl rfl)
theorem dJ46_remove_10 : decode cJ46_remove 10 = .ok (.dup, 1) := dk_89 (dk_at dksJ46_remove_0 10 rfl rfl)
theorem dJ46_remove_11 : decode cJ46_remove 11 = .ok (.invokespecial 44, 3) := dk_183 0 44 (dk_at dksJ46_remove_0 11 rfl rfl)
theorem dJ46_remove_14 : decode cJ46_remove 14 = .ok (.athrow, 1) := dk_191 (dk_at dksJ46_remove_0 14 rfl rfl)
theorem dJ46_remove_15 : decode cJ46_remove 15 = .ok (.aload_n 0, 1) := dk_42 (dk_at dksJ46_remove_0 15 rfl rfl)
theorem dJ46_remove_16 : decode cJ46_remove 16 = .ok (.getfield 1, 3) := dk_180 0 1 (dk_at dksJ46_remove_0 16 rfl rfl)
theorem dJ46_remove_19 : decode cJ46_remove 19 = .ok (.getfield 13, 3) := dk_180 0 13 (dk_at dksJ46_remove_0 19 rfl rfl)
theorem dJ46_remove_22 : decode cJ46_remove 22 = .ok (.aload_n 0, 1) := dk_42 (dk_at dksJ46_remove_0 22 rfl rfl)
theorem dJ46_remove_23 : decode cJ46_remove 23 = .ok (.getfield 19, 3) := dk_180 0 19 (dk_at dksJ46_remove_1 0 rfl rfl)
theorem dJ46_remove_26 : decode cJ46_remove 26 = .ok (.if_icmp .eq 11, 3) := dk_159 0 11 (dk_at dksJ46_remove_1 3 rfl rfl)
theorem dJ46_remove_29 : decode cJ46_remove 29 = .ok (.new 32, 3) := dk_187 0 32 (dk_at dksJ46_remove_1 6 rfl rfl)
theorem dJ46_remove_32 : decode cJ46_remove 32 = .ok (.dup, 1) := dk_89 (dk_at dksJ46_remove_1 9 rfl rfl)
theorem dJ46_remove_33 : decode cJ46_remove 33 = .ok (.invokespecial 34, 3) := dk_183 0 34 (dk_at dksJ46_remove_1 10 rfl rfl)
theorem dJ46_remove_36 : decode cJ46_remove 36 = .ok (.athrow, 1) := dk_191 (dk_at dksJ46_remove_1 13 rfl rfl)
theorem dJ46_remove_37 : decode cJ46_remove 37 = .ok (.aload_n 0, 1) := dk_42 (dk_at dksJ46_remove_1 14 rfl rfl)
theorem dJ46_remove_38 : decode cJ46_remove 38 = .ok (.getfield 22, 3) := dk_180 0 22 (dk_at dksJ46_remove_1 15 rfl rfl)
theorem dJ46_remove_41 : decode cJ46_remove 41 = .ok (.getfield 45, 3) := dk_180 0 45 (dk_at dksJ46_remove_1 18 rfl rfl)
theorem dJ46_remove_44 : decode cJ46_remove 44 = .ok (.ifnull 21, 3) := dk_198 0 21 (dk_at dksJ46_remove_1 21 rfl rfl)
theorem dJ46_remove_47 : decode cJ46_remove 47 = .ok (.aload_n 0, 1) := dk_42 (dk_at dksJ46_remove_2 0 rfl rfl)
theorem dJ46_remove_48 : decode cJ46_remove 48 = .ok (.getfield 22, 3) := dk_180 0 22 (dk_at dksJ46_remove_2 1 rfl rfl)
theorem dJ46_remove_51 : decode cJ46_remove 51 = .ok (.getfield 50, 3) := dk_180 0 50 (dk_at dksJ46_remove_2 4 rfl rfl)
theorem dJ46_remove_54 : decode cJ46_remove 54 = .ok (.ifnull 11, 3) := dk_198 0 11 (dk_at dksJ46_remove_2 7 rfl rfl)
theorem dJ46_remove_57 : decode cJ46_remove 57 = .ok (.aload_n 0, 1) := dk_42 (dk_at dksJ46_remove_2 10 rfl rfl)
theorem dJ46_remove_58 : decode cJ46_remove 58 = .ok (.aload_n 0, 1) := dk_42 (dk_at dksJ46_remove_2 11 rfl rfl)
theorem dJ46_remove_59 : decode cJ46_remove 59 = .ok (.getfield 22, 3) := dk_180 0 22 (dk_at dksJ46_remove_2 12 rfl rfl)
theorem dJ46_remove_62 : decode cJ46_remove 62 = .ok (.putfield 26, 3) := dk_181 0 26 (dk_at dksJ46_remove_2 15 rfl rfl)
theorem dJ46_remove_65 : decode cJ46_remove 65 = .ok (.aload_n 0, 1) := dk_42 (dk_at dksJ46_remove_2 18 rfl rfl)
theorem dJ46_remove_66 : decode cJ46_remove 66 = .ok (.getfield 1, 3) := dk_180 0 1 (dk_at dksJ46_remove_2 19 rfl rfl)
theorem dJ46_remove_69 : decode cJ46_remove 69 = .ok (.aload_n 0, 1) := dk_42 (dk_at dksJ46_remove_2 22 rfl rfl)
theorem dJ46_remove_70 : decode cJ46_remove 70 = .ok (.getfield 22, 3) := dk_180 0 22 (dk_at dksJ46_remove_3 0 rfl rfl)
theorem dJ46_remove_73 : decode cJ46_remove 73 = .ok (.invokevirtual 53, 3) := dk_182 0 53 (dk_at dksJ46_remove_3 3 rfl rfl)
theorem dJ46_remove_76 : decode cJ46_remove 76 = .ok (.aload_n 0, 1) := dk_42 (dk_at dksJ46_remove_3 6 rfl rfl)
theorem dJ46_remove_77 : decode cJ46_remove 77 = .ok (.aload_n 0, 1) := dk_42 (dk_at dksJ46_remove_3 7 rfl rfl)
theorem dJ46_remove_78 : decode cJ46_remove 78 = .ok (.getfield 1, 3) := dk_180 0 1 (dk_at dksJ46_remove_3 8 rfl rfl)
theorem dJ46_remove_81 : decode cJ46_remove 81 = .ok (.getfield 13, 3) := dk_180 0 13 (dk_at dksJ46_remove_3 11 rfl rfl)
theorem dJ46_remove_84 : decode cJ46_remove 84 = .ok (.putfield 19, 3) := dk_181 0 19 (dk_at dksJ46_remove_3 14 rfl rfl)
theorem dJ46_remove_87 : decode cJ46_remove 87 = .ok (.aload_n 0, 1) := dk_42 (dk_at dksJ46_remove_3 17 rfl rfl)
theorem dJ46_remove_88 : decode cJ46_remove 88 = .ok (.aconst_null, 1) := dk_1 (dk_at dksJ46_remove_3 18 rfl rfl)
theorem dJ46_remove_89 : decode cJ46_remove 89 = .ok (.putfield 22, 3) := dk_181 0 22 (dk_at dksJ46_remove_3 19 rfl rfl)
theorem dJ46_remove_92 : decode cJ46_remove 92 = .ok (.return_, 1) := dk_177 (dk_at dksJ46_remove_3 22 rfl rfl)
abbrev cJ46_init : ByteArray := prog_96_method_1_code
def yJ46_init : MethodName := ⟨RJ46, "<init>", "(Ljava/util/TreeMap;Ljava/util/TreeMap$Entry;)V"⟩
def dkwJ46_init_1 : List UInt8 := [181, 0, 26, 177]
abbrev dktJ46_init_1 : List UInt8 := dkwJ46_init_1 ++ []
def dkwJ46_init_0 : List UInt8 := [42, 43, 181, 0, 1, 42, 183, 0, 7, 42, 43, 180, 0, 13, 181, 0, 19, 42, 1, 181, 0, 22, 42, 44]
abbrev dktJ46_init_0 : List UInt8 := dkwJ46_init_0 ++ dktJ46_init_1
theorem dksJ46_init_0 : cJ46_init.data.toList.drop 0 = dktJ46_init_0 := by decide +kernel
theorem dksJ46_init_1 : cJ46_init.data.toList.drop 24 = dktJ46_init_1 := dk_seg dksJ46_init_0 24 rfl rfl
theorem dJ46_init_0 : decode cJ46_init 0 = .ok (.aload_n 0, 1) := dk_42 (dk_at dksJ46_init_0 0 rfl rfl)
theorem dJ46_init_1 : decode cJ46_init 1 = .ok (.aload_n 1, 1) := dk_43 (dk_at dksJ46_init_0 1 rfl rfl)
theorem dJ46_init_2 : decode cJ46_init 2 = .ok (.putfield 1, 3) := dk_181 0 1 (dk_at dksJ46_init_0 2 rfl rfl)
theorem dJ46_init_5 : decode cJ46_init 5 = .ok (.aload_n 0, 1) := dk_42 (dk_at dksJ46_init_0 5 rfl rfl)
theorem dJ46_init_6 : decode cJ46_init 6 = .ok (.invokespecial 7, 3) := dk_183 0 7 (dk_at dksJ46_init_0 6 rfl rfl)
theorem dJ46_init_9 : decode cJ46_init 9 = .ok (.aload_n 0, 1) := dk_42 (dk_at dksJ46_init_0 9 rfl rfl)
theorem dJ46_init_10 : decode cJ46_init 10 = .ok (.aload_n 1, 1) := dk_43 (dk_at dksJ46_init_0 10 rfl rfl)
theorem dJ46_init_11 : decode cJ46_init 11 = .ok (.getfield 13, 3) := dk_180 0 13 (dk_at dksJ46_init_0 11 rfl rfl)
theorem dJ46_init_14 : decode cJ46_init 14 = .ok (.putfield 19, 3) := dk_181 0 19 (dk_at dksJ46_init_0 14 rfl rfl)
theorem dJ46_init_17 : decode cJ46_init 17 = .ok (.aload_n 0, 1) := dk_42 (dk_at dksJ46_init_0 17 rfl rfl)
theorem dJ46_init_18 : decode cJ46_init 18 = .ok (.aconst_null, 1) := dk_1 (dk_at dksJ46_init_0 18 rfl rfl)
theorem dJ46_init_19 : decode cJ46_init 19 = .ok (.putfield 22, 3) := dk_181 0 22 (dk_at dksJ46_init_0 19 rfl rfl)
theorem dJ46_init_22 : decode cJ46_init 22 = .ok (.aload_n 0, 1) := dk_42 (dk_at dksJ46_init_0 22 rfl rfl)
theorem dJ46_init_23 : decode cJ46_init 23 = .ok (.aload_n 2, 1) := dk_44 (dk_at dksJ46_init_0 23 rfl rfl)
theorem dJ46_init_24 : decode cJ46_init 24 = .ok (.putfield 26, 3) := dk_181 0 26 (dk_at dksJ46_init_1 0 rfl rfl)
theorem dJ46_init_27 : decode cJ46_init 27 = .ok (.return_, 1) := dk_177 (dk_at dksJ46_init_1 3 rfl rfl)
theorem q186 : (Jvm.Cond.initialized "java/util/TreeMap$PrivateEntryIterator") ∈ lw_all := lw_g (lw_at lw_m1 60 rfl) rfl
theorem q910 : (Jvm.Cond.instanceMethod ({ cls := "java/util/TreeMap$PrivateEntryIterator", name := "hasNext", desc := "()Z" } : Jvm.MethodName)) ∈ lw_all := lw_g (lw_at lw_m4 64 rfl) rfl
theorem q911 : (Jvm.Cond.publicMethod ({ cls := "java/util/TreeMap$PrivateEntryIterator", name := "hasNext", desc := "()Z" } : Jvm.MethodName)) ∈ lw_tbl := lw_at lw_m4 65 rfl
theorem q912 : (Jvm.Cond.code ({ cls := "java/util/TreeMap$PrivateEntryIterator", name := "hasNext", desc := "()Z" } : Jvm.MethodName) prog_96_method_2_code (1 : Nat) (Option.some Jvm.ClassFile.FieldType.boolean)) ∈ lw_all := lw_g (lw_at lw_m4 66 rfl) rfl
theorem q1137 : (Jvm.Cond.declares ({ cls := "java/util/TreeMap$PrivateEntryIterator", name := "nextEntry", desc := "()Ljava/util/TreeMap$Entry;" } : Jvm.MethodName)) ∈ lw_tbl := lw_at lw_m5 51 rfl
theorem q1139 : (Jvm.Cond.instanceMethod ({ cls := "java/util/TreeMap$PrivateEntryIterator", name := "nextEntry", desc := "()Ljava/util/TreeMap$Entry;" } : Jvm.MethodName)) ∈ lw_all := lw_g (lw_at lw_m5 53 rfl) rfl
theorem q1140 : (Jvm.Cond.code ({ cls := "java/util/TreeMap$PrivateEntryIterator", name := "nextEntry", desc := "()Ljava/util/TreeMap$Entry;" } : Jvm.MethodName) prog_96_method_3_code (2 : Nat) (Option.some (Jvm.ClassFile.FieldType.object "java/util/TreeMap$Entry"))) ∈ lw_all := lw_g (lw_at lw_m5 54 rfl) rfl
theorem q1141 : (Jvm.Cond.methodLink "java/util/TreeMap$PrivateEntryIterator" (35 : Nat) ({ cls := "java/util/TreeMap", name := "successor", desc := "(Ljava/util/TreeMap$Entry;)Ljava/util/TreeMap$Entry;" } : Jvm.MethodName)) ∈ lw_all := lw_g (lw_at lw_m5 55 rfl) rfl
theorem q1896 : (Jvm.Cond.instanceMethod ({ cls := "java/util/TreeMap$PrivateEntryIterator", name := "remove", desc := "()V" } : Jvm.MethodName)) ∈ lw_all := lw_g (lw_at lw_m8 90 rfl) rfl
theorem q1897 : (Jvm.Cond.publicMethod ({ cls := "java/util/TreeMap$PrivateEntryIterator", name := "remove", desc := "()V" } : Jvm.MethodName)) ∈ lw_tbl := lw_at lw_m8 91 rfl
theorem q1898 : (Jvm.Cond.code ({ cls := "java/util/TreeMap$PrivateEntryIterator", name := "remove", desc := "()V" } : Jvm.MethodName) prog_96_method_5_code (1 : Nat) (Option.none : Option Jvm.ClassFile.FieldType)) ∈ lw_all := lw_g (lw_at lw_m8 92 rfl) rfl
theorem q1899 : (Jvm.Cond.methodLinkNest "java/util/TreeMap$PrivateEntryIterator" (53 : Nat) ({ cls := "java/util/TreeMap", name := "deleteEntry", desc := "(Ljava/util/TreeMap$Entry;)V" } : Jvm.MethodName) "java/util/TreeMap") ∈ lw_tbl := lw_at lw_m8 93 rfl
theorem q2338 : (Jvm.Cond.fieldLinkNest "java/util/TreeMap$PrivateEntryIterator" (13 : Nat) "java/util/TreeMap" "modCount" "I" "java/util/TreeMap") ∈ lw_tbl := lw_at lw_m10 52 rfl
theorem q2435 : (Jvm.Cond.fieldLink "java/util/TreeMap$PrivateEntryIterator" (45 : Nat) "java/util/TreeMap$Entry" "left" "Ljava/util/TreeMap$Entry;") ∈ lw_all := lw_g (lw_at lw_m10 149 rfl) rfl
theorem q2437 : (Jvm.Cond.fieldLink "java/util/TreeMap$PrivateEntryIterator" (50 : Nat) "java/util/TreeMap$Entry" "right" "Ljava/util/TreeMap$Entry;") ∈ lw_all := lw_g (lw_at lw_m10 151 rfl) rfl
theorem q2513 : (Jvm.Cond.instanceMethod ({ cls := "java/util/TreeMap$PrivateEntryIterator", name := "<init>", desc := "(Ljava/util/TreeMap;Ljava/util/TreeMap$Entry;)V" } : Jvm.MethodName)) ∈ lw_all := lw_g (lw_at lw_m10 227 rfl) rfl
theorem q2514 : (Jvm.Cond.code ({ cls := "java/util/TreeMap$PrivateEntryIterator", name := "<init>", desc := "(Ljava/util/TreeMap;Ljava/util/TreeMap$Entry;)V" } : Jvm.MethodName) prog_96_method_1_code (3 : Nat) (Option.none : Option Jvm.ClassFile.FieldType)) ∈ lw_all := lw_g (lw_at lw_m10 228 rfl) rfl
theorem q2515 : (Jvm.Cond.methodLink "java/util/TreeMap$PrivateEntryIterator" (7 : Nat) ({ cls := "java/lang/Object", name := "<init>", desc := "()V" } : Jvm.MethodName)) ∈ lw_all := lw_g (lw_at lw_m10 229 rfl) rfl
theorem q2516 : (Jvm.Cond.fieldLink "java/util/TreeMap$PrivateEntryIterator" (26 : Nat) "java/util/TreeMap$PrivateEntryIterator" "next" "Ljava/util/TreeMap$Entry;") ∈ lw_all := lw_g (lw_at lw_m10 230 rfl) rfl
theorem q2517 : (Jvm.Cond.fieldLink "java/util/TreeMap$PrivateEntryIterator" (22 : Nat) "java/util/TreeMap$PrivateEntryIterator" "lastReturned" "Ljava/util/TreeMap$Entry;") ∈ lw_all := lw_g (lw_at lw_m10 231 rfl) rfl
theorem q2518 : (Jvm.Cond.fieldLink "java/util/TreeMap$PrivateEntryIterator" (19 : Nat) "java/util/TreeMap$PrivateEntryIterator" "expectedModCount" "I") ∈ lw_all := lw_g (lw_at lw_m10 232 rfl) rfl
theorem q2519 : (Jvm.Cond.fieldLink "java/util/TreeMap$PrivateEntryIterator" (1 : Nat) "java/util/TreeMap$PrivateEntryIterator" "this$0" "Ljava/util/TreeMap;") ∈ lw_all := lw_g (lw_at lw_m10 233 rfl) rfl
theorem q2521 : (Jvm.Cond.soleField "java/util/TreeMap$PrivateEntryIterator" "next") ∈ lw_all := lw_g (lw_at lw_m10 235 rfl) rfl
theorem q2523 : (Jvm.Cond.soleField "java/util/TreeMap$PrivateEntryIterator" "lastReturned") ∈ lw_all := lw_g (lw_at lw_m10 237 rfl) rfl
theorem q2525 : (Jvm.Cond.soleField "java/util/TreeMap$PrivateEntryIterator" "expectedModCount") ∈ lw_all := lw_g (lw_at lw_m10 239 rfl) rfl
theorem q2527 : (Jvm.Cond.soleField "java/util/TreeMap$PrivateEntryIterator" "this$0") ∈ lw_all := lw_g (lw_at lw_m11 1 rfl) rfl
set_option maxRecDepth 100000
abbrev cJ47_next : ByteArray := prog_93_method_2_code
def yJ47_next : MethodName := ⟨RJ47, "next", "()Ljava/lang/Object;"⟩
def dkwJ47_next_0 : List UInt8 := [42, 182, 0, 7, 180, 0, 13, 176]
abbrev dktJ47_next_0 : List UInt8 := dkwJ47_next_0 ++ []
theorem dksJ47_next_0 : cJ47_next.data.toList.drop 0 = dktJ47_next_0 := by decide +kernel
theorem dJ47_next_0 : decode cJ47_next 0 = .ok (.aload_n 0, 1) := dk_42 (dk_at dksJ47_next_0 0 rfl rfl)
theorem dJ47_next_1 : decode cJ47_next 1 = .ok (.invokevirtual 7, 3) := dk_182 0 7 (dk_at dksJ47_next_0 1 rfl rfl)
theorem dJ47_next_4 : decode cJ47_next 4 = .ok (.getfield 13, 3) := dk_180 0 13 (dk_at dksJ47_next_0 4 rfl rfl)
theorem dJ47_next_7 : decode cJ47_next 7 = .ok (.areturn, 1) := dk_176 (dk_at dksJ47_next_0 7 rfl rfl)
abbrev cJ47_init : ByteArray := prog_93_method_1_code
def yJ47_init : MethodName := ⟨RJ47, "<init>", "(Ljava/util/TreeMap;Ljava/util/TreeMap$Entry;)V"⟩
def dkwJ47_init_0 : List UInt8 := [42, 43, 44, 183, 0, 1, 177]
abbrev dktJ47_init_0 : List UInt8 := dkwJ47_init_0 ++ []
theorem dksJ47_init_0 : cJ47_init.data.toList.drop 0 = dktJ47_init_0 := by decide +kernel
theorem dJ47_init_0 : decode cJ47_init 0 = .ok (.aload_n 0, 1) := dk_42 (dk_at dksJ47_init_0 0 rfl rfl)
theorem dJ47_init_1 : decode cJ47_init 1 = .ok (.aload_n 1, 1) := dk_43 (dk_at dksJ47_init_0 1 rfl rfl)
theorem dJ47_init_2 : decode cJ47_init 2 = .ok (.aload_n 2, 1) := dk_44 (dk_at dksJ47_init_0 2 rfl rfl)
theorem dJ47_init_3 : decode cJ47_init 3 = .ok (.invokespecial 1, 3) := dk_183 0 1 (dk_at dksJ47_init_0 3 rfl rfl)
theorem dJ47_init_6 : decode cJ47_init 6 = .ok (.return_, 1) := dk_177 (dk_at dksJ47_init_0 6 rfl rfl)
theorem q187 : (Jvm.Cond.initialized "java/util/TreeMap$KeyIterator") ∈ lw_all := lw_g (lw_at lw_m1 61 rfl) rfl
theorem q907 : (Jvm.Cond.castable "java/util/TreeMap$KeyIterator" "java/util/Iterator") ∈ lw_tbl := lw_at lw_m4 61 rfl
theorem q908 : (Jvm.Cond.selects "java/util/TreeMap$KeyIterator" ({ cls := "java/util/Iterator", name := "hasNext", desc := "()Z" } : Jvm.MethodName) ({ cls := "java/util/TreeMap$PrivateEntryIterator", name := "hasNext", desc := "()Z" } : Jvm.MethodName)) ∈ lw_all := lw_g (lw_at lw_m4 62 rfl) rfl
theorem q909 : (Jvm.Cond.unhidden "java/util/TreeMap$KeyIterator" "hasNext" "()Z") ∈ lw_tbl := lw_at lw_m4 63 rfl
theorem q1017 : (Jvm.Cond.selects "java/util/TreeMap$KeyIterator" ({ cls := "java/lang/Object", name := "getClass", desc := "()Ljava/lang/Class;" } : Jvm.MethodName) ({ cls := "java/lang/Object", name := "getClass", desc := "()Ljava/lang/Class;" } : Jvm.MethodName)) ∈ lw_all := lw_g (lw_at lw_m4 171 rfl) rfl
theorem q1130 : (Jvm.Cond.selects "java/util/TreeMap$KeyIterator" ({ cls := "java/util/Iterator", name := "next", desc := "()Ljava/lang/Object;" } : Jvm.MethodName) ({ cls := "java/util/TreeMap$KeyIterator", name := "next", desc := "()Ljava/lang/Object;" } : Jvm.MethodName)) ∈ lw_all := lw_g (lw_at lw_m5 44 rfl) rfl
theorem q1131 : (Jvm.Cond.unhidden "java/util/TreeMap$KeyIterator" "next" "()Ljava/lang/Object;") ∈ lw_tbl := lw_at lw_m5 45 rfl
theorem q1132 : (Jvm.Cond.instanceMethod ({ cls := "java/util/TreeMap$KeyIterator", name := "next", desc := "()Ljava/lang/Object;" } : Jvm.MethodName)) ∈ lw_all := lw_g (lw_at lw_m5 46 rfl) rfl
theorem q1133 : (Jvm.Cond.publicMethod ({ cls := "java/util/TreeMap$KeyIterator", name := "next", desc := "()Ljava/lang/Object;" } : Jvm.MethodName)) ∈ lw_tbl := lw_at lw_m5 47 rfl
theorem q1134 : (Jvm.Cond.code ({ cls := "java/util/TreeMap$KeyIterator", name := "next", desc := "()Ljava/lang/Object;" } : Jvm.MethodName) prog_93_method_2_code (1 : Nat) (Option.some (Jvm.ClassFile.FieldType.object "java/lang/Object"))) ∈ lw_all := lw_g (lw_at lw_m5 48 rfl) rfl
theorem q1135 : (Jvm.Cond.methodLink "java/util/TreeMap$KeyIterator" (7 : Nat) ({ cls := "java/util/TreeMap$KeyIterator", name := "nextEntry", desc := "()Ljava/util/TreeMap$Entry;" } : Jvm.MethodName)) ∈ lw_all := lw_g (lw_at lw_m5 49 rfl) rfl
theorem q1136 : (Jvm.Cond.sameMethod "java/util/TreeMap$KeyIterator" "java/util/TreeMap$PrivateEntryIterator" "nextEntry" "()Ljava/util/TreeMap$Entry;") ∈ lw_all := lw_g (lw_at lw_m5 50 rfl) rfl
theorem q1138 : (Jvm.Cond.selects "java/util/TreeMap$KeyIterator" ({ cls := "java/util/TreeMap$KeyIterator", name := "nextEntry", desc := "()Ljava/util/TreeMap$Entry;" } : Jvm.MethodName) ({ cls := "java/util/TreeMap$PrivateEntryIterator", name := "nextEntry", desc := "()Ljava/util/TreeMap$Entry;" } : Jvm.MethodName)) ∈ lw_all := lw_g (lw_at lw_m5 52 rfl) rfl
theorem q1894 : (Jvm.Cond.selects "java/util/TreeMap$KeyIterator" ({ cls := "java/util/Iterator", name := "remove", desc := "()V" } : Jvm.MethodName) ({ cls := "java/util/TreeMap$PrivateEntryIterator", name := "remove", desc := "()V" } : Jvm.MethodName)) ∈ lw_all := lw_g (lw_at lw_m8 88 rfl) rfl
theorem q1895 : (Jvm.Cond.unhidden "java/util/TreeMap$KeyIterator" "remove" "()V") ∈ lw_tbl := lw_at lw_m8 89 rfl
theorem q2430 : (Jvm.Cond.fieldLink "java/util/TreeMap$KeyIterator" (13 : Nat) "java/util/TreeMap$Entry" "key" "Ljava/lang/Object;") ∈ lw_all := lw_g (lw_at lw_m10 144 rfl) rfl
theorem q2504 : (Jvm.Cond.instantiable "java/util/TreeMap$KeyIterator" (4 : Nat)) ∈ lw_all := lw_g (lw_at lw_m10 218 rfl) rfl
theorem q2510 : (Jvm.Cond.instanceMethod ({ cls := "java/util/TreeMap$KeyIterator", name := "<init>", desc := "(Ljava/util/TreeMap;Ljava/util/TreeMap$Entry;)V" } : Jvm.MethodName)) ∈ lw_all := lw_g (lw_at lw_m10 224 rfl) rfl
theorem q2511 : (Jvm.Cond.code ({ cls := "java/util/TreeMap$KeyIterator", name := "<init>", desc := "(Ljava/util/TreeMap;Ljava/util/TreeMap$Entry;)V" } : Jvm.MethodName) prog_93_method_1_code (3 : Nat) (Option.none : Option Jvm.ClassFile.FieldType)) ∈ lw_all := lw_g (lw_at lw_m10 225 rfl) rfl
theorem q2512 : (Jvm.Cond.methodLink "java/util/TreeMap$KeyIterator" (1 : Nat) ({ cls := "java/util/TreeMap$PrivateEntryIterator", name := "<init>", desc := "(Ljava/util/TreeMap;Ljava/util/TreeMap$Entry;)V" } : Jvm.MethodName)) ∈ lw_all := lw_g (lw_at lw_m10 226 rfl) rfl
theorem q2520 : (Jvm.Cond.lays "java/util/TreeMap$KeyIterator" "java/util/TreeMap$PrivateEntryIterator" "next" "Ljava/util/TreeMap$Entry;") ∈ lw_all := lw_g (lw_at lw_m10 234 rfl) rfl
theorem q2522 : (Jvm.Cond.lays "java/util/TreeMap$KeyIterator" "java/util/TreeMap$PrivateEntryIterator" "lastReturned" "Ljava/util/TreeMap$Entry;") ∈ lw_all := lw_g (lw_at lw_m10 236 rfl) rfl
theorem q2524 : (Jvm.Cond.lays "java/util/TreeMap$KeyIterator" "java/util/TreeMap$PrivateEntryIterator" "expectedModCount" "I") ∈ lw_all := lw_g (lw_at lw_m10 238 rfl) rfl
theorem q2526 : (Jvm.Cond.laysFinal "java/util/TreeMap$KeyIterator" "java/util/TreeMap$PrivateEntryIterator" "this$0" "Ljava/util/TreeMap;") ∈ lw_all := lw_g (lw_at lw_m11 0 rfl) rfl
theorem q2528 : (Jvm.Cond.superclass "java/util/TreeMap$KeyIterator" "java/util/TreeMap$PrivateEntryIterator") ∈ lw_all := lw_g (lw_at lw_m11 2 rfl) rfl
theorem q3634 : (Jvm.Cond.castable "java/util/TreeMap$KeyIterator" "java/lang/Object") ∈ lw_tbl := lw_at lw_m15 148 rfl
set_option maxRecDepth 100000
abbrev cJ48_size : ByteArray := prog_98_method_3_code
def yJ48_size : MethodName := ⟨RJ48, "size", "()I"⟩
def dkwJ48_size_0 : List UInt8 := [42, 180, 0, 1, 182, 0, 24, 172]
abbrev dktJ48_size_0 : List UInt8 := dkwJ48_size_0 ++ []
theorem dksJ48_size_0 : cJ48_size.data.toList.drop 0 = dktJ48_size_0 := by decide +kernel
theorem dJ48_size_0 : decode cJ48_size 0 = .ok (.aload_n 0, 1) := dk_42 (dk_at dksJ48_size_0 0 rfl rfl)
theorem dJ48_size_1 : decode cJ48_size 1 = .ok (.getfield 1, 3) := dk_180 0 1 (dk_at dksJ48_size_0 1 rfl rfl)
theorem dJ48_size_4 : decode cJ48_size 4 = .ok (.invokevirtual 24, 3) := dk_182 0 24 (dk_at dksJ48_size_0 4 rfl rfl)
theorem dJ48_size_7 : decode cJ48_size 7 = .ok (.ireturn, 1) := dk_172 (dk_at dksJ48_size_0 7 rfl rfl)
abbrev cJ48_init : ByteArray := prog_98_method_1_code
def yJ48_init : MethodName := ⟨RJ48, "<init>", "(Ljava/util/TreeMap;)V"⟩
def dkwJ48_init_0 : List UInt8 := [42, 43, 181, 0, 1, 42, 183, 0, 7, 177]
abbrev dktJ48_init_0 : List UInt8 := dkwJ48_init_0 ++ []
theorem dksJ48_init_0 : cJ48_init.data.toList.drop 0 = dktJ48_init_0 := by decide +kernel
theorem dJ48_init_0 : decode cJ48_init 0 = .ok (.aload_n 0, 1) := dk_42 (dk_at dksJ48_init_0 0 rfl rfl)
theorem dJ48_init_1 : decode cJ48_init 1 = .ok (.aload_n 1, 1) := dk_43 (dk_at dksJ48_init_0 1 rfl rfl)
theorem dJ48_init_2 : decode cJ48_init 2 = .ok (.putfield 1, 3) := dk_181 0 1 (dk_at dksJ48_init_0 2 rfl rfl)
theorem dJ48_init_5 : decode cJ48_init 5 = .ok (.aload_n 0, 1) := dk_42 (dk_at dksJ48_init_0 5 rfl rfl)
theorem dJ48_init_6 : decode cJ48_init 6 = .ok (.invokespecial 7, 3) := dk_183 0 7 (dk_at dksJ48_init_0 6 rfl rfl)
theorem dJ48_init_9 : decode cJ48_init 9 = .ok (.return_, 1) := dk_177 (dk_at dksJ48_init_0 9 rfl rfl)
abbrev cJ48_iterator : ByteArray := prog_98_method_2_code
def yJ48_iterator : MethodName := ⟨RJ48, "iterator", "()Ljava/util/Iterator;"⟩
def dkwJ48_iterator_0 : List UInt8 := [187, 0, 13, 89, 42, 180, 0, 1, 42, 180, 0, 1, 182, 0, 15, 183, 0, 21, 176]
abbrev dktJ48_iterator_0 : List UInt8 := dkwJ48_iterator_0 ++ []
theorem dksJ48_iterator_0 : cJ48_iterator.data.toList.drop 0 = dktJ48_iterator_0 := by decide +kernel
theorem dJ48_iterator_0 : decode cJ48_iterator 0 = .ok (.new 13, 3) := dk_187 0 13 (dk_at dksJ48_iterator_0 0 rfl rfl)
theorem dJ48_iterator_3 : decode cJ48_iterator 3 = .ok (.dup, 1) := dk_89 (dk_at dksJ48_iterator_0 3 rfl rfl)
theorem dJ48_iterator_4 : decode cJ48_iterator 4 = .ok (.aload_n 0, 1) := dk_42 (dk_at dksJ48_iterator_0 4 rfl rfl)
theorem dJ48_iterator_5 : decode cJ48_iterator 5 = .ok (.getfield 1, 3) := dk_180 0 1 (dk_at dksJ48_iterator_0 5 rfl rfl)
theorem dJ48_iterator_8 : decode cJ48_iterator 8 = .ok (.aload_n 0, 1) := dk_42 (dk_at dksJ48_iterator_0 8 rfl rfl)
theorem dJ48_iterator_9 : decode cJ48_iterator 9 = .ok (.getfield 1, 3) := dk_180 0 1 (dk_at dksJ48_iterator_0 9 rfl rfl)
theorem dJ48_iterator_12 : decode cJ48_iterator 12 = .ok (.invokevirtual 15, 3) := dk_182 0 15 (dk_at dksJ48_iterator_0 12 rfl rfl)
theorem dJ48_iterator_15 : decode cJ48_iterator 15 = .ok (.invokespecial 21, 3) := dk_183 0 21 (dk_at dksJ48_iterator_0 15 rfl rfl)
theorem dJ48_iterator_18 : decode cJ48_iterator 18 = .ok (.areturn, 1) := dk_176 (dk_at dksJ48_iterator_0 18 rfl rfl)
theorem q190 : (Jvm.Cond.initialized "java/util/TreeMap$Values") ∈ lw_all := lw_g (lw_at lw_m1 64 rfl) rfl
theorem q1020 : (Jvm.Cond.selects "java/util/TreeMap$Values" ({ cls := "java/lang/Object", name := "getClass", desc := "()Ljava/lang/Class;" } : Jvm.MethodName) ({ cls := "java/lang/Object", name := "getClass", desc := "()Ljava/lang/Class;" } : Jvm.MethodName)) ∈ lw_all := lw_g (lw_at lw_m4 174 rfl) rfl
theorem q2193 : (Jvm.Cond.instanceMethod ({ cls := "java/util/TreeMap$Values", name := "size", desc := "()I" } : Jvm.MethodName)) ∈ lw_all := lw_g (lw_at lw_m9 147 rfl) rfl
theorem q2194 : (Jvm.Cond.code ({ cls := "java/util/TreeMap$Values", name := "size", desc := "()I" } : Jvm.MethodName) prog_98_method_3_code (1 : Nat) (Option.some Jvm.ClassFile.FieldType.int)) ∈ lw_all := lw_g (lw_at lw_m9 148 rfl) rfl
theorem q2195 : (Jvm.Cond.methodLink "java/util/TreeMap$Values" (24 : Nat) ({ cls := "java/util/TreeMap", name := "size", desc := "()I" } : Jvm.MethodName)) ∈ lw_all := lw_g (lw_at lw_m9 149 rfl) rfl
theorem q2669 : (Jvm.Cond.instantiable "java/util/TreeMap$Values" (1 : Nat)) ∈ lw_all := lw_g (lw_at lw_m11 143 rfl) rfl
theorem q2671 : (Jvm.Cond.instanceMethod ({ cls := "java/util/TreeMap$Values", name := "<init>", desc := "(Ljava/util/TreeMap;)V" } : Jvm.MethodName)) ∈ lw_all := lw_g (lw_at lw_m11 145 rfl) rfl
theorem q2672 : (Jvm.Cond.code ({ cls := "java/util/TreeMap$Values", name := "<init>", desc := "(Ljava/util/TreeMap;)V" } : Jvm.MethodName) prog_98_method_1_code (2 : Nat) (Option.none : Option Jvm.ClassFile.FieldType)) ∈ lw_all := lw_g (lw_at lw_m11 146 rfl) rfl
theorem q2673 : (Jvm.Cond.methodLink "java/util/TreeMap$Values" (7 : Nat) ({ cls := "java/util/AbstractCollection", name := "<init>", desc := "()V" } : Jvm.MethodName)) ∈ lw_all := lw_g (lw_at lw_m11 147 rfl) rfl
theorem q2674 : (Jvm.Cond.fieldLink "java/util/TreeMap$Values" (1 : Nat) "java/util/TreeMap$Values" "this$0" "Ljava/util/TreeMap;") ∈ lw_all := lw_g (lw_at lw_m11 148 rfl) rfl
theorem q2675 : (Jvm.Cond.laysFinal "java/util/TreeMap$Values" "java/util/TreeMap$Values" "this$0" "Ljava/util/TreeMap;") ∈ lw_all := lw_g (lw_at lw_m11 149 rfl) rfl
theorem q2676 : (Jvm.Cond.soleField "java/util/TreeMap$Values" "this$0") ∈ lw_all := lw_g (lw_at lw_m11 150 rfl) rfl
theorem q2677 : (Jvm.Cond.superclass "java/util/TreeMap$Values" "java/util/AbstractCollection") ∈ lw_all := lw_g (lw_at lw_m11 151 rfl) rfl
theorem q2777 : (Jvm.Cond.castable "java/util/TreeMap$Values" "java/util/Collection") ∈ lw_tbl := lw_at lw_m12 11 rfl
theorem q2778 : (Jvm.Cond.selects "java/util/TreeMap$Values" ({ cls := "java/util/Collection", name := "iterator", desc := "()Ljava/util/Iterator;" } : Jvm.MethodName) ({ cls := "java/util/TreeMap$Values", name := "iterator", desc := "()Ljava/util/Iterator;" } : Jvm.MethodName)) ∈ lw_all := lw_g (lw_at lw_m12 12 rfl) rfl
theorem q2779 : (Jvm.Cond.unhidden "java/util/TreeMap$Values" "iterator" "()Ljava/util/Iterator;") ∈ lw_tbl := lw_at lw_m12 13 rfl
theorem q2780 : (Jvm.Cond.instanceMethod ({ cls := "java/util/TreeMap$Values", name := "iterator", desc := "()Ljava/util/Iterator;" } : Jvm.MethodName)) ∈ lw_all := lw_g (lw_at lw_m12 14 rfl) rfl
theorem q2781 : (Jvm.Cond.publicMethod ({ cls := "java/util/TreeMap$Values", name := "iterator", desc := "()Ljava/util/Iterator;" } : Jvm.MethodName)) ∈ lw_tbl := lw_at lw_m12 15 rfl
theorem q2782 : (Jvm.Cond.code ({ cls := "java/util/TreeMap$Values", name := "iterator", desc := "()Ljava/util/Iterator;" } : Jvm.MethodName) prog_98_method_2_code (1 : Nat) (Option.some (Jvm.ClassFile.FieldType.object "java/util/Iterator"))) ∈ lw_all := lw_g (lw_at lw_m12 16 rfl) rfl
theorem q2783 : (Jvm.Cond.classLink "java/util/TreeMap$Values" (13 : Nat) "java/util/TreeMap$ValueIterator") ∈ lw_all := lw_g (lw_at lw_m12 17 rfl) rfl
theorem q2785 : (Jvm.Cond.methodLink "java/util/TreeMap$Values" (15 : Nat) ({ cls := "java/util/TreeMap", name := "getFirstEntry", desc := "()Ljava/util/TreeMap$Entry;" } : Jvm.MethodName)) ∈ lw_all := lw_g (lw_at lw_m12 19 rfl) rfl
theorem q2786 : (Jvm.Cond.methodLink "java/util/TreeMap$Values" (21 : Nat) ({ cls := "java/util/TreeMap$ValueIterator", name := "<init>", desc := "(Ljava/util/TreeMap;Ljava/util/TreeMap$Entry;)V" } : Jvm.MethodName)) ∈ lw_all := lw_g (lw_at lw_m12 20 rfl) rfl
theorem q3595 : (Jvm.Cond.selects "java/util/TreeMap$Values" ({ cls := "java/util/AbstractCollection", name := "size", desc := "()I" } : Jvm.MethodName) ({ cls := "java/util/TreeMap$Values", name := "size", desc := "()I" } : Jvm.MethodName)) ∈ lw_all := lw_g (lw_at lw_m15 109 rfl) rfl
theorem q3637 : (Jvm.Cond.castable "java/util/TreeMap$Values" "java/lang/Object") ∈ lw_tbl := lw_at lw_m15 151 rfl
set_option maxRecDepth 100000
abbrev cJ49_hasNext : ByteArray := prog_55_method_2_code
def yJ49_hasNext : MethodName := ⟨RJ49, "hasNext", "()Z"⟩
def dkwJ49_hasNext_0 : List UInt8 := [42, 180, 0, 19, 158, 0, 7, 4, 167, 0, 4, 3, 172]
abbrev dktJ49_hasNext_0 : List UInt8 := dkwJ49_hasNext_0 ++ []
theorem dksJ49_hasNext_0 : cJ49_hasNext.data.toList.drop 0 = dktJ49_hasNext_0 := by decide +kernel
theorem dJ49_hasNext_0 : decode cJ49_hasNext 0 = .ok (.aload_n 0, 1) := dk_42 (dk_at dksJ49_hasNext_0 0 rfl rfl)
theorem dJ49_hasNext_1 : decode cJ49_hasNext 1 = .ok (.getfield 19, 3) := dk_180 0 19 (dk_at dksJ49_hasNext_0 1 rfl rfl)
theorem dJ49_hasNext_4 : decode cJ49_hasNext 4 = .ok (.ifCond .le 7, 3) := dk_158 0 7 (dk_at dksJ49_hasNext_0 4 rfl rfl)
theorem dJ49_hasNext_7 : decode cJ49_hasNext 7 = .ok (.iconst 1, 1) := dk_4 (dk_at dksJ49_hasNext_0 7 rfl rfl)
theorem dJ49_hasNext_8 : decode cJ49_hasNext 8 = .ok (.goto 4, 3) := dk_167 0 4 (dk_at dksJ49_hasNext_0 8 rfl rfl)
theorem dJ49_hasNext_11 : decode cJ49_hasNext 11 = .ok (.iconst 0, 1) := dk_3 (dk_at dksJ49_hasNext_0 11 rfl rfl)
theorem dJ49_hasNext_12 : decode cJ49_hasNext 12 = .ok (.ireturn, 1) := dk_172 (dk_at dksJ49_hasNext_0 12 rfl rfl)
abbrev cJ49_next : ByteArray := prog_55_method_3_code
def yJ49_next : MethodName := ⟨RJ49, "next", "()Ljava/lang/Object;"⟩
def dkwJ49_next_2 : List UInt8 := [181, 0, 29, 42, 89, 180, 0, 19, 4, 100, 181, 0, 19, 44, 176]
abbrev dktJ49_next_2 : List UInt8 := dkwJ49_next_2 ++ []
def dkwJ49_next_1 : List UInt8 := [42, 180, 0, 29, 184, 0, 39, 77, 42, 42, 42, 180, 0, 29, 90, 181, 0, 23, 43, 190, 184, 0, 43]
abbrev dktJ49_next_1 : List UInt8 := dkwJ49_next_1 ++ dktJ49_next_2
def dkwJ49_next_0 : List UInt8 := [42, 180, 0, 19, 157, 0, 11, 187, 0, 32, 89, 183, 0, 34, 191, 42, 180, 0, 1, 180, 0, 35, 76, 43]
abbrev dktJ49_next_0 : List UInt8 := dkwJ49_next_0 ++ dktJ49_next_1
theorem dksJ49_next_0 : cJ49_next.data.toList.drop 0 = dktJ49_next_0 := by decide +kernel
theorem dksJ49_next_1 : cJ49_next.data.toList.drop 24 = dktJ49_next_1 := dk_seg dksJ49_next_0 24 rfl rfl
theorem dksJ49_next_2 : cJ49_next.data.toList.drop 47 = dktJ49_next_2 := dk_seg dksJ49_next_1 23 rfl rfl
theorem dJ49_next_0 : decode cJ49_next 0 = .ok (.aload_n 0, 1) := dk_42 (dk_at dksJ49_next_0 0 rfl rfl)
theorem dJ49_next_1 : decode cJ49_next 1 = .ok (.getfield 19, 3) := dk_180 0 19 (dk_at dksJ49_next_0 1 rfl rfl)
theorem dJ49_next_4 : decode cJ49_next 4 = .ok (.ifCond .gt 11, 3) := dk_157 0 11 (dk_at dksJ49_next_0 4 rfl rfl)
theorem dJ49_next_7 : decode cJ49_next 7 = .ok (.new 32, 3) := dk_187 0 32 (dk_at dksJ49_next_0 7 rfl rfl)
theorem dJ49_next_10 : decode cJ49_next 10 = .ok (.dup, 1) := dk_89 (dk_at dksJ49_next_0 10 rfl rfl)
theorem dJ49_next_11 : decode cJ49_next 11 = .ok (.invokespecial 34, 3) := dk_183 0 34 (dk_at dksJ49_next_0 11 rfl rfl)
theorem dJ49_next_14 : decode cJ49_next 14 = .ok (.athrow, 1) := dk_191 (dk_at dksJ49_next_0 14 rfl rfl)
theorem dJ49_next_15 : decode cJ49_next 15 = .ok (.aload_n 0, 1) := dk_42 (dk_at dksJ49_next_0 15 rfl rfl)
theorem dJ49_next_16 : decode cJ49_next 16 = .ok (.getfield 1, 3) := dk_180 0 1 (dk_at dksJ49_next_0 16 rfl rfl)
theorem dJ49_next_19 : decode cJ49_next 19 = .ok (.getfield 35, 3) := dk_180 0 35 (dk_at dksJ49_next_0 19 rfl rfl)
theorem dJ49_next_22 : decode cJ49_next 22 = .ok (.astore_n 1, 1) := dk_76 (dk_at dksJ49_next_0 22 rfl rfl)
theorem dJ49_next_23 : decode cJ49_next 23 = .ok (.aload_n 1, 1) := dk_43 (dk_at dksJ49_next_0 23 rfl rfl)
theorem dJ49_next_24 : decode cJ49_next 24 = .ok (.aload_n 0, 1) := dk_42 (dk_at dksJ49_next_1 0 rfl rfl)
theorem dJ49_next_25 : decode cJ49_next 25 = .ok (.getfield 29, 3) := dk_180 0 29 (dk_at dksJ49_next_1 1 rfl rfl)
theorem dJ49_next_28 : decode cJ49_next 28 = .ok (.invokestatic 39, 3) := dk_184 0 39 (dk_at dksJ49_next_1 4 rfl rfl)
theorem dJ49_next_31 : decode cJ49_next 31 = .ok (.astore_n 2, 1) := dk_77 (dk_at dksJ49_next_1 7 rfl rfl)
theorem dJ49_next_32 : decode cJ49_next 32 = .ok (.aload_n 0, 1) := dk_42 (dk_at dksJ49_next_1 8 rfl rfl)
theorem dJ49_next_33 : decode cJ49_next 33 = .ok (.aload_n 0, 1) := dk_42 (dk_at dksJ49_next_1 9 rfl rfl)
theorem dJ49_next_34 : decode cJ49_next 34 = .ok (.aload_n 0, 1) := dk_42 (dk_at dksJ49_next_1 10 rfl rfl)
theorem dJ49_next_35 : decode cJ49_next 35 = .ok (.getfield 29, 3) := dk_180 0 29 (dk_at dksJ49_next_1 11 rfl rfl)
theorem dJ49_next_38 : decode cJ49_next 38 = .ok (.dup_x1, 1) := dk_90 (dk_at dksJ49_next_1 14 rfl rfl)
theorem dJ49_next_39 : decode cJ49_next 39 = .ok (.putfield 23, 3) := dk_181 0 23 (dk_at dksJ49_next_1 15 rfl rfl)
theorem dJ49_next_42 : decode cJ49_next 42 = .ok (.aload_n 1, 1) := dk_43 (dk_at dksJ49_next_1 18 rfl rfl)
theorem dJ49_next_43 : decode cJ49_next 43 = .ok (.arraylength, 1) := dk_190 (dk_at dksJ49_next_1 19 rfl rfl)
theorem dJ49_next_44 : decode cJ49_next 44 = .ok (.invokestatic 43, 3) := dk_184 0 43 (dk_at dksJ49_next_1 20 rfl rfl)
theorem dJ49_next_47 : decode cJ49_next 47 = .ok (.putfield 29, 3) := dk_181 0 29 (dk_at dksJ49_next_2 0 rfl rfl)
theorem dJ49_next_50 : decode cJ49_next 50 = .ok (.aload_n 0, 1) := dk_42 (dk_at dksJ49_next_2 3 rfl rfl)
theorem dJ49_next_51 : decode cJ49_next 51 = .ok (.dup, 1) := dk_89 (dk_at dksJ49_next_2 4 rfl rfl)
theorem dJ49_next_52 : decode cJ49_next 52 = .ok (.getfield 19, 3) := dk_180 0 19 (dk_at dksJ49_next_2 5 rfl rfl)
theorem dJ49_next_55 : decode cJ49_next 55 = .ok (.iconst 1, 1) := dk_4 (dk_at dksJ49_next_2 8 rfl rfl)
theorem dJ49_next_56 : decode cJ49_next 56 = .ok (.isub, 1) := dk_100 (dk_at dksJ49_next_2 9 rfl rfl)
theorem dJ49_next_57 : decode cJ49_next 57 = .ok (.putfield 19, 3) := dk_181 0 19 (dk_at dksJ49_next_2 10 rfl rfl)
theorem dJ49_next_60 : decode cJ49_next 60 = .ok (.aload_n 2, 1) := dk_44 (dk_at dksJ49_next_2 13 rfl rfl)
theorem dJ49_next_61 : decode cJ49_next 61 = .ok (.areturn, 1) := dk_176 (dk_at dksJ49_next_2 14 rfl rfl)
abbrev cJ49_remove : ByteArray := prog_55_method_5_code
def yJ49_remove : MethodName := ⟨RJ49, "remove", "()V"⟩
def dkwJ49_remove_1 : List UInt8 := [182, 0, 53, 182, 0, 57, 42, 2, 181, 0, 23, 177]
abbrev dktJ49_remove_1 : List UInt8 := dkwJ49_remove_1 ++ []
def dkwJ49_remove_0 : List UInt8 := [42, 180, 0, 23, 156, 0, 11, 187, 0, 50, 89, 183, 0, 52, 191, 42, 42, 180, 0, 1, 42, 180, 0, 23]
abbrev dktJ49_remove_0 : List UInt8 := dkwJ49_remove_0 ++ dktJ49_remove_1
theorem dksJ49_remove_0 : cJ49_remove.data.toList.drop 0 = dktJ49_remove_0 := by decide +kernel
theorem dksJ49_remove_1 : cJ49_remove.data.toList.drop 24 = dktJ49_remove_1 := dk_seg dksJ49_remove_0 24 rfl rfl
theorem dJ49_remove_0 : decode cJ49_remove 0 = .ok (.aload_n 0, 1) := dk_42 (dk_at dksJ49_remove_0 0 rfl rfl)
theorem dJ49_remove_1 : decode cJ49_remove 1 = .ok (.getfield 23, 3) := dk_180 0 23 (dk_at dksJ49_remove_0 1 rfl rfl)
theorem dJ49_remove_4 : decode cJ49_remove 4 = .ok (.ifCond .ge 11, 3) := dk_156 0 11 (dk_at dksJ49_remove_0 4 rfl rfl)
theorem dJ49_remove_7 : decode cJ49_remove 7 = .ok (.new 50, 3) := dk_187 0 50 (dk_at dksJ49_remove_0 7 rfl rfl)
theorem dJ49_remove_10 : decode cJ49_remove 10 = .ok (.dup, 1) := dk_89 (dk_at dksJ49_remove_0 10 rfl rfl)
theorem dJ49_remove_11 : decode cJ49_remove 11 = .ok (.invokespecial 52, 3) := dk_183 0 52 (dk_at dksJ49_remove_0 11 rfl rfl)
theorem dJ49_remove_14 : decode cJ49_remove 14 = .ok (.athrow, 1) := dk_191 (dk_at dksJ49_remove_0 14 rfl rfl)
theorem dJ49_remove_15 : decode cJ49_remove 15 = .ok (.aload_n 0, 1) := dk_42 (dk_at dksJ49_remove_0 15 rfl rfl)
theorem dJ49_remove_16 : decode cJ49_remove 16 = .ok (.aload_n 0, 1) := dk_42 (dk_at dksJ49_remove_0 16 rfl rfl)
theorem dJ49_remove_17 : decode cJ49_remove 17 = .ok (.getfield 1, 3) := dk_180 0 1 (dk_at dksJ49_remove_0 17 rfl rfl)
theorem dJ49_remove_20 : decode cJ49_remove 20 = .ok (.aload_n 0, 1) := dk_42 (dk_at dksJ49_remove_0 20 rfl rfl)
theorem dJ49_remove_21 : decode cJ49_remove 21 = .ok (.getfield 23, 3) := dk_180 0 23 (dk_at dksJ49_remove_0 21 rfl rfl)
theorem dJ49_remove_24 : decode cJ49_remove 24 = .ok (.invokevirtual 53, 3) := dk_182 0 53 (dk_at dksJ49_remove_1 0 rfl rfl)
theorem dJ49_remove_27 : decode cJ49_remove 27 = .ok (.invokevirtual 57, 3) := dk_182 0 57 (dk_at dksJ49_remove_1 3 rfl rfl)
theorem dJ49_remove_30 : decode cJ49_remove 30 = .ok (.aload_n 0, 1) := dk_42 (dk_at dksJ49_remove_1 6 rfl rfl)
theorem dJ49_remove_31 : decode cJ49_remove 31 = .ok (.iconst (-1), 1) := dk_2 (dk_at dksJ49_remove_1 7 rfl rfl)
theorem dJ49_remove_32 : decode cJ49_remove 32 = .ok (.putfield 23, 3) := dk_181 0 23 (dk_at dksJ49_remove_1 8 rfl rfl)
theorem dJ49_remove_35 : decode cJ49_remove 35 = .ok (.return_, 1) := dk_177 (dk_at dksJ49_remove_1 11 rfl rfl)
abbrev cJ49_postDelete : ByteArray := prog_55_method_4_code
def yJ49_postDelete : MethodName := ⟨RJ49, "postDelete", "(Z)V"⟩
def dkwJ49_postDelete_0 : List UInt8 := [27, 153, 0, 22, 42, 42, 180, 0, 29, 42, 180, 0, 1, 180, 0, 35, 190, 184, 0, 47, 181, 0, 29, 177]
abbrev dktJ49_postDelete_0 : List UInt8 := dkwJ49_postDelete_0 ++ []
theorem dksJ49_postDelete_0 : cJ49_postDelete.data.toList.drop 0 = dktJ49_postDelete_0 := by decide +kernel
theorem dJ49_postDelete_0 : decode cJ49_postDelete 0 = .ok (.iload_n 1, 1) := dk_27 (dk_at dksJ49_postDelete_0 0 rfl rfl)
theorem dJ49_postDelete_1 : decode cJ49_postDelete 1 = .ok (.ifCond .eq 22, 3) := dk_153 0 22 (dk_at dksJ49_postDelete_0 1 rfl rfl)
theorem dJ49_postDelete_4 : decode cJ49_postDelete 4 = .ok (.aload_n 0, 1) := dk_42 (dk_at dksJ49_postDelete_0 4 rfl rfl)
theorem dJ49_postDelete_5 : decode cJ49_postDelete 5 = .ok (.aload_n 0, 1) := dk_42 (dk_at dksJ49_postDelete_0 5 rfl rfl)
theorem dJ49_postDelete_6 : decode cJ49_postDelete 6 = .ok (.getfield 29, 3) := dk_180 0 29 (dk_at dksJ49_postDelete_0 6 rfl rfl)
theorem dJ49_postDelete_9 : decode cJ49_postDelete 9 = .ok (.aload_n 0, 1) := dk_42 (dk_at dksJ49_postDelete_0 9 rfl rfl)
theorem dJ49_postDelete_10 : decode cJ49_postDelete 10 = .ok (.getfield 1, 3) := dk_180 0 1 (dk_at dksJ49_postDelete_0 10 rfl rfl)
theorem dJ49_postDelete_13 : decode cJ49_postDelete 13 = .ok (.getfield 35, 3) := dk_180 0 35 (dk_at dksJ49_postDelete_0 13 rfl rfl)
theorem dJ49_postDelete_16 : decode cJ49_postDelete 16 = .ok (.arraylength, 1) := dk_190 (dk_at dksJ49_postDelete_0 16 rfl rfl)
theorem dJ49_postDelete_17 : decode cJ49_postDelete 17 = .ok (.invokestatic 47, 3) := dk_184 0 47 (dk_at dksJ49_postDelete_0 17 rfl rfl)
theorem dJ49_postDelete_20 : decode cJ49_postDelete 20 = .ok (.putfield 29, 3) := dk_181 0 29 (dk_at dksJ49_postDelete_0 20 rfl rfl)
theorem dJ49_postDelete_23 : decode cJ49_postDelete 23 = .ok (.return_, 1) := dk_177 (dk_at dksJ49_postDelete_0 23 rfl rfl)
abbrev cJ49_init : ByteArray := prog_55_method_1_code
def yJ49_init : MethodName := ⟨RJ49, "<init>", "(Ljava/util/ArrayDeque;)V"⟩
def dkwJ49_init_1 : List UInt8 := [181, 0, 23, 42, 43, 180, 0, 26, 181, 0, 29, 177]
abbrev dktJ49_init_1 : List UInt8 := dkwJ49_init_1 ++ []
def dkwJ49_init_0 : List UInt8 := [42, 43, 181, 0, 1, 42, 183, 0, 7, 42, 42, 180, 0, 1, 182, 0, 13, 181, 0, 19, 42, 2]
abbrev dktJ49_init_0 : List UInt8 := dkwJ49_init_0 ++ dktJ49_init_1
theorem dksJ49_init_0 : cJ49_init.data.toList.drop 0 = dktJ49_init_0 := by decide +kernel
theorem dksJ49_init_1 : cJ49_init.data.toList.drop 22 = dktJ49_init_1 := dk_seg dksJ49_init_0 22 rfl rfl
theorem dJ49_init_0 : decode cJ49_init 0 = .ok (.aload_n 0, 1) := dk_42 (dk_at dksJ49_init_0 0 rfl rfl)
theorem dJ49_init_1 : decode cJ49_init 1 = .ok (.aload_n 1, 1) := dk_43 (dk_at dksJ49_init_0 1 rfl rfl)
theorem dJ49_init_2 : decode cJ49_init 2 = .ok (.putfield 1, 3) := dk_181 0 1 (dk_at dksJ49_init_0 2 rfl rfl)
theorem dJ49_init_5 : decode cJ49_init 5 = .ok (.aload_n 0, 1) := dk_42 (dk_at dksJ49_init_0 5 rfl rfl)
theorem dJ49_init_6 : decode cJ49_init 6 = .ok (.invokespecial 7, 3) := dk_183 0 7 (dk_at dksJ49_init_0 6 rfl rfl)
theorem dJ49_init_9 : decode cJ49_init 9 = .ok (.aload_n 0, 1) := dk_42 (dk_at dksJ49_init_0 9 rfl rfl)
theorem dJ49_init_10 : decode cJ49_init 10 = .ok (.aload_n 0, 1) := dk_42 (dk_at dksJ49_init_0 10 rfl rfl)
theorem dJ49_init_11 : decode cJ49_init 11 = .ok (.getfield 1, 3) := dk_180 0 1 (dk_at dksJ49_init_0 11 rfl rfl)
theorem dJ49_init_14 : decode cJ49_init 14 = .ok (.invokevirtual 13, 3) := dk_182 0 13 (dk_at dksJ49_init_0 14 rfl rfl)
theorem dJ49_init_17 : decode cJ49_init 17 = .ok (.putfield 19, 3) := dk_181 0 19 (dk_at dksJ49_init_0 17 rfl rfl)
theorem dJ49_init_20 : decode cJ49_init 20 = .ok (.aload_n 0, 1) := dk_42 (dk_at dksJ49_init_0 20 rfl rfl)
theorem dJ49_init_21 : decode cJ49_init 21 = .ok (.iconst (-1), 1) := dk_2 (dk_at dksJ49_init_0 21 rfl rfl)
theorem dJ49_init_22 : decode cJ49_init 22 = .ok (.putfield 23, 3) := dk_181 0 23 (dk_at dksJ49_init_1 0 rfl rfl)
theorem dJ49_init_25 : decode cJ49_init 25 = .ok (.aload_n 0, 1) := dk_42 (dk_at dksJ49_init_1 3 rfl rfl)
theorem dJ49_init_26 : decode cJ49_init 26 = .ok (.aload_n 1, 1) := dk_43 (dk_at dksJ49_init_1 4 rfl rfl)
theorem dJ49_init_27 : decode cJ49_init 27 = .ok (.getfield 26, 3) := dk_180 0 26 (dk_at dksJ49_init_1 5 rfl rfl)
theorem dJ49_init_30 : decode cJ49_init 30 = .ok (.putfield 29, 3) := dk_181 0 29 (dk_at dksJ49_init_1 8 rfl rfl)
theorem dJ49_init_33 : decode cJ49_init 33 = .ok (.return_, 1) := dk_177 (dk_at dksJ49_init_1 11 rfl rfl)
theorem q191 : (Jvm.Cond.initialized "java/util/ArrayDeque$DeqIterator") ∈ lw_all := lw_g (lw_at lw_m1 65 rfl) rfl
theorem q742 : (Jvm.Cond.fieldLink "java/util/ArrayDeque$DeqIterator" (35 : Nat) "java/util/ArrayDeque" "elements" "[Ljava/lang/Object;") ∈ lw_all := lw_g (lw_at lw_m3 136 rfl) rfl
theorem q743 : (Jvm.Cond.fieldLink "java/util/ArrayDeque$DeqIterator" (26 : Nat) "java/util/ArrayDeque" "head" "I") ∈ lw_all := lw_g (lw_at lw_m3 137 rfl) rfl
theorem q879 : (Jvm.Cond.castable "java/util/ArrayDeque$DeqIterator" "java/util/Iterator") ∈ lw_tbl := lw_at lw_m4 33 rfl
theorem q880 : (Jvm.Cond.selects "java/util/ArrayDeque$DeqIterator" ({ cls := "java/util/Iterator", name := "hasNext", desc := "()Z" } : Jvm.MethodName) ({ cls := "java/util/ArrayDeque$DeqIterator", name := "hasNext", desc := "()Z" } : Jvm.MethodName)) ∈ lw_all := lw_g (lw_at lw_m4 34 rfl) rfl
theorem q881 : (Jvm.Cond.unhidden "java/util/ArrayDeque$DeqIterator" "hasNext" "()Z") ∈ lw_tbl := lw_at lw_m4 35 rfl
theorem q882 : (Jvm.Cond.instanceMethod ({ cls := "java/util/ArrayDeque$DeqIterator", name := "hasNext", desc := "()Z" } : Jvm.MethodName)) ∈ lw_all := lw_g (lw_at lw_m4 36 rfl) rfl
theorem q883 : (Jvm.Cond.publicMethod ({ cls := "java/util/ArrayDeque$DeqIterator", name := "hasNext", desc := "()Z" } : Jvm.MethodName)) ∈ lw_tbl := lw_at lw_m4 37 rfl
theorem q884 : (Jvm.Cond.code ({ cls := "java/util/ArrayDeque$DeqIterator", name := "hasNext", desc := "()Z" } : Jvm.MethodName) prog_55_method_2_code (1 : Nat) (Option.some Jvm.ClassFile.FieldType.boolean)) ∈ lw_all := lw_g (lw_at lw_m4 38 rfl) rfl
theorem q1003 : (Jvm.Cond.selects "java/util/ArrayDeque$DeqIterator" ({ cls := "java/lang/Object", name := "getClass", desc := "()Ljava/lang/Class;" } : Jvm.MethodName) ({ cls := "java/lang/Object", name := "getClass", desc := "()Ljava/lang/Class;" } : Jvm.MethodName)) ∈ lw_all := lw_g (lw_at lw_m4 157 rfl) rfl
theorem q1060 : (Jvm.Cond.selects "java/util/ArrayDeque$DeqIterator" ({ cls := "java/util/Iterator", name := "next", desc := "()Ljava/lang/Object;" } : Jvm.MethodName) ({ cls := "java/util/ArrayDeque$DeqIterator", name := "next", desc := "()Ljava/lang/Object;" } : Jvm.MethodName)) ∈ lw_all := lw_g (lw_at lw_m4 214 rfl) rfl
theorem q1061 : (Jvm.Cond.unhidden "java/util/ArrayDeque$DeqIterator" "next" "()Ljava/lang/Object;") ∈ lw_tbl := lw_at lw_m4 215 rfl
theorem q1062 : (Jvm.Cond.instanceMethod ({ cls := "java/util/ArrayDeque$DeqIterator", name := "next", desc := "()Ljava/lang/Object;" } : Jvm.MethodName)) ∈ lw_all := lw_g (lw_at lw_m4 216 rfl) rfl
theorem q1063 : (Jvm.Cond.publicMethod ({ cls := "java/util/ArrayDeque$DeqIterator", name := "next", desc := "()Ljava/lang/Object;" } : Jvm.MethodName)) ∈ lw_tbl := lw_at lw_m4 217 rfl
theorem q1064 : (Jvm.Cond.code ({ cls := "java/util/ArrayDeque$DeqIterator", name := "next", desc := "()Ljava/lang/Object;" } : Jvm.MethodName) prog_55_method_3_code (3 : Nat) (Option.some (Jvm.ClassFile.FieldType.object "java/lang/Object"))) ∈ lw_all := lw_g (lw_at lw_m4 218 rfl) rfl
theorem q1065 : (Jvm.Cond.methodLink "java/util/ArrayDeque$DeqIterator" (39 : Nat) ({ cls := "java/util/ArrayDeque", name := "nonNullElementAt", desc := "([Ljava/lang/Object;I)Ljava/lang/Object;" } : Jvm.MethodName)) ∈ lw_all := lw_g (lw_at lw_m4 219 rfl) rfl
theorem q1068 : (Jvm.Cond.methodLink "java/util/ArrayDeque$DeqIterator" (43 : Nat) ({ cls := "java/util/ArrayDeque", name := "inc", desc := "(II)I" } : Jvm.MethodName)) ∈ lw_all := lw_g (lw_at lw_m4 222 rfl) rfl
theorem q1574 : (Jvm.Cond.selects "java/util/ArrayDeque$DeqIterator" ({ cls := "java/util/Iterator", name := "remove", desc := "()V" } : Jvm.MethodName) ({ cls := "java/util/ArrayDeque$DeqIterator", name := "remove", desc := "()V" } : Jvm.MethodName)) ∈ lw_all := lw_g (lw_at lw_m7 8 rfl) rfl
theorem q1575 : (Jvm.Cond.unhidden "java/util/ArrayDeque$DeqIterator" "remove" "()V") ∈ lw_tbl := lw_at lw_m7 9 rfl
theorem q1576 : (Jvm.Cond.instanceMethod ({ cls := "java/util/ArrayDeque$DeqIterator", name := "remove", desc := "()V" } : Jvm.MethodName)) ∈ lw_all := lw_g (lw_at lw_m7 10 rfl) rfl
theorem q1577 : (Jvm.Cond.publicMethod ({ cls := "java/util/ArrayDeque$DeqIterator", name := "remove", desc := "()V" } : Jvm.MethodName)) ∈ lw_tbl := lw_at lw_m7 11 rfl
theorem q1578 : (Jvm.Cond.code ({ cls := "java/util/ArrayDeque$DeqIterator", name := "remove", desc := "()V" } : Jvm.MethodName) prog_55_method_5_code (1 : Nat) (Option.none : Option Jvm.ClassFile.FieldType)) ∈ lw_all := lw_g (lw_at lw_m7 12 rfl) rfl
theorem q1579 : (Jvm.Cond.methodLink "java/util/ArrayDeque$DeqIterator" (53 : Nat) ({ cls := "java/util/ArrayDeque", name := "delete", desc := "(I)Z" } : Jvm.MethodName)) ∈ lw_all := lw_g (lw_at lw_m7 13 rfl) rfl
theorem q1583 : (Jvm.Cond.methodLink "java/util/ArrayDeque$DeqIterator" (57 : Nat) ({ cls := "java/util/ArrayDeque$DeqIterator", name := "postDelete", desc := "(Z)V" } : Jvm.MethodName)) ∈ lw_all := lw_g (lw_at lw_m7 17 rfl) rfl
theorem q1584 : (Jvm.Cond.instanceMethod ({ cls := "java/util/ArrayDeque$DeqIterator", name := "postDelete", desc := "(Z)V" } : Jvm.MethodName)) ∈ lw_all := lw_g (lw_at lw_m7 18 rfl) rfl
theorem q1585 : (Jvm.Cond.selects "java/util/ArrayDeque$DeqIterator" ({ cls := "java/util/ArrayDeque$DeqIterator", name := "postDelete", desc := "(Z)V" } : Jvm.MethodName) ({ cls := "java/util/ArrayDeque$DeqIterator", name := "postDelete", desc := "(Z)V" } : Jvm.MethodName)) ∈ lw_all := lw_g (lw_at lw_m7 19 rfl) rfl
theorem q1586 : (Jvm.Cond.code ({ cls := "java/util/ArrayDeque$DeqIterator", name := "postDelete", desc := "(Z)V" } : Jvm.MethodName) prog_55_method_4_code (2 : Nat) (Option.none : Option Jvm.ClassFile.FieldType)) ∈ lw_all := lw_g (lw_at lw_m7 20 rfl) rfl
theorem q1587 : (Jvm.Cond.methodLink "java/util/ArrayDeque$DeqIterator" (47 : Nat) ({ cls := "java/util/ArrayDeque", name := "dec", desc := "(II)I" } : Jvm.MethodName)) ∈ lw_all := lw_g (lw_at lw_m7 21 rfl) rfl
theorem q2689 : (Jvm.Cond.instantiable "java/util/ArrayDeque$DeqIterator" (4 : Nat)) ∈ lw_all := lw_g (lw_at lw_m11 163 rfl) rfl
theorem q2691 : (Jvm.Cond.instanceMethod ({ cls := "java/util/ArrayDeque$DeqIterator", name := "<init>", desc := "(Ljava/util/ArrayDeque;)V" } : Jvm.MethodName)) ∈ lw_all := lw_g (lw_at lw_m11 165 rfl) rfl
theorem q2692 : (Jvm.Cond.code ({ cls := "java/util/ArrayDeque$DeqIterator", name := "<init>", desc := "(Ljava/util/ArrayDeque;)V" } : Jvm.MethodName) prog_55_method_1_code (2 : Nat) (Option.none : Option Jvm.ClassFile.FieldType)) ∈ lw_all := lw_g (lw_at lw_m11 166 rfl) rfl
theorem q2693 : (Jvm.Cond.methodLink "java/util/ArrayDeque$DeqIterator" (7 : Nat) ({ cls := "java/lang/Object", name := "<init>", desc := "()V" } : Jvm.MethodName)) ∈ lw_all := lw_g (lw_at lw_m11 167 rfl) rfl
theorem q2694 : (Jvm.Cond.methodLink "java/util/ArrayDeque$DeqIterator" (13 : Nat) ({ cls := "java/util/ArrayDeque", name := "size", desc := "()I" } : Jvm.MethodName)) ∈ lw_all := lw_g (lw_at lw_m11 168 rfl) rfl
theorem q2695 : (Jvm.Cond.fieldLink "java/util/ArrayDeque$DeqIterator" (29 : Nat) "java/util/ArrayDeque$DeqIterator" "cursor" "I") ∈ lw_all := lw_g (lw_at lw_m11 169 rfl) rfl
theorem q2696 : (Jvm.Cond.fieldLink "java/util/ArrayDeque$DeqIterator" (19 : Nat) "java/util/ArrayDeque$DeqIterator" "remaining" "I") ∈ lw_all := lw_g (lw_at lw_m11 170 rfl) rfl
theorem q2697 : (Jvm.Cond.fieldLink "java/util/ArrayDeque$DeqIterator" (23 : Nat) "java/util/ArrayDeque$DeqIterator" "lastRet" "I") ∈ lw_all := lw_g (lw_at lw_m11 171 rfl) rfl
theorem q2698 : (Jvm.Cond.fieldLink "java/util/ArrayDeque$DeqIterator" (1 : Nat) "java/util/ArrayDeque$DeqIterator" "this$0" "Ljava/util/ArrayDeque;") ∈ lw_all := lw_g (lw_at lw_m11 172 rfl) rfl
theorem q2699 : (Jvm.Cond.lays "java/util/ArrayDeque$DeqIterator" "java/util/ArrayDeque$DeqIterator" "cursor" "I") ∈ lw_all := lw_g (lw_at lw_m11 173 rfl) rfl
theorem q2700 : (Jvm.Cond.soleField "java/util/ArrayDeque$DeqIterator" "cursor") ∈ lw_all := lw_g (lw_at lw_m11 174 rfl) rfl
theorem q2701 : (Jvm.Cond.lays "java/util/ArrayDeque$DeqIterator" "java/util/ArrayDeque$DeqIterator" "remaining" "I") ∈ lw_all := lw_g (lw_at lw_m11 175 rfl) rfl
theorem q2702 : (Jvm.Cond.soleField "java/util/ArrayDeque$DeqIterator" "remaining") ∈ lw_all := lw_g (lw_at lw_m11 176 rfl) rfl
theorem q2703 : (Jvm.Cond.lays "java/util/ArrayDeque$DeqIterator" "java/util/ArrayDeque$DeqIterator" "lastRet" "I") ∈ lw_all := lw_g (lw_at lw_m11 177 rfl) rfl
theorem q2704 : (Jvm.Cond.soleField "java/util/ArrayDeque$DeqIterator" "lastRet") ∈ lw_all := lw_g (lw_at lw_m11 178 rfl) rfl
theorem q2705 : (Jvm.Cond.laysFinal "java/util/ArrayDeque$DeqIterator" "java/util/ArrayDeque$DeqIterator" "this$0" "Ljava/util/ArrayDeque;") ∈ lw_all := lw_g (lw_at lw_m11 179 rfl) rfl
theorem q2706 : (Jvm.Cond.soleField "java/util/ArrayDeque$DeqIterator" "this$0") ∈ lw_all := lw_g (lw_at lw_m11 180 rfl) rfl
theorem q2707 : (Jvm.Cond.superclass "java/util/ArrayDeque$DeqIterator" "java/lang/Object") ∈ lw_all := lw_g (lw_at lw_m11 181 rfl) rfl
theorem q3638 : (Jvm.Cond.castable "java/util/ArrayDeque$DeqIterator" "java/lang/Object") ∈ lw_tbl := lw_at lw_m15 152 rfl
set_option maxRecDepth 100000
abbrev cJ50_hasNext : ByteArray := prog_67_method_3_code
def yJ50_hasNext : MethodName := ⟨RJ50, "hasNext", "()Z"⟩
def dkwJ50_hasNext_0 : List UInt8 := [42, 180, 0, 17, 42, 180, 0, 13, 159, 0, 7, 4, 167, 0, 4, 3, 172]
abbrev dktJ50_hasNext_0 : List UInt8 := dkwJ50_hasNext_0 ++ []
theorem dksJ50_hasNext_0 : cJ50_hasNext.data.toList.drop 0 = dktJ50_hasNext_0 := by decide +kernel
theorem dJ50_hasNext_0 : decode cJ50_hasNext 0 = .ok (.aload_n 0, 1) := dk_42 (dk_at dksJ50_hasNext_0 0 rfl rfl)
theorem dJ50_hasNext_1 : decode cJ50_hasNext 1 = .ok (.getfield 17, 3) := dk_180 0 17 (dk_at dksJ50_hasNext_0 1 rfl rfl)
theorem dJ50_hasNext_4 : decode cJ50_hasNext 4 = .ok (.aload_n 0, 1) := dk_42 (dk_at dksJ50_hasNext_0 4 rfl rfl)
theorem dJ50_hasNext_5 : decode cJ50_hasNext 5 = .ok (.getfield 13, 3) := dk_180 0 13 (dk_at dksJ50_hasNext_0 5 rfl rfl)
theorem dJ50_hasNext_8 : decode cJ50_hasNext 8 = .ok (.if_icmp .eq 7, 3) := dk_159 0 7 (dk_at dksJ50_hasNext_0 8 rfl rfl)
theorem dJ50_hasNext_11 : decode cJ50_hasNext 11 = .ok (.iconst 1, 1) := dk_4 (dk_at dksJ50_hasNext_0 11 rfl rfl)
theorem dJ50_hasNext_12 : decode cJ50_hasNext 12 = .ok (.goto 4, 3) := dk_167 0 4 (dk_at dksJ50_hasNext_0 12 rfl rfl)
theorem dJ50_hasNext_15 : decode cJ50_hasNext 15 = .ok (.iconst 0, 1) := dk_3 (dk_at dksJ50_hasNext_0 15 rfl rfl)
theorem dJ50_hasNext_16 : decode cJ50_hasNext 16 = .ok (.ireturn, 1) := dk_172 (dk_at dksJ50_hasNext_0 16 rfl rfl)
abbrev cJ50_next : ByteArray := prog_67_method_4_code
def yJ50_next : MethodName := ⟨RJ50, "next", "()Ljava/lang/Object;"⟩
def dkwJ50_next_1 : List UInt8 := [176, 76, 187, 0, 32, 89, 183, 0, 34, 191]
abbrev dktJ50_next_1 : List UInt8 := dkwJ50_next_1 ++ []
def dkwJ50_next_0 : List UInt8 := [42, 180, 0, 17, 60, 42, 180, 0, 7, 27, 185, 0, 24, 2, 0, 77, 42, 27, 4, 96, 181, 0, 17, 44]
abbrev dktJ50_next_0 : List UInt8 := dkwJ50_next_0 ++ dktJ50_next_1
theorem dksJ50_next_0 : cJ50_next.data.toList.drop 0 = dktJ50_next_0 := by decide +kernel
theorem dksJ50_next_1 : cJ50_next.data.toList.drop 24 = dktJ50_next_1 := dk_seg dksJ50_next_0 24 rfl rfl
theorem dJ50_next_0 : decode cJ50_next 0 = .ok (.aload_n 0, 1) := dk_42 (dk_at dksJ50_next_0 0 rfl rfl)
theorem dJ50_next_1 : decode cJ50_next 1 = .ok (.getfield 17, 3) := dk_180 0 17 (dk_at dksJ50_next_0 1 rfl rfl)
theorem dJ50_next_4 : decode cJ50_next 4 = .ok (.istore_n 1, 1) := dk_60 (dk_at dksJ50_next_0 4 rfl rfl)
theorem dJ50_next_5 : decode cJ50_next 5 = .ok (.aload_n 0, 1) := dk_42 (dk_at dksJ50_next_0 5 rfl rfl)
theorem dJ50_next_6 : decode cJ50_next 6 = .ok (.getfield 7, 3) := dk_180 0 7 (dk_at dksJ50_next_0 6 rfl rfl)
theorem dJ50_next_9 : decode cJ50_next 9 = .ok (.iload_n 1, 1) := dk_27 (dk_at dksJ50_next_0 9 rfl rfl)
theorem dJ50_next_10 : decode cJ50_next 10 = .ok (.invokeinterface 24 2, 5) := by decide +kernel
theorem dJ50_next_15 : decode cJ50_next 15 = .ok (.astore_n 2, 1) := dk_77 (dk_at dksJ50_next_0 15 rfl rfl)
theorem dJ50_next_16 : decode cJ50_next 16 = .ok (.aload_n 0, 1) := dk_42 (dk_at dksJ50_next_0 16 rfl rfl)
theorem dJ50_next_17 : decode cJ50_next 17 = .ok (.iload_n 1, 1) := dk_27 (dk_at dksJ50_next_0 17 rfl rfl)
theorem dJ50_next_18 : decode cJ50_next 18 = .ok (.iconst 1, 1) := dk_4 (dk_at dksJ50_next_0 18 rfl rfl)
theorem dJ50_next_19 : decode cJ50_next 19 = .ok (.iadd, 1) := dk_96 (dk_at dksJ50_next_0 19 rfl rfl)
theorem dJ50_next_20 : decode cJ50_next 20 = .ok (.putfield 17, 3) := dk_181 0 17 (dk_at dksJ50_next_0 20 rfl rfl)
theorem dJ50_next_23 : decode cJ50_next 23 = .ok (.aload_n 2, 1) := dk_44 (dk_at dksJ50_next_0 23 rfl rfl)
theorem dJ50_next_24 : decode cJ50_next 24 = .ok (.areturn, 1) := dk_176 (dk_at dksJ50_next_1 0 rfl rfl)
theorem dJ50_next_25 : decode cJ50_next 25 = .ok (.astore_n 1, 1) := dk_76 (dk_at dksJ50_next_1 1 rfl rfl)
theorem dJ50_next_26 : decode cJ50_next 26 = .ok (.new 32, 3) := dk_187 0 32 (dk_at dksJ50_next_1 2 rfl rfl)
theorem dJ50_next_29 : decode cJ50_next 29 = .ok (.dup, 1) := dk_89 (dk_at dksJ50_next_1 5 rfl rfl)
theorem dJ50_next_30 : decode cJ50_next 30 = .ok (.invokespecial 34, 3) := dk_183 0 34 (dk_at dksJ50_next_1 6 rfl rfl)
theorem dJ50_next_33 : decode cJ50_next 33 = .ok (.athrow, 1) := dk_191 (dk_at dksJ50_next_1 9 rfl rfl)
abbrev cJ50_remove : ByteArray := prog_67_method_5_code
def yJ50_remove : MethodName := ⟨RJ50, "remove", "()V"⟩
theorem dJ50_remove_0 : decode cJ50_remove 0 = .ok (.invokestatic 35, 3) := by decide +kernel
theorem dJ50_remove_3 : decode cJ50_remove 3 = .ok (.athrow, 1) := by decide +kernel
abbrev cJ50_init : ByteArray := prog_67_method_1_code
def yJ50_init : MethodName := ⟨RJ50, "<init>", "(Ljava/util/List;I)V"⟩
def dkwJ50_init_1 : List UInt8 := [177]
abbrev dktJ50_init_1 : List UInt8 := dkwJ50_init_1 ++ []
def dkwJ50_init_0 : List UInt8 := [42, 183, 0, 1, 42, 43, 181, 0, 7, 42, 28, 181, 0, 13, 42, 3, 181, 0, 17, 42, 3, 181, 0, 20]
abbrev dktJ50_init_0 : List UInt8 := dkwJ50_init_0 ++ dktJ50_init_1
theorem dksJ50_init_0 : cJ50_init.data.toList.drop 0 = dktJ50_init_0 := by decide +kernel
theorem dksJ50_init_1 : cJ50_init.data.toList.drop 24 = dktJ50_init_1 := dk_seg dksJ50_init_0 24 rfl rfl
theorem dJ50_init_0 : decode cJ50_init 0 = .ok (.aload_n 0, 1) := dk_42 (dk_at dksJ50_init_0 0 rfl rfl)
theorem dJ50_init_1 : decode cJ50_init 1 = .ok (.invokespecial 1, 3) := dk_183 0 1 (dk_at dksJ50_init_0 1 rfl rfl)
theorem dJ50_init_4 : decode cJ50_init 4 = .ok (.aload_n 0, 1) := dk_42 (dk_at dksJ50_init_0 4 rfl rfl)
theorem dJ50_init_5 : decode cJ50_init 5 = .ok (.aload_n 1, 1) := dk_43 (dk_at dksJ50_init_0 5 rfl rfl)
theorem dJ50_init_6 : decode cJ50_init 6 = .ok (.putfield 7, 3) := dk_181 0 7 (dk_at dksJ50_init_0 6 rfl rfl)
theorem dJ50_init_9 : decode cJ50_init 9 = .ok (.aload_n 0, 1) := dk_42 (dk_at dksJ50_init_0 9 rfl rfl)
theorem dJ50_init_10 : decode cJ50_init 10 = .ok (.iload_n 2, 1) := dk_28 (dk_at dksJ50_init_0 10 rfl rfl)
theorem dJ50_init_11 : decode cJ50_init 11 = .ok (.putfield 13, 3) := dk_181 0 13 (dk_at dksJ50_init_0 11 rfl rfl)
theorem dJ50_init_14 : decode cJ50_init 14 = .ok (.aload_n 0, 1) := dk_42 (dk_at dksJ50_init_0 14 rfl rfl)
theorem dJ50_init_15 : decode cJ50_init 15 = .ok (.iconst 0, 1) := dk_3 (dk_at dksJ50_init_0 15 rfl rfl)
theorem dJ50_init_16 : decode cJ50_init 16 = .ok (.putfield 17, 3) := dk_181 0 17 (dk_at dksJ50_init_0 16 rfl rfl)
theorem dJ50_init_19 : decode cJ50_init 19 = .ok (.aload_n 0, 1) := dk_42 (dk_at dksJ50_init_0 19 rfl rfl)
theorem dJ50_init_20 : decode cJ50_init 20 = .ok (.iconst 0, 1) := dk_3 (dk_at dksJ50_init_0 20 rfl rfl)
theorem dJ50_init_21 : decode cJ50_init 21 = .ok (.putfield 20, 3) := dk_181 0 20 (dk_at dksJ50_init_0 21 rfl rfl)
theorem dJ50_init_24 : decode cJ50_init 24 = .ok (.return_, 1) := dk_177 (dk_at dksJ50_init_1 0 rfl rfl)
theorem q192 : (Jvm.Cond.initialized "java/util/ImmutableCollections$ListItr") ∈ lw_all := lw_g (lw_at lw_m1 66 rfl) rfl
theorem q885 : (Jvm.Cond.castable "java/util/ImmutableCollections$ListItr" "java/util/Iterator") ∈ lw_tbl := lw_at lw_m4 39 rfl
theorem q886 : (Jvm.Cond.selects "java/util/ImmutableCollections$ListItr" ({ cls := "java/util/Iterator", name := "hasNext", desc := "()Z" } : Jvm.MethodName) ({ cls := "java/util/ImmutableCollections$ListItr", name := "hasNext", desc := "()Z" } : Jvm.MethodName)) ∈ lw_all := lw_g (lw_at lw_m4 40 rfl) rfl
theorem q887 : (Jvm.Cond.unhidden "java/util/ImmutableCollections$ListItr" "hasNext" "()Z") ∈ lw_tbl := lw_at lw_m4 41 rfl
theorem q888 : (Jvm.Cond.instanceMethod ({ cls := "java/util/ImmutableCollections$ListItr", name := "hasNext", desc := "()Z" } : Jvm.MethodName)) ∈ lw_all := lw_g (lw_at lw_m4 42 rfl) rfl
theorem q889 : (Jvm.Cond.publicMethod ({ cls := "java/util/ImmutableCollections$ListItr", name := "hasNext", desc := "()Z" } : Jvm.MethodName)) ∈ lw_tbl := lw_at lw_m4 43 rfl
theorem q890 : (Jvm.Cond.code ({ cls := "java/util/ImmutableCollections$ListItr", name := "hasNext", desc := "()Z" } : Jvm.MethodName) prog_67_method_3_code (1 : Nat) (Option.some Jvm.ClassFile.FieldType.boolean)) ∈ lw_all := lw_g (lw_at lw_m4 44 rfl) rfl
theorem q1007 : (Jvm.Cond.selects "java/util/ImmutableCollections$ListItr" ({ cls := "java/lang/Object", name := "getClass", desc := "()Ljava/lang/Class;" } : Jvm.MethodName) ({ cls := "java/lang/Object", name := "getClass", desc := "()Ljava/lang/Class;" } : Jvm.MethodName)) ∈ lw_all := lw_g (lw_at lw_m4 161 rfl) rfl
theorem q1071 : (Jvm.Cond.selects "java/util/ImmutableCollections$ListItr" ({ cls := "java/util/Iterator", name := "next", desc := "()Ljava/lang/Object;" } : Jvm.MethodName) ({ cls := "java/util/ImmutableCollections$ListItr", name := "next", desc := "()Ljava/lang/Object;" } : Jvm.MethodName)) ∈ lw_all := lw_g (lw_at lw_m4 225 rfl) rfl
theorem q1072 : (Jvm.Cond.unhidden "java/util/ImmutableCollections$ListItr" "next" "()Ljava/lang/Object;") ∈ lw_tbl := lw_at lw_m4 226 rfl
theorem q1073 : (Jvm.Cond.instanceMethod ({ cls := "java/util/ImmutableCollections$ListItr", name := "next", desc := "()Ljava/lang/Object;" } : Jvm.MethodName)) ∈ lw_all := lw_g (lw_at lw_m4 227 rfl) rfl
theorem q1074 : (Jvm.Cond.publicMethod ({ cls := "java/util/ImmutableCollections$ListItr", name := "next", desc := "()Ljava/lang/Object;" } : Jvm.MethodName)) ∈ lw_tbl := lw_at lw_m4 228 rfl
theorem q1075 : (Jvm.Cond.codeWith ({ cls := "java/util/ImmutableCollections$ListItr", name := "next", desc := "()Ljava/lang/Object;" } : Jvm.MethodName) prog_67_method_4_code (3 : Nat) (Option.some (Jvm.ClassFile.FieldType.object "java/lang/Object")) [((0 : Nat), (24 : Nat), (25 : Nat), (30 : Nat))]) ∈ lw_all := lw_g (lw_at lw_m4 229 rfl) rfl
theorem q1076 : (Jvm.Cond.interfaceEntry "java/util/ImmutableCollections$ListItr" (24 : Nat)) ∈ lw_tbl := lw_at lw_m4 230 rfl
theorem q1077 : (Jvm.Cond.methodLink "java/util/ImmutableCollections$ListItr" (24 : Nat) ({ cls := "java/util/List", name := "get", desc := "(I)Ljava/lang/Object;" } : Jvm.MethodName)) ∈ lw_all := lw_g (lw_at lw_m4 231 rfl) rfl
theorem q1098 : (Jvm.Cond.classLink "java/util/ImmutableCollections$ListItr" (32 : Nat) "java/util/NoSuchElementException") ∈ lw_all := lw_g (lw_at lw_m5 12 rfl) rfl
theorem q1099 : (Jvm.Cond.methodLink "java/util/ImmutableCollections$ListItr" (34 : Nat) ({ cls := "java/util/NoSuchElementException", name := "<init>", desc := "()V" } : Jvm.MethodName)) ∈ lw_all := lw_g (lw_at lw_m5 13 rfl) rfl
theorem q1588 : (Jvm.Cond.selects "java/util/ImmutableCollections$ListItr" ({ cls := "java/util/Iterator", name := "remove", desc := "()V" } : Jvm.MethodName) ({ cls := "java/util/ImmutableCollections$ListItr", name := "remove", desc := "()V" } : Jvm.MethodName)) ∈ lw_all := lw_g (lw_at lw_m7 22 rfl) rfl
theorem q1589 : (Jvm.Cond.unhidden "java/util/ImmutableCollections$ListItr" "remove" "()V") ∈ lw_tbl := lw_at lw_m7 23 rfl
theorem q1590 : (Jvm.Cond.instanceMethod ({ cls := "java/util/ImmutableCollections$ListItr", name := "remove", desc := "()V" } : Jvm.MethodName)) ∈ lw_all := lw_g (lw_at lw_m7 24 rfl) rfl
theorem q1591 : (Jvm.Cond.publicMethod ({ cls := "java/util/ImmutableCollections$ListItr", name := "remove", desc := "()V" } : Jvm.MethodName)) ∈ lw_tbl := lw_at lw_m7 25 rfl
theorem q1592 : (Jvm.Cond.code ({ cls := "java/util/ImmutableCollections$ListItr", name := "remove", desc := "()V" } : Jvm.MethodName) prog_67_method_5_code (1 : Nat) (Option.none : Option Jvm.ClassFile.FieldType)) ∈ lw_all := lw_g (lw_at lw_m7 26 rfl) rfl
theorem q2715 : (Jvm.Cond.instantiable "java/util/ImmutableCollections$ListItr" (4 : Nat)) ∈ lw_all := lw_g (lw_at lw_m11 189 rfl) rfl
theorem q2721 : (Jvm.Cond.instanceMethod ({ cls := "java/util/ImmutableCollections$ListItr", name := "<init>", desc := "(Ljava/util/List;I)V" } : Jvm.MethodName)) ∈ lw_all := lw_g (lw_at lw_m11 195 rfl) rfl
theorem q2722 : (Jvm.Cond.code ({ cls := "java/util/ImmutableCollections$ListItr", name := "<init>", desc := "(Ljava/util/List;I)V" } : Jvm.MethodName) prog_67_method_1_code (3 : Nat) (Option.none : Option Jvm.ClassFile.FieldType)) ∈ lw_all := lw_g (lw_at lw_m11 196 rfl) rfl
theorem q2723 : (Jvm.Cond.methodLink "java/util/ImmutableCollections$ListItr" (1 : Nat) ({ cls := "java/lang/Object", name := "<init>", desc := "()V" } : Jvm.MethodName)) ∈ lw_all := lw_g (lw_at lw_m11 197 rfl) rfl
theorem q2724 : (Jvm.Cond.fieldLink "java/util/ImmutableCollections$ListItr" (7 : Nat) "java/util/ImmutableCollections$ListItr" "list" "Ljava/util/List;") ∈ lw_all := lw_g (lw_at lw_m11 198 rfl) rfl
theorem q2725 : (Jvm.Cond.fieldLink "java/util/ImmutableCollections$ListItr" (13 : Nat) "java/util/ImmutableCollections$ListItr" "size" "I") ∈ lw_all := lw_g (lw_at lw_m11 199 rfl) rfl
theorem q2726 : (Jvm.Cond.fieldLink "java/util/ImmutableCollections$ListItr" (20 : Nat) "java/util/ImmutableCollections$ListItr" "isListIterator" "Z") ∈ lw_all := lw_g (lw_at lw_m11 200 rfl) rfl
theorem q2727 : (Jvm.Cond.fieldLink "java/util/ImmutableCollections$ListItr" (17 : Nat) "java/util/ImmutableCollections$ListItr" "cursor" "I") ∈ lw_all := lw_g (lw_at lw_m11 201 rfl) rfl
theorem q2728 : (Jvm.Cond.laysFinal "java/util/ImmutableCollections$ListItr" "java/util/ImmutableCollections$ListItr" "list" "Ljava/util/List;") ∈ lw_all := lw_g (lw_at lw_m11 202 rfl) rfl
theorem q2729 : (Jvm.Cond.soleField "java/util/ImmutableCollections$ListItr" "list") ∈ lw_all := lw_g (lw_at lw_m11 203 rfl) rfl
theorem q2730 : (Jvm.Cond.laysFinal "java/util/ImmutableCollections$ListItr" "java/util/ImmutableCollections$ListItr" "size" "I") ∈ lw_all := lw_g (lw_at lw_m11 204 rfl) rfl
theorem q2731 : (Jvm.Cond.soleField "java/util/ImmutableCollections$ListItr" "size") ∈ lw_all := lw_g (lw_at lw_m11 205 rfl) rfl
theorem q2732 : (Jvm.Cond.laysFinal "java/util/ImmutableCollections$ListItr" "java/util/ImmutableCollections$ListItr" "isListIterator" "Z") ∈ lw_all := lw_g (lw_at lw_m11 206 rfl) rfl
theorem q2733 : (Jvm.Cond.soleField "java/util/ImmutableCollections$ListItr" "isListIterator") ∈ lw_all := lw_g (lw_at lw_m11 207 rfl) rfl
theorem q2734 : (Jvm.Cond.lays "java/util/ImmutableCollections$ListItr" "java/util/ImmutableCollections$ListItr" "cursor" "I") ∈ lw_all := lw_g (lw_at lw_m11 208 rfl) rfl
theorem q2735 : (Jvm.Cond.soleField "java/util/ImmutableCollections$ListItr" "cursor") ∈ lw_all := lw_g (lw_at lw_m11 209 rfl) rfl
theorem q2736 : (Jvm.Cond.superclass "java/util/ImmutableCollections$ListItr" "java/lang/Object") ∈ lw_all := lw_g (lw_at lw_m11 210 rfl) rfl
theorem q3639 : (Jvm.Cond.castable "java/util/ImmutableCollections$ListItr" "java/lang/Object") ∈ lw_tbl := lw_at lw_m15 153 rfl
set_option maxRecDepth 100000
abbrev cJ51_hasNext : ByteArray := prog_82_method_2_code
def yJ51_hasNext : MethodName := ⟨RJ51, "hasNext", "()Z"⟩
def dkwJ51_hasNext_1 : List UInt8 := [180, 0, 31, 182, 0, 35, 154, 0, 7, 4, 167, 0, 4, 3, 172]
abbrev dktJ51_hasNext_1 : List UInt8 := dkwJ51_hasNext_1 ++ []
def dkwJ51_hasNext_0 : List UInt8 := [42, 180, 0, 25, 42, 180, 0, 1, 180, 0, 28, 161, 0, 20, 42, 180, 0, 31, 198, 0, 17, 42]
abbrev dktJ51_hasNext_0 : List UInt8 := dkwJ51_hasNext_0 ++ dktJ51_hasNext_1
theorem dksJ51_hasNext_0 : cJ51_hasNext.data.toList.drop 0 = dktJ51_hasNext_0 := by decide +kernel
theorem dksJ51_hasNext_1 : cJ51_hasNext.data.toList.drop 22 = dktJ51_hasNext_1 := dk_seg dksJ51_hasNext_0 22 rfl rfl
theorem dJ51_hasNext_0 : decode cJ51_hasNext 0 = .ok (.aload_n 0, 1) := dk_42 (dk_at dksJ51_hasNext_0 0 rfl rfl)
theorem dJ51_hasNext_1 : decode cJ51_hasNext 1 = .ok (.getfield 25, 3) := dk_180 0 25 (dk_at dksJ51_hasNext_0 1 rfl rfl)
theorem dJ51_hasNext_4 : decode cJ51_hasNext 4 = .ok (.aload_n 0, 1) := dk_42 (dk_at dksJ51_hasNext_0 4 rfl rfl)
theorem dJ51_hasNext_5 : decode cJ51_hasNext 5 = .ok (.getfield 1, 3) := dk_180 0 1 (dk_at dksJ51_hasNext_0 5 rfl rfl)
theorem dJ51_hasNext_8 : decode cJ51_hasNext 8 = .ok (.getfield 28, 3) := dk_180 0 28 (dk_at dksJ51_hasNext_0 8 rfl rfl)
theorem dJ51_hasNext_11 : decode cJ51_hasNext 11 = .ok (.if_icmp .lt 20, 3) := dk_161 0 20 (dk_at dksJ51_hasNext_0 11 rfl rfl)
theorem dJ51_hasNext_14 : decode cJ51_hasNext 14 = .ok (.aload_n 0, 1) := dk_42 (dk_at dksJ51_hasNext_0 14 rfl rfl)
theorem dJ51_hasNext_15 : decode cJ51_hasNext 15 = .ok (.getfield 31, 3) := dk_180 0 31 (dk_at dksJ51_hasNext_0 15 rfl rfl)
theorem dJ51_hasNext_18 : decode cJ51_hasNext 18 = .ok (.ifnull 17, 3) := dk_198 0 17 (dk_at dksJ51_hasNext_0 18 rfl rfl)
theorem dJ51_hasNext_21 : decode cJ51_hasNext 21 = .ok (.aload_n 0, 1) := dk_42 (dk_at dksJ51_hasNext_0 21 rfl rfl)
theorem dJ51_hasNext_22 : decode cJ51_hasNext 22 = .ok (.getfield 31, 3) := dk_180 0 31 (dk_at dksJ51_hasNext_1 0 rfl rfl)
theorem dJ51_hasNext_25 : decode cJ51_hasNext 25 = .ok (.invokevirtual 35, 3) := dk_182 0 35 (dk_at dksJ51_hasNext_1 3 rfl rfl)
theorem dJ51_hasNext_28 : decode cJ51_hasNext 28 = .ok (.ifCond .ne 7, 3) := dk_154 0 7 (dk_at dksJ51_hasNext_1 6 rfl rfl)
theorem dJ51_hasNext_31 : decode cJ51_hasNext 31 = .ok (.iconst 1, 1) := dk_4 (dk_at dksJ51_hasNext_1 9 rfl rfl)
theorem dJ51_hasNext_32 : decode cJ51_hasNext 32 = .ok (.goto 4, 3) := dk_167 0 4 (dk_at dksJ51_hasNext_1 10 rfl rfl)
theorem dJ51_hasNext_35 : decode cJ51_hasNext 35 = .ok (.iconst 0, 1) := dk_3 (dk_at dksJ51_hasNext_1 13 rfl rfl)
theorem dJ51_hasNext_36 : decode cJ51_hasNext 36 = .ok (.ireturn, 1) := dk_172 (dk_at dksJ51_hasNext_1 14 rfl rfl)
abbrev cJ51_next : ByteArray := prog_82_method_3_code
def yJ51_next : MethodName := ⟨RJ51, "next", "()Ljava/lang/Object;"⟩
def dkwJ51_next_4 : List UInt8 := [180, 0, 52, 176, 187, 0, 56, 89, 183, 0, 58, 191]
abbrev dktJ51_next_4 : List UInt8 := dkwJ51_next_4 ++ []
def dkwJ51_next_3 : List UInt8 := [181, 0, 13, 42, 42, 180, 0, 31, 182, 0, 48, 181, 0, 52, 42, 180, 0, 52, 198, 0, 8, 42]
abbrev dktJ51_next_3 : List UInt8 := dkwJ51_next_3 ++ dktJ51_next_4
def dkwJ51_next_2 : List UInt8 := [180, 0, 25, 90, 4, 96, 181, 0, 25, 90, 181, 0, 13, 50, 176, 42, 180, 0, 31, 198, 0, 31, 42, 2]
abbrev dktJ51_next_2 : List UInt8 := dkwJ51_next_2 ++ dktJ51_next_3
def dkwJ51_next_1 : List UInt8 := [180, 0, 25, 42, 180, 0, 1, 180, 0, 28, 162, 0, 28, 42, 180, 0, 1, 180, 0, 44, 42, 42, 89]
abbrev dktJ51_next_1 : List UInt8 := dkwJ51_next_1 ++ dktJ51_next_2
def dkwJ51_next_0 : List UInt8 := [42, 180, 0, 22, 42, 180, 0, 1, 180, 0, 17, 159, 0, 11, 187, 0, 41, 89, 183, 0, 43, 191, 42]
abbrev dktJ51_next_0 : List UInt8 := dkwJ51_next_0 ++ dktJ51_next_1
theorem dksJ51_next_0 : cJ51_next.data.toList.drop 0 = dktJ51_next_0 := by decide +kernel
theorem dksJ51_next_1 : cJ51_next.data.toList.drop 23 = dktJ51_next_1 := dk_seg dksJ51_next_0 23 rfl rfl
theorem dksJ51_next_2 : cJ51_next.data.toList.drop 46 = dktJ51_next_2 := dk_seg dksJ51_next_1 23 rfl rfl
theorem dksJ51_next_3 : cJ51_next.data.toList.drop 70 = dktJ51_next_3 := dk_seg dksJ51_next_2 24 rfl rfl
theorem dksJ51_next_4 : cJ51_next.data.toList.drop 92 = dktJ51_next_4 := dk_seg dksJ51_next_3 22 rfl rfl
theorem dJ51_next_0 : decode cJ51_next 0 = .ok (.aload_n 0, 1) := dk_42 (dk_at dksJ51_next_0 0 rfl rfl)
theorem dJ51_next_1 : decode cJ51_next 1 = .ok (.getfield 22, 3) := dk_180 0 22 (dk_at dksJ51_next_0 1 rfl rfl)
theorem dJ51_next_4 : decode cJ51_next 4 = .ok (.aload_n 0, 1) := dk_42 (dk_at dksJ51_next_0 4 rfl rfl)
theorem dJ51_next_5 : decode cJ51_next 5 = .ok (.getfield 1, 3) := dk_180 0 1 (dk_at dksJ51_next_0 5 rfl rfl)
theorem dJ51_next_8 : decode cJ51_next 8 = .ok (.getfield 17, 3) := dk_180 0 17 (dk_at dksJ51_next_0 8 rfl rfl)
theorem dJ51_next_11 : decode cJ51_next 11 = .ok (.if_icmp .eq 11, 3) := dk_159 0 11 (dk_at dksJ51_next_0 11 rfl rfl)
theorem dJ51_next_14 : decode cJ51_next 14 = .ok (.new 41, 3) := dk_187 0 41 (dk_at dksJ51_next_0 14 rfl rfl)
theorem dJ51_next_17 : decode cJ51_next 17 = .ok (.dup, 1) := dk_89 (dk_at dksJ51_next_0 17 rfl rfl)
theorem dJ51_next_18 : decode cJ51_next 18 = .ok (.invokespecial 43, 3) := dk_183 0 43 (dk_at dksJ51_next_0 18 rfl rfl)
theorem dJ51_next_21 : decode cJ51_next 21 = .ok (.athrow, 1) := dk_191 (dk_at dksJ51_next_0 21 rfl rfl)
theorem dJ51_next_22 : decode cJ51_next 22 = .ok (.aload_n 0, 1) := dk_42 (dk_at dksJ51_next_0 22 rfl rfl)
theorem dJ51_next_23 : decode cJ51_next 23 = .ok (.getfield 25, 3) := dk_180 0 25 (dk_at dksJ51_next_1 0 rfl rfl)
theorem dJ51_next_26 : decode cJ51_next 26 = .ok (.aload_n 0, 1) := dk_42 (dk_at dksJ51_next_1 3 rfl rfl)
theorem dJ51_next_27 : decode cJ51_next 27 = .ok (.getfield 1, 3) := dk_180 0 1 (dk_at dksJ51_next_1 4 rfl rfl)
theorem dJ51_next_30 : decode cJ51_next 30 = .ok (.getfield 28, 3) := dk_180 0 28 (dk_at dksJ51_next_1 7 rfl rfl)
theorem dJ51_next_33 : decode cJ51_next 33 = .ok (.if_icmp .ge 28, 3) := dk_162 0 28 (dk_at dksJ51_next_1 10 rfl rfl)
theorem dJ51_next_36 : decode cJ51_next 36 = .ok (.aload_n 0, 1) := dk_42 (dk_at dksJ51_next_1 13 rfl rfl)
theorem dJ51_next_37 : decode cJ51_next 37 = .ok (.getfield 1, 3) := dk_180 0 1 (dk_at dksJ51_next_1 14 rfl rfl)
theorem dJ51_next_40 : decode cJ51_next 40 = .ok (.getfield 44, 3) := dk_180 0 44 (dk_at dksJ51_next_1 17 rfl rfl)
theorem dJ51_next_43 : decode cJ51_next 43 = .ok (.aload_n 0, 1) := dk_42 (dk_at dksJ51_next_1 20 rfl rfl)
theorem dJ51_next_44 : decode cJ51_next 44 = .ok (.aload_n 0, 1) := dk_42 (dk_at dksJ51_next_1 21 rfl rfl)
theorem dJ51_next_45 : decode cJ51_next 45 = .ok (.dup, 1) := dk_89 (dk_at dksJ51_next_1 22 rfl rfl)
theorem dJ51_next_46 : decode cJ51_next 46 = .ok (.getfield 25, 3) := dk_180 0 25 (dk_at dksJ51_next_2 0 rfl rfl)
theorem dJ51_next_49 : decode cJ51_next 49 = .ok (.dup_x1, 1) := dk_90 (dk_at dksJ51_next_2 3 rfl rfl)
theorem dJ51_next_50 : decode cJ51_next 50 = .ok (.iconst 1, 1) := dk_4 (dk_at dksJ51_next_2 4 rfl rfl)
theorem dJ51_next_51 : decode cJ51_next 51 = .ok (.iadd, 1) := dk_96 (dk_at dksJ51_next_2 5 rfl rfl)
theorem dJ51_next_52 : decode cJ51_next 52 = .ok (.putfield 25, 3) := dk_181 0 25 (dk_at dksJ51_next_2 6 rfl rfl)
theorem dJ51_next_55 : decode cJ51_next 55 = .ok (.dup_x1, 1) := dk_90 (dk_at dksJ51_next_2 9 rfl rfl)
theorem dJ51_next_56 : decode cJ51_next 56 = .ok (.putfield 13, 3) := dk_181 0 13 (dk_at dksJ51_next_2 10 rfl rfl)
theorem dJ51_next_59 : decode cJ51_next 59 = .ok (.aaload, 1) := dk_50 (dk_at dksJ51_next_2 13 rfl rfl)
theorem dJ51_next_60 : decode cJ51_next 60 = .ok (.areturn, 1) := dk_176 (dk_at dksJ51_next_2 14 rfl rfl)
theorem dJ51_next_61 : decode cJ51_next 61 = .ok (.aload_n 0, 1) := dk_42 (dk_at dksJ51_next_2 15 rfl rfl)
theorem dJ51_next_62 : decode cJ51_next 62 = .ok (.getfield 31, 3) := dk_180 0 31 (dk_at dksJ51_next_2 16 rfl rfl)
theorem dJ51_next_65 : decode cJ51_next 65 = .ok (.ifnull 31, 3) := dk_198 0 31 (dk_at dksJ51_next_2 19 rfl rfl)
theorem dJ51_next_68 : decode cJ51_next 68 = .ok (.aload_n 0, 1) := dk_42 (dk_at dksJ51_next_2 22 rfl rfl)
theorem dJ51_next_69 : decode cJ51_next 69 = .ok (.iconst (-1), 1) := dk_2 (dk_at dksJ51_next_2 23 rfl rfl)
theorem dJ51_next_70 : decode cJ51_next 70 = .ok (.putfield 13, 3) := dk_181 0 13 (dk_at dksJ51_next_3 0 rfl rfl)
theorem dJ51_next_73 : decode cJ51_next 73 = .ok (.aload_n 0, 1) := dk_42 (dk_at dksJ51_next_3 3 rfl rfl)
theorem dJ51_next_74 : decode cJ51_next 74 = .ok (.aload_n 0, 1) := dk_42 (dk_at dksJ51_next_3 4 rfl rfl)
theorem dJ51_next_75 : decode cJ51_next 75 = .ok (.getfield 31, 3) := dk_180 0 31 (dk_at dksJ51_next_3 5 rfl rfl)
theorem dJ51_next_78 : decode cJ51_next 78 = .ok (.invokevirtual 48, 3) := dk_182 0 48 (dk_at dksJ51_next_3 8 rfl rfl)
theorem dJ51_next_81 : decode cJ51_next 81 = .ok (.putfield 52, 3) := dk_181 0 52 (dk_at dksJ51_next_3 11 rfl rfl)
theorem dJ51_next_84 : decode cJ51_next 84 = .ok (.aload_n 0, 1) := dk_42 (dk_at dksJ51_next_3 14 rfl rfl)
theorem dJ51_next_85 : decode cJ51_next 85 = .ok (.getfield 52, 3) := dk_180 0 52 (dk_at dksJ51_next_3 15 rfl rfl)
theorem dJ51_next_88 : decode cJ51_next 88 = .ok (.ifnull 8, 3) := dk_198 0 8 (dk_at dksJ51_next_3 18 rfl rfl)
theorem dJ51_next_91 : decode cJ51_next 91 = .ok (.aload_n 0, 1) := dk_42 (dk_at dksJ51_next_3 21 rfl rfl)
theorem dJ51_next_92 : decode cJ51_next 92 = .ok (.getfield 52, 3) := dk_180 0 52 (dk_at dksJ51_next_4 0 rfl rfl)
theorem dJ51_next_95 : decode cJ51_next 95 = .ok (.areturn, 1) := dk_176 (dk_at dksJ51_next_4 3 rfl rfl)
theorem dJ51_next_96 : decode cJ51_next 96 = .ok (.new 56, 3) := dk_187 0 56 (dk_at dksJ51_next_4 4 rfl rfl)
theorem dJ51_next_99 : decode cJ51_next 99 = .ok (.dup, 1) := dk_89 (dk_at dksJ51_next_4 7 rfl rfl)
theorem dJ51_next_100 : decode cJ51_next 100 = .ok (.invokespecial 58, 3) := dk_183 0 58 (dk_at dksJ51_next_4 8 rfl rfl)
theorem dJ51_next_103 : decode cJ51_next 103 = .ok (.athrow, 1) := dk_191 (dk_at dksJ51_next_4 11 rfl rfl)
abbrev cJ51_remove : ByteArray := prog_82_method_4_code
def yJ51_remove : MethodName := ⟨RJ51, "remove", "()V"⟩
def dkwJ51_remove_5 : List UInt8 := [167, 0, 11, 187, 0, 72, 89, 183, 0, 74, 191, 42, 42, 180, 0, 1, 180, 0, 17, 181, 0, 22, 177]
abbrev dktJ51_remove_5 : List UInt8 := dkwJ51_remove_5 ++ []
def dkwJ51_remove_4 : List UInt8 := [180, 0, 52, 198, 0, 22, 42, 180, 0, 1, 42, 180, 0, 52, 182, 0, 68, 42, 1, 181, 0, 52]
abbrev dktJ51_remove_4 : List UInt8 := dkwJ51_remove_4 ++ dktJ51_remove_5
def dkwJ51_remove_3 : List UInt8 := [42, 187, 0, 36, 89, 183, 0, 63, 181, 0, 31, 42, 180, 0, 31, 43, 182, 0, 64, 87, 167, 0, 37, 42]
abbrev dktJ51_remove_3 : List UInt8 := dkwJ51_remove_3 ++ dktJ51_remove_4
def dkwJ51_remove_2 : List UInt8 := [43, 199, 0, 16, 42, 89, 180, 0, 25, 4, 100, 181, 0, 25, 167, 0, 30, 42, 180, 0, 31, 199, 0, 14]
abbrev dktJ51_remove_2 : List UInt8 := dkwJ51_remove_2 ++ dktJ51_remove_3
def dkwJ51_remove_1 : List UInt8 := [180, 0, 13, 2, 159, 0, 67, 42, 180, 0, 1, 42, 180, 0, 13, 182, 0, 59, 76, 42, 2, 181, 0, 13]
abbrev dktJ51_remove_1 : List UInt8 := dkwJ51_remove_1 ++ dktJ51_remove_2
def dkwJ51_remove_0 : List UInt8 := [42, 180, 0, 22, 42, 180, 0, 1, 180, 0, 17, 159, 0, 11, 187, 0, 41, 89, 183, 0, 43, 191, 42]
abbrev dktJ51_remove_0 : List UInt8 := dkwJ51_remove_0 ++ dktJ51_remove_1
theorem dksJ51_remove_0 : cJ51_remove.data.toList.drop 0 = dktJ51_remove_0 := by decide +kernel
theorem dksJ51_remove_1 : cJ51_remove.data.toList.drop 23 = dktJ51_remove_1 := dk_seg dksJ51_remove_0 23 rfl rfl
theorem dksJ51_remove_2 : cJ51_remove.data.toList.drop 47 = dktJ51_remove_2 := dk_seg dksJ51_remove_1 24 rfl rfl
theorem dksJ51_remove_3 : cJ51_remove.data.toList.drop 71 = dktJ51_remove_3 := dk_seg dksJ51_remove_2 24 rfl rfl
theorem dksJ51_remove_4 : cJ51_remove.data.toList.drop 95 = dktJ51_remove_4 := dk_seg dksJ51_remove_3 24 rfl rfl
theorem dksJ51_remove_5 : cJ51_remove.data.toList.drop 117 = dktJ51_remove_5 := dk_seg dksJ51_remove_4 22 rfl rfl
theorem dJ51_remove_0 : decode cJ51_remove 0 = .ok (.aload_n 0, 1) := dk_42 (dk_at dksJ51_remove_0 0 rfl rfl)
theorem dJ51_remove_1 : decode cJ51_remove 1 = .ok (.getfield 22, 3) := dk_180 0 22 (dk_at dksJ51_remove_0 1 rfl rfl)
theorem dJ51_remove_4 : decode cJ51_remove 4 = .ok (.aload_n 0, 1) := dk_42 (dk_at dksJ51_remove_0 4 rfl rfl)
theorem dJ51_remove_5 : decode cJ51_remove 5 = .ok (.getfield 1, 3) := dk_180 0 1 (dk_at dksJ51_remove_0 5 rfl rfl)
theorem dJ51_remove_8 : decode cJ51_remove 8 = .ok (.getfield 17, 3) := dk_180 0 17 (dk_at dksJ51_remove_0 8 rfl rfl)
theorem dJ51_remove_11 : decode cJ51_remove 11 = .ok (.if_icmp .eq 11, 3) := dk_159 0 11 (dk_at dksJ51_remove_0 11 rfl rfl)
theorem dJ51_remove_14 : decode cJ51_remove 14 = .ok (.new 41, 3) := dk_187 0 41 (dk_at dksJ51_remove_0 14 rfl rfl)
theorem dJ51_remove_17 : decode cJ51_remove 17 = .ok (.dup, 1) := dk_89 (dk_at dksJ51_remove_0 17 rfl rfl)
theorem dJ51_remove_18 : decode cJ51_remove 18 = .ok (.invokespecial 43, 3) := dk_183 0 43 (dk_at dksJ51_remove_0 18 rfl rfl)
theorem dJ51_remove_21 : decode cJ51_remove 21 = .ok (.athrow, 1) := dk_191 (dk_at dksJ51_remove_0 21 rfl rfl)
theorem dJ51_remove_22 : decode cJ51_remove 22 = .ok (.aload_n 0, 1) := dk_42 (dk_at dksJ51_remove_0 22 rfl rfl)
theorem dJ51_remove_23 : decode cJ51_remove 23 = .ok (.getfield 13, 3) := dk_180 0 13 (dk_at dksJ51_remove_1 0 rfl rfl)
theorem dJ51_remove_26 : decode cJ51_remove 26 = .ok (.iconst (-1), 1) := dk_2 (dk_at dksJ51_remove_1 3 rfl rfl)
theorem dJ51_remove_27 : decode cJ51_remove 27 = .ok (.if_icmp .eq 67, 3) := dk_159 0 67 (dk_at dksJ51_remove_1 4 rfl rfl)
theorem dJ51_remove_30 : decode cJ51_remove 30 = .ok (.aload_n 0, 1) := dk_42 (dk_at dksJ51_remove_1 7 rfl rfl)
theorem dJ51_remove_31 : decode cJ51_remove 31 = .ok (.getfield 1, 3) := dk_180 0 1 (dk_at dksJ51_remove_1 8 rfl rfl)
theorem dJ51_remove_34 : decode cJ51_remove 34 = .ok (.aload_n 0, 1) := dk_42 (dk_at dksJ51_remove_1 11 rfl rfl)
theorem dJ51_remove_35 : decode cJ51_remove 35 = .ok (.getfield 13, 3) := dk_180 0 13 (dk_at dksJ51_remove_1 12 rfl rfl)
theorem dJ51_remove_38 : decode cJ51_remove 38 = .ok (.invokevirtual 59, 3) := dk_182 0 59 (dk_at dksJ51_remove_1 15 rfl rfl)
theorem dJ51_remove_41 : decode cJ51_remove 41 = .ok (.astore_n 1, 1) := dk_76 (dk_at dksJ51_remove_1 18 rfl rfl)
theorem dJ51_remove_42 : decode cJ51_remove 42 = .ok (.aload_n 0, 1) := dk_42 (dk_at dksJ51_remove_1 19 rfl rfl)
theorem dJ51_remove_43 : decode cJ51_remove 43 = .ok (.iconst (-1), 1) := dk_2 (dk_at dksJ51_remove_1 20 rfl rfl)
theorem dJ51_remove_44 : decode cJ51_remove 44 = .ok (.putfield 13, 3) := dk_181 0 13 (dk_at dksJ51_remove_1 21 rfl rfl)
theorem dJ51_remove_47 : decode cJ51_remove 47 = .ok (.aload_n 1, 1) := dk_43 (dk_at dksJ51_remove_2 0 rfl rfl)
theorem dJ51_remove_48 : decode cJ51_remove 48 = .ok (.ifnonnull 16, 3) := dk_199 0 16 (dk_at dksJ51_remove_2 1 rfl rfl)
theorem dJ51_remove_51 : decode cJ51_remove 51 = .ok (.aload_n 0, 1) := dk_42 (dk_at dksJ51_remove_2 4 rfl rfl)
theorem dJ51_remove_52 : decode cJ51_remove 52 = .ok (.dup, 1) := dk_89 (dk_at dksJ51_remove_2 5 rfl rfl)
theorem dJ51_remove_53 : decode cJ51_remove 53 = .ok (.getfield 25, 3) := dk_180 0 25 (dk_at dksJ51_remove_2 6 rfl rfl)
theorem dJ51_remove_56 : decode cJ51_remove 56 = .ok (.iconst 1, 1) := dk_4 (dk_at dksJ51_remove_2 9 rfl rfl)
theorem dJ51_remove_57 : decode cJ51_remove 57 = .ok (.isub, 1) := dk_100 (dk_at dksJ51_remove_2 10 rfl rfl)
theorem dJ51_remove_58 : decode cJ51_remove 58 = .ok (.putfield 25, 3) := dk_181 0 25 (dk_at dksJ51_remove_2 11 rfl rfl)
theorem dJ51_remove_61 : decode cJ51_remove 61 = .ok (.goto 30, 3) := dk_167 0 30 (dk_at dksJ51_remove_2 14 rfl rfl)
theorem dJ51_remove_64 : decode cJ51_remove 64 = .ok (.aload_n 0, 1) := dk_42 (dk_at dksJ51_remove_2 17 rfl rfl)
theorem dJ51_remove_65 : decode cJ51_remove 65 = .ok (.getfield 31, 3) := dk_180 0 31 (dk_at dksJ51_remove_2 18 rfl rfl)
theorem dJ51_remove_68 : decode cJ51_remove 68 = .ok (.ifnonnull 14, 3) := dk_199 0 14 (dk_at dksJ51_remove_2 21 rfl rfl)
theorem dJ51_remove_71 : decode cJ51_remove 71 = .ok (.aload_n 0, 1) := dk_42 (dk_at dksJ51_remove_3 0 rfl rfl)
theorem dJ51_remove_72 : decode cJ51_remove 72 = .ok (.new 36, 3) := dk_187 0 36 (dk_at dksJ51_remove_3 1 rfl rfl)
theorem dJ51_remove_75 : decode cJ51_remove 75 = .ok (.dup, 1) := dk_89 (dk_at dksJ51_remove_3 4 rfl rfl)
theorem dJ51_remove_76 : decode cJ51_remove 76 = .ok (.invokespecial 63, 3) := dk_183 0 63 (dk_at dksJ51_remove_3 5 rfl rfl)
theorem dJ51_remove_79 : decode cJ51_remove 79 = .ok (.putfield 31, 3) := dk_181 0 31 (dk_at dksJ51_remove_3 8 rfl rfl)
theorem dJ51_remove_82 : decode cJ51_remove 82 = .ok (.aload_n 0, 1) := dk_42 (dk_at dksJ51_remove_3 11 rfl rfl)
theorem dJ51_remove_83 : decode cJ51_remove 83 = .ok (.getfield 31, 3) := dk_180 0 31 (dk_at dksJ51_remove_3 12 rfl rfl)
theorem dJ51_remove_86 : decode cJ51_remove 86 = .ok (.aload_n 1, 1) := dk_43 (dk_at dksJ51_remove_3 15 rfl rfl)
theorem dJ51_remove_87 : decode cJ51_remove 87 = .ok (.invokevirtual 64, 3) := dk_182 0 64 (dk_at dksJ51_remove_3 16 rfl rfl)
theorem dJ51_remove_90 : decode cJ51_remove 90 = .ok (.pop, 1) := dk_87 (dk_at dksJ51_remove_3 19 rfl rfl)
theorem dJ51_remove_91 : decode cJ51_remove 91 = .ok (.goto 37, 3) := dk_167 0 37 (dk_at dksJ51_remove_3 20 rfl rfl)
theorem dJ51_remove_94 : decode cJ51_remove 94 = .ok (.aload_n 0, 1) := dk_42 (dk_at dksJ51_remove_3 23 rfl rfl)
theorem dJ51_remove_95 : decode cJ51_remove 95 = .ok (.getfield 52, 3) := dk_180 0 52 (dk_at dksJ51_remove_4 0 rfl rfl)
theorem dJ51_remove_98 : decode cJ51_remove 98 = .ok (.ifnull 22, 3) := dk_198 0 22 (dk_at dksJ51_remove_4 3 rfl rfl)
theorem dJ51_remove_101 : decode cJ51_remove 101 = .ok (.aload_n 0, 1) := dk_42 (dk_at dksJ51_remove_4 6 rfl rfl)
theorem dJ51_remove_102 : decode cJ51_remove 102 = .ok (.getfield 1, 3) := dk_180 0 1 (dk_at dksJ51_remove_4 7 rfl rfl)
theorem dJ51_remove_105 : decode cJ51_remove 105 = .ok (.aload_n 0, 1) := dk_42 (dk_at dksJ51_remove_4 10 rfl rfl)
theorem dJ51_remove_106 : decode cJ51_remove 106 = .ok (.getfield 52, 3) := dk_180 0 52 (dk_at dksJ51_remove_4 11 rfl rfl)
theorem dJ51_remove_109 : decode cJ51_remove 109 = .ok (.invokevirtual 68, 3) := dk_182 0 68 (dk_at dksJ51_remove_4 14 rfl rfl)
theorem dJ51_remove_112 : decode cJ51_remove 112 = .ok (.aload_n 0, 1) := dk_42 (dk_at dksJ51_remove_4 17 rfl rfl)
theorem dJ51_remove_113 : decode cJ51_remove 113 = .ok (.aconst_null, 1) := dk_1 (dk_at dksJ51_remove_4 18 rfl rfl)
theorem dJ51_remove_114 : decode cJ51_remove 114 = .ok (.putfield 52, 3) := dk_181 0 52 (dk_at dksJ51_remove_4 19 rfl rfl)
theorem dJ51_remove_117 : decode cJ51_remove 117 = .ok (.goto 11, 3) := dk_167 0 11 (dk_at dksJ51_remove_5 0 rfl rfl)
theorem dJ51_remove_120 : decode cJ51_remove 120 = .ok (.new 72, 3) := dk_187 0 72 (dk_at dksJ51_remove_5 3 rfl rfl)
theorem dJ51_remove_123 : decode cJ51_remove 123 = .ok (.dup, 1) := dk_89 (dk_at dksJ51_remove_5 6 rfl rfl)
theorem dJ51_remove_124 : decode cJ51_remove 124 = .ok (.invokespecial 74, 3) := dk_183 0 74 (dk_at dksJ51_remove_5 7 rfl rfl)
theorem dJ51_remove_127 : decode cJ51_remove 127 = .ok (.athrow, 1) := dk_191 (dk_at dksJ51_remove_5 10 rfl rfl)
theorem dJ51_remove_128 : decode cJ51_remove 128 = .ok (.aload_n 0, 1) := dk_42 (dk_at dksJ51_remove_5 11 rfl rfl)
theorem dJ51_remove_129 : decode cJ51_remove 129 = .ok (.aload_n 0, 1) := dk_42 (dk_at dksJ51_remove_5 12 rfl rfl)
theorem dJ51_remove_130 : decode cJ51_remove 130 = .ok (.getfield 1, 3) := dk_180 0 1 (dk_at dksJ51_remove_5 13 rfl rfl)
theorem dJ51_remove_133 : decode cJ51_remove 133 = .ok (.getfield 17, 3) := dk_180 0 17 (dk_at dksJ51_remove_5 16 rfl rfl)
theorem dJ51_remove_136 : decode cJ51_remove 136 = .ok (.putfield 22, 3) := dk_181 0 22 (dk_at dksJ51_remove_5 19 rfl rfl)
theorem dJ51_remove_139 : decode cJ51_remove 139 = .ok (.return_, 1) := dk_177 (dk_at dksJ51_remove_5 22 rfl rfl)
abbrev cJ51_init : ByteArray := prog_82_method_1_code
def yJ51_init : MethodName := ⟨RJ51, "<init>", "(Ljava/util/PriorityQueue;)V"⟩
def dkwJ51_init_1 : List UInt8 := [181, 0, 22, 177]
abbrev dktJ51_init_1 : List UInt8 := dkwJ51_init_1 ++ []
def dkwJ51_init_0 : List UInt8 := [42, 43, 181, 0, 1, 42, 183, 0, 7, 42, 2, 181, 0, 13, 42, 42, 180, 0, 1, 180, 0, 17]
abbrev dktJ51_init_0 : List UInt8 := dkwJ51_init_0 ++ dktJ51_init_1
theorem dksJ51_init_0 : cJ51_init.data.toList.drop 0 = dktJ51_init_0 := by decide +kernel
theorem dksJ51_init_1 : cJ51_init.data.toList.drop 22 = dktJ51_init_1 := dk_seg dksJ51_init_0 22 rfl rfl
theorem dJ51_init_0 : decode cJ51_init 0 = .ok (.aload_n 0, 1) := dk_42 (dk_at dksJ51_init_0 0 rfl rfl)
theorem dJ51_init_1 : decode cJ51_init 1 = .ok (.aload_n 1, 1) := dk_43 (dk_at dksJ51_init_0 1 rfl rfl)
theorem dJ51_init_2 : decode cJ51_init 2 = .ok (.putfield 1, 3) := dk_181 0 1 (dk_at dksJ51_init_0 2 rfl rfl)
theorem dJ51_init_5 : decode cJ51_init 5 = .ok (.aload_n 0, 1) := dk_42 (dk_at dksJ51_init_0 5 rfl rfl)
theorem dJ51_init_6 : decode cJ51_init 6 = .ok (.invokespecial 7, 3) := dk_183 0 7 (dk_at dksJ51_init_0 6 rfl rfl)
theorem dJ51_init_9 : decode cJ51_init 9 = .ok (.aload_n 0, 1) := dk_42 (dk_at dksJ51_init_0 9 rfl rfl)
theorem dJ51_init_10 : decode cJ51_init 10 = .ok (.iconst (-1), 1) := dk_2 (dk_at dksJ51_init_0 10 rfl rfl)
theorem dJ51_init_11 : decode cJ51_init 11 = .ok (.putfield 13, 3) := dk_181 0 13 (dk_at dksJ51_init_0 11 rfl rfl)
theorem dJ51_init_14 : decode cJ51_init 14 = .ok (.aload_n 0, 1) := dk_42 (dk_at dksJ51_init_0 14 rfl rfl)
theorem dJ51_init_15 : decode cJ51_init 15 = .ok (.aload_n 0, 1) := dk_42 (dk_at dksJ51_init_0 15 rfl rfl)
theorem dJ51_init_16 : decode cJ51_init 16 = .ok (.getfield 1, 3) := dk_180 0 1 (dk_at dksJ51_init_0 16 rfl rfl)
theorem dJ51_init_19 : decode cJ51_init 19 = .ok (.getfield 17, 3) := dk_180 0 17 (dk_at dksJ51_init_0 19 rfl rfl)
theorem dJ51_init_22 : decode cJ51_init 22 = .ok (.putfield 22, 3) := dk_181 0 22 (dk_at dksJ51_init_1 0 rfl rfl)
theorem dJ51_init_25 : decode cJ51_init 25 = .ok (.return_, 1) := dk_177 (dk_at dksJ51_init_1 3 rfl rfl)
theorem q193 : (Jvm.Cond.initialized "java/util/PriorityQueue$Itr") ∈ lw_all := lw_g (lw_at lw_m1 67 rfl) rfl
theorem q262 : (Jvm.Cond.fieldLink "java/util/PriorityQueue$Itr" (44 : Nat) "java/util/PriorityQueue" "queue" "[Ljava/lang/Object;") ∈ lw_all := lw_g (lw_at lw_m1 136 rfl) rfl
theorem q264 : (Jvm.Cond.fieldLink "java/util/PriorityQueue$Itr" (28 : Nat) "java/util/PriorityQueue" "size" "I") ∈ lw_all := lw_g (lw_at lw_m1 138 rfl) rfl
theorem q267 : (Jvm.Cond.fieldLink "java/util/PriorityQueue$Itr" (17 : Nat) "java/util/PriorityQueue" "modCount" "I") ∈ lw_all := lw_g (lw_at lw_m1 141 rfl) rfl
theorem q897 : (Jvm.Cond.castable "java/util/PriorityQueue$Itr" "java/util/Iterator") ∈ lw_tbl := lw_at lw_m4 51 rfl
theorem q898 : (Jvm.Cond.selects "java/util/PriorityQueue$Itr" ({ cls := "java/util/Iterator", name := "hasNext", desc := "()Z" } : Jvm.MethodName) ({ cls := "java/util/PriorityQueue$Itr", name := "hasNext", desc := "()Z" } : Jvm.MethodName)) ∈ lw_all := lw_g (lw_at lw_m4 52 rfl) rfl
theorem q899 : (Jvm.Cond.unhidden "java/util/PriorityQueue$Itr" "hasNext" "()Z") ∈ lw_tbl := lw_at lw_m4 53 rfl
theorem q900 : (Jvm.Cond.instanceMethod ({ cls := "java/util/PriorityQueue$Itr", name := "hasNext", desc := "()Z" } : Jvm.MethodName)) ∈ lw_all := lw_g (lw_at lw_m4 54 rfl) rfl
theorem q901 : (Jvm.Cond.publicMethod ({ cls := "java/util/PriorityQueue$Itr", name := "hasNext", desc := "()Z" } : Jvm.MethodName)) ∈ lw_tbl := lw_at lw_m4 55 rfl
theorem q902 : (Jvm.Cond.code ({ cls := "java/util/PriorityQueue$Itr", name := "hasNext", desc := "()Z" } : Jvm.MethodName) prog_82_method_2_code (1 : Nat) (Option.some Jvm.ClassFile.FieldType.boolean)) ∈ lw_all := lw_g (lw_at lw_m4 56 rfl) rfl
theorem q903 : (Jvm.Cond.methodLink "java/util/PriorityQueue$Itr" (35 : Nat) ({ cls := "java/util/ArrayDeque", name := "isEmpty", desc := "()Z" } : Jvm.MethodName)) ∈ lw_all := lw_g (lw_at lw_m4 57 rfl) rfl
theorem q1014 : (Jvm.Cond.selects "java/util/PriorityQueue$Itr" ({ cls := "java/lang/Object", name := "getClass", desc := "()Ljava/lang/Class;" } : Jvm.MethodName) ({ cls := "java/lang/Object", name := "getClass", desc := "()Ljava/lang/Class;" } : Jvm.MethodName)) ∈ lw_all := lw_g (lw_at lw_m4 168 rfl) rfl
theorem q1113 : (Jvm.Cond.selects "java/util/PriorityQueue$Itr" ({ cls := "java/util/Iterator", name := "next", desc := "()Ljava/lang/Object;" } : Jvm.MethodName) ({ cls := "java/util/PriorityQueue$Itr", name := "next", desc := "()Ljava/lang/Object;" } : Jvm.MethodName)) ∈ lw_all := lw_g (lw_at lw_m5 27 rfl) rfl
theorem q1114 : (Jvm.Cond.unhidden "java/util/PriorityQueue$Itr" "next" "()Ljava/lang/Object;") ∈ lw_tbl := lw_at lw_m5 28 rfl
theorem q1115 : (Jvm.Cond.instanceMethod ({ cls := "java/util/PriorityQueue$Itr", name := "next", desc := "()Ljava/lang/Object;" } : Jvm.MethodName)) ∈ lw_all := lw_g (lw_at lw_m5 29 rfl) rfl
theorem q1116 : (Jvm.Cond.publicMethod ({ cls := "java/util/PriorityQueue$Itr", name := "next", desc := "()Ljava/lang/Object;" } : Jvm.MethodName)) ∈ lw_tbl := lw_at lw_m5 30 rfl
theorem q1117 : (Jvm.Cond.code ({ cls := "java/util/PriorityQueue$Itr", name := "next", desc := "()Ljava/lang/Object;" } : Jvm.MethodName) prog_82_method_3_code (1 : Nat) (Option.some (Jvm.ClassFile.FieldType.object "java/lang/Object"))) ∈ lw_all := lw_g (lw_at lw_m5 31 rfl) rfl
theorem q1118 : (Jvm.Cond.methodLink "java/util/PriorityQueue$Itr" (48 : Nat) ({ cls := "java/util/ArrayDeque", name := "poll", desc := "()Ljava/lang/Object;" } : Jvm.MethodName)) ∈ lw_all := lw_g (lw_at lw_m5 32 rfl) rfl
theorem q1599 : (Jvm.Cond.selects "java/util/PriorityQueue$Itr" ({ cls := "java/util/Iterator", name := "remove", desc := "()V" } : Jvm.MethodName) ({ cls := "java/util/PriorityQueue$Itr", name := "remove", desc := "()V" } : Jvm.MethodName)) ∈ lw_all := lw_g (lw_at lw_m7 33 rfl) rfl
theorem q1600 : (Jvm.Cond.unhidden "java/util/PriorityQueue$Itr" "remove" "()V") ∈ lw_tbl := lw_at lw_m7 34 rfl
theorem q1601 : (Jvm.Cond.instanceMethod ({ cls := "java/util/PriorityQueue$Itr", name := "remove", desc := "()V" } : Jvm.MethodName)) ∈ lw_all := lw_g (lw_at lw_m7 35 rfl) rfl
theorem q1602 : (Jvm.Cond.publicMethod ({ cls := "java/util/PriorityQueue$Itr", name := "remove", desc := "()V" } : Jvm.MethodName)) ∈ lw_tbl := lw_at lw_m7 36 rfl
theorem q1603 : (Jvm.Cond.code ({ cls := "java/util/PriorityQueue$Itr", name := "remove", desc := "()V" } : Jvm.MethodName) prog_82_method_4_code (2 : Nat) (Option.none : Option Jvm.ClassFile.FieldType)) ∈ lw_all := lw_g (lw_at lw_m7 37 rfl) rfl
theorem q1604 : (Jvm.Cond.methodLink "java/util/PriorityQueue$Itr" (59 : Nat) ({ cls := "java/util/PriorityQueue", name := "removeAt", desc := "(I)Ljava/lang/Object;" } : Jvm.MethodName)) ∈ lw_all := lw_g (lw_at lw_m7 38 rfl) rfl
theorem q1880 : (Jvm.Cond.classLink "java/util/PriorityQueue$Itr" (36 : Nat) "java/util/ArrayDeque") ∈ lw_all := lw_g (lw_at lw_m8 74 rfl) rfl
theorem q1881 : (Jvm.Cond.methodLink "java/util/PriorityQueue$Itr" (63 : Nat) ({ cls := "java/util/ArrayDeque", name := "<init>", desc := "()V" } : Jvm.MethodName)) ∈ lw_all := lw_g (lw_at lw_m8 75 rfl) rfl
theorem q1884 : (Jvm.Cond.methodLink "java/util/PriorityQueue$Itr" (64 : Nat) ({ cls := "java/util/ArrayDeque", name := "add", desc := "(Ljava/lang/Object;)Z" } : Jvm.MethodName)) ∈ lw_all := lw_g (lw_at lw_m8 78 rfl) rfl
theorem q1889 : (Jvm.Cond.methodLink "java/util/PriorityQueue$Itr" (68 : Nat) ({ cls := "java/util/PriorityQueue", name := "removeEq", desc := "(Ljava/lang/Object;)V" } : Jvm.MethodName)) ∈ lw_all := lw_g (lw_at lw_m8 83 rfl) rfl
theorem q2751 : (Jvm.Cond.instantiable "java/util/PriorityQueue$Itr" (6 : Nat)) ∈ lw_all := lw_g (lw_at lw_m11 225 rfl) rfl
theorem q2753 : (Jvm.Cond.instanceMethod ({ cls := "java/util/PriorityQueue$Itr", name := "<init>", desc := "(Ljava/util/PriorityQueue;)V" } : Jvm.MethodName)) ∈ lw_all := lw_g (lw_at lw_m11 227 rfl) rfl
theorem q2754 : (Jvm.Cond.code ({ cls := "java/util/PriorityQueue$Itr", name := "<init>", desc := "(Ljava/util/PriorityQueue;)V" } : Jvm.MethodName) prog_82_method_1_code (2 : Nat) (Option.none : Option Jvm.ClassFile.FieldType)) ∈ lw_all := lw_g (lw_at lw_m11 228 rfl) rfl
theorem q2755 : (Jvm.Cond.methodLink "java/util/PriorityQueue$Itr" (7 : Nat) ({ cls := "java/lang/Object", name := "<init>", desc := "()V" } : Jvm.MethodName)) ∈ lw_all := lw_g (lw_at lw_m11 229 rfl) rfl
theorem q2756 : (Jvm.Cond.fieldLink "java/util/PriorityQueue$Itr" (25 : Nat) "java/util/PriorityQueue$Itr" "cursor" "I") ∈ lw_all := lw_g (lw_at lw_m11 230 rfl) rfl
theorem q2757 : (Jvm.Cond.fieldLink "java/util/PriorityQueue$Itr" (13 : Nat) "java/util/PriorityQueue$Itr" "lastRet" "I") ∈ lw_all := lw_g (lw_at lw_m11 231 rfl) rfl
theorem q2758 : (Jvm.Cond.fieldLink "java/util/PriorityQueue$Itr" (31 : Nat) "java/util/PriorityQueue$Itr" "forgetMeNot" "Ljava/util/ArrayDeque;") ∈ lw_all := lw_g (lw_at lw_m11 232 rfl) rfl
theorem q2759 : (Jvm.Cond.fieldLink "java/util/PriorityQueue$Itr" (52 : Nat) "java/util/PriorityQueue$Itr" "lastRetElt" "Ljava/lang/Object;") ∈ lw_all := lw_g (lw_at lw_m11 233 rfl) rfl
theorem q2760 : (Jvm.Cond.fieldLink "java/util/PriorityQueue$Itr" (22 : Nat) "java/util/PriorityQueue$Itr" "expectedModCount" "I") ∈ lw_all := lw_g (lw_at lw_m11 234 rfl) rfl
theorem q2761 : (Jvm.Cond.fieldLink "java/util/PriorityQueue$Itr" (1 : Nat) "java/util/PriorityQueue$Itr" "this$0" "Ljava/util/PriorityQueue;") ∈ lw_all := lw_g (lw_at lw_m11 235 rfl) rfl
theorem q2762 : (Jvm.Cond.lays "java/util/PriorityQueue$Itr" "java/util/PriorityQueue$Itr" "cursor" "I") ∈ lw_all := lw_g (lw_at lw_m11 236 rfl) rfl
theorem q2763 : (Jvm.Cond.soleField "java/util/PriorityQueue$Itr" "cursor") ∈ lw_all := lw_g (lw_at lw_m11 237 rfl) rfl
theorem q2764 : (Jvm.Cond.lays "java/util/PriorityQueue$Itr" "java/util/PriorityQueue$Itr" "lastRet" "I") ∈ lw_all := lw_g (lw_at lw_m11 238 rfl) rfl
theorem q2765 : (Jvm.Cond.soleField "java/util/PriorityQueue$Itr" "lastRet") ∈ lw_all := lw_g (lw_at lw_m11 239 rfl) rfl
theorem q2766 : (Jvm.Cond.lays "java/util/PriorityQueue$Itr" "java/util/PriorityQueue$Itr" "forgetMeNot" "Ljava/util/ArrayDeque;") ∈ lw_all := lw_g (lw_at lw_m12 0 rfl) rfl
theorem q2767 : (Jvm.Cond.soleField "java/util/PriorityQueue$Itr" "forgetMeNot") ∈ lw_all := lw_g (lw_at lw_m12 1 rfl) rfl
theorem q2768 : (Jvm.Cond.lays "java/util/PriorityQueue$Itr" "java/util/PriorityQueue$Itr" "lastRetElt" "Ljava/lang/Object;") ∈ lw_all := lw_g (lw_at lw_m12 2 rfl) rfl
theorem q2769 : (Jvm.Cond.soleField "java/util/PriorityQueue$Itr" "lastRetElt") ∈ lw_all := lw_g (lw_at lw_m12 3 rfl) rfl
theorem q2770 : (Jvm.Cond.lays "java/util/PriorityQueue$Itr" "java/util/PriorityQueue$Itr" "expectedModCount" "I") ∈ lw_all := lw_g (lw_at lw_m12 4 rfl) rfl
theorem q2771 : (Jvm.Cond.soleField "java/util/PriorityQueue$Itr" "expectedModCount") ∈ lw_all := lw_g (lw_at lw_m12 5 rfl) rfl
theorem q2772 : (Jvm.Cond.laysFinal "java/util/PriorityQueue$Itr" "java/util/PriorityQueue$Itr" "this$0" "Ljava/util/PriorityQueue;") ∈ lw_all := lw_g (lw_at lw_m12 6 rfl) rfl
theorem q2773 : (Jvm.Cond.soleField "java/util/PriorityQueue$Itr" "this$0") ∈ lw_all := lw_g (lw_at lw_m12 7 rfl) rfl
theorem q2774 : (Jvm.Cond.superclass "java/util/PriorityQueue$Itr" "java/lang/Object") ∈ lw_all := lw_g (lw_at lw_m12 8 rfl) rfl
theorem q3640 : (Jvm.Cond.castable "java/util/PriorityQueue$Itr" "java/lang/Object") ∈ lw_tbl := lw_at lw_m15 154 rfl
set_option maxRecDepth 100000
abbrev cJ52_next : ByteArray := prog_97_method_2_code
def yJ52_next : MethodName := ⟨RJ52, "next", "()Ljava/lang/Object;"⟩
def dkwJ52_next_0 : List UInt8 := [42, 182, 0, 7, 180, 0, 13, 176]
abbrev dktJ52_next_0 : List UInt8 := dkwJ52_next_0 ++ []
theorem dksJ52_next_0 : cJ52_next.data.toList.drop 0 = dktJ52_next_0 := by decide +kernel
theorem dJ52_next_0 : decode cJ52_next 0 = .ok (.aload_n 0, 1) := dk_42 (dk_at dksJ52_next_0 0 rfl rfl)
theorem dJ52_next_1 : decode cJ52_next 1 = .ok (.invokevirtual 7, 3) := dk_182 0 7 (dk_at dksJ52_next_0 1 rfl rfl)
theorem dJ52_next_4 : decode cJ52_next 4 = .ok (.getfield 13, 3) := dk_180 0 13 (dk_at dksJ52_next_0 4 rfl rfl)
theorem dJ52_next_7 : decode cJ52_next 7 = .ok (.areturn, 1) := dk_176 (dk_at dksJ52_next_0 7 rfl rfl)
abbrev cJ52_init : ByteArray := prog_97_method_1_code
def yJ52_init : MethodName := ⟨RJ52, "<init>", "(Ljava/util/TreeMap;Ljava/util/TreeMap$Entry;)V"⟩
def dkwJ52_init_0 : List UInt8 := [42, 43, 44, 183, 0, 1, 177]
abbrev dktJ52_init_0 : List UInt8 := dkwJ52_init_0 ++ []
theorem dksJ52_init_0 : cJ52_init.data.toList.drop 0 = dktJ52_init_0 := by decide +kernel
theorem dJ52_init_0 : decode cJ52_init 0 = .ok (.aload_n 0, 1) := dk_42 (dk_at dksJ52_init_0 0 rfl rfl)
theorem dJ52_init_1 : decode cJ52_init 1 = .ok (.aload_n 1, 1) := dk_43 (dk_at dksJ52_init_0 1 rfl rfl)
theorem dJ52_init_2 : decode cJ52_init 2 = .ok (.aload_n 2, 1) := dk_44 (dk_at dksJ52_init_0 2 rfl rfl)
theorem dJ52_init_3 : decode cJ52_init 3 = .ok (.invokespecial 1, 3) := dk_183 0 1 (dk_at dksJ52_init_0 3 rfl rfl)
theorem dJ52_init_6 : decode cJ52_init 6 = .ok (.return_, 1) := dk_177 (dk_at dksJ52_init_0 6 rfl rfl)
theorem q194 : (Jvm.Cond.initialized "java/util/TreeMap$ValueIterator") ∈ lw_all := lw_g (lw_at lw_m1 68 rfl) rfl
theorem q913 : (Jvm.Cond.castable "java/util/TreeMap$ValueIterator" "java/util/Iterator") ∈ lw_tbl := lw_at lw_m4 67 rfl
theorem q914 : (Jvm.Cond.selects "java/util/TreeMap$ValueIterator" ({ cls := "java/util/Iterator", name := "hasNext", desc := "()Z" } : Jvm.MethodName) ({ cls := "java/util/TreeMap$PrivateEntryIterator", name := "hasNext", desc := "()Z" } : Jvm.MethodName)) ∈ lw_all := lw_g (lw_at lw_m4 68 rfl) rfl
theorem q915 : (Jvm.Cond.unhidden "java/util/TreeMap$ValueIterator" "hasNext" "()Z") ∈ lw_tbl := lw_at lw_m4 69 rfl
theorem q1019 : (Jvm.Cond.selects "java/util/TreeMap$ValueIterator" ({ cls := "java/lang/Object", name := "getClass", desc := "()Ljava/lang/Class;" } : Jvm.MethodName) ({ cls := "java/lang/Object", name := "getClass", desc := "()Ljava/lang/Class;" } : Jvm.MethodName)) ∈ lw_all := lw_g (lw_at lw_m4 173 rfl) rfl
theorem q1144 : (Jvm.Cond.selects "java/util/TreeMap$ValueIterator" ({ cls := "java/util/Iterator", name := "next", desc := "()Ljava/lang/Object;" } : Jvm.MethodName) ({ cls := "java/util/TreeMap$ValueIterator", name := "next", desc := "()Ljava/lang/Object;" } : Jvm.MethodName)) ∈ lw_all := lw_g (lw_at lw_m5 58 rfl) rfl
theorem q1145 : (Jvm.Cond.unhidden "java/util/TreeMap$ValueIterator" "next" "()Ljava/lang/Object;") ∈ lw_tbl := lw_at lw_m5 59 rfl
theorem q1146 : (Jvm.Cond.instanceMethod ({ cls := "java/util/TreeMap$ValueIterator", name := "next", desc := "()Ljava/lang/Object;" } : Jvm.MethodName)) ∈ lw_all := lw_g (lw_at lw_m5 60 rfl) rfl
theorem q1147 : (Jvm.Cond.publicMethod ({ cls := "java/util/TreeMap$ValueIterator", name := "next", desc := "()Ljava/lang/Object;" } : Jvm.MethodName)) ∈ lw_tbl := lw_at lw_m5 61 rfl
theorem q1148 : (Jvm.Cond.code ({ cls := "java/util/TreeMap$ValueIterator", name := "next", desc := "()Ljava/lang/Object;" } : Jvm.MethodName) prog_97_method_2_code (1 : Nat) (Option.some (Jvm.ClassFile.FieldType.object "java/lang/Object"))) ∈ lw_all := lw_g (lw_at lw_m5 62 rfl) rfl
theorem q1149 : (Jvm.Cond.methodLink "java/util/TreeMap$ValueIterator" (7 : Nat) ({ cls := "java/util/TreeMap$ValueIterator", name := "nextEntry", desc := "()Ljava/util/TreeMap$Entry;" } : Jvm.MethodName)) ∈ lw_all := lw_g (lw_at lw_m5 63 rfl) rfl
theorem q1150 : (Jvm.Cond.sameMethod "java/util/TreeMap$ValueIterator" "java/util/TreeMap$PrivateEntryIterator" "nextEntry" "()Ljava/util/TreeMap$Entry;") ∈ lw_all := lw_g (lw_at lw_m5 64 rfl) rfl
theorem q1151 : (Jvm.Cond.selects "java/util/TreeMap$ValueIterator" ({ cls := "java/util/TreeMap$ValueIterator", name := "nextEntry", desc := "()Ljava/util/TreeMap$Entry;" } : Jvm.MethodName) ({ cls := "java/util/TreeMap$PrivateEntryIterator", name := "nextEntry", desc := "()Ljava/util/TreeMap$Entry;" } : Jvm.MethodName)) ∈ lw_all := lw_g (lw_at lw_m5 65 rfl) rfl
theorem q1932 : (Jvm.Cond.selects "java/util/TreeMap$ValueIterator" ({ cls := "java/util/Iterator", name := "remove", desc := "()V" } : Jvm.MethodName) ({ cls := "java/util/TreeMap$PrivateEntryIterator", name := "remove", desc := "()V" } : Jvm.MethodName)) ∈ lw_all := lw_g (lw_at lw_m8 126 rfl) rfl
theorem q1933 : (Jvm.Cond.unhidden "java/util/TreeMap$ValueIterator" "remove" "()V") ∈ lw_tbl := lw_at lw_m8 127 rfl
theorem q2433 : (Jvm.Cond.fieldLink "java/util/TreeMap$ValueIterator" (13 : Nat) "java/util/TreeMap$Entry" "value" "Ljava/lang/Object;") ∈ lw_all := lw_g (lw_at lw_m10 147 rfl) rfl
theorem q2784 : (Jvm.Cond.instantiable "java/util/TreeMap$ValueIterator" (4 : Nat)) ∈ lw_all := lw_g (lw_at lw_m12 18 rfl) rfl
theorem q2787 : (Jvm.Cond.instanceMethod ({ cls := "java/util/TreeMap$ValueIterator", name := "<init>", desc := "(Ljava/util/TreeMap;Ljava/util/TreeMap$Entry;)V" } : Jvm.MethodName)) ∈ lw_all := lw_g (lw_at lw_m12 21 rfl) rfl
theorem q2788 : (Jvm.Cond.code ({ cls := "java/util/TreeMap$ValueIterator", name := "<init>", desc := "(Ljava/util/TreeMap;Ljava/util/TreeMap$Entry;)V" } : Jvm.MethodName) prog_97_method_1_code (3 : Nat) (Option.none : Option Jvm.ClassFile.FieldType)) ∈ lw_all := lw_g (lw_at lw_m12 22 rfl) rfl
theorem q2789 : (Jvm.Cond.methodLink "java/util/TreeMap$ValueIterator" (1 : Nat) ({ cls := "java/util/TreeMap$PrivateEntryIterator", name := "<init>", desc := "(Ljava/util/TreeMap;Ljava/util/TreeMap$Entry;)V" } : Jvm.MethodName)) ∈ lw_all := lw_g (lw_at lw_m12 23 rfl) rfl
theorem q2790 : (Jvm.Cond.lays "java/util/TreeMap$ValueIterator" "java/util/TreeMap$PrivateEntryIterator" "next" "Ljava/util/TreeMap$Entry;") ∈ lw_all := lw_g (lw_at lw_m12 24 rfl) rfl
theorem q2791 : (Jvm.Cond.lays "java/util/TreeMap$ValueIterator" "java/util/TreeMap$PrivateEntryIterator" "lastReturned" "Ljava/util/TreeMap$Entry;") ∈ lw_all := lw_g (lw_at lw_m12 25 rfl) rfl
theorem q2792 : (Jvm.Cond.lays "java/util/TreeMap$ValueIterator" "java/util/TreeMap$PrivateEntryIterator" "expectedModCount" "I") ∈ lw_all := lw_g (lw_at lw_m12 26 rfl) rfl
theorem q2793 : (Jvm.Cond.laysFinal "java/util/TreeMap$ValueIterator" "java/util/TreeMap$PrivateEntryIterator" "this$0" "Ljava/util/TreeMap;") ∈ lw_all := lw_g (lw_at lw_m12 27 rfl) rfl
theorem q2794 : (Jvm.Cond.superclass "java/util/TreeMap$ValueIterator" "java/util/TreeMap$PrivateEntryIterator") ∈ lw_all := lw_g (lw_at lw_m12 28 rfl) rfl
theorem q3641 : (Jvm.Cond.castable "java/util/TreeMap$ValueIterator" "java/lang/Object") ∈ lw_tbl := lw_at lw_m15 155 rfl
set_option maxRecDepth 100000
abbrev cJ53_init : ByteArray := prog_28_method_2_code
def yJ53_init : MethodName := ⟨RJ53, "<init>", "(Ljava/lang/String;)V"⟩
def dkwJ53_init_0 : List UInt8 := [42, 43, 183, 0, 7, 177]
abbrev dktJ53_init_0 : List UInt8 := dkwJ53_init_0 ++ []
theorem dksJ53_init_0 : cJ53_init.data.toList.drop 0 = dktJ53_init_0 := by decide +kernel
theorem dJ53_init_0 : decode cJ53_init 0 = .ok (.aload_n 0, 1) := dk_42 (dk_at dksJ53_init_0 0 rfl rfl)
theorem dJ53_init_1 : decode cJ53_init 1 = .ok (.aload_n 1, 1) := dk_43 (dk_at dksJ53_init_0 1 rfl rfl)
theorem dJ53_init_2 : decode cJ53_init 2 = .ok (.invokespecial 7, 3) := dk_183 0 7 (dk_at dksJ53_init_0 2 rfl rfl)
theorem dJ53_init_5 : decode cJ53_init 5 = .ok (.return_, 1) := dk_177 (dk_at dksJ53_init_0 5 rfl rfl)
theorem q195 : (Jvm.Cond.initialized "java/lang/IndexOutOfBoundsException") ∈ lw_all := lw_g (lw_at lw_m1 69 rfl) rfl
theorem q2991 : (Jvm.Cond.instanceMethod ({ cls := "java/lang/IndexOutOfBoundsException", name := "<init>", desc := "(Ljava/lang/String;)V" } : Jvm.MethodName)) ∈ lw_all := lw_g (lw_at lw_m12 225 rfl) rfl
theorem q2992 : (Jvm.Cond.code ({ cls := "java/lang/IndexOutOfBoundsException", name := "<init>", desc := "(Ljava/lang/String;)V" } : Jvm.MethodName) prog_28_method_2_code (2 : Nat) (Option.none : Option Jvm.ClassFile.FieldType)) ∈ lw_all := lw_g (lw_at lw_m12 226 rfl) rfl
theorem q2993 : (Jvm.Cond.methodLink "java/lang/IndexOutOfBoundsException" (7 : Nat) ({ cls := "java/lang/RuntimeException", name := "<init>", desc := "(Ljava/lang/String;)V" } : Jvm.MethodName)) ∈ lw_all := lw_g (lw_at lw_m12 227 rfl) rfl
theorem q3002 : (Jvm.Cond.declares ({ cls := "java/lang/IndexOutOfBoundsException", name := "<init>", desc := "()V" } : Jvm.MethodName)) ∈ lw_tbl := lw_at lw_m12 236 rfl
theorem q3003 : (Jvm.Cond.declares ({ cls := "java/lang/IndexOutOfBoundsException", name := "<init>", desc := "(Ljava/lang/String;)V" } : Jvm.MethodName)) ∈ lw_tbl := lw_at lw_m12 237 rfl
set_option maxRecDepth 100000
abbrev cJ54_init : ByteArray := prog_22_method_2_code
def yJ54_init : MethodName := ⟨RJ54, "<init>", "(Ljava/lang/String;)V"⟩
def dkwJ54_init_0 : List UInt8 := [42, 43, 183, 0, 7, 177]
abbrev dktJ54_init_0 : List UInt8 := dkwJ54_init_0 ++ []
theorem dksJ54_init_0 : cJ54_init.data.toList.drop 0 = dktJ54_init_0 := by decide +kernel
theorem dJ54_init_0 : decode cJ54_init 0 = .ok (.aload_n 0, 1) := dk_42 (dk_at dksJ54_init_0 0 rfl rfl)
theorem dJ54_init_1 : decode cJ54_init 1 = .ok (.aload_n 1, 1) := dk_43 (dk_at dksJ54_init_0 1 rfl rfl)
theorem dJ54_init_2 : decode cJ54_init 2 = .ok (.invokespecial 7, 3) := dk_183 0 7 (dk_at dksJ54_init_0 2 rfl rfl)
theorem dJ54_init_5 : decode cJ54_init 5 = .ok (.return_, 1) := dk_177 (dk_at dksJ54_init_0 5 rfl rfl)
theorem q196 : (Jvm.Cond.initialized "java/lang/ArrayIndexOutOfBoundsException") ∈ lw_all := lw_g (lw_at lw_m1 70 rfl) rfl
theorem q320 : (Jvm.Cond.selects "java/lang/ArrayIndexOutOfBoundsException" ({ cls := "java/lang/Throwable", name := "fillInStackTrace", desc := "()Ljava/lang/Throwable;" } : Jvm.MethodName) ({ cls := "java/lang/Throwable", name := "fillInStackTrace", desc := "()Ljava/lang/Throwable;" } : Jvm.MethodName)) ∈ lw_all := lw_g (lw_at lw_m1 194 rfl) rfl
theorem q971 : (Jvm.Cond.selects "java/lang/ArrayIndexOutOfBoundsException" ({ cls := "java/lang/Throwable", name := "toString", desc := "()Ljava/lang/String;" } : Jvm.MethodName) ({ cls := "java/lang/Throwable", name := "toString", desc := "()Ljava/lang/String;" } : Jvm.MethodName)) ∈ lw_all := lw_g (lw_at lw_m4 125 rfl) rfl
theorem q994 : (Jvm.Cond.selects "java/lang/ArrayIndexOutOfBoundsException" ({ cls := "java/lang/Object", name := "getClass", desc := "()Ljava/lang/Class;" } : Jvm.MethodName) ({ cls := "java/lang/Object", name := "getClass", desc := "()Ljava/lang/Class;" } : Jvm.MethodName)) ∈ lw_all := lw_g (lw_at lw_m4 148 rfl) rfl
theorem q1029 : (Jvm.Cond.selects "java/lang/ArrayIndexOutOfBoundsException" ({ cls := "java/lang/Throwable", name := "getLocalizedMessage", desc := "()Ljava/lang/String;" } : Jvm.MethodName) ({ cls := "java/lang/Throwable", name := "getLocalizedMessage", desc := "()Ljava/lang/String;" } : Jvm.MethodName)) ∈ lw_all := lw_g (lw_at lw_m4 183 rfl) rfl
theorem q1041 : (Jvm.Cond.selects "java/lang/ArrayIndexOutOfBoundsException" ({ cls := "java/lang/Throwable", name := "getMessage", desc := "()Ljava/lang/String;" } : Jvm.MethodName) ({ cls := "java/lang/Throwable", name := "getMessage", desc := "()Ljava/lang/String;" } : Jvm.MethodName)) ∈ lw_all := lw_g (lw_at lw_m4 195 rfl) rfl
theorem q2136 : (Jvm.Cond.selects "java/lang/ArrayIndexOutOfBoundsException" ({ cls := "java/lang/Object", name := "equals", desc := "(Ljava/lang/Object;)Z" } : Jvm.MethodName) ({ cls := "java/lang/Object", name := "equals", desc := "(Ljava/lang/Object;)Z" } : Jvm.MethodName)) ∈ lw_all := lw_g (lw_at lw_m9 90 rfl) rfl
theorem q2987 : (Jvm.Cond.instantiable "java/lang/ArrayIndexOutOfBoundsException" (6 : Nat)) ∈ lw_all := lw_g (lw_at lw_m12 221 rfl) rfl
theorem q2988 : (Jvm.Cond.instanceMethod ({ cls := "java/lang/ArrayIndexOutOfBoundsException", name := "<init>", desc := "(Ljava/lang/String;)V" } : Jvm.MethodName)) ∈ lw_all := lw_g (lw_at lw_m12 222 rfl) rfl
theorem q2989 : (Jvm.Cond.code ({ cls := "java/lang/ArrayIndexOutOfBoundsException", name := "<init>", desc := "(Ljava/lang/String;)V" } : Jvm.MethodName) prog_22_method_2_code (2 : Nat) (Option.none : Option Jvm.ClassFile.FieldType)) ∈ lw_all := lw_g (lw_at lw_m12 223 rfl) rfl
theorem q2990 : (Jvm.Cond.methodLink "java/lang/ArrayIndexOutOfBoundsException" (7 : Nat) ({ cls := "java/lang/IndexOutOfBoundsException", name := "<init>", desc := "(Ljava/lang/String;)V" } : Jvm.MethodName)) ∈ lw_all := lw_g (lw_at lw_m12 224 rfl) rfl
theorem q2994 : (Jvm.Cond.lays "java/lang/ArrayIndexOutOfBoundsException" "java/lang/Throwable" "backtrace" "Ljava/lang/Object;") ∈ lw_all := lw_g (lw_at lw_m12 228 rfl) rfl
theorem q2995 : (Jvm.Cond.lays "java/lang/ArrayIndexOutOfBoundsException" "java/lang/Throwable" "detailMessage" "Ljava/lang/String;") ∈ lw_all := lw_g (lw_at lw_m12 229 rfl) rfl
theorem q2996 : (Jvm.Cond.lays "java/lang/ArrayIndexOutOfBoundsException" "java/lang/Throwable" "cause" "Ljava/lang/Throwable;") ∈ lw_all := lw_g (lw_at lw_m12 230 rfl) rfl
theorem q2997 : (Jvm.Cond.lays "java/lang/ArrayIndexOutOfBoundsException" "java/lang/Throwable" "stackTrace" "[Ljava/lang/StackTraceElement;") ∈ lw_all := lw_g (lw_at lw_m12 231 rfl) rfl
theorem q2998 : (Jvm.Cond.lays "java/lang/ArrayIndexOutOfBoundsException" "java/lang/Throwable" "depth" "I") ∈ lw_all := lw_g (lw_at lw_m12 232 rfl) rfl
theorem q2999 : (Jvm.Cond.lays "java/lang/ArrayIndexOutOfBoundsException" "java/lang/Throwable" "suppressedExceptions" "Ljava/util/List;") ∈ lw_all := lw_g (lw_at lw_m12 233 rfl) rfl
theorem q3000 : (Jvm.Cond.superclass "java/lang/ArrayIndexOutOfBoundsException" "java/lang/IndexOutOfBoundsException") ∈ lw_all := lw_g (lw_at lw_m12 234 rfl) rfl
theorem q3001 : (Jvm.Cond.castable "java/lang/ArrayIndexOutOfBoundsException" "java/lang/ArrayIndexOutOfBoundsException") ∈ lw_tbl := lw_at lw_m12 235 rfl
theorem q3004 : (Jvm.Cond.selects "java/lang/ArrayIndexOutOfBoundsException" ({ cls := "java/lang/Throwable", name := "fillInStackTrace", desc := "(I)Ljava/lang/Throwable;" } : Jvm.MethodName) ({ cls := "java/lang/Throwable", name := "fillInStackTrace", desc := "(I)Ljava/lang/Throwable;" } : Jvm.MethodName)) ∈ lw_all := lw_g (lw_at lw_m12 238 rfl) rfl
theorem q3642 : (Jvm.Cond.castable "java/lang/ArrayIndexOutOfBoundsException" "java/lang/Object") ∈ lw_tbl := lw_at lw_m15 156 rfl
set_option maxRecDepth 100000
abbrev cJ55_init : ByteArray := object_method_1_code
def yJ55_init : MethodName := ⟨RJ55, "<init>", "()V"⟩
theorem dJ55_init_0 : decode cJ55_init 0 = .ok (.return_, 1) := by decide +kernel
abbrev cJ55_equals : ByteArray := object_method_4_code
def yJ55_equals : MethodName := ⟨RJ55, "equals", "(Ljava/lang/Object;)Z"⟩
def dkwJ55_equals_0 : List UInt8 := [42, 43, 166, 0, 7, 4, 167, 0, 4, 3, 172]
abbrev dktJ55_equals_0 : List UInt8 := dkwJ55_equals_0 ++ []
theorem dksJ55_equals_0 : cJ55_equals.data.toList.drop 0 = dktJ55_equals_0 := by decide +kernel
theorem dJ55_equals_0 : decode cJ55_equals 0 = .ok (.aload_n 0, 1) := dk_42 (dk_at dksJ55_equals_0 0 rfl rfl)
theorem dJ55_equals_1 : decode cJ55_equals 1 = .ok (.aload_n 1, 1) := dk_43 (dk_at dksJ55_equals_0 1 rfl rfl)
theorem dJ55_equals_2 : decode cJ55_equals 2 = .ok (.if_acmp .ne 7, 3) := dk_166 0 7 (dk_at dksJ55_equals_0 2 rfl rfl)
theorem dJ55_equals_5 : decode cJ55_equals 5 = .ok (.iconst 1, 1) := dk_4 (dk_at dksJ55_equals_0 5 rfl rfl)
theorem dJ55_equals_6 : decode cJ55_equals 6 = .ok (.goto 4, 3) := dk_167 0 4 (dk_at dksJ55_equals_0 6 rfl rfl)
theorem dJ55_equals_9 : decode cJ55_equals 9 = .ok (.iconst 0, 1) := dk_3 (dk_at dksJ55_equals_0 9 rfl rfl)
theorem dJ55_equals_10 : decode cJ55_equals 10 = .ok (.ireturn, 1) := dk_172 (dk_at dksJ55_equals_0 10 rfl rfl)
theorem q204 : (Jvm.Cond.instanceMethod ({ cls := "java/lang/Object", name := "<init>", desc := "()V" } : Jvm.MethodName)) ∈ lw_all := lw_g (lw_at lw_m1 78 rfl) rfl
theorem q205 : (Jvm.Cond.code ({ cls := "java/lang/Object", name := "<init>", desc := "()V" } : Jvm.MethodName) object_method_1_code (1 : Nat) (Option.none : Option Jvm.ClassFile.FieldType)) ∈ lw_all := lw_g (lw_at lw_m1 79 rfl) rfl
theorem q436 : (Jvm.Cond.native ({ cls := "java/lang/Object", name := "clone", desc := "()Ljava/lang/Object;" } : Jvm.MethodName)) ∈ lw_all := lw_g (lw_at lw_m2 70 rfl) rfl
theorem q437 : (Jvm.Cond.instanceMethod ({ cls := "java/lang/Object", name := "clone", desc := "()Ljava/lang/Object;" } : Jvm.MethodName)) ∈ lw_all := lw_g (lw_at lw_m2 71 rfl) rfl
theorem q979 : (Jvm.Cond.instanceMethod ({ cls := "java/lang/Object", name := "getClass", desc := "()Ljava/lang/Class;" } : Jvm.MethodName)) ∈ lw_all := lw_g (lw_at lw_m4 133 rfl) rfl
theorem q980 : (Jvm.Cond.sameMethod "java/lang/Object" "java/lang/Object" "getClass" "()Ljava/lang/Class;") ∈ lw_all := lw_g (lw_at lw_m4 134 rfl) rfl
theorem q1023 : (Jvm.Cond.native ({ cls := "java/lang/Object", name := "getClass", desc := "()Ljava/lang/Class;" } : Jvm.MethodName)) ∈ lw_all := lw_g (lw_at lw_m4 177 rfl) rfl
theorem q2119 : (Jvm.Cond.declares ({ cls := "java/lang/Object", name := "equals", desc := "(Ljava/lang/Object;)Z" } : Jvm.MethodName)) ∈ lw_tbl := lw_at lw_m9 73 rfl
theorem q2121 : (Jvm.Cond.instanceMethod ({ cls := "java/lang/Object", name := "equals", desc := "(Ljava/lang/Object;)Z" } : Jvm.MethodName)) ∈ lw_all := lw_g (lw_at lw_m9 75 rfl) rfl
theorem q2122 : (Jvm.Cond.sameMethod "java/lang/Object" "java/lang/Object" "equals" "(Ljava/lang/Object;)Z") ∈ lw_all := lw_g (lw_at lw_m9 76 rfl) rfl
theorem q2152 : (Jvm.Cond.code ({ cls := "java/lang/Object", name := "equals", desc := "(Ljava/lang/Object;)Z" } : Jvm.MethodName) object_method_4_code (2 : Nat) (Option.some Jvm.ClassFile.FieldType.boolean)) ∈ lw_all := lw_g (lw_at lw_m9 106 rfl) rfl
theorem q3601 : (Jvm.Cond.initialized "java/lang/Object") ∈ lw_all := lw_g (lw_at lw_m15 115 rfl) rfl
theorem q3647 : (Jvm.Cond.declares ({ cls := "java/lang/Object", name := "getClass", desc := "()Ljava/lang/Class;" } : Jvm.MethodName)) ∈ lw_tbl := lw_at lw_m15 161 rfl
theorem q3663 : (Jvm.Cond.instantiable "java/lang/Object" (0 : Nat)) ∈ lw_all := lw_g (lw_at lw_m15 177 rfl) rfl
