set_option maxRecDepth 100000
theorem q303 : (Jvm.Cond.initialized "java/lang/Throwable") ∈ lw_all := lw_g (lw_at lw_m1 2 rfl) rfl
theorem q393 : (Jvm.Cond.declares ({ cls := "java/lang/Throwable", name := "<init>", desc := "()V" } : Jvm.MethodName)) ∈ lw_tbl := lw_at lw_m1 92 rfl
theorem q394 : (Jvm.Cond.declares ({ cls := "java/lang/Throwable", name := "<init>", desc := "(Ljava/lang/String;)V" } : Jvm.MethodName)) ∈ lw_tbl := lw_at lw_m1 93 rfl
theorem q398 : (Jvm.Cond.lays "java/lang/Throwable" "java/lang/Throwable" "cause" "Ljava/lang/Throwable;") ∈ lw_all := lw_g (lw_at lw_m1 97 rfl) rfl
theorem q400 : (Jvm.Cond.lays "java/lang/Throwable" "java/lang/Throwable" "stackTrace" "[Ljava/lang/StackTraceElement;") ∈ lw_all := lw_g (lw_at lw_m1 99 rfl) rfl
theorem q402 : (Jvm.Cond.lays "java/lang/Throwable" "java/lang/Throwable" "suppressedExceptions" "Ljava/util/List;") ∈ lw_all := lw_g (lw_at lw_m1 101 rfl) rfl
theorem q404 : (Jvm.Cond.lays "java/lang/Throwable" "java/lang/Throwable" "detailMessage" "Ljava/lang/String;") ∈ lw_all := lw_g (lw_at lw_m1 103 rfl) rfl
theorem q406 : (Jvm.Cond.lays "java/lang/Throwable" "java/lang/Throwable" "backtrace" "Ljava/lang/Object;") ∈ lw_all := lw_g (lw_at lw_m1 105 rfl) rfl
theorem q407 : (Jvm.Cond.fieldLink "java/lang/Throwable" (198 : Nat) "java/lang/Throwable" "backtrace" "Ljava/lang/Object;") ∈ lw_all := lw_g (lw_at lw_m1 106 rfl) rfl
theorem q408 : (Jvm.Cond.superclass "java/lang/Throwable" "java/lang/Object") ∈ lw_all := lw_g (lw_at lw_m1 107 rfl) rfl
theorem q409 : (Jvm.Cond.instanceMethod ({ cls := "java/lang/Throwable", name := "<init>", desc := "()V" } : Jvm.MethodName)) ∈ lw_all := lw_g (lw_at lw_m1 108 rfl) rfl
theorem q410 : (Jvm.Cond.code ({ cls := "java/lang/Throwable", name := "<init>", desc := "()V" } : Jvm.MethodName) prog_72_method_1_code (1 : Nat) (Option.none : Option Jvm.ClassFile.FieldType)) ∈ lw_all := lw_g (lw_at lw_m1 109 rfl) rfl
theorem q411 : (Jvm.Cond.methodLink "java/lang/Throwable" (1 : Nat) ({ cls := "java/lang/Object", name := "<init>", desc := "()V" } : Jvm.MethodName)) ∈ lw_all := lw_g (lw_at lw_m1 110 rfl) rfl
theorem q412 : (Jvm.Cond.fieldLink "java/lang/Throwable" (13 : Nat) "java/lang/Throwable" "UNASSIGNED_STACK" "[Ljava/lang/StackTraceElement;") ∈ lw_all := lw_g (lw_at lw_m1 111 rfl) rfl
theorem q413 : (Jvm.Cond.laysStatic "java/lang/Throwable" "UNASSIGNED_STACK" "[Ljava/lang/StackTraceElement;") ∈ lw_tbl := lw_at lw_m1 112 rfl
theorem q414 : (Jvm.Cond.fieldLink "java/lang/Throwable" (20 : Nat) "java/lang/Throwable" "SUPPRESSED_SENTINEL" "Ljava/util/List;") ∈ lw_all := lw_g (lw_at lw_m1 113 rfl) rfl
theorem q415 : (Jvm.Cond.laysStatic "java/lang/Throwable" "SUPPRESSED_SENTINEL" "Ljava/util/List;") ∈ lw_tbl := lw_at lw_m1 114 rfl
theorem q416 : (Jvm.Cond.methodLink "java/lang/Throwable" (27 : Nat) ({ cls := "java/lang/Throwable", name := "fillInStackTrace", desc := "()Ljava/lang/Throwable;" } : Jvm.MethodName)) ∈ lw_all := lw_g (lw_at lw_m1 115 rfl) rfl
theorem q417 : (Jvm.Cond.instanceMethod ({ cls := "java/lang/Throwable", name := "fillInStackTrace", desc := "()Ljava/lang/Throwable;" } : Jvm.MethodName)) ∈ lw_all := lw_g (lw_at lw_m1 116 rfl) rfl
theorem q418 : (Jvm.Cond.sameMethod "java/lang/Throwable" "java/lang/Throwable" "fillInStackTrace" "()Ljava/lang/Throwable;") ∈ lw_all := lw_g (lw_at lw_m1 117 rfl) rfl
theorem q426 : (Jvm.Cond.codeSync ({ cls := "java/lang/Throwable", name := "fillInStackTrace", desc := "()Ljava/lang/Throwable;" } : Jvm.MethodName) prog_72_method_18_code (1 : Nat) (Option.some (Jvm.ClassFile.FieldType.object "java/lang/Throwable"))) ∈ lw_all := lw_g (lw_at lw_m1 125 rfl) rfl
theorem q427 : (Jvm.Cond.methodLink "java/lang/Throwable" (202 : Nat) ({ cls := "java/lang/Throwable", name := "fillInStackTrace", desc := "(I)Ljava/lang/Throwable;" } : Jvm.MethodName)) ∈ lw_all := lw_g (lw_at lw_m1 126 rfl) rfl
theorem q428 : (Jvm.Cond.privateMethod ({ cls := "java/lang/Throwable", name := "fillInStackTrace", desc := "(I)Ljava/lang/Throwable;" } : Jvm.MethodName)) ∈ lw_tbl := lw_at lw_m1 127 rfl
theorem q429 : (Jvm.Cond.instanceMethod ({ cls := "java/lang/Throwable", name := "fillInStackTrace", desc := "(I)Ljava/lang/Throwable;" } : Jvm.MethodName)) ∈ lw_all := lw_g (lw_at lw_m1 128 rfl) rfl
theorem q430 : (Jvm.Cond.instantiable "java/lang/Throwable" (6 : Nat)) ∈ lw_all := lw_g (lw_at lw_m1 129 rfl) rfl
theorem q431 : (Jvm.Cond.native ({ cls := "java/lang/Throwable", name := "fillInStackTrace", desc := "(I)Ljava/lang/Throwable;" } : Jvm.MethodName)) ∈ lw_all := lw_g (lw_at lw_m1 130 rfl) rfl
theorem q442 : (Jvm.Cond.instanceMethod ({ cls := "java/lang/Throwable", name := "<init>", desc := "(Ljava/lang/String;Ljava/lang/Throwable;ZZ)V" } : Jvm.MethodName)) ∈ lw_all := lw_g (lw_at lw_m1 141 rfl) rfl
theorem q443 : (Jvm.Cond.code ({ cls := "java/lang/Throwable", name := "<init>", desc := "(Ljava/lang/String;Ljava/lang/Throwable;ZZ)V" } : Jvm.MethodName) prog_72_method_5_code (5 : Nat) (Option.none : Option Jvm.ClassFile.FieldType)) ∈ lw_all := lw_g (lw_at lw_m1 142 rfl) rfl
theorem q446 : (Jvm.Cond.fieldLink "java/lang/Throwable" (198 : Nat) "java/lang/Throwable" "backtrace" "Ljava/lang/Object;") ∈ lw_all := lw_g (lw_at lw_m1 145 rfl) rfl
theorem q447 : (Jvm.Cond.fieldLink "java/lang/Throwable" (31 : Nat) "java/lang/Throwable" "detailMessage" "Ljava/lang/String;") ∈ lw_all := lw_g (lw_at lw_m1 146 rfl) rfl
theorem q448 : (Jvm.Cond.fieldLink "java/lang/Throwable" (7 : Nat) "java/lang/Throwable" "cause" "Ljava/lang/Throwable;") ∈ lw_all := lw_g (lw_at lw_m1 147 rfl) rfl
theorem q449 : (Jvm.Cond.fieldLink "java/lang/Throwable" (17 : Nat) "java/lang/Throwable" "stackTrace" "[Ljava/lang/StackTraceElement;") ∈ lw_all := lw_g (lw_at lw_m1 148 rfl) rfl
theorem q450 : (Jvm.Cond.fieldLink "java/lang/Throwable" (24 : Nat) "java/lang/Throwable" "suppressedExceptions" "Ljava/util/List;") ∈ lw_all := lw_g (lw_at lw_m1 149 rfl) rfl
theorem q453 : (Jvm.Cond.soleField "java/lang/Throwable" "backtrace") ∈ lw_all := lw_g (lw_at lw_m1 152 rfl) rfl
theorem q454 : (Jvm.Cond.soleField "java/lang/Throwable" "detailMessage") ∈ lw_all := lw_g (lw_at lw_m1 153 rfl) rfl
theorem q455 : (Jvm.Cond.soleField "java/lang/Throwable" "cause") ∈ lw_all := lw_g (lw_at lw_m1 154 rfl) rfl
theorem q456 : (Jvm.Cond.soleField "java/lang/Throwable" "stackTrace") ∈ lw_all := lw_g (lw_at lw_m1 155 rfl) rfl
theorem q458 : (Jvm.Cond.soleField "java/lang/Throwable" "depth") ∈ lw_all := lw_g (lw_at lw_m1 157 rfl) rfl
theorem q459 : (Jvm.Cond.soleField "java/lang/Throwable" "suppressedExceptions") ∈ lw_all := lw_g (lw_at lw_m1 158 rfl) rfl
theorem q2284 : (Jvm.Cond.instanceMethod ({ cls := "java/lang/Throwable", name := "<init>", desc := "(Ljava/lang/String;)V" } : Jvm.MethodName)) ∈ lw_all := lw_g (lw_at lw_m9 63 rfl) rfl
theorem q2285 : (Jvm.Cond.code ({ cls := "java/lang/Throwable", name := "<init>", desc := "(Ljava/lang/String;)V" } : Jvm.MethodName) prog_72_method_2_code (2 : Nat) (Option.none : Option Jvm.ClassFile.FieldType)) ∈ lw_all := lw_g (lw_at lw_m9 64 rfl) rfl
theorem q5454 : (Jvm.Cond.sameMethod "java/lang/Throwable" "java/lang/Throwable" "fillInStackTrace" "(I)Ljava/lang/Throwable;") ∈ lw_all := lw_g (lw_at lw_m22 113 rfl) rfl
theorem q5569 : (Jvm.Cond.castable "java/lang/Throwable" "java/lang/Object") ∈ lw_tbl := lw_at lw_m22 228 rfl
theorem q304 : (Jvm.Cond.initialized "java/lang/Exception") ∈ lw_all := lw_g (lw_at lw_m1 3 rfl) rfl
theorem q391 : (Jvm.Cond.declares ({ cls := "java/lang/Exception", name := "<init>", desc := "()V" } : Jvm.MethodName)) ∈ lw_tbl := lw_at lw_m1 90 rfl
theorem q392 : (Jvm.Cond.declares ({ cls := "java/lang/Exception", name := "<init>", desc := "(Ljava/lang/String;)V" } : Jvm.MethodName)) ∈ lw_tbl := lw_at lw_m1 91 rfl
theorem q439 : (Jvm.Cond.instanceMethod ({ cls := "java/lang/Exception", name := "<init>", desc := "(Ljava/lang/String;Ljava/lang/Throwable;ZZ)V" } : Jvm.MethodName)) ∈ lw_all := lw_g (lw_at lw_m1 138 rfl) rfl
theorem q440 : (Jvm.Cond.code ({ cls := "java/lang/Exception", name := "<init>", desc := "(Ljava/lang/String;Ljava/lang/Throwable;ZZ)V" } : Jvm.MethodName) prog_58_method_5_code (5 : Nat) (Option.none : Option Jvm.ClassFile.FieldType)) ∈ lw_all := lw_g (lw_at lw_m1 139 rfl) rfl
theorem q441 : (Jvm.Cond.methodLink "java/lang/Exception" (16 : Nat) ({ cls := "java/lang/Throwable", name := "<init>", desc := "(Ljava/lang/String;Ljava/lang/Throwable;ZZ)V" } : Jvm.MethodName)) ∈ lw_all := lw_g (lw_at lw_m1 140 rfl) rfl
theorem q2281 : (Jvm.Cond.instanceMethod ({ cls := "java/lang/Exception", name := "<init>", desc := "(Ljava/lang/String;)V" } : Jvm.MethodName)) ∈ lw_all := lw_g (lw_at lw_m9 60 rfl) rfl
theorem q2282 : (Jvm.Cond.code ({ cls := "java/lang/Exception", name := "<init>", desc := "(Ljava/lang/String;)V" } : Jvm.MethodName) prog_58_method_2_code (2 : Nat) (Option.none : Option Jvm.ClassFile.FieldType)) ∈ lw_all := lw_g (lw_at lw_m9 61 rfl) rfl
theorem q2283 : (Jvm.Cond.methodLink "java/lang/Exception" (7 : Nat) ({ cls := "java/lang/Throwable", name := "<init>", desc := "(Ljava/lang/String;)V" } : Jvm.MethodName)) ∈ lw_all := lw_g (lw_at lw_m9 62 rfl) rfl
theorem q2906 : (Jvm.Cond.instanceMethod ({ cls := "java/lang/Exception", name := "<init>", desc := "()V" } : Jvm.MethodName)) ∈ lw_all := lw_g (lw_at lw_m11 205 rfl) rfl
theorem q2907 : (Jvm.Cond.code ({ cls := "java/lang/Exception", name := "<init>", desc := "()V" } : Jvm.MethodName) prog_58_method_1_code (1 : Nat) (Option.none : Option Jvm.ClassFile.FieldType)) ∈ lw_all := lw_g (lw_at lw_m11 206 rfl) rfl
theorem q2908 : (Jvm.Cond.methodLink "java/lang/Exception" (1 : Nat) ({ cls := "java/lang/Throwable", name := "<init>", desc := "()V" } : Jvm.MethodName)) ∈ lw_all := lw_g (lw_at lw_m11 207 rfl) rfl
theorem q327 : (Jvm.Cond.initialized "jdk/internal/util/Preconditions") ∈ lw_all := lw_g (lw_at lw_m1 26 rfl) rfl
theorem q1146 : (Jvm.Cond.static ({ cls := "jdk/internal/util/Preconditions", name := "checkIndex", desc := "(IILjava/util/function/BiFunction;)I" } : Jvm.MethodName)) ∈ lw_all := lw_g (lw_at lw_m4 125 rfl) rfl
theorem q1147 : (Jvm.Cond.code ({ cls := "jdk/internal/util/Preconditions", name := "checkIndex", desc := "(IILjava/util/function/BiFunction;)I" } : Jvm.MethodName) prog_84_method_11_code (3 : Nat) (Option.some Jvm.ClassFile.FieldType.int)) ∈ lw_all := lw_g (lw_at lw_m4 126 rfl) rfl
theorem q1416 : (Jvm.Cond.laysStatic "jdk/internal/util/Preconditions" "SIOOBE_FORMATTER" "Ljava/util/function/BiFunction;") ∈ lw_tbl := lw_at lw_m5 155 rfl
theorem q2166 : (Jvm.Cond.static ({ cls := "jdk/internal/util/Preconditions", name := "checkFromToIndex", desc := "(IIILjava/util/function/BiFunction;)I" } : Jvm.MethodName)) ∈ lw_all := lw_g (lw_at lw_m8 185 rfl) rfl
theorem q2167 : (Jvm.Cond.code ({ cls := "jdk/internal/util/Preconditions", name := "checkFromToIndex", desc := "(IIILjava/util/function/BiFunction;)I" } : Jvm.MethodName) prog_84_method_12_code (4 : Nat) (Option.some Jvm.ClassFile.FieldType.int)) ∈ lw_all := lw_g (lw_at lw_m8 186 rfl) rfl
theorem q2198 : (Jvm.Cond.static ({ cls := "jdk/internal/util/Preconditions", name := "checkFromIndexSize", desc := "(IIILjava/util/function/BiFunction;)I" } : Jvm.MethodName)) ∈ lw_all := lw_g (lw_at lw_m8 217 rfl) rfl
theorem q2199 : (Jvm.Cond.code ({ cls := "jdk/internal/util/Preconditions", name := "checkFromIndexSize", desc := "(IIILjava/util/function/BiFunction;)I" } : Jvm.MethodName) prog_84_method_13_code (4 : Nat) (Option.some Jvm.ClassFile.FieldType.int)) ∈ lw_all := lw_g (lw_at lw_m8 218 rfl) rfl
theorem q332 : (Jvm.Cond.initialized "java/lang/String") ∈ lw_all := lw_g (lw_at lw_m1 31 rfl) rfl
theorem q1114 : (Jvm.Cond.selects "java/lang/String" ({ cls := "java/lang/Object", name := "getClass", desc := "()Ljava/lang/Class;" } : Jvm.MethodName) ({ cls := "java/lang/Object", name := "getClass", desc := "()Ljava/lang/Class;" } : Jvm.MethodName)) ∈ lw_all := lw_g (lw_at lw_m4 93 rfl) rfl
theorem q1392 : (Jvm.Cond.instanceMethod ({ cls := "java/lang/String", name := "length", desc := "()I" } : Jvm.MethodName)) ∈ lw_all := lw_g (lw_at lw_m5 131 rfl) rfl
theorem q1393 : (Jvm.Cond.selects "java/lang/String" ({ cls := "java/lang/String", name := "length", desc := "()I" } : Jvm.MethodName) ({ cls := "java/lang/String", name := "length", desc := "()I" } : Jvm.MethodName)) ∈ lw_all := lw_g (lw_at lw_m5 132 rfl) rfl
theorem q1394 : (Jvm.Cond.code ({ cls := "java/lang/String", name := "length", desc := "()I" } : Jvm.MethodName) prog_67_method_54_code (1 : Nat) (Option.some Jvm.ClassFile.FieldType.int)) ∈ lw_all := lw_g (lw_at lw_m5 133 rfl) rfl
theorem q1395 : (Jvm.Cond.methodLink "java/lang/String" (335 : Nat) ({ cls := "java/lang/String", name := "coder", desc := "()B" } : Jvm.MethodName)) ∈ lw_all := lw_g (lw_at lw_m5 134 rfl) rfl
theorem q1396 : (Jvm.Cond.instanceMethod ({ cls := "java/lang/String", name := "coder", desc := "()B" } : Jvm.MethodName)) ∈ lw_all := lw_g (lw_at lw_m5 135 rfl) rfl
theorem q1397 : (Jvm.Cond.selects "java/lang/String" ({ cls := "java/lang/String", name := "coder", desc := "()B" } : Jvm.MethodName) ({ cls := "java/lang/String", name := "coder", desc := "()B" } : Jvm.MethodName)) ∈ lw_all := lw_g (lw_at lw_m5 136 rfl) rfl
theorem q1398 : (Jvm.Cond.code ({ cls := "java/lang/String", name := "coder", desc := "()B" } : Jvm.MethodName) prog_67_method_152_code (1 : Nat) (Option.some Jvm.ClassFile.FieldType.byte)) ∈ lw_all := lw_g (lw_at lw_m5 137 rfl) rfl
theorem q1399 : (Jvm.Cond.fieldLink "java/lang/String" (38 : Nat) "java/lang/String" "COMPACT_STRINGS" "Z") ∈ lw_all := lw_g (lw_at lw_m5 138 rfl) rfl
theorem q1400 : (Jvm.Cond.laysStatic "java/lang/String" "COMPACT_STRINGS" "Z") ∈ lw_tbl := lw_at lw_m5 139 rfl
theorem q1402 : (Jvm.Cond.instanceMethod ({ cls := "java/lang/String", name := "charAt", desc := "(I)C" } : Jvm.MethodName)) ∈ lw_all := lw_g (lw_at lw_m5 141 rfl) rfl
theorem q1403 : (Jvm.Cond.selects "java/lang/String" ({ cls := "java/lang/String", name := "charAt", desc := "(I)C" } : Jvm.MethodName) ({ cls := "java/lang/String", name := "charAt", desc := "(I)C" } : Jvm.MethodName)) ∈ lw_all := lw_g (lw_at lw_m5 142 rfl) rfl
theorem q1404 : (Jvm.Cond.code ({ cls := "java/lang/String", name := "charAt", desc := "(I)C" } : Jvm.MethodName) prog_67_method_56_code (2 : Nat) (Option.some Jvm.ClassFile.FieldType.char)) ∈ lw_all := lw_g (lw_at lw_m5 143 rfl) rfl
theorem q1405 : (Jvm.Cond.methodLink "java/lang/String" (492 : Nat) ({ cls := "java/lang/String", name := "isLatin1", desc := "()Z" } : Jvm.MethodName)) ∈ lw_all := lw_g (lw_at lw_m5 144 rfl) rfl
theorem q1406 : (Jvm.Cond.instanceMethod ({ cls := "java/lang/String", name := "isLatin1", desc := "()Z" } : Jvm.MethodName)) ∈ lw_all := lw_g (lw_at lw_m5 145 rfl) rfl
theorem q1407 : (Jvm.Cond.selects "java/lang/String" ({ cls := "java/lang/String", name := "isLatin1", desc := "()Z" } : Jvm.MethodName) ({ cls := "java/lang/String", name := "isLatin1", desc := "()Z" } : Jvm.MethodName)) ∈ lw_all := lw_g (lw_at lw_m5 146 rfl) rfl
theorem q1408 : (Jvm.Cond.code ({ cls := "java/lang/String", name := "isLatin1", desc := "()Z" } : Jvm.MethodName) prog_67_method_154_code (1 : Nat) (Option.some Jvm.ClassFile.FieldType.boolean)) ∈ lw_all := lw_g (lw_at lw_m5 147 rfl) rfl
theorem q1409 : (Jvm.Cond.methodLink "java/lang/String" (495 : Nat) ({ cls := "java/lang/StringLatin1", name := "charAt", desc := "([BI)C" } : Jvm.MethodName)) ∈ lw_all := lw_g (lw_at lw_m5 148 rfl) rfl
theorem q1413 : (Jvm.Cond.static ({ cls := "java/lang/String", name := "checkIndex", desc := "(II)V" } : Jvm.MethodName)) ∈ lw_all := lw_g (lw_at lw_m5 152 rfl) rfl
theorem q1414 : (Jvm.Cond.code ({ cls := "java/lang/String", name := "checkIndex", desc := "(II)V" } : Jvm.MethodName) prog_67_method_155_code (2 : Nat) (Option.none : Option Jvm.ClassFile.FieldType)) ∈ lw_all := lw_g (lw_at lw_m5 153 rfl) rfl
theorem q1415 : (Jvm.Cond.fieldLink "java/lang/String" (1053 : Nat) "jdk/internal/util/Preconditions" "SIOOBE_FORMATTER" "Ljava/util/function/BiFunction;") ∈ lw_all := lw_g (lw_at lw_m5 154 rfl) rfl
theorem q1417 : (Jvm.Cond.methodLink "java/lang/String" (1059 : Nat) ({ cls := "jdk/internal/util/Preconditions", name := "checkIndex", desc := "(IILjava/util/function/BiFunction;)I" } : Jvm.MethodName)) ∈ lw_all := lw_g (lw_at lw_m5 156 rfl) rfl
theorem q1418 : (Jvm.Cond.methodLink "java/lang/String" (498 : Nat) ({ cls := "java/lang/StringUTF16", name := "charAt", desc := "([BI)C" } : Jvm.MethodName)) ∈ lw_all := lw_g (lw_at lw_m5 157 rfl) rfl
theorem q2117 : (Jvm.Cond.fieldLink "java/lang/String" (1048 : Nat) "java/lang/AbstractStringBuilder" "maybeLatin1" "Z") ∈ lw_all := lw_g (lw_at lw_m8 136 rfl) rfl
theorem q2163 : (Jvm.Cond.static ({ cls := "java/lang/String", name := "checkBoundsBeginEnd", desc := "(III)V" } : Jvm.MethodName)) ∈ lw_all := lw_g (lw_at lw_m8 182 rfl) rfl
theorem q2164 : (Jvm.Cond.code ({ cls := "java/lang/String", name := "checkBoundsBeginEnd", desc := "(III)V" } : Jvm.MethodName) prog_67_method_158_code (3 : Nat) (Option.none : Option Jvm.ClassFile.FieldType)) ∈ lw_all := lw_g (lw_at lw_m8 183 rfl) rfl
theorem q2165 : (Jvm.Cond.methodLink "java/lang/String" (1062 : Nat) ({ cls := "jdk/internal/util/Preconditions", name := "checkFromToIndex", desc := "(IIILjava/util/function/BiFunction;)I" } : Jvm.MethodName)) ∈ lw_all := lw_g (lw_at lw_m8 184 rfl) rfl
theorem q2195 : (Jvm.Cond.static ({ cls := "java/lang/String", name := "checkBoundsOffCount", desc := "(III)I" } : Jvm.MethodName)) ∈ lw_all := lw_g (lw_at lw_m8 214 rfl) rfl
theorem q2196 : (Jvm.Cond.code ({ cls := "java/lang/String", name := "checkBoundsOffCount", desc := "(III)I" } : Jvm.MethodName) prog_67_method_157_code (3 : Nat) (Option.some Jvm.ClassFile.FieldType.int)) ∈ lw_all := lw_g (lw_at lw_m8 215 rfl) rfl
theorem q2197 : (Jvm.Cond.methodLink "java/lang/String" (1065 : Nat) ({ cls := "jdk/internal/util/Preconditions", name := "checkFromIndexSize", desc := "(IIILjava/util/function/BiFunction;)I" } : Jvm.MethodName)) ∈ lw_all := lw_g (lw_at lw_m8 216 rfl) rfl
theorem q2201 : (Jvm.Cond.instanceMethod ({ cls := "java/lang/String", name := "getBytes", desc := "([BIB)V" } : Jvm.MethodName)) ∈ lw_all := lw_g (lw_at lw_m8 220 rfl) rfl
theorem q2202 : (Jvm.Cond.selects "java/lang/String" ({ cls := "java/lang/String", name := "getBytes", desc := "([BIB)V" } : Jvm.MethodName) ({ cls := "java/lang/String", name := "getBytes", desc := "([BIB)V" } : Jvm.MethodName)) ∈ lw_all := lw_g (lw_at lw_m8 221 rfl) rfl
theorem q2203 : (Jvm.Cond.code ({ cls := "java/lang/String", name := "getBytes", desc := "([BIB)V" } : Jvm.MethodName) prog_67_method_147_code (4 : Nat) (Option.none : Option Jvm.ClassFile.FieldType)) ∈ lw_all := lw_g (lw_at lw_m8 222 rfl) rfl
theorem q2204 : (Jvm.Cond.methodLink "java/lang/String" (212 : Nat) ({ cls := "java/lang/System", name := "arraycopy", desc := "(Ljava/lang/Object;ILjava/lang/Object;II)V" } : Jvm.MethodName)) ∈ lw_all := lw_g (lw_at lw_m8 223 rfl) rfl
theorem q2205 : (Jvm.Cond.methodLink "java/lang/String" (106 : Nat) ({ cls := "java/lang/StringLatin1", name := "inflate", desc := "([BI[BII)V" } : Jvm.MethodName)) ∈ lw_all := lw_g (lw_at lw_m8 224 rfl) rfl
theorem q2236 : (Jvm.Cond.instantiable "java/lang/String" (4 : Nat)) ∈ lw_all := lw_g (lw_at lw_m9 15 rfl) rfl
theorem q2238 : (Jvm.Cond.instanceMethod ({ cls := "java/lang/String", name := "<init>", desc := "(Ljava/lang/StringBuilder;)V" } : Jvm.MethodName)) ∈ lw_all := lw_g (lw_at lw_m9 17 rfl) rfl
theorem q2239 : (Jvm.Cond.code ({ cls := "java/lang/String", name := "<init>", desc := "(Ljava/lang/StringBuilder;)V" } : Jvm.MethodName) prog_67_method_53_code (2 : Nat) (Option.none : Option Jvm.ClassFile.FieldType)) ∈ lw_all := lw_g (lw_at lw_m9 18 rfl) rfl
theorem q2240 : (Jvm.Cond.methodLink "java/lang/String" (489 : Nat) ({ cls := "java/lang/String", name := "<init>", desc := "(Ljava/lang/AbstractStringBuilder;Ljava/lang/Void;)V" } : Jvm.MethodName)) ∈ lw_all := lw_g (lw_at lw_m9 19 rfl) rfl
theorem q2241 : (Jvm.Cond.instanceMethod ({ cls := "java/lang/String", name := "<init>", desc := "(Ljava/lang/AbstractStringBuilder;Ljava/lang/Void;)V" } : Jvm.MethodName)) ∈ lw_all := lw_g (lw_at lw_m9 20 rfl) rfl
theorem q2242 : (Jvm.Cond.code ({ cls := "java/lang/String", name := "<init>", desc := "(Ljava/lang/AbstractStringBuilder;Ljava/lang/Void;)V" } : Jvm.MethodName) prog_67_method_150_code (5 : Nat) (Option.none : Option Jvm.ClassFile.FieldType)) ∈ lw_all := lw_g (lw_at lw_m9 21 rfl) rfl
theorem q2243 : (Jvm.Cond.methodLink "java/lang/String" (1 : Nat) ({ cls := "java/lang/Object", name := "<init>", desc := "()V" } : Jvm.MethodName)) ∈ lw_all := lw_g (lw_at lw_m9 22 rfl) rfl
theorem q2244 : (Jvm.Cond.methodLink "java/lang/String" (552 : Nat) ({ cls := "java/lang/AbstractStringBuilder", name := "getValue", desc := "()[B" } : Jvm.MethodName)) ∈ lw_all := lw_g (lw_at lw_m9 23 rfl) rfl
theorem q2249 : (Jvm.Cond.methodLink "java/lang/String" (549 : Nat) ({ cls := "java/lang/AbstractStringBuilder", name := "length", desc := "()I" } : Jvm.MethodName)) ∈ lw_all := lw_g (lw_at lw_m9 28 rfl) rfl
theorem q2257 : (Jvm.Cond.methodLink "java/lang/String" (1047 : Nat) ({ cls := "java/lang/AbstractStringBuilder", name := "isLatin1", desc := "()Z" } : Jvm.MethodName)) ∈ lw_all := lw_g (lw_at lw_m9 36 rfl) rfl
theorem q2258 : (Jvm.Cond.methodLink "java/lang/String" (54 : Nat) ({ cls := "java/util/Arrays", name := "copyOfRange", desc := "([BII)[B" } : Jvm.MethodName)) ∈ lw_all := lw_g (lw_at lw_m9 37 rfl) rfl
theorem q2288 : (Jvm.Cond.methodLink "java/lang/String" (1051 : Nat) ({ cls := "java/lang/StringUTF16", name := "compress", desc := "([BII)[B" } : Jvm.MethodName)) ∈ lw_all := lw_g (lw_at lw_m9 67 rfl) rfl
theorem q2295 : (Jvm.Cond.methodLink "java/lang/String" (47 : Nat) ({ cls := "java/lang/StringUTF16", name := "coderFromArrayLen", desc := "([BI)B" } : Jvm.MethodName)) ∈ lw_all := lw_g (lw_at lw_m9 74 rfl) rfl
theorem q2298 : (Jvm.Cond.fieldLink "java/lang/String" (9 : Nat) "java/lang/String" "value" "[B") ∈ lw_all := lw_g (lw_at lw_m9 77 rfl) rfl
theorem q2299 : (Jvm.Cond.fieldLink "java/lang/String" (15 : Nat) "java/lang/String" "coder" "B") ∈ lw_all := lw_g (lw_at lw_m9 78 rfl) rfl
theorem q2300 : (Jvm.Cond.laysFinal "java/lang/String" "java/lang/String" "value" "[B") ∈ lw_all := lw_g (lw_at lw_m9 79 rfl) rfl
theorem q2301 : (Jvm.Cond.soleField "java/lang/String" "value") ∈ lw_all := lw_g (lw_at lw_m9 80 rfl) rfl
theorem q2302 : (Jvm.Cond.laysFinal "java/lang/String" "java/lang/String" "coder" "B") ∈ lw_all := lw_g (lw_at lw_m9 81 rfl) rfl
theorem q2303 : (Jvm.Cond.soleField "java/lang/String" "coder") ∈ lw_all := lw_g (lw_at lw_m9 82 rfl) rfl
theorem q2304 : (Jvm.Cond.lays "java/lang/String" "java/lang/String" "hash" "I") ∈ lw_all := lw_g (lw_at lw_m9 83 rfl) rfl
theorem q2305 : (Jvm.Cond.soleField "java/lang/String" "hash") ∈ lw_all := lw_g (lw_at lw_m9 84 rfl) rfl
theorem q2306 : (Jvm.Cond.lays "java/lang/String" "java/lang/String" "hashIsZero" "Z") ∈ lw_all := lw_g (lw_at lw_m9 85 rfl) rfl
theorem q2307 : (Jvm.Cond.soleField "java/lang/String" "hashIsZero") ∈ lw_all := lw_g (lw_at lw_m9 86 rfl) rfl
theorem q2308 : (Jvm.Cond.superclass "java/lang/String" "java/lang/Object") ∈ lw_all := lw_g (lw_at lw_m9 87 rfl) rfl
theorem q5546 : (Jvm.Cond.castable "java/lang/String" "java/lang/Object") ∈ lw_tbl := lw_at lw_m22 205 rfl
theorem q333 : (Jvm.Cond.initialized "java/lang/StringLatin1") ∈ lw_all := lw_g (lw_at lw_m1 32 rfl) rfl
theorem q1410 : (Jvm.Cond.static ({ cls := "java/lang/StringLatin1", name := "charAt", desc := "([BI)C" } : Jvm.MethodName)) ∈ lw_all := lw_g (lw_at lw_m5 149 rfl) rfl
theorem q1411 : (Jvm.Cond.code ({ cls := "java/lang/StringLatin1", name := "charAt", desc := "([BI)C" } : Jvm.MethodName) prog_69_method_2_code (2 : Nat) (Option.some Jvm.ClassFile.FieldType.char)) ∈ lw_all := lw_g (lw_at lw_m5 150 rfl) rfl
theorem q1412 : (Jvm.Cond.methodLink "java/lang/StringLatin1" (9 : Nat) ({ cls := "java/lang/String", name := "checkIndex", desc := "(II)V" } : Jvm.MethodName)) ∈ lw_all := lw_g (lw_at lw_m5 151 rfl) rfl
theorem q2186 : (Jvm.Cond.static ({ cls := "java/lang/StringLatin1", name := "inflate", desc := "([BI[BII)V" } : Jvm.MethodName)) ∈ lw_all := lw_g (lw_at lw_m8 205 rfl) rfl
theorem q2187 : (Jvm.Cond.code ({ cls := "java/lang/StringLatin1", name := "inflate", desc := "([BI[BII)V" } : Jvm.MethodName) prog_69_method_50_code (5 : Nat) (Option.none : Option Jvm.ClassFile.FieldType)) ∈ lw_all := lw_g (lw_at lw_m8 206 rfl) rfl
theorem q2188 : (Jvm.Cond.methodLink "java/lang/StringLatin1" (240 : Nat) ({ cls := "java/lang/StringUTF16", name := "inflate", desc := "([BI[BII)V" } : Jvm.MethodName)) ∈ lw_all := lw_g (lw_at lw_m8 207 rfl) rfl
theorem q334 : (Jvm.Cond.initialized "java/lang/StringUTF16") ∈ lw_all := lw_g (lw_at lw_m1 33 rfl) rfl
theorem q1419 : (Jvm.Cond.static ({ cls := "java/lang/StringUTF16", name := "charAt", desc := "([BI)C" } : Jvm.MethodName)) ∈ lw_all := lw_g (lw_at lw_m5 158 rfl) rfl
theorem q1420 : (Jvm.Cond.code ({ cls := "java/lang/StringUTF16", name := "charAt", desc := "([BI)C" } : Jvm.MethodName) prog_70_method_83_code (2 : Nat) (Option.some Jvm.ClassFile.FieldType.char)) ∈ lw_all := lw_g (lw_at lw_m5 159 rfl) rfl
theorem q1421 : (Jvm.Cond.methodLink "java/lang/StringUTF16" (67 : Nat) ({ cls := "java/lang/StringUTF16", name := "checkIndex", desc := "(I[B)V" } : Jvm.MethodName)) ∈ lw_all := lw_g (lw_at lw_m5 160 rfl) rfl
theorem q1422 : (Jvm.Cond.static ({ cls := "java/lang/StringUTF16", name := "checkIndex", desc := "(I[B)V" } : Jvm.MethodName)) ∈ lw_all := lw_g (lw_at lw_m5 161 rfl) rfl
theorem q1423 : (Jvm.Cond.code ({ cls := "java/lang/StringUTF16", name := "checkIndex", desc := "(I[B)V" } : Jvm.MethodName) prog_70_method_91_code (2 : Nat) (Option.none : Option Jvm.ClassFile.FieldType)) ∈ lw_all := lw_g (lw_at lw_m5 162 rfl) rfl
theorem q1424 : (Jvm.Cond.methodLink "java/lang/StringUTF16" (48 : Nat) ({ cls := "java/lang/StringUTF16", name := "length", desc := "([B)I" } : Jvm.MethodName)) ∈ lw_all := lw_g (lw_at lw_m5 163 rfl) rfl
theorem q1425 : (Jvm.Cond.static ({ cls := "java/lang/StringUTF16", name := "length", desc := "([B)I" } : Jvm.MethodName)) ∈ lw_all := lw_g (lw_at lw_m5 164 rfl) rfl
theorem q1426 : (Jvm.Cond.code ({ cls := "java/lang/StringUTF16", name := "length", desc := "([B)I" } : Jvm.MethodName) prog_70_method_6_code (1 : Nat) (Option.some Jvm.ClassFile.FieldType.int)) ∈ lw_all := lw_g (lw_at lw_m5 165 rfl) rfl
theorem q1427 : (Jvm.Cond.methodLink "java/lang/StringUTF16" (414 : Nat) ({ cls := "java/lang/String", name := "checkIndex", desc := "(II)V" } : Jvm.MethodName)) ∈ lw_all := lw_g (lw_at lw_m5 166 rfl) rfl
theorem q1428 : (Jvm.Cond.methodLink "java/lang/StringUTF16" (71 : Nat) ({ cls := "java/lang/StringUTF16", name := "getChar", desc := "([BI)C" } : Jvm.MethodName)) ∈ lw_all := lw_g (lw_at lw_m5 167 rfl) rfl
theorem q1429 : (Jvm.Cond.static ({ cls := "java/lang/StringUTF16", name := "getChar", desc := "([BI)C" } : Jvm.MethodName)) ∈ lw_all := lw_g (lw_at lw_m5 168 rfl) rfl
theorem q1430 : (Jvm.Cond.code ({ cls := "java/lang/StringUTF16", name := "getChar", desc := "([BI)C" } : Jvm.MethodName) prog_70_method_5_code (2 : Nat) (Option.some Jvm.ClassFile.FieldType.char)) ∈ lw_all := lw_g (lw_at lw_m5 169 rfl) rfl
theorem q1431 : (Jvm.Cond.fieldLink "java/lang/StringUTF16" (44 : Nat) "java/lang/StringUTF16" "$assertionsDisabled" "Z") ∈ lw_all := lw_g (lw_at lw_m5 170 rfl) rfl
theorem q1432 : (Jvm.Cond.laysStatic "java/lang/StringUTF16" "$assertionsDisabled" "Z") ∈ lw_tbl := lw_at lw_m5 171 rfl
theorem q1433 : (Jvm.Cond.fieldLink "java/lang/StringUTF16" (59 : Nat) "java/lang/StringUTF16" "HI_BYTE_SHIFT" "I") ∈ lw_all := lw_g (lw_at lw_m5 172 rfl) rfl
theorem q1434 : (Jvm.Cond.laysStatic "java/lang/StringUTF16" "HI_BYTE_SHIFT" "I") ∈ lw_tbl := lw_at lw_m5 173 rfl
theorem q1435 : (Jvm.Cond.fieldLink "java/lang/StringUTF16" (63 : Nat) "java/lang/StringUTF16" "LO_BYTE_SHIFT" "I") ∈ lw_all := lw_g (lw_at lw_m5 174 rfl) rfl
theorem q1436 : (Jvm.Cond.laysStatic "java/lang/StringUTF16" "LO_BYTE_SHIFT" "I") ∈ lw_tbl := lw_at lw_m5 175 rfl
theorem q2109 : (Jvm.Cond.static ({ cls := "java/lang/StringUTF16", name := "newBytesFor", desc := "(I)[B" } : Jvm.MethodName)) ∈ lw_all := lw_g (lw_at lw_m8 128 rfl) rfl
theorem q2110 : (Jvm.Cond.code ({ cls := "java/lang/StringUTF16", name := "newBytesFor", desc := "(I)[B" } : Jvm.MethodName) prog_70_method_2_code (1 : Nat) (Option.some (Jvm.ClassFile.FieldType.array Jvm.ClassFile.FieldType.byte))) ∈ lw_all := lw_g (lw_at lw_m8 129 rfl) rfl
theorem q2111 : (Jvm.Cond.methodLink "java/lang/StringUTF16" (11 : Nat) ({ cls := "java/lang/StringUTF16", name := "newBytesLength", desc := "(I)I" } : Jvm.MethodName)) ∈ lw_all := lw_g (lw_at lw_m8 130 rfl) rfl
theorem q2112 : (Jvm.Cond.static ({ cls := "java/lang/StringUTF16", name := "newBytesLength", desc := "(I)I" } : Jvm.MethodName)) ∈ lw_all := lw_g (lw_at lw_m8 131 rfl) rfl
theorem q2113 : (Jvm.Cond.code ({ cls := "java/lang/StringUTF16", name := "newBytesLength", desc := "(I)I" } : Jvm.MethodName) prog_70_method_3_code (1 : Nat) (Option.some Jvm.ClassFile.FieldType.int)) ∈ lw_all := lw_g (lw_at lw_m8 132 rfl) rfl
theorem q2114 : (Jvm.Cond.constant "java/lang/StringUTF16" (20 : Nat) (1073741823 : Int32)) ∈ lw_all := lw_g (lw_at lw_m8 133 rfl) rfl
theorem q2157 : (Jvm.Cond.static ({ cls := "java/lang/StringUTF16", name := "putCharsAt", desc := "([BICCCC)I" } : Jvm.MethodName)) ∈ lw_all := lw_g (lw_at lw_m8 176 rfl) rfl
theorem q2158 : (Jvm.Cond.code ({ cls := "java/lang/StringUTF16", name := "putCharsAt", desc := "([BICCCC)I" } : Jvm.MethodName) prog_70_method_81_code (7 : Nat) (Option.some Jvm.ClassFile.FieldType.int)) ∈ lw_all := lw_g (lw_at lw_m8 177 rfl) rfl
theorem q2159 : (Jvm.Cond.methodLink "java/lang/StringUTF16" (96 : Nat) ({ cls := "java/lang/StringUTF16", name := "checkBoundsBeginEnd", desc := "(II[B)V" } : Jvm.MethodName)) ∈ lw_all := lw_g (lw_at lw_m8 178 rfl) rfl
theorem q2160 : (Jvm.Cond.static ({ cls := "java/lang/StringUTF16", name := "checkBoundsBeginEnd", desc := "(II[B)V" } : Jvm.MethodName)) ∈ lw_all := lw_g (lw_at lw_m8 179 rfl) rfl
theorem q2161 : (Jvm.Cond.code ({ cls := "java/lang/StringUTF16", name := "checkBoundsBeginEnd", desc := "(II[B)V" } : Jvm.MethodName) prog_70_method_93_code (3 : Nat) (Option.none : Option Jvm.ClassFile.FieldType)) ∈ lw_all := lw_g (lw_at lw_m8 180 rfl) rfl
theorem q2162 : (Jvm.Cond.methodLink "java/lang/StringUTF16" (241 : Nat) ({ cls := "java/lang/String", name := "checkBoundsBeginEnd", desc := "(III)V" } : Jvm.MethodName)) ∈ lw_all := lw_g (lw_at lw_m8 181 rfl) rfl
theorem q2168 : (Jvm.Cond.methodLink "java/lang/StringUTF16" (111 : Nat) ({ cls := "java/lang/StringUTF16", name := "putChar", desc := "([BII)V" } : Jvm.MethodName)) ∈ lw_all := lw_g (lw_at lw_m8 187 rfl) rfl
theorem q2169 : (Jvm.Cond.static ({ cls := "java/lang/StringUTF16", name := "putChar", desc := "([BII)V" } : Jvm.MethodName)) ∈ lw_all := lw_g (lw_at lw_m8 188 rfl) rfl
theorem q2170 : (Jvm.Cond.code ({ cls := "java/lang/StringUTF16", name := "putChar", desc := "([BII)V" } : Jvm.MethodName) prog_70_method_4_code (3 : Nat) (Option.none : Option Jvm.ClassFile.FieldType)) ∈ lw_all := lw_g (lw_at lw_m8 189 rfl) rfl
theorem q2189 : (Jvm.Cond.static ({ cls := "java/lang/StringUTF16", name := "inflate", desc := "([BI[BII)V" } : Jvm.MethodName)) ∈ lw_all := lw_g (lw_at lw_m8 208 rfl) rfl
theorem q2190 : (Jvm.Cond.code ({ cls := "java/lang/StringUTF16", name := "inflate", desc := "([BI[BII)V" } : Jvm.MethodName) prog_70_method_86_code (6 : Nat) (Option.none : Option Jvm.ClassFile.FieldType)) ∈ lw_all := lw_g (lw_at lw_m8 209 rfl) rfl
theorem q2191 : (Jvm.Cond.methodLink "java/lang/StringUTF16" (173 : Nat) ({ cls := "java/lang/StringUTF16", name := "checkBoundsOffCount", desc := "(II[B)V" } : Jvm.MethodName)) ∈ lw_all := lw_g (lw_at lw_m8 210 rfl) rfl
theorem q2192 : (Jvm.Cond.static ({ cls := "java/lang/StringUTF16", name := "checkBoundsOffCount", desc := "(II[B)V" } : Jvm.MethodName)) ∈ lw_all := lw_g (lw_at lw_m8 211 rfl) rfl
theorem q2193 : (Jvm.Cond.code ({ cls := "java/lang/StringUTF16", name := "checkBoundsOffCount", desc := "(II[B)V" } : Jvm.MethodName) prog_70_method_94_code (3 : Nat) (Option.none : Option Jvm.ClassFile.FieldType)) ∈ lw_all := lw_g (lw_at lw_m8 212 rfl) rfl
theorem q2194 : (Jvm.Cond.methodLink "java/lang/StringUTF16" (419 : Nat) ({ cls := "java/lang/String", name := "checkBoundsOffCount", desc := "(III)I" } : Jvm.MethodName)) ∈ lw_all := lw_g (lw_at lw_m8 213 rfl) rfl
theorem q2224 : (Jvm.Cond.static ({ cls := "java/lang/StringUTF16", name := "getChars", desc := "(III[B)I" } : Jvm.MethodName)) ∈ lw_all := lw_g (lw_at lw_m9 3 rfl) rfl
theorem q2225 : (Jvm.Cond.code ({ cls := "java/lang/StringUTF16", name := "getChars", desc := "(III[B)I" } : Jvm.MethodName) prog_70_method_77_code (5 : Nat) (Option.some Jvm.ClassFile.FieldType.int)) ∈ lw_all := lw_g (lw_at lw_m9 4 rfl) rfl
theorem q2226 : (Jvm.Cond.methodLink "java/lang/StringUTF16" (393 : Nat) ({ cls := "java/lang/StringUTF16", name := "getChars", desc := "(II[B)I" } : Jvm.MethodName)) ∈ lw_all := lw_g (lw_at lw_m9 5 rfl) rfl
theorem q2227 : (Jvm.Cond.static ({ cls := "java/lang/StringUTF16", name := "getChars", desc := "(II[B)I" } : Jvm.MethodName)) ∈ lw_all := lw_g (lw_at lw_m9 6 rfl) rfl
theorem q2228 : (Jvm.Cond.code ({ cls := "java/lang/StringUTF16", name := "getChars", desc := "(II[B)I" } : Jvm.MethodName) prog_70_method_89_code (7 : Nat) (Option.some Jvm.ClassFile.FieldType.int)) ∈ lw_all := lw_g (lw_at lw_m9 7 rfl) rfl
theorem q2229 : (Jvm.Cond.fieldLink "java/lang/StringUTF16" (403 : Nat) "java/lang/Integer" "DigitOnes" "[B") ∈ lw_all := lw_g (lw_at lw_m9 8 rfl) rfl
theorem q2230 : (Jvm.Cond.fieldLink "java/lang/StringUTF16" (407 : Nat) "java/lang/Integer" "DigitTens" "[B") ∈ lw_all := lw_g (lw_at lw_m9 9 rfl) rfl
theorem q2289 : (Jvm.Cond.static ({ cls := "java/lang/StringUTF16", name := "compress", desc := "([BII)[B" } : Jvm.MethodName)) ∈ lw_all := lw_g (lw_at lw_m9 68 rfl) rfl
theorem q2290 : (Jvm.Cond.code ({ cls := "java/lang/StringUTF16", name := "compress", desc := "([BII)[B" } : Jvm.MethodName) prog_70_method_17_code (6 : Nat) (Option.some (Jvm.ClassFile.FieldType.array Jvm.ClassFile.FieldType.byte))) ∈ lw_all := lw_g (lw_at lw_m9 69 rfl) rfl
theorem q2291 : (Jvm.Cond.methodLink "java/lang/StringUTF16" (123 : Nat) ({ cls := "java/lang/StringUTF16", name := "compress", desc := "([BI[BII)I" } : Jvm.MethodName)) ∈ lw_all := lw_g (lw_at lw_m9 70 rfl) rfl
theorem q2292 : (Jvm.Cond.static ({ cls := "java/lang/StringUTF16", name := "compress", desc := "([BI[BII)I" } : Jvm.MethodName)) ∈ lw_all := lw_g (lw_at lw_m9 71 rfl) rfl
theorem q2293 : (Jvm.Cond.code ({ cls := "java/lang/StringUTF16", name := "compress", desc := "([BI[BII)I" } : Jvm.MethodName) prog_70_method_22_code (7 : Nat) (Option.some Jvm.ClassFile.FieldType.int)) ∈ lw_all := lw_g (lw_at lw_m9 72 rfl) rfl
theorem q2294 : (Jvm.Cond.methodLink "java/lang/StringUTF16" (126 : Nat) ({ cls := "java/util/Arrays", name := "copyOfRange", desc := "([BII)[B" } : Jvm.MethodName)) ∈ lw_all := lw_g (lw_at lw_m9 73 rfl) rfl
theorem q2296 : (Jvm.Cond.static ({ cls := "java/lang/StringUTF16", name := "coderFromArrayLen", desc := "([BI)B" } : Jvm.MethodName)) ∈ lw_all := lw_g (lw_at lw_m9 75 rfl) rfl
theorem q2297 : (Jvm.Cond.code ({ cls := "java/lang/StringUTF16", name := "coderFromArrayLen", desc := "([BI)B" } : Jvm.MethodName) prog_70_method_15_code (2 : Nat) (Option.some Jvm.ClassFile.FieldType.byte)) ∈ lw_all := lw_g (lw_at lw_m9 76 rfl) rfl
theorem q350 : (Jvm.Cond.initialized "java/lang/IllegalArgumentException") ∈ lw_all := lw_g (lw_at lw_m1 49 rfl) rfl
theorem q422 : (Jvm.Cond.selects "java/lang/IllegalArgumentException" ({ cls := "java/lang/Throwable", name := "fillInStackTrace", desc := "()Ljava/lang/Throwable;" } : Jvm.MethodName) ({ cls := "java/lang/Throwable", name := "fillInStackTrace", desc := "()Ljava/lang/Throwable;" } : Jvm.MethodName)) ∈ lw_all := lw_g (lw_at lw_m1 121 rfl) rfl
theorem q1111 : (Jvm.Cond.selects "java/lang/IllegalArgumentException" ({ cls := "java/lang/Object", name := "getClass", desc := "()Ljava/lang/Class;" } : Jvm.MethodName) ({ cls := "java/lang/Object", name := "getClass", desc := "()Ljava/lang/Class;" } : Jvm.MethodName)) ∈ lw_all := lw_g (lw_at lw_m4 90 rfl) rfl
theorem q2090 : (Jvm.Cond.instantiable "java/lang/IllegalArgumentException" (6 : Nat)) ∈ lw_all := lw_g (lw_at lw_m8 109 rfl) rfl
theorem q2091 : (Jvm.Cond.castable "java/lang/IllegalArgumentException" "java/lang/IllegalArgumentException") ∈ lw_tbl := lw_at lw_m8 110 rfl
theorem q2092 : (Jvm.Cond.selects "java/lang/IllegalArgumentException" ({ cls := "java/lang/Throwable", name := "fillInStackTrace", desc := "(I)Ljava/lang/Throwable;" } : Jvm.MethodName) ({ cls := "java/lang/Throwable", name := "fillInStackTrace", desc := "(I)Ljava/lang/Throwable;" } : Jvm.MethodName)) ∈ lw_all := lw_g (lw_at lw_m8 111 rfl) rfl
theorem q2093 : (Jvm.Cond.lays "java/lang/IllegalArgumentException" "java/lang/Throwable" "cause" "Ljava/lang/Throwable;") ∈ lw_all := lw_g (lw_at lw_m8 112 rfl) rfl
theorem q2094 : (Jvm.Cond.lays "java/lang/IllegalArgumentException" "java/lang/Throwable" "stackTrace" "[Ljava/lang/StackTraceElement;") ∈ lw_all := lw_g (lw_at lw_m8 113 rfl) rfl
theorem q2095 : (Jvm.Cond.lays "java/lang/IllegalArgumentException" "java/lang/Throwable" "suppressedExceptions" "Ljava/util/List;") ∈ lw_all := lw_g (lw_at lw_m8 114 rfl) rfl
theorem q2096 : (Jvm.Cond.lays "java/lang/IllegalArgumentException" "java/lang/Throwable" "detailMessage" "Ljava/lang/String;") ∈ lw_all := lw_g (lw_at lw_m8 115 rfl) rfl
theorem q2097 : (Jvm.Cond.lays "java/lang/IllegalArgumentException" "java/lang/Throwable" "backtrace" "Ljava/lang/Object;") ∈ lw_all := lw_g (lw_at lw_m8 116 rfl) rfl
theorem q2275 : (Jvm.Cond.instanceMethod ({ cls := "java/lang/IllegalArgumentException", name := "<init>", desc := "(Ljava/lang/String;)V" } : Jvm.MethodName)) ∈ lw_all := lw_g (lw_at lw_m9 54 rfl) rfl
theorem q2276 : (Jvm.Cond.code ({ cls := "java/lang/IllegalArgumentException", name := "<init>", desc := "(Ljava/lang/String;)V" } : Jvm.MethodName) prog_59_method_2_code (2 : Nat) (Option.none : Option Jvm.ClassFile.FieldType)) ∈ lw_all := lw_g (lw_at lw_m9 55 rfl) rfl
theorem q2277 : (Jvm.Cond.methodLink "java/lang/IllegalArgumentException" (7 : Nat) ({ cls := "java/lang/RuntimeException", name := "<init>", desc := "(Ljava/lang/String;)V" } : Jvm.MethodName)) ∈ lw_all := lw_g (lw_at lw_m9 56 rfl) rfl
theorem q2286 : (Jvm.Cond.lays "java/lang/IllegalArgumentException" "java/lang/Throwable" "depth" "I") ∈ lw_all := lw_g (lw_at lw_m9 65 rfl) rfl
theorem q2287 : (Jvm.Cond.superclass "java/lang/IllegalArgumentException" "java/lang/RuntimeException") ∈ lw_all := lw_g (lw_at lw_m9 66 rfl) rfl
theorem q2900 : (Jvm.Cond.instanceMethod ({ cls := "java/lang/IllegalArgumentException", name := "<init>", desc := "()V" } : Jvm.MethodName)) ∈ lw_all := lw_g (lw_at lw_m11 199 rfl) rfl
theorem q2901 : (Jvm.Cond.code ({ cls := "java/lang/IllegalArgumentException", name := "<init>", desc := "()V" } : Jvm.MethodName) prog_59_method_1_code (1 : Nat) (Option.none : Option Jvm.ClassFile.FieldType)) ∈ lw_all := lw_g (lw_at lw_m11 200 rfl) rfl
theorem q2902 : (Jvm.Cond.methodLink "java/lang/IllegalArgumentException" (1 : Nat) ({ cls := "java/lang/RuntimeException", name := "<init>", desc := "()V" } : Jvm.MethodName)) ∈ lw_all := lw_g (lw_at lw_m11 201 rfl) rfl
theorem q5544 : (Jvm.Cond.castable "java/lang/IllegalArgumentException" "java/lang/Object") ∈ lw_tbl := lw_at lw_m22 203 rfl
theorem q351 : (Jvm.Cond.initialized "java/lang/AbstractStringBuilder") ∈ lw_all := lw_g (lw_at lw_m1 50 rfl) rfl
theorem q2104 : (Jvm.Cond.instanceMethod ({ cls := "java/lang/AbstractStringBuilder", name := "<init>", desc := "(I)V" } : Jvm.MethodName)) ∈ lw_all := lw_g (lw_at lw_m8 123 rfl) rfl
theorem q2105 : (Jvm.Cond.code ({ cls := "java/lang/AbstractStringBuilder", name := "<init>", desc := "(I)V" } : Jvm.MethodName) prog_55_method_2_code (2 : Nat) (Option.none : Option Jvm.ClassFile.FieldType)) ∈ lw_all := lw_g (lw_at lw_m8 124 rfl) rfl
theorem q2106 : (Jvm.Cond.methodLink "java/lang/AbstractStringBuilder" (3 : Nat) ({ cls := "java/lang/Object", name := "<init>", desc := "()V" } : Jvm.MethodName)) ∈ lw_all := lw_g (lw_at lw_m8 125 rfl) rfl
theorem q2107 : (Jvm.Cond.fieldLink "java/lang/AbstractStringBuilder" (18 : Nat) "java/lang/String" "COMPACT_STRINGS" "Z") ∈ lw_all := lw_g (lw_at lw_m8 126 rfl) rfl
theorem q2108 : (Jvm.Cond.methodLink "java/lang/AbstractStringBuilder" (26 : Nat) ({ cls := "java/lang/StringUTF16", name := "newBytesFor", desc := "(I)[B" } : Jvm.MethodName)) ∈ lw_all := lw_g (lw_at lw_m8 127 rfl) rfl
theorem q2115 : (Jvm.Cond.fieldLink "java/lang/AbstractStringBuilder" (15 : Nat) "java/lang/AbstractStringBuilder" "value" "[B") ∈ lw_all := lw_g (lw_at lw_m8 134 rfl) rfl
theorem q2116 : (Jvm.Cond.fieldLink "java/lang/AbstractStringBuilder" (22 : Nat) "java/lang/AbstractStringBuilder" "coder" "B") ∈ lw_all := lw_g (lw_at lw_m8 135 rfl) rfl
theorem q2118 : (Jvm.Cond.fieldLink "java/lang/AbstractStringBuilder" (79 : Nat) "java/lang/AbstractStringBuilder" "count" "I") ∈ lw_all := lw_g (lw_at lw_m8 137 rfl) rfl
theorem q2120 : (Jvm.Cond.soleField "java/lang/AbstractStringBuilder" "value") ∈ lw_all := lw_g (lw_at lw_m8 139 rfl) rfl
theorem q2122 : (Jvm.Cond.soleField "java/lang/AbstractStringBuilder" "coder") ∈ lw_all := lw_g (lw_at lw_m8 141 rfl) rfl
theorem q2124 : (Jvm.Cond.soleField "java/lang/AbstractStringBuilder" "maybeLatin1") ∈ lw_all := lw_g (lw_at lw_m8 143 rfl) rfl
theorem q2126 : (Jvm.Cond.soleField "java/lang/AbstractStringBuilder" "count") ∈ lw_all := lw_g (lw_at lw_m8 145 rfl) rfl
theorem q2134 : (Jvm.Cond.instanceMethod ({ cls := "java/lang/AbstractStringBuilder", name := "append", desc := "(Ljava/lang/String;)Ljava/lang/AbstractStringBuilder;" } : Jvm.MethodName)) ∈ lw_all := lw_g (lw_at lw_m8 153 rfl) rfl
theorem q2135 : (Jvm.Cond.code ({ cls := "java/lang/AbstractStringBuilder", name := "append", desc := "(Ljava/lang/String;)Ljava/lang/AbstractStringBuilder;" } : Jvm.MethodName) prog_55_method_22_code (3 : Nat) (Option.some (Jvm.ClassFile.FieldType.object "java/lang/AbstractStringBuilder"))) ∈ lw_all := lw_g (lw_at lw_m8 154 rfl) rfl
theorem q2136 : (Jvm.Cond.methodLink "java/lang/AbstractStringBuilder" (204 : Nat) ({ cls := "java/lang/AbstractStringBuilder", name := "appendNull", desc := "()Ljava/lang/AbstractStringBuilder;" } : Jvm.MethodName)) ∈ lw_all := lw_g (lw_at lw_m8 155 rfl) rfl
theorem q2137 : (Jvm.Cond.privateMethod ({ cls := "java/lang/AbstractStringBuilder", name := "appendNull", desc := "()Ljava/lang/AbstractStringBuilder;" } : Jvm.MethodName)) ∈ lw_tbl := lw_at lw_m8 156 rfl
theorem q2138 : (Jvm.Cond.instanceMethod ({ cls := "java/lang/AbstractStringBuilder", name := "appendNull", desc := "()Ljava/lang/AbstractStringBuilder;" } : Jvm.MethodName)) ∈ lw_all := lw_g (lw_at lw_m8 157 rfl) rfl
theorem q2139 : (Jvm.Cond.code ({ cls := "java/lang/AbstractStringBuilder", name := "appendNull", desc := "()Ljava/lang/AbstractStringBuilder;" } : Jvm.MethodName) prog_55_method_26_code (3 : Nat) (Option.some (Jvm.ClassFile.FieldType.object "java/lang/AbstractStringBuilder"))) ∈ lw_all := lw_g (lw_at lw_m8 158 rfl) rfl
theorem q2140 : (Jvm.Cond.methodLink "java/lang/AbstractStringBuilder" (100 : Nat) ({ cls := "java/lang/AbstractStringBuilder", name := "ensureCapacityInternal", desc := "(I)V" } : Jvm.MethodName)) ∈ lw_all := lw_g (lw_at lw_m8 159 rfl) rfl
theorem q2141 : (Jvm.Cond.privateMethod ({ cls := "java/lang/AbstractStringBuilder", name := "ensureCapacityInternal", desc := "(I)V" } : Jvm.MethodName)) ∈ lw_tbl := lw_at lw_m8 160 rfl
theorem q2142 : (Jvm.Cond.instanceMethod ({ cls := "java/lang/AbstractStringBuilder", name := "ensureCapacityInternal", desc := "(I)V" } : Jvm.MethodName)) ∈ lw_all := lw_g (lw_at lw_m8 161 rfl) rfl
theorem q2143 : (Jvm.Cond.code ({ cls := "java/lang/AbstractStringBuilder", name := "ensureCapacityInternal", desc := "(I)V" } : Jvm.MethodName) prog_55_method_9_code (3 : Nat) (Option.none : Option Jvm.ClassFile.FieldType)) ∈ lw_all := lw_g (lw_at lw_m8 162 rfl) rfl
theorem q2144 : (Jvm.Cond.methodLink "java/lang/AbstractStringBuilder" (104 : Nat) ({ cls := "java/lang/AbstractStringBuilder", name := "newCapacity", desc := "(I)I" } : Jvm.MethodName)) ∈ lw_all := lw_g (lw_at lw_m8 163 rfl) rfl
theorem q2145 : (Jvm.Cond.privateMethod ({ cls := "java/lang/AbstractStringBuilder", name := "newCapacity", desc := "(I)I" } : Jvm.MethodName)) ∈ lw_tbl := lw_at lw_m8 164 rfl
theorem q2146 : (Jvm.Cond.instanceMethod ({ cls := "java/lang/AbstractStringBuilder", name := "newCapacity", desc := "(I)I" } : Jvm.MethodName)) ∈ lw_all := lw_g (lw_at lw_m8 165 rfl) rfl
theorem q2147 : (Jvm.Cond.code ({ cls := "java/lang/AbstractStringBuilder", name := "newCapacity", desc := "(I)I" } : Jvm.MethodName) prog_55_method_10_code (6 : Nat) (Option.some Jvm.ClassFile.FieldType.int)) ∈ lw_all := lw_g (lw_at lw_m8 166 rfl) rfl
theorem q2148 : (Jvm.Cond.methodLink "java/lang/AbstractStringBuilder" (114 : Nat) ({ cls := "jdk/internal/util/ArraysSupport", name := "newLength", desc := "(III)I" } : Jvm.MethodName)) ∈ lw_all := lw_g (lw_at lw_m8 167 rfl) rfl
theorem q2149 : (Jvm.Cond.constant "java/lang/AbstractStringBuilder" (39 : Nat) (2147483647 : Int32)) ∈ lw_all := lw_g (lw_at lw_m8 168 rfl) rfl
theorem q2150 : (Jvm.Cond.methodLink "java/lang/AbstractStringBuilder" (108 : Nat) ({ cls := "java/util/Arrays", name := "copyOf", desc := "([BI)[B" } : Jvm.MethodName)) ∈ lw_all := lw_g (lw_at lw_m8 169 rfl) rfl
theorem q2151 : (Jvm.Cond.methodLink "java/lang/AbstractStringBuilder" (83 : Nat) ({ cls := "java/lang/AbstractStringBuilder", name := "isLatin1", desc := "()Z" } : Jvm.MethodName)) ∈ lw_all := lw_g (lw_at lw_m8 170 rfl) rfl
theorem q2152 : (Jvm.Cond.instanceMethod ({ cls := "java/lang/AbstractStringBuilder", name := "isLatin1", desc := "()Z" } : Jvm.MethodName)) ∈ lw_all := lw_g (lw_at lw_m8 171 rfl) rfl
theorem q2153 : (Jvm.Cond.sameMethod "java/lang/AbstractStringBuilder" "java/lang/AbstractStringBuilder" "isLatin1" "()Z") ∈ lw_all := lw_g (lw_at lw_m8 172 rfl) rfl
theorem q2155 : (Jvm.Cond.code ({ cls := "java/lang/AbstractStringBuilder", name := "isLatin1", desc := "()Z" } : Jvm.MethodName) prog_55_method_68_code (1 : Nat) (Option.some Jvm.ClassFile.FieldType.boolean)) ∈ lw_all := lw_g (lw_at lw_m8 174 rfl) rfl
theorem q2156 : (Jvm.Cond.methodLink "java/lang/AbstractStringBuilder" (226 : Nat) ({ cls := "java/lang/StringUTF16", name := "putCharsAt", desc := "([BICCCC)I" } : Jvm.MethodName)) ∈ lw_all := lw_g (lw_at lw_m8 175 rfl) rfl
theorem q2171 : (Jvm.Cond.methodLink "java/lang/AbstractStringBuilder" (32 : Nat) ({ cls := "java/lang/String", name := "length", desc := "()I" } : Jvm.MethodName)) ∈ lw_all := lw_g (lw_at lw_m8 190 rfl) rfl
theorem q2172 : (Jvm.Cond.methodLink "java/lang/AbstractStringBuilder" (208 : Nat) ({ cls := "java/lang/AbstractStringBuilder", name := "putStringAt", desc := "(ILjava/lang/String;)V" } : Jvm.MethodName)) ∈ lw_all := lw_g (lw_at lw_m8 191 rfl) rfl
theorem q2173 : (Jvm.Cond.privateMethod ({ cls := "java/lang/AbstractStringBuilder", name := "putStringAt", desc := "(ILjava/lang/String;)V" } : Jvm.MethodName)) ∈ lw_tbl := lw_at lw_m8 192 rfl
theorem q2174 : (Jvm.Cond.instanceMethod ({ cls := "java/lang/AbstractStringBuilder", name := "putStringAt", desc := "(ILjava/lang/String;)V" } : Jvm.MethodName)) ∈ lw_all := lw_g (lw_at lw_m8 193 rfl) rfl
theorem q2175 : (Jvm.Cond.code ({ cls := "java/lang/AbstractStringBuilder", name := "putStringAt", desc := "(ILjava/lang/String;)V" } : Jvm.MethodName) prog_55_method_73_code (3 : Nat) (Option.none : Option Jvm.ClassFile.FieldType)) ∈ lw_all := lw_g (lw_at lw_m8 194 rfl) rfl
theorem q2176 : (Jvm.Cond.methodLink "java/lang/AbstractStringBuilder" (397 : Nat) ({ cls := "java/lang/AbstractStringBuilder", name := "inflateIfNeededFor", desc := "(Ljava/lang/String;)V" } : Jvm.MethodName)) ∈ lw_all := lw_g (lw_at lw_m8 195 rfl) rfl
theorem q2177 : (Jvm.Cond.privateMethod ({ cls := "java/lang/AbstractStringBuilder", name := "inflateIfNeededFor", desc := "(Ljava/lang/String;)V" } : Jvm.MethodName)) ∈ lw_tbl := lw_at lw_m8 196 rfl
theorem q2178 : (Jvm.Cond.instanceMethod ({ cls := "java/lang/AbstractStringBuilder", name := "inflateIfNeededFor", desc := "(Ljava/lang/String;)V" } : Jvm.MethodName)) ∈ lw_all := lw_g (lw_at lw_m8 197 rfl) rfl
theorem q2179 : (Jvm.Cond.code ({ cls := "java/lang/AbstractStringBuilder", name := "inflateIfNeededFor", desc := "(Ljava/lang/String;)V" } : Jvm.MethodName) prog_55_method_71_code (2 : Nat) (Option.none : Option Jvm.ClassFile.FieldType)) ∈ lw_all := lw_g (lw_at lw_m8 198 rfl) rfl
theorem q2180 : (Jvm.Cond.methodLink "java/lang/AbstractStringBuilder" (40 : Nat) ({ cls := "java/lang/String", name := "coder", desc := "()B" } : Jvm.MethodName)) ∈ lw_all := lw_g (lw_at lw_m8 199 rfl) rfl
theorem q2181 : (Jvm.Cond.methodLink "java/lang/AbstractStringBuilder" (195 : Nat) ({ cls := "java/lang/AbstractStringBuilder", name := "inflate", desc := "()V" } : Jvm.MethodName)) ∈ lw_all := lw_g (lw_at lw_m8 200 rfl) rfl
theorem q2182 : (Jvm.Cond.privateMethod ({ cls := "java/lang/AbstractStringBuilder", name := "inflate", desc := "()V" } : Jvm.MethodName)) ∈ lw_tbl := lw_at lw_m8 201 rfl
theorem q2183 : (Jvm.Cond.instanceMethod ({ cls := "java/lang/AbstractStringBuilder", name := "inflate", desc := "()V" } : Jvm.MethodName)) ∈ lw_all := lw_g (lw_at lw_m8 202 rfl) rfl
theorem q2184 : (Jvm.Cond.code ({ cls := "java/lang/AbstractStringBuilder", name := "inflate", desc := "()V" } : Jvm.MethodName) prog_55_method_11_code (2 : Nat) (Option.none : Option Jvm.ClassFile.FieldType)) ∈ lw_all := lw_g (lw_at lw_m8 203 rfl) rfl
theorem q2185 : (Jvm.Cond.methodLink "java/lang/AbstractStringBuilder" (125 : Nat) ({ cls := "java/lang/StringLatin1", name := "inflate", desc := "([BI[BII)V" } : Jvm.MethodName)) ∈ lw_all := lw_g (lw_at lw_m8 204 rfl) rfl
theorem q2200 : (Jvm.Cond.methodLink "java/lang/AbstractStringBuilder" (399 : Nat) ({ cls := "java/lang/String", name := "getBytes", desc := "([BIB)V" } : Jvm.MethodName)) ∈ lw_all := lw_g (lw_at lw_m8 219 rfl) rfl
theorem q2211 : (Jvm.Cond.instanceMethod ({ cls := "java/lang/AbstractStringBuilder", name := "append", desc := "(I)Ljava/lang/AbstractStringBuilder;" } : Jvm.MethodName)) ∈ lw_all := lw_g (lw_at lw_m8 230 rfl) rfl
theorem q2212 : (Jvm.Cond.code ({ cls := "java/lang/AbstractStringBuilder", name := "append", desc := "(I)Ljava/lang/AbstractStringBuilder;" } : Jvm.MethodName) prog_55_method_32_code (4 : Nat) (Option.some (Jvm.ClassFile.FieldType.object "java/lang/AbstractStringBuilder"))) ∈ lw_all := lw_g (lw_at lw_m8 231 rfl) rfl
theorem q2213 : (Jvm.Cond.methodLink "java/lang/AbstractStringBuilder" (245 : Nat) ({ cls := "java/lang/Integer", name := "stringSize", desc := "(I)I" } : Jvm.MethodName)) ∈ lw_all := lw_g (lw_at lw_m8 232 rfl) rfl
theorem q2216 : (Jvm.Cond.methodLink "java/lang/AbstractStringBuilder" (248 : Nat) ({ cls := "java/lang/Integer", name := "getChars", desc := "(II[B)I" } : Jvm.MethodName)) ∈ lw_all := lw_g (lw_at lw_m8 235 rfl) rfl
theorem q2223 : (Jvm.Cond.methodLink "java/lang/AbstractStringBuilder" (251 : Nat) ({ cls := "java/lang/StringUTF16", name := "getChars", desc := "(III[B)I" } : Jvm.MethodName)) ∈ lw_all := lw_g (lw_at lw_m9 2 rfl) rfl
theorem q2245 : (Jvm.Cond.instanceMethod ({ cls := "java/lang/AbstractStringBuilder", name := "getValue", desc := "()[B" } : Jvm.MethodName)) ∈ lw_all := lw_g (lw_at lw_m9 24 rfl) rfl
theorem q2246 : (Jvm.Cond.sameMethod "java/lang/AbstractStringBuilder" "java/lang/AbstractStringBuilder" "getValue" "()[B") ∈ lw_all := lw_g (lw_at lw_m9 25 rfl) rfl
theorem q2248 : (Jvm.Cond.code ({ cls := "java/lang/AbstractStringBuilder", name := "getValue", desc := "()[B" } : Jvm.MethodName) prog_55_method_64_code (1 : Nat) (Option.some (Jvm.ClassFile.FieldType.array Jvm.ClassFile.FieldType.byte))) ∈ lw_all := lw_g (lw_at lw_m9 27 rfl) rfl
theorem q2250 : (Jvm.Cond.instanceMethod ({ cls := "java/lang/AbstractStringBuilder", name := "length", desc := "()I" } : Jvm.MethodName)) ∈ lw_all := lw_g (lw_at lw_m9 29 rfl) rfl
theorem q2251 : (Jvm.Cond.sameMethod "java/lang/AbstractStringBuilder" "java/lang/AbstractStringBuilder" "length" "()I") ∈ lw_all := lw_g (lw_at lw_m9 30 rfl) rfl
theorem q2256 : (Jvm.Cond.code ({ cls := "java/lang/AbstractStringBuilder", name := "length", desc := "()I" } : Jvm.MethodName) prog_55_method_6_code (1 : Nat) (Option.some Jvm.ClassFile.FieldType.int)) ∈ lw_all := lw_g (lw_at lw_m9 35 rfl) rfl
theorem q5455 : (Jvm.Cond.sameMethod "java/lang/AbstractStringBuilder" "java/lang/AbstractStringBuilder" "append" "(Ljava/lang/String;)Ljava/lang/AbstractStringBuilder;") ∈ lw_all := lw_g (lw_at lw_m22 114 rfl) rfl
theorem q5456 : (Jvm.Cond.sameMethod "java/lang/AbstractStringBuilder" "java/lang/AbstractStringBuilder" "appendNull" "()Ljava/lang/AbstractStringBuilder;") ∈ lw_all := lw_g (lw_at lw_m22 115 rfl) rfl
theorem q5457 : (Jvm.Cond.sameMethod "java/lang/AbstractStringBuilder" "java/lang/AbstractStringBuilder" "ensureCapacityInternal" "(I)V") ∈ lw_all := lw_g (lw_at lw_m22 116 rfl) rfl
theorem q5458 : (Jvm.Cond.sameMethod "java/lang/AbstractStringBuilder" "java/lang/AbstractStringBuilder" "newCapacity" "(I)I") ∈ lw_all := lw_g (lw_at lw_m22 117 rfl) rfl
theorem q5459 : (Jvm.Cond.sameMethod "java/lang/AbstractStringBuilder" "java/lang/AbstractStringBuilder" "putStringAt" "(ILjava/lang/String;)V") ∈ lw_all := lw_g (lw_at lw_m22 118 rfl) rfl
theorem q5460 : (Jvm.Cond.sameMethod "java/lang/AbstractStringBuilder" "java/lang/AbstractStringBuilder" "inflateIfNeededFor" "(Ljava/lang/String;)V") ∈ lw_all := lw_g (lw_at lw_m22 119 rfl) rfl
theorem q5461 : (Jvm.Cond.sameMethod "java/lang/AbstractStringBuilder" "java/lang/AbstractStringBuilder" "inflate" "()V") ∈ lw_all := lw_g (lw_at lw_m22 120 rfl) rfl
theorem q5462 : (Jvm.Cond.sameMethod "java/lang/AbstractStringBuilder" "java/lang/AbstractStringBuilder" "append" "(I)Ljava/lang/AbstractStringBuilder;") ∈ lw_all := lw_g (lw_at lw_m22 121 rfl) rfl
theorem q352 : (Jvm.Cond.initialized "java/lang/StringBuilder") ∈ lw_all := lw_g (lw_at lw_m1 51 rfl) rfl
theorem q1115 : (Jvm.Cond.selects "java/lang/StringBuilder" ({ cls := "java/lang/Object", name := "getClass", desc := "()Ljava/lang/Class;" } : Jvm.MethodName) ({ cls := "java/lang/Object", name := "getClass", desc := "()Ljava/lang/Class;" } : Jvm.MethodName)) ∈ lw_all := lw_g (lw_at lw_m4 94 rfl) rfl
theorem q2099 : (Jvm.Cond.instantiable "java/lang/StringBuilder" (4 : Nat)) ∈ lw_all := lw_g (lw_at lw_m8 118 rfl) rfl
theorem q2101 : (Jvm.Cond.instanceMethod ({ cls := "java/lang/StringBuilder", name := "<init>", desc := "()V" } : Jvm.MethodName)) ∈ lw_all := lw_g (lw_at lw_m8 120 rfl) rfl
theorem q2102 : (Jvm.Cond.code ({ cls := "java/lang/StringBuilder", name := "<init>", desc := "()V" } : Jvm.MethodName) prog_68_method_1_code (1 : Nat) (Option.none : Option Jvm.ClassFile.FieldType)) ∈ lw_all := lw_g (lw_at lw_m8 121 rfl) rfl
theorem q2103 : (Jvm.Cond.methodLink "java/lang/StringBuilder" (1 : Nat) ({ cls := "java/lang/AbstractStringBuilder", name := "<init>", desc := "(I)V" } : Jvm.MethodName)) ∈ lw_all := lw_g (lw_at lw_m8 122 rfl) rfl
theorem q2119 : (Jvm.Cond.lays "java/lang/StringBuilder" "java/lang/AbstractStringBuilder" "value" "[B") ∈ lw_all := lw_g (lw_at lw_m8 138 rfl) rfl
theorem q2121 : (Jvm.Cond.lays "java/lang/StringBuilder" "java/lang/AbstractStringBuilder" "coder" "B") ∈ lw_all := lw_g (lw_at lw_m8 140 rfl) rfl
theorem q2123 : (Jvm.Cond.lays "java/lang/StringBuilder" "java/lang/AbstractStringBuilder" "maybeLatin1" "Z") ∈ lw_all := lw_g (lw_at lw_m8 142 rfl) rfl
theorem q2125 : (Jvm.Cond.lays "java/lang/StringBuilder" "java/lang/AbstractStringBuilder" "count" "I") ∈ lw_all := lw_g (lw_at lw_m8 144 rfl) rfl
theorem q2127 : (Jvm.Cond.superclass "java/lang/StringBuilder" "java/lang/AbstractStringBuilder") ∈ lw_all := lw_g (lw_at lw_m8 146 rfl) rfl
theorem q2130 : (Jvm.Cond.instanceMethod ({ cls := "java/lang/StringBuilder", name := "append", desc := "(Ljava/lang/String;)Ljava/lang/StringBuilder;" } : Jvm.MethodName)) ∈ lw_all := lw_g (lw_at lw_m8 149 rfl) rfl
theorem q2131 : (Jvm.Cond.selects "java/lang/StringBuilder" ({ cls := "java/lang/StringBuilder", name := "append", desc := "(Ljava/lang/String;)Ljava/lang/StringBuilder;" } : Jvm.MethodName) ({ cls := "java/lang/StringBuilder", name := "append", desc := "(Ljava/lang/String;)Ljava/lang/StringBuilder;" } : Jvm.MethodName)) ∈ lw_all := lw_g (lw_at lw_m8 150 rfl) rfl
theorem q2132 : (Jvm.Cond.code ({ cls := "java/lang/StringBuilder", name := "append", desc := "(Ljava/lang/String;)Ljava/lang/StringBuilder;" } : Jvm.MethodName) prog_68_method_7_code (2 : Nat) (Option.some (Jvm.ClassFile.FieldType.object "java/lang/StringBuilder"))) ∈ lw_all := lw_g (lw_at lw_m8 151 rfl) rfl
theorem q2133 : (Jvm.Cond.methodLink "java/lang/StringBuilder" (29 : Nat) ({ cls := "java/lang/AbstractStringBuilder", name := "append", desc := "(Ljava/lang/String;)Ljava/lang/AbstractStringBuilder;" } : Jvm.MethodName)) ∈ lw_all := lw_g (lw_at lw_m8 152 rfl) rfl
theorem q2154 : (Jvm.Cond.selects "java/lang/StringBuilder" ({ cls := "java/lang/AbstractStringBuilder", name := "isLatin1", desc := "()Z" } : Jvm.MethodName) ({ cls := "java/lang/AbstractStringBuilder", name := "isLatin1", desc := "()Z" } : Jvm.MethodName)) ∈ lw_all := lw_g (lw_at lw_m8 173 rfl) rfl
theorem q2207 : (Jvm.Cond.instanceMethod ({ cls := "java/lang/StringBuilder", name := "append", desc := "(I)Ljava/lang/StringBuilder;" } : Jvm.MethodName)) ∈ lw_all := lw_g (lw_at lw_m8 226 rfl) rfl
theorem q2208 : (Jvm.Cond.selects "java/lang/StringBuilder" ({ cls := "java/lang/StringBuilder", name := "append", desc := "(I)Ljava/lang/StringBuilder;" } : Jvm.MethodName) ({ cls := "java/lang/StringBuilder", name := "append", desc := "(I)Ljava/lang/StringBuilder;" } : Jvm.MethodName)) ∈ lw_all := lw_g (lw_at lw_m8 227 rfl) rfl
theorem q2209 : (Jvm.Cond.code ({ cls := "java/lang/StringBuilder", name := "append", desc := "(I)Ljava/lang/StringBuilder;" } : Jvm.MethodName) prog_68_method_15_code (2 : Nat) (Option.some (Jvm.ClassFile.FieldType.object "java/lang/StringBuilder"))) ∈ lw_all := lw_g (lw_at lw_m8 228 rfl) rfl
theorem q2210 : (Jvm.Cond.methodLink "java/lang/StringBuilder" (53 : Nat) ({ cls := "java/lang/AbstractStringBuilder", name := "append", desc := "(I)Ljava/lang/AbstractStringBuilder;" } : Jvm.MethodName)) ∈ lw_all := lw_g (lw_at lw_m8 229 rfl) rfl
theorem q2232 : (Jvm.Cond.instanceMethod ({ cls := "java/lang/StringBuilder", name := "toString", desc := "()Ljava/lang/String;" } : Jvm.MethodName)) ∈ lw_all := lw_g (lw_at lw_m9 11 rfl) rfl
theorem q2233 : (Jvm.Cond.selects "java/lang/StringBuilder" ({ cls := "java/lang/StringBuilder", name := "toString", desc := "()Ljava/lang/String;" } : Jvm.MethodName) ({ cls := "java/lang/StringBuilder", name := "toString", desc := "()Ljava/lang/String;" } : Jvm.MethodName)) ∈ lw_all := lw_g (lw_at lw_m9 12 rfl) rfl
theorem q2234 : (Jvm.Cond.code ({ cls := "java/lang/StringBuilder", name := "toString", desc := "()Ljava/lang/String;" } : Jvm.MethodName) prog_68_method_42_code (1 : Nat) (Option.some (Jvm.ClassFile.FieldType.object "java/lang/String"))) ∈ lw_all := lw_g (lw_at lw_m9 13 rfl) rfl
theorem q2235 : (Jvm.Cond.classLink "java/lang/StringBuilder" (18 : Nat) "java/lang/String") ∈ lw_all := lw_g (lw_at lw_m9 14 rfl) rfl
theorem q2237 : (Jvm.Cond.methodLink "java/lang/StringBuilder" (137 : Nat) ({ cls := "java/lang/String", name := "<init>", desc := "(Ljava/lang/StringBuilder;)V" } : Jvm.MethodName)) ∈ lw_all := lw_g (lw_at lw_m9 16 rfl) rfl
theorem q2247 : (Jvm.Cond.selects "java/lang/StringBuilder" ({ cls := "java/lang/AbstractStringBuilder", name := "getValue", desc := "()[B" } : Jvm.MethodName) ({ cls := "java/lang/AbstractStringBuilder", name := "getValue", desc := "()[B" } : Jvm.MethodName)) ∈ lw_all := lw_g (lw_at lw_m9 26 rfl) rfl
theorem q2252 : (Jvm.Cond.selects "java/lang/StringBuilder" ({ cls := "java/lang/AbstractStringBuilder", name := "length", desc := "()I" } : Jvm.MethodName) ({ cls := "java/lang/StringBuilder", name := "length", desc := "()I" } : Jvm.MethodName)) ∈ lw_all := lw_g (lw_at lw_m9 31 rfl) rfl
theorem q2253 : (Jvm.Cond.instanceMethod ({ cls := "java/lang/StringBuilder", name := "length", desc := "()I" } : Jvm.MethodName)) ∈ lw_all := lw_g (lw_at lw_m9 32 rfl) rfl
theorem q2254 : (Jvm.Cond.code ({ cls := "java/lang/StringBuilder", name := "length", desc := "()I" } : Jvm.MethodName) prog_68_method_93_code (1 : Nat) (Option.some Jvm.ClassFile.FieldType.int)) ∈ lw_all := lw_g (lw_at lw_m9 33 rfl) rfl
theorem q2255 : (Jvm.Cond.methodLink "java/lang/StringBuilder" (343 : Nat) ({ cls := "java/lang/AbstractStringBuilder", name := "length", desc := "()I" } : Jvm.MethodName)) ∈ lw_all := lw_g (lw_at lw_m9 34 rfl) rfl
theorem q5545 : (Jvm.Cond.castable "java/lang/StringBuilder" "java/lang/Object") ∈ lw_tbl := lw_at lw_m22 204 rfl
theorem q353 : (Jvm.Cond.initialized "java/lang/Integer") ∈ lw_all := lw_g (lw_at lw_m1 52 rfl) rfl
theorem q2214 : (Jvm.Cond.static ({ cls := "java/lang/Integer", name := "stringSize", desc := "(I)I" } : Jvm.MethodName)) ∈ lw_all := lw_g (lw_at lw_m8 233 rfl) rfl
theorem q2215 : (Jvm.Cond.code ({ cls := "java/lang/Integer", name := "stringSize", desc := "(I)I" } : Jvm.MethodName) prog_62_method_13_code (4 : Nat) (Option.some Jvm.ClassFile.FieldType.int)) ∈ lw_all := lw_g (lw_at lw_m8 234 rfl) rfl
theorem q2217 : (Jvm.Cond.static ({ cls := "java/lang/Integer", name := "getChars", desc := "(II[B)I" } : Jvm.MethodName)) ∈ lw_all := lw_g (lw_at lw_m8 236 rfl) rfl
theorem q2218 : (Jvm.Cond.code ({ cls := "java/lang/Integer", name := "getChars", desc := "(II[B)I" } : Jvm.MethodName) prog_62_method_12_code (7 : Nat) (Option.some Jvm.ClassFile.FieldType.int)) ∈ lw_all := lw_g (lw_at lw_m8 237 rfl) rfl
theorem q2219 : (Jvm.Cond.fieldLink "java/lang/Integer" (83 : Nat) "java/lang/Integer" "DigitOnes" "[B") ∈ lw_all := lw_g (lw_at lw_m8 238 rfl) rfl
theorem q2220 : (Jvm.Cond.laysStatic "java/lang/Integer" "DigitOnes" "[B") ∈ lw_tbl := lw_at lw_m8 239 rfl
theorem q2221 : (Jvm.Cond.fieldLink "java/lang/Integer" (87 : Nat) "java/lang/Integer" "DigitTens" "[B") ∈ lw_all := lw_g (lw_at lw_m9 0 rfl) rfl
theorem q2222 : (Jvm.Cond.laysStatic "java/lang/Integer" "DigitTens" "[B") ∈ lw_tbl := lw_at lw_m9 1 rfl
theorem q366 : (Jvm.Cond.initialized "java/lang/IllegalStateException") ∈ lw_all := lw_g (lw_at lw_m1 65 rfl) rfl
theorem q423 : (Jvm.Cond.selects "java/lang/IllegalStateException" ({ cls := "java/lang/Throwable", name := "fillInStackTrace", desc := "()Ljava/lang/Throwable;" } : Jvm.MethodName) ({ cls := "java/lang/Throwable", name := "fillInStackTrace", desc := "()Ljava/lang/Throwable;" } : Jvm.MethodName)) ∈ lw_all := lw_g (lw_at lw_m1 122 rfl) rfl
theorem q1112 : (Jvm.Cond.selects "java/lang/IllegalStateException" ({ cls := "java/lang/Object", name := "getClass", desc := "()Ljava/lang/Class;" } : Jvm.MethodName) ({ cls := "java/lang/Object", name := "getClass", desc := "()Ljava/lang/Class;" } : Jvm.MethodName)) ∈ lw_all := lw_g (lw_at lw_m4 91 rfl) rfl
theorem q2910 : (Jvm.Cond.instantiable "java/lang/IllegalStateException" (6 : Nat)) ∈ lw_all := lw_g (lw_at lw_m11 209 rfl) rfl
theorem q2911 : (Jvm.Cond.castable "java/lang/IllegalStateException" "java/lang/IllegalStateException") ∈ lw_tbl := lw_at lw_m11 210 rfl
theorem q2912 : (Jvm.Cond.selects "java/lang/IllegalStateException" ({ cls := "java/lang/Throwable", name := "fillInStackTrace", desc := "(I)Ljava/lang/Throwable;" } : Jvm.MethodName) ({ cls := "java/lang/Throwable", name := "fillInStackTrace", desc := "(I)Ljava/lang/Throwable;" } : Jvm.MethodName)) ∈ lw_all := lw_g (lw_at lw_m11 211 rfl) rfl
theorem q2913 : (Jvm.Cond.lays "java/lang/IllegalStateException" "java/lang/Throwable" "cause" "Ljava/lang/Throwable;") ∈ lw_all := lw_g (lw_at lw_m11 212 rfl) rfl
theorem q2914 : (Jvm.Cond.lays "java/lang/IllegalStateException" "java/lang/Throwable" "stackTrace" "[Ljava/lang/StackTraceElement;") ∈ lw_all := lw_g (lw_at lw_m11 213 rfl) rfl
theorem q2915 : (Jvm.Cond.lays "java/lang/IllegalStateException" "java/lang/Throwable" "suppressedExceptions" "Ljava/util/List;") ∈ lw_all := lw_g (lw_at lw_m11 214 rfl) rfl
theorem q2916 : (Jvm.Cond.lays "java/lang/IllegalStateException" "java/lang/Throwable" "detailMessage" "Ljava/lang/String;") ∈ lw_all := lw_g (lw_at lw_m11 215 rfl) rfl
theorem q2917 : (Jvm.Cond.lays "java/lang/IllegalStateException" "java/lang/Throwable" "backtrace" "Ljava/lang/Object;") ∈ lw_all := lw_g (lw_at lw_m11 216 rfl) rfl
theorem q2919 : (Jvm.Cond.instanceMethod ({ cls := "java/lang/IllegalStateException", name := "<init>", desc := "()V" } : Jvm.MethodName)) ∈ lw_all := lw_g (lw_at lw_m11 218 rfl) rfl
theorem q2920 : (Jvm.Cond.code ({ cls := "java/lang/IllegalStateException", name := "<init>", desc := "()V" } : Jvm.MethodName) prog_60_method_1_code (1 : Nat) (Option.none : Option Jvm.ClassFile.FieldType)) ∈ lw_all := lw_g (lw_at lw_m11 219 rfl) rfl
theorem q2921 : (Jvm.Cond.methodLink "java/lang/IllegalStateException" (1 : Nat) ({ cls := "java/lang/RuntimeException", name := "<init>", desc := "()V" } : Jvm.MethodName)) ∈ lw_all := lw_g (lw_at lw_m11 220 rfl) rfl
theorem q2922 : (Jvm.Cond.lays "java/lang/IllegalStateException" "java/lang/Throwable" "depth" "I") ∈ lw_all := lw_g (lw_at lw_m11 221 rfl) rfl
theorem q2923 : (Jvm.Cond.superclass "java/lang/IllegalStateException" "java/lang/RuntimeException") ∈ lw_all := lw_g (lw_at lw_m11 222 rfl) rfl
theorem q5559 : (Jvm.Cond.castable "java/lang/IllegalStateException" "java/lang/Object") ∈ lw_tbl := lw_at lw_m22 218 rfl
theorem q374 : (Jvm.Cond.initialized "java/lang/Long") ∈ lw_all := lw_g (lw_at lw_m1 73 rfl) rfl
theorem q3710 : (Jvm.Cond.static ({ cls := "java/lang/Long", name := "compare", desc := "(JJ)I" } : Jvm.MethodName)) ∈ lw_all := lw_g (lw_at lw_m15 49 rfl) rfl
theorem q3711 : (Jvm.Cond.code ({ cls := "java/lang/Long", name := "compare", desc := "(JJ)I" } : Jvm.MethodName) prog_64_method_42_code (4 : Nat) (Option.some Jvm.ClassFile.FieldType.int)) ∈ lw_all := lw_g (lw_at lw_m15 50 rfl) rfl
theorem q305 : (Jvm.Cond.initialized "java/lang/RuntimeException") ∈ lw_all := lw_g (lw_at lw_m1 4 rfl) rfl
theorem q389 : (Jvm.Cond.declares ({ cls := "java/lang/RuntimeException", name := "<init>", desc := "()V" } : Jvm.MethodName)) ∈ lw_tbl := lw_at lw_m1 88 rfl
theorem q390 : (Jvm.Cond.declares ({ cls := "java/lang/RuntimeException", name := "<init>", desc := "(Ljava/lang/String;)V" } : Jvm.MethodName)) ∈ lw_tbl := lw_at lw_m1 89 rfl
theorem q436 : (Jvm.Cond.instanceMethod ({ cls := "java/lang/RuntimeException", name := "<init>", desc := "(Ljava/lang/String;Ljava/lang/Throwable;ZZ)V" } : Jvm.MethodName)) ∈ lw_all := lw_g (lw_at lw_m1 135 rfl) rfl
theorem q437 : (Jvm.Cond.code ({ cls := "java/lang/RuntimeException", name := "<init>", desc := "(Ljava/lang/String;Ljava/lang/Throwable;ZZ)V" } : Jvm.MethodName) prog_66_method_5_code (5 : Nat) (Option.none : Option Jvm.ClassFile.FieldType)) ∈ lw_all := lw_g (lw_at lw_m1 136 rfl) rfl
theorem q438 : (Jvm.Cond.methodLink "java/lang/RuntimeException" (16 : Nat) ({ cls := "java/lang/Exception", name := "<init>", desc := "(Ljava/lang/String;Ljava/lang/Throwable;ZZ)V" } : Jvm.MethodName)) ∈ lw_all := lw_g (lw_at lw_m1 137 rfl) rfl
theorem q2278 : (Jvm.Cond.instanceMethod ({ cls := "java/lang/RuntimeException", name := "<init>", desc := "(Ljava/lang/String;)V" } : Jvm.MethodName)) ∈ lw_all := lw_g (lw_at lw_m9 57 rfl) rfl
theorem q2279 : (Jvm.Cond.code ({ cls := "java/lang/RuntimeException", name := "<init>", desc := "(Ljava/lang/String;)V" } : Jvm.MethodName) prog_66_method_2_code (2 : Nat) (Option.none : Option Jvm.ClassFile.FieldType)) ∈ lw_all := lw_g (lw_at lw_m9 58 rfl) rfl
theorem q2280 : (Jvm.Cond.methodLink "java/lang/RuntimeException" (7 : Nat) ({ cls := "java/lang/Exception", name := "<init>", desc := "(Ljava/lang/String;)V" } : Jvm.MethodName)) ∈ lw_all := lw_g (lw_at lw_m9 59 rfl) rfl
theorem q2903 : (Jvm.Cond.instanceMethod ({ cls := "java/lang/RuntimeException", name := "<init>", desc := "()V" } : Jvm.MethodName)) ∈ lw_all := lw_g (lw_at lw_m11 202 rfl) rfl
theorem q2904 : (Jvm.Cond.code ({ cls := "java/lang/RuntimeException", name := "<init>", desc := "()V" } : Jvm.MethodName) prog_66_method_1_code (1 : Nat) (Option.none : Option Jvm.ClassFile.FieldType)) ∈ lw_all := lw_g (lw_at lw_m11 203 rfl) rfl
theorem q2905 : (Jvm.Cond.methodLink "java/lang/RuntimeException" (1 : Nat) ({ cls := "java/lang/Exception", name := "<init>", desc := "()V" } : Jvm.MethodName)) ∈ lw_all := lw_g (lw_at lw_m11 204 rfl) rfl
theorem q375 : (Jvm.Cond.initialized "java/lang/IndexOutOfBoundsException") ∈ lw_all := lw_g (lw_at lw_m1 74 rfl) rfl
theorem q424 : (Jvm.Cond.selects "java/lang/IndexOutOfBoundsException" ({ cls := "java/lang/Throwable", name := "fillInStackTrace", desc := "()Ljava/lang/Throwable;" } : Jvm.MethodName) ({ cls := "java/lang/Throwable", name := "fillInStackTrace", desc := "()Ljava/lang/Throwable;" } : Jvm.MethodName)) ∈ lw_all := lw_g (lw_at lw_m1 123 rfl) rfl
theorem q1113 : (Jvm.Cond.selects "java/lang/IndexOutOfBoundsException" ({ cls := "java/lang/Object", name := "getClass", desc := "()Ljava/lang/Class;" } : Jvm.MethodName) ({ cls := "java/lang/Object", name := "getClass", desc := "()Ljava/lang/Class;" } : Jvm.MethodName)) ∈ lw_all := lw_g (lw_at lw_m4 92 rfl) rfl
theorem q3724 : (Jvm.Cond.instanceMethod ({ cls := "java/lang/IndexOutOfBoundsException", name := "<init>", desc := "(Ljava/lang/String;)V" } : Jvm.MethodName)) ∈ lw_all := lw_g (lw_at lw_m15 63 rfl) rfl
theorem q3725 : (Jvm.Cond.code ({ cls := "java/lang/IndexOutOfBoundsException", name := "<init>", desc := "(Ljava/lang/String;)V" } : Jvm.MethodName) prog_61_method_2_code (2 : Nat) (Option.none : Option Jvm.ClassFile.FieldType)) ∈ lw_all := lw_g (lw_at lw_m15 64 rfl) rfl
theorem q3726 : (Jvm.Cond.methodLink "java/lang/IndexOutOfBoundsException" (7 : Nat) ({ cls := "java/lang/RuntimeException", name := "<init>", desc := "(Ljava/lang/String;)V" } : Jvm.MethodName)) ∈ lw_all := lw_g (lw_at lw_m15 65 rfl) rfl
theorem q3735 : (Jvm.Cond.declares ({ cls := "java/lang/IndexOutOfBoundsException", name := "<init>", desc := "()V" } : Jvm.MethodName)) ∈ lw_tbl := lw_at lw_m15 74 rfl
theorem q3736 : (Jvm.Cond.declares ({ cls := "java/lang/IndexOutOfBoundsException", name := "<init>", desc := "(Ljava/lang/String;)V" } : Jvm.MethodName)) ∈ lw_tbl := lw_at lw_m15 75 rfl
theorem q3743 : (Jvm.Cond.instantiable "java/lang/IndexOutOfBoundsException" (6 : Nat)) ∈ lw_all := lw_g (lw_at lw_m15 82 rfl) rfl
theorem q3744 : (Jvm.Cond.castable "java/lang/IndexOutOfBoundsException" "java/lang/IndexOutOfBoundsException") ∈ lw_tbl := lw_at lw_m15 83 rfl
theorem q3745 : (Jvm.Cond.selects "java/lang/IndexOutOfBoundsException" ({ cls := "java/lang/Throwable", name := "fillInStackTrace", desc := "(I)Ljava/lang/Throwable;" } : Jvm.MethodName) ({ cls := "java/lang/Throwable", name := "fillInStackTrace", desc := "(I)Ljava/lang/Throwable;" } : Jvm.MethodName)) ∈ lw_all := lw_g (lw_at lw_m15 84 rfl) rfl
theorem q3746 : (Jvm.Cond.lays "java/lang/IndexOutOfBoundsException" "java/lang/Throwable" "cause" "Ljava/lang/Throwable;") ∈ lw_all := lw_g (lw_at lw_m15 85 rfl) rfl
theorem q3747 : (Jvm.Cond.lays "java/lang/IndexOutOfBoundsException" "java/lang/Throwable" "stackTrace" "[Ljava/lang/StackTraceElement;") ∈ lw_all := lw_g (lw_at lw_m15 86 rfl) rfl
theorem q3748 : (Jvm.Cond.lays "java/lang/IndexOutOfBoundsException" "java/lang/Throwable" "suppressedExceptions" "Ljava/util/List;") ∈ lw_all := lw_g (lw_at lw_m15 87 rfl) rfl
theorem q3749 : (Jvm.Cond.lays "java/lang/IndexOutOfBoundsException" "java/lang/Throwable" "detailMessage" "Ljava/lang/String;") ∈ lw_all := lw_g (lw_at lw_m15 88 rfl) rfl
theorem q3750 : (Jvm.Cond.lays "java/lang/IndexOutOfBoundsException" "java/lang/Throwable" "backtrace" "Ljava/lang/Object;") ∈ lw_all := lw_g (lw_at lw_m15 89 rfl) rfl
theorem q3752 : (Jvm.Cond.instanceMethod ({ cls := "java/lang/IndexOutOfBoundsException", name := "<init>", desc := "()V" } : Jvm.MethodName)) ∈ lw_all := lw_g (lw_at lw_m15 91 rfl) rfl
theorem q3753 : (Jvm.Cond.code ({ cls := "java/lang/IndexOutOfBoundsException", name := "<init>", desc := "()V" } : Jvm.MethodName) prog_61_method_1_code (1 : Nat) (Option.none : Option Jvm.ClassFile.FieldType)) ∈ lw_all := lw_g (lw_at lw_m15 92 rfl) rfl
theorem q3754 : (Jvm.Cond.methodLink "java/lang/IndexOutOfBoundsException" (1 : Nat) ({ cls := "java/lang/RuntimeException", name := "<init>", desc := "()V" } : Jvm.MethodName)) ∈ lw_all := lw_g (lw_at lw_m15 93 rfl) rfl
theorem q3755 : (Jvm.Cond.lays "java/lang/IndexOutOfBoundsException" "java/lang/Throwable" "depth" "I") ∈ lw_all := lw_g (lw_at lw_m15 94 rfl) rfl
theorem q3756 : (Jvm.Cond.superclass "java/lang/IndexOutOfBoundsException" "java/lang/RuntimeException") ∈ lw_all := lw_g (lw_at lw_m15 95 rfl) rfl
theorem q5567 : (Jvm.Cond.castable "java/lang/IndexOutOfBoundsException" "java/lang/Object") ∈ lw_tbl := lw_at lw_m22 226 rfl
theorem q376 : (Jvm.Cond.initialized "java/lang/ArrayIndexOutOfBoundsException") ∈ lw_all := lw_g (lw_at lw_m1 75 rfl) rfl
theorem q421 : (Jvm.Cond.selects "java/lang/ArrayIndexOutOfBoundsException" ({ cls := "java/lang/Throwable", name := "fillInStackTrace", desc := "()Ljava/lang/Throwable;" } : Jvm.MethodName) ({ cls := "java/lang/Throwable", name := "fillInStackTrace", desc := "()Ljava/lang/Throwable;" } : Jvm.MethodName)) ∈ lw_all := lw_g (lw_at lw_m1 120 rfl) rfl
theorem q1110 : (Jvm.Cond.selects "java/lang/ArrayIndexOutOfBoundsException" ({ cls := "java/lang/Object", name := "getClass", desc := "()Ljava/lang/Class;" } : Jvm.MethodName) ({ cls := "java/lang/Object", name := "getClass", desc := "()Ljava/lang/Class;" } : Jvm.MethodName)) ∈ lw_all := lw_g (lw_at lw_m4 89 rfl) rfl
theorem q3720 : (Jvm.Cond.instantiable "java/lang/ArrayIndexOutOfBoundsException" (6 : Nat)) ∈ lw_all := lw_g (lw_at lw_m15 59 rfl) rfl
theorem q3721 : (Jvm.Cond.instanceMethod ({ cls := "java/lang/ArrayIndexOutOfBoundsException", name := "<init>", desc := "(Ljava/lang/String;)V" } : Jvm.MethodName)) ∈ lw_all := lw_g (lw_at lw_m15 60 rfl) rfl
theorem q3722 : (Jvm.Cond.code ({ cls := "java/lang/ArrayIndexOutOfBoundsException", name := "<init>", desc := "(Ljava/lang/String;)V" } : Jvm.MethodName) prog_56_method_2_code (2 : Nat) (Option.none : Option Jvm.ClassFile.FieldType)) ∈ lw_all := lw_g (lw_at lw_m15 61 rfl) rfl
theorem q3723 : (Jvm.Cond.methodLink "java/lang/ArrayIndexOutOfBoundsException" (7 : Nat) ({ cls := "java/lang/IndexOutOfBoundsException", name := "<init>", desc := "(Ljava/lang/String;)V" } : Jvm.MethodName)) ∈ lw_all := lw_g (lw_at lw_m15 62 rfl) rfl
theorem q3727 : (Jvm.Cond.lays "java/lang/ArrayIndexOutOfBoundsException" "java/lang/Throwable" "backtrace" "Ljava/lang/Object;") ∈ lw_all := lw_g (lw_at lw_m15 66 rfl) rfl
theorem q3728 : (Jvm.Cond.lays "java/lang/ArrayIndexOutOfBoundsException" "java/lang/Throwable" "detailMessage" "Ljava/lang/String;") ∈ lw_all := lw_g (lw_at lw_m15 67 rfl) rfl
theorem q3729 : (Jvm.Cond.lays "java/lang/ArrayIndexOutOfBoundsException" "java/lang/Throwable" "cause" "Ljava/lang/Throwable;") ∈ lw_all := lw_g (lw_at lw_m15 68 rfl) rfl
theorem q3730 : (Jvm.Cond.lays "java/lang/ArrayIndexOutOfBoundsException" "java/lang/Throwable" "stackTrace" "[Ljava/lang/StackTraceElement;") ∈ lw_all := lw_g (lw_at lw_m15 69 rfl) rfl
theorem q3731 : (Jvm.Cond.lays "java/lang/ArrayIndexOutOfBoundsException" "java/lang/Throwable" "depth" "I") ∈ lw_all := lw_g (lw_at lw_m15 70 rfl) rfl
theorem q3732 : (Jvm.Cond.lays "java/lang/ArrayIndexOutOfBoundsException" "java/lang/Throwable" "suppressedExceptions" "Ljava/util/List;") ∈ lw_all := lw_g (lw_at lw_m15 71 rfl) rfl
theorem q3733 : (Jvm.Cond.superclass "java/lang/ArrayIndexOutOfBoundsException" "java/lang/IndexOutOfBoundsException") ∈ lw_all := lw_g (lw_at lw_m15 72 rfl) rfl
theorem q3734 : (Jvm.Cond.castable "java/lang/ArrayIndexOutOfBoundsException" "java/lang/ArrayIndexOutOfBoundsException") ∈ lw_tbl := lw_at lw_m15 73 rfl
theorem q3737 : (Jvm.Cond.selects "java/lang/ArrayIndexOutOfBoundsException" ({ cls := "java/lang/Throwable", name := "fillInStackTrace", desc := "(I)Ljava/lang/Throwable;" } : Jvm.MethodName) ({ cls := "java/lang/Throwable", name := "fillInStackTrace", desc := "(I)Ljava/lang/Throwable;" } : Jvm.MethodName)) ∈ lw_all := lw_g (lw_at lw_m15 76 rfl) rfl
theorem q5472 : (Jvm.Cond.castable "java/lang/ArrayIndexOutOfBoundsException" "java/lang/IndexOutOfBoundsException") ∈ lw_tbl := lw_at lw_m22 131 rfl
theorem q5566 : (Jvm.Cond.castable "java/lang/ArrayIndexOutOfBoundsException" "java/lang/Object") ∈ lw_tbl := lw_at lw_m22 225 rfl
theorem q377 : (Jvm.Cond.initialized "java/util/NoSuchElementException") ∈ lw_all := lw_g (lw_at lw_m1 76 rfl) rfl
theorem q425 : (Jvm.Cond.selects "java/util/NoSuchElementException" ({ cls := "java/lang/Throwable", name := "fillInStackTrace", desc := "()Ljava/lang/Throwable;" } : Jvm.MethodName) ({ cls := "java/lang/Throwable", name := "fillInStackTrace", desc := "()Ljava/lang/Throwable;" } : Jvm.MethodName)) ∈ lw_all := lw_g (lw_at lw_m1 124 rfl) rfl
theorem q1117 : (Jvm.Cond.selects "java/util/NoSuchElementException" ({ cls := "java/lang/Object", name := "getClass", desc := "()Ljava/lang/Class;" } : Jvm.MethodName) ({ cls := "java/lang/Object", name := "getClass", desc := "()Ljava/lang/Class;" } : Jvm.MethodName)) ∈ lw_all := lw_g (lw_at lw_m4 96 rfl) rfl
theorem q3771 : (Jvm.Cond.instantiable "java/util/NoSuchElementException" (6 : Nat)) ∈ lw_all := lw_g (lw_at lw_m15 110 rfl) rfl
theorem q3772 : (Jvm.Cond.castable "java/util/NoSuchElementException" "java/util/NoSuchElementException") ∈ lw_tbl := lw_at lw_m15 111 rfl
theorem q3773 : (Jvm.Cond.selects "java/util/NoSuchElementException" ({ cls := "java/lang/Throwable", name := "fillInStackTrace", desc := "(I)Ljava/lang/Throwable;" } : Jvm.MethodName) ({ cls := "java/lang/Throwable", name := "fillInStackTrace", desc := "(I)Ljava/lang/Throwable;" } : Jvm.MethodName)) ∈ lw_all := lw_g (lw_at lw_m15 112 rfl) rfl
theorem q3774 : (Jvm.Cond.lays "java/util/NoSuchElementException" "java/lang/Throwable" "cause" "Ljava/lang/Throwable;") ∈ lw_all := lw_g (lw_at lw_m15 113 rfl) rfl
theorem q3775 : (Jvm.Cond.lays "java/util/NoSuchElementException" "java/lang/Throwable" "stackTrace" "[Ljava/lang/StackTraceElement;") ∈ lw_all := lw_g (lw_at lw_m15 114 rfl) rfl
theorem q3776 : (Jvm.Cond.lays "java/util/NoSuchElementException" "java/lang/Throwable" "suppressedExceptions" "Ljava/util/List;") ∈ lw_all := lw_g (lw_at lw_m15 115 rfl) rfl
theorem q3777 : (Jvm.Cond.lays "java/util/NoSuchElementException" "java/lang/Throwable" "detailMessage" "Ljava/lang/String;") ∈ lw_all := lw_g (lw_at lw_m15 116 rfl) rfl
theorem q3778 : (Jvm.Cond.lays "java/util/NoSuchElementException" "java/lang/Throwable" "backtrace" "Ljava/lang/Object;") ∈ lw_all := lw_g (lw_at lw_m15 117 rfl) rfl
theorem q3780 : (Jvm.Cond.instanceMethod ({ cls := "java/util/NoSuchElementException", name := "<init>", desc := "()V" } : Jvm.MethodName)) ∈ lw_all := lw_g (lw_at lw_m15 119 rfl) rfl
theorem q3781 : (Jvm.Cond.code ({ cls := "java/util/NoSuchElementException", name := "<init>", desc := "()V" } : Jvm.MethodName) prog_79_method_1_code (1 : Nat) (Option.none : Option Jvm.ClassFile.FieldType)) ∈ lw_all := lw_g (lw_at lw_m15 120 rfl) rfl
theorem q3782 : (Jvm.Cond.methodLink "java/util/NoSuchElementException" (1 : Nat) ({ cls := "java/lang/RuntimeException", name := "<init>", desc := "()V" } : Jvm.MethodName)) ∈ lw_all := lw_g (lw_at lw_m15 121 rfl) rfl
theorem q3783 : (Jvm.Cond.lays "java/util/NoSuchElementException" "java/lang/Throwable" "depth" "I") ∈ lw_all := lw_g (lw_at lw_m15 122 rfl) rfl
theorem q3784 : (Jvm.Cond.superclass "java/util/NoSuchElementException" "java/lang/RuntimeException") ∈ lw_all := lw_g (lw_at lw_m15 123 rfl) rfl
theorem q5568 : (Jvm.Cond.castable "java/util/NoSuchElementException" "java/lang/Object") ∈ lw_tbl := lw_at lw_m22 227 rfl
theorem q384 : (Jvm.Cond.instanceMethod ({ cls := "java/lang/Object", name := "<init>", desc := "()V" } : Jvm.MethodName)) ∈ lw_all := lw_g (lw_at lw_m1 83 rfl) rfl
theorem q385 : (Jvm.Cond.code ({ cls := "java/lang/Object", name := "<init>", desc := "()V" } : Jvm.MethodName) object_method_1_code (1 : Nat) (Option.none : Option Jvm.ClassFile.FieldType)) ∈ lw_all := lw_g (lw_at lw_m1 84 rfl) rfl
theorem q1058 : (Jvm.Cond.instanceMethod ({ cls := "java/lang/Object", name := "getClass", desc := "()Ljava/lang/Class;" } : Jvm.MethodName)) ∈ lw_all := lw_g (lw_at lw_m4 37 rfl) rfl
theorem q1059 : (Jvm.Cond.sameMethod "java/lang/Object" "java/lang/Object" "getClass" "()Ljava/lang/Class;") ∈ lw_all := lw_g (lw_at lw_m4 38 rfl) rfl
theorem q1118 : (Jvm.Cond.native ({ cls := "java/lang/Object", name := "getClass", desc := "()Ljava/lang/Class;" } : Jvm.MethodName)) ∈ lw_all := lw_g (lw_at lw_m4 97 rfl) rfl
theorem q1318 : (Jvm.Cond.native ({ cls := "java/lang/Object", name := "clone", desc := "()Ljava/lang/Object;" } : Jvm.MethodName)) ∈ lw_all := lw_g (lw_at lw_m5 57 rfl) rfl
theorem q1319 : (Jvm.Cond.instanceMethod ({ cls := "java/lang/Object", name := "clone", desc := "()Ljava/lang/Object;" } : Jvm.MethodName)) ∈ lw_all := lw_g (lw_at lw_m5 58 rfl) rfl
theorem q5510 : (Jvm.Cond.declares ({ cls := "java/lang/Object", name := "getClass", desc := "()Ljava/lang/Class;" } : Jvm.MethodName)) ∈ lw_tbl := lw_at lw_m22 169 rfl
theorem q309 : (Jvm.Cond.initialized "java/util/AbstractCollection") ∈ lw_all := lw_g (lw_at lw_m1 8 rfl) rfl
theorem q536 : (Jvm.Cond.instanceMethod ({ cls := "java/util/AbstractCollection", name := "<init>", desc := "()V" } : Jvm.MethodName)) ∈ lw_all := lw_g (lw_at lw_m1 235 rfl) rfl
theorem q537 : (Jvm.Cond.code ({ cls := "java/util/AbstractCollection", name := "<init>", desc := "()V" } : Jvm.MethodName) prog_73_method_1_code (1 : Nat) (Option.none : Option Jvm.ClassFile.FieldType)) ∈ lw_all := lw_g (lw_at lw_m1 236 rfl) rfl
theorem q538 : (Jvm.Cond.methodLink "java/util/AbstractCollection" (1 : Nat) ({ cls := "java/lang/Object", name := "<init>", desc := "()V" } : Jvm.MethodName)) ∈ lw_all := lw_g (lw_at lw_m1 237 rfl) rfl
theorem q310 : (Jvm.Cond.initialized "java/util/AbstractList") ∈ lw_all := lw_g (lw_at lw_m1 9 rfl) rfl
theorem q533 : (Jvm.Cond.instanceMethod ({ cls := "java/util/AbstractList", name := "<init>", desc := "()V" } : Jvm.MethodName)) ∈ lw_all := lw_g (lw_at lw_m1 232 rfl) rfl
theorem q534 : (Jvm.Cond.code ({ cls := "java/util/AbstractList", name := "<init>", desc := "()V" } : Jvm.MethodName) prog_74_method_1_code (1 : Nat) (Option.none : Option Jvm.ClassFile.FieldType)) ∈ lw_all := lw_g (lw_at lw_m1 233 rfl) rfl
theorem q535 : (Jvm.Cond.methodLink "java/util/AbstractList" (1 : Nat) ({ cls := "java/util/AbstractCollection", name := "<init>", desc := "()V" } : Jvm.MethodName)) ∈ lw_all := lw_g (lw_at lw_m1 234 rfl) rfl
theorem q543 : (Jvm.Cond.fieldLink "java/util/AbstractList" (7 : Nat) "java/util/AbstractList" "modCount" "I") ∈ lw_all := lw_g (lw_at lw_m2 2 rfl) rfl
theorem q551 : (Jvm.Cond.soleField "java/util/AbstractList" "modCount") ∈ lw_all := lw_g (lw_at lw_m2 10 rfl) rfl
theorem q311 : (Jvm.Cond.initialized "java/util/ArrayList") ∈ lw_all := lw_g (lw_at lw_m1 10 rfl) rfl
theorem q528 : (Jvm.Cond.instantiable "java/util/ArrayList" (3 : Nat)) ∈ lw_all := lw_g (lw_at lw_m1 227 rfl) rfl
theorem q530 : (Jvm.Cond.instanceMethod ({ cls := "java/util/ArrayList", name := "<init>", desc := "()V" } : Jvm.MethodName)) ∈ lw_all := lw_g (lw_at lw_m1 229 rfl) rfl
theorem q531 : (Jvm.Cond.code ({ cls := "java/util/ArrayList", name := "<init>", desc := "()V" } : Jvm.MethodName) prog_75_method_2_code (1 : Nat) (Option.none : Option Jvm.ClassFile.FieldType)) ∈ lw_all := lw_g (lw_at lw_m1 230 rfl) rfl
theorem q532 : (Jvm.Cond.methodLink "java/util/ArrayList" (1 : Nat) ({ cls := "java/util/AbstractList", name := "<init>", desc := "()V" } : Jvm.MethodName)) ∈ lw_all := lw_g (lw_at lw_m1 231 rfl) rfl
theorem q539 : (Jvm.Cond.fieldLink "java/util/ArrayList" (39 : Nat) "java/util/ArrayList" "DEFAULTCAPACITY_EMPTY_ELEMENTDATA" "[Ljava/lang/Object;") ∈ lw_all := lw_g (lw_at lw_m1 238 rfl) rfl
theorem q540 : (Jvm.Cond.laysStatic "java/util/ArrayList" "DEFAULTCAPACITY_EMPTY_ELEMENTDATA" "[Ljava/lang/Object;") ∈ lw_tbl := lw_at lw_m1 239 rfl
theorem q541 : (Jvm.Cond.fieldLink "java/util/ArrayList" (9 : Nat) "java/util/ArrayList" "elementData" "[Ljava/lang/Object;") ∈ lw_all := lw_g (lw_at lw_m2 0 rfl) rfl
theorem q542 : (Jvm.Cond.fieldLink "java/util/ArrayList" (48 : Nat) "java/util/ArrayList" "size" "I") ∈ lw_all := lw_g (lw_at lw_m2 1 rfl) rfl
theorem q544 : (Jvm.Cond.fieldLink "java/util/ArrayList" (63 : Nat) "java/util/ArrayList" "modCount" "I") ∈ lw_all := lw_g (lw_at lw_m2 3 rfl) rfl
theorem q545 : (Jvm.Cond.sameField "java/util/ArrayList" "java/util/AbstractList" "modCount" "I") ∈ lw_all := lw_g (lw_at lw_m2 4 rfl) rfl
theorem q546 : (Jvm.Cond.lays "java/util/ArrayList" "java/util/ArrayList" "elementData" "[Ljava/lang/Object;") ∈ lw_all := lw_g (lw_at lw_m2 5 rfl) rfl
theorem q547 : (Jvm.Cond.soleField "java/util/ArrayList" "elementData") ∈ lw_all := lw_g (lw_at lw_m2 6 rfl) rfl
theorem q548 : (Jvm.Cond.lays "java/util/ArrayList" "java/util/ArrayList" "size" "I") ∈ lw_all := lw_g (lw_at lw_m2 7 rfl) rfl
theorem q549 : (Jvm.Cond.soleField "java/util/ArrayList" "size") ∈ lw_all := lw_g (lw_at lw_m2 8 rfl) rfl
theorem q550 : (Jvm.Cond.lays "java/util/ArrayList" "java/util/AbstractList" "modCount" "I") ∈ lw_all := lw_g (lw_at lw_m2 9 rfl) rfl
theorem q552 : (Jvm.Cond.superclass "java/util/ArrayList" "java/util/AbstractList") ∈ lw_all := lw_g (lw_at lw_m2 11 rfl) rfl
theorem q986 : (Jvm.Cond.instanceMethod ({ cls := "java/util/ArrayList", name := "clear", desc := "()V" } : Jvm.MethodName)) ∈ lw_all := lw_g (lw_at lw_m3 205 rfl) rfl
theorem q987 : (Jvm.Cond.selects "java/util/ArrayList" ({ cls := "java/util/ArrayList", name := "clear", desc := "()V" } : Jvm.MethodName) ({ cls := "java/util/ArrayList", name := "clear", desc := "()V" } : Jvm.MethodName)) ∈ lw_all := lw_g (lw_at lw_m3 206 rfl) rfl
theorem q988 : (Jvm.Cond.code ({ cls := "java/util/ArrayList", name := "clear", desc := "()V" } : Jvm.MethodName) prog_75_method_40_code (4 : Nat) (Option.none : Option Jvm.ClassFile.FieldType)) ∈ lw_all := lw_g (lw_at lw_m3 207 rfl) rfl
theorem q1029 : (Jvm.Cond.instanceMethod ({ cls := "java/util/ArrayList", name := "add", desc := "(Ljava/lang/Object;)Z" } : Jvm.MethodName)) ∈ lw_all := lw_g (lw_at lw_m4 8 rfl) rfl
theorem q1030 : (Jvm.Cond.selects "java/util/ArrayList" ({ cls := "java/util/ArrayList", name := "add", desc := "(Ljava/lang/Object;)Z" } : Jvm.MethodName) ({ cls := "java/util/ArrayList", name := "add", desc := "(Ljava/lang/Object;)Z" } : Jvm.MethodName)) ∈ lw_all := lw_g (lw_at lw_m4 9 rfl) rfl
theorem q1031 : (Jvm.Cond.code ({ cls := "java/util/ArrayList", name := "add", desc := "(Ljava/lang/Object;)Z" } : Jvm.MethodName) prog_75_method_25_code (2 : Nat) (Option.some Jvm.ClassFile.FieldType.boolean)) ∈ lw_all := lw_g (lw_at lw_m4 10 rfl) rfl
theorem q1032 : (Jvm.Cond.methodLink "java/util/ArrayList" (131 : Nat) ({ cls := "java/util/ArrayList", name := "add", desc := "(Ljava/lang/Object;[Ljava/lang/Object;I)V" } : Jvm.MethodName)) ∈ lw_all := lw_g (lw_at lw_m4 11 rfl) rfl
theorem q1033 : (Jvm.Cond.privateMethod ({ cls := "java/util/ArrayList", name := "add", desc := "(Ljava/lang/Object;[Ljava/lang/Object;I)V" } : Jvm.MethodName)) ∈ lw_tbl := lw_at lw_m4 12 rfl
theorem q1034 : (Jvm.Cond.instanceMethod ({ cls := "java/util/ArrayList", name := "add", desc := "(Ljava/lang/Object;[Ljava/lang/Object;I)V" } : Jvm.MethodName)) ∈ lw_all := lw_g (lw_at lw_m4 13 rfl) rfl
theorem q1035 : (Jvm.Cond.code ({ cls := "java/util/ArrayList", name := "add", desc := "(Ljava/lang/Object;[Ljava/lang/Object;I)V" } : Jvm.MethodName) prog_75_method_24_code (4 : Nat) (Option.none : Option Jvm.ClassFile.FieldType)) ∈ lw_all := lw_g (lw_at lw_m4 14 rfl) rfl
theorem q1036 : (Jvm.Cond.methodLink "java/util/ArrayList" (129 : Nat) ({ cls := "java/util/ArrayList", name := "grow", desc := "()[Ljava/lang/Object;" } : Jvm.MethodName)) ∈ lw_all := lw_g (lw_at lw_m4 15 rfl) rfl
theorem q1037 : (Jvm.Cond.privateMethod ({ cls := "java/util/ArrayList", name := "grow", desc := "()[Ljava/lang/Object;" } : Jvm.MethodName)) ∈ lw_tbl := lw_at lw_m4 16 rfl
theorem q1038 : (Jvm.Cond.instanceMethod ({ cls := "java/util/ArrayList", name := "grow", desc := "()[Ljava/lang/Object;" } : Jvm.MethodName)) ∈ lw_all := lw_g (lw_at lw_m4 17 rfl) rfl
theorem q1039 : (Jvm.Cond.code ({ cls := "java/util/ArrayList", name := "grow", desc := "()[Ljava/lang/Object;" } : Jvm.MethodName) prog_75_method_7_code (1 : Nat) (Option.some (Jvm.ClassFile.FieldType.array (Jvm.ClassFile.FieldType.object "java/lang/Object")))) ∈ lw_all := lw_g (lw_at lw_m4 18 rfl) rfl
theorem q1040 : (Jvm.Cond.methodLink "java/util/ArrayList" (69 : Nat) ({ cls := "java/util/ArrayList", name := "grow", desc := "(I)[Ljava/lang/Object;" } : Jvm.MethodName)) ∈ lw_all := lw_g (lw_at lw_m4 19 rfl) rfl
theorem q1041 : (Jvm.Cond.privateMethod ({ cls := "java/util/ArrayList", name := "grow", desc := "(I)[Ljava/lang/Object;" } : Jvm.MethodName)) ∈ lw_tbl := lw_at lw_m4 20 rfl
theorem q1042 : (Jvm.Cond.instanceMethod ({ cls := "java/util/ArrayList", name := "grow", desc := "(I)[Ljava/lang/Object;" } : Jvm.MethodName)) ∈ lw_all := lw_g (lw_at lw_m4 21 rfl) rfl
theorem q1043 : (Jvm.Cond.code ({ cls := "java/util/ArrayList", name := "grow", desc := "(I)[Ljava/lang/Object;" } : Jvm.MethodName) prog_75_method_6_code (4 : Nat) (Option.some (Jvm.ClassFile.FieldType.array (Jvm.ClassFile.FieldType.object "java/lang/Object")))) ∈ lw_all := lw_g (lw_at lw_m4 22 rfl) rfl
theorem q1044 : (Jvm.Cond.methodLink "java/util/ArrayList" (73 : Nat) ({ cls := "jdk/internal/util/ArraysSupport", name := "newLength", desc := "(III)I" } : Jvm.MethodName)) ∈ lw_all := lw_g (lw_at lw_m4 23 rfl) rfl
theorem q1054 : (Jvm.Cond.methodLink "java/util/ArrayList" (66 : Nat) ({ cls := "java/util/Arrays", name := "copyOf", desc := "([Ljava/lang/Object;I)[Ljava/lang/Object;" } : Jvm.MethodName)) ∈ lw_all := lw_g (lw_at lw_m4 33 rfl) rfl
theorem q1116 : (Jvm.Cond.selects "java/util/ArrayList" ({ cls := "java/lang/Object", name := "getClass", desc := "()Ljava/lang/Class;" } : Jvm.MethodName) ({ cls := "java/lang/Object", name := "getClass", desc := "()Ljava/lang/Class;" } : Jvm.MethodName)) ∈ lw_all := lw_g (lw_at lw_m4 95 rfl) rfl
theorem q1131 : (Jvm.Cond.methodLink "java/util/ArrayList" (79 : Nat) ({ cls := "java/lang/Math", name := "max", desc := "(II)I" } : Jvm.MethodName)) ∈ lw_all := lw_g (lw_at lw_m4 110 rfl) rfl
theorem q1132 : (Jvm.Cond.classLink "java/util/ArrayList" (7 : Nat) "java/lang/Object") ∈ lw_all := lw_g (lw_at lw_m4 111 rfl) rfl
theorem q1135 : (Jvm.Cond.instanceMethod ({ cls := "java/util/ArrayList", name := "size", desc := "()I" } : Jvm.MethodName)) ∈ lw_all := lw_g (lw_at lw_m4 114 rfl) rfl
theorem q1136 : (Jvm.Cond.selects "java/util/ArrayList" ({ cls := "java/util/ArrayList", name := "size", desc := "()I" } : Jvm.MethodName) ({ cls := "java/util/ArrayList", name := "size", desc := "()I" } : Jvm.MethodName)) ∈ lw_all := lw_g (lw_at lw_m4 115 rfl) rfl
theorem q1137 : (Jvm.Cond.code ({ cls := "java/util/ArrayList", name := "size", desc := "()I" } : Jvm.MethodName) prog_75_method_8_code (1 : Nat) (Option.some Jvm.ClassFile.FieldType.int)) ∈ lw_all := lw_g (lw_at lw_m4 116 rfl) rfl
theorem q1139 : (Jvm.Cond.instanceMethod ({ cls := "java/util/ArrayList", name := "get", desc := "(I)Ljava/lang/Object;" } : Jvm.MethodName)) ∈ lw_all := lw_g (lw_at lw_m4 118 rfl) rfl
theorem q1140 : (Jvm.Cond.selects "java/util/ArrayList" ({ cls := "java/util/ArrayList", name := "get", desc := "(I)Ljava/lang/Object;" } : Jvm.MethodName) ({ cls := "java/util/ArrayList", name := "get", desc := "(I)Ljava/lang/Object;" } : Jvm.MethodName)) ∈ lw_all := lw_g (lw_at lw_m4 119 rfl) rfl
theorem q1141 : (Jvm.Cond.code ({ cls := "java/util/ArrayList", name := "get", desc := "(I)Ljava/lang/Object;" } : Jvm.MethodName) prog_75_method_20_code (2 : Nat) (Option.some (Jvm.ClassFile.FieldType.object "java/lang/Object"))) ∈ lw_all := lw_g (lw_at lw_m4 120 rfl) rfl
theorem q1142 : (Jvm.Cond.methodLink "java/util/ArrayList" (118 : Nat) ({ cls := "java/util/Objects", name := "checkIndex", desc := "(II)I" } : Jvm.MethodName)) ∈ lw_all := lw_g (lw_at lw_m4 121 rfl) rfl
theorem q1148 : (Jvm.Cond.methodLink "java/util/ArrayList" (123 : Nat) ({ cls := "java/util/ArrayList", name := "elementData", desc := "(I)Ljava/lang/Object;" } : Jvm.MethodName)) ∈ lw_all := lw_g (lw_at lw_m4 127 rfl) rfl
theorem q1149 : (Jvm.Cond.instanceMethod ({ cls := "java/util/ArrayList", name := "elementData", desc := "(I)Ljava/lang/Object;" } : Jvm.MethodName)) ∈ lw_all := lw_g (lw_at lw_m4 128 rfl) rfl
theorem q1150 : (Jvm.Cond.selects "java/util/ArrayList" ({ cls := "java/util/ArrayList", name := "elementData", desc := "(I)Ljava/lang/Object;" } : Jvm.MethodName) ({ cls := "java/util/ArrayList", name := "elementData", desc := "(I)Ljava/lang/Object;" } : Jvm.MethodName)) ∈ lw_all := lw_g (lw_at lw_m4 129 rfl) rfl
theorem q1151 : (Jvm.Cond.code ({ cls := "java/util/ArrayList", name := "elementData", desc := "(I)Ljava/lang/Object;" } : Jvm.MethodName) prog_75_method_18_code (2 : Nat) (Option.some (Jvm.ClassFile.FieldType.object "java/lang/Object"))) ∈ lw_all := lw_g (lw_at lw_m4 130 rfl) rfl
theorem q2085 : (Jvm.Cond.instanceMethod ({ cls := "java/util/ArrayList", name := "<init>", desc := "(I)V" } : Jvm.MethodName)) ∈ lw_all := lw_g (lw_at lw_m8 104 rfl) rfl
theorem q2086 : (Jvm.Cond.code ({ cls := "java/util/ArrayList", name := "<init>", desc := "(I)V" } : Jvm.MethodName) prog_75_method_1_code (2 : Nat) (Option.none : Option Jvm.ClassFile.FieldType)) ∈ lw_all := lw_g (lw_at lw_m8 105 rfl) rfl
theorem q2087 : (Jvm.Cond.fieldLink "java/util/ArrayList" (15 : Nat) "java/util/ArrayList" "EMPTY_ELEMENTDATA" "[Ljava/lang/Object;") ∈ lw_all := lw_g (lw_at lw_m8 106 rfl) rfl
theorem q2088 : (Jvm.Cond.laysStatic "java/util/ArrayList" "EMPTY_ELEMENTDATA" "[Ljava/lang/Object;") ∈ lw_tbl := lw_at lw_m8 107 rfl
theorem q2089 : (Jvm.Cond.classLink "java/util/ArrayList" (18 : Nat) "java/lang/IllegalArgumentException") ∈ lw_all := lw_g (lw_at lw_m8 108 rfl) rfl
theorem q2098 : (Jvm.Cond.classLink "java/util/ArrayList" (20 : Nat) "java/lang/StringBuilder") ∈ lw_all := lw_g (lw_at lw_m8 117 rfl) rfl
theorem q2100 : (Jvm.Cond.methodLink "java/util/ArrayList" (22 : Nat) ({ cls := "java/lang/StringBuilder", name := "<init>", desc := "()V" } : Jvm.MethodName)) ∈ lw_all := lw_g (lw_at lw_m8 119 rfl) rfl
theorem q2128 : (Jvm.Cond.stringRef "java/util/ArrayList" (23 : Nat) "Illegal Capacity: ") ∈ lw_tbl := lw_at lw_m8 147 rfl
theorem q2129 : (Jvm.Cond.methodLink "java/util/ArrayList" (25 : Nat) ({ cls := "java/lang/StringBuilder", name := "append", desc := "(Ljava/lang/String;)Ljava/lang/StringBuilder;" } : Jvm.MethodName)) ∈ lw_all := lw_g (lw_at lw_m8 148 rfl) rfl
theorem q2206 : (Jvm.Cond.methodLink "java/util/ArrayList" (29 : Nat) ({ cls := "java/lang/StringBuilder", name := "append", desc := "(I)Ljava/lang/StringBuilder;" } : Jvm.MethodName)) ∈ lw_all := lw_g (lw_at lw_m8 225 rfl) rfl
theorem q2231 : (Jvm.Cond.methodLink "java/util/ArrayList" (32 : Nat) ({ cls := "java/lang/StringBuilder", name := "toString", desc := "()Ljava/lang/String;" } : Jvm.MethodName)) ∈ lw_all := lw_g (lw_at lw_m9 10 rfl) rfl
theorem q2309 : (Jvm.Cond.methodLink "java/util/ArrayList" (36 : Nat) ({ cls := "java/lang/IllegalArgumentException", name := "<init>", desc := "(Ljava/lang/String;)V" } : Jvm.MethodName)) ∈ lw_all := lw_g (lw_at lw_m9 88 rfl) rfl
theorem q2725 : (Jvm.Cond.instanceMethod ({ cls := "java/util/ArrayList", name := "remove", desc := "(I)Ljava/lang/Object;" } : Jvm.MethodName)) ∈ lw_all := lw_g (lw_at lw_m11 24 rfl) rfl
theorem q2726 : (Jvm.Cond.selects "java/util/ArrayList" ({ cls := "java/util/ArrayList", name := "remove", desc := "(I)Ljava/lang/Object;" } : Jvm.MethodName) ({ cls := "java/util/ArrayList", name := "remove", desc := "(I)Ljava/lang/Object;" } : Jvm.MethodName)) ∈ lw_all := lw_g (lw_at lw_m11 25 rfl) rfl
theorem q2727 : (Jvm.Cond.code ({ cls := "java/util/ArrayList", name := "remove", desc := "(I)Ljava/lang/Object;" } : Jvm.MethodName) prog_75_method_29_code (4 : Nat) (Option.some (Jvm.ClassFile.FieldType.object "java/lang/Object"))) ∈ lw_all := lw_g (lw_at lw_m11 26 rfl) rfl
theorem q2728 : (Jvm.Cond.methodLink "java/util/ArrayList" (144 : Nat) ({ cls := "java/util/ArrayList", name := "fastRemove", desc := "([Ljava/lang/Object;I)V" } : Jvm.MethodName)) ∈ lw_all := lw_g (lw_at lw_m11 27 rfl) rfl
theorem q2729 : (Jvm.Cond.privateMethod ({ cls := "java/util/ArrayList", name := "fastRemove", desc := "([Ljava/lang/Object;I)V" } : Jvm.MethodName)) ∈ lw_tbl := lw_at lw_m11 28 rfl
theorem q2730 : (Jvm.Cond.instanceMethod ({ cls := "java/util/ArrayList", name := "fastRemove", desc := "([Ljava/lang/Object;I)V" } : Jvm.MethodName)) ∈ lw_all := lw_g (lw_at lw_m11 29 rfl) rfl
theorem q2731 : (Jvm.Cond.code ({ cls := "java/util/ArrayList", name := "fastRemove", desc := "([Ljava/lang/Object;I)V" } : Jvm.MethodName) prog_75_method_39_code (4 : Nat) (Option.none : Option Jvm.ClassFile.FieldType)) ∈ lw_all := lw_g (lw_at lw_m11 30 rfl) rfl
theorem q2732 : (Jvm.Cond.methodLink "java/util/ArrayList" (112 : Nat) ({ cls := "java/lang/System", name := "arraycopy", desc := "(Ljava/lang/Object;ILjava/lang/Object;II)V" } : Jvm.MethodName)) ∈ lw_all := lw_g (lw_at lw_m11 31 rfl) rfl
theorem q5515 : (Jvm.Cond.castable "java/util/ArrayList" "java/lang/Object") ∈ lw_tbl := lw_at lw_m22 174 rfl
theorem q322 : (Jvm.Cond.initialized "jdk/internal/util/ArraysSupport") ∈ lw_all := lw_g (lw_at lw_m1 21 rfl) rfl
theorem q1045 : (Jvm.Cond.static ({ cls := "jdk/internal/util/ArraysSupport", name := "newLength", desc := "(III)I" } : Jvm.MethodName)) ∈ lw_all := lw_g (lw_at lw_m4 24 rfl) rfl
theorem q1046 : (Jvm.Cond.code ({ cls := "jdk/internal/util/ArraysSupport", name := "newLength", desc := "(III)I" } : Jvm.MethodName) prog_83_method_27_code (4 : Nat) (Option.some Jvm.ClassFile.FieldType.int)) ∈ lw_all := lw_g (lw_at lw_m4 25 rfl) rfl
theorem q1047 : (Jvm.Cond.methodLink "jdk/internal/util/ArraysSupport" (194 : Nat) ({ cls := "java/lang/Math", name := "max", desc := "(II)I" } : Jvm.MethodName)) ∈ lw_all := lw_g (lw_at lw_m4 26 rfl) rfl
theorem q1050 : (Jvm.Cond.constant "jdk/internal/util/ArraysSupport" (200 : Nat) (2147483639 : Int32)) ∈ lw_all := lw_g (lw_at lw_m4 29 rfl) rfl
theorem q1051 : (Jvm.Cond.methodLink "jdk/internal/util/ArraysSupport" (201 : Nat) ({ cls := "jdk/internal/util/ArraysSupport", name := "hugeLength", desc := "(II)I" } : Jvm.MethodName)) ∈ lw_all := lw_g (lw_at lw_m4 30 rfl) rfl
theorem q1052 : (Jvm.Cond.static ({ cls := "jdk/internal/util/ArraysSupport", name := "hugeLength", desc := "(II)I" } : Jvm.MethodName)) ∈ lw_all := lw_g (lw_at lw_m4 31 rfl) rfl
theorem q1053 : (Jvm.Cond.code ({ cls := "jdk/internal/util/ArraysSupport", name := "hugeLength", desc := "(II)I" } : Jvm.MethodName) prog_83_method_28_code (3 : Nat) (Option.some Jvm.ClassFile.FieldType.int)) ∈ lw_all := lw_g (lw_at lw_m4 32 rfl) rfl
theorem q323 : (Jvm.Cond.initialized "java/lang/Math") ∈ lw_all := lw_g (lw_at lw_m1 22 rfl) rfl
theorem q1048 : (Jvm.Cond.static ({ cls := "java/lang/Math", name := "max", desc := "(II)I" } : Jvm.MethodName)) ∈ lw_all := lw_g (lw_at lw_m4 27 rfl) rfl
theorem q1049 : (Jvm.Cond.code ({ cls := "java/lang/Math", name := "max", desc := "(II)I" } : Jvm.MethodName) prog_65_method_65_code (2 : Nat) (Option.some Jvm.ClassFile.FieldType.int)) ∈ lw_all := lw_g (lw_at lw_m4 28 rfl) rfl
theorem q1126 : (Jvm.Cond.static ({ cls := "java/lang/Math", name := "min", desc := "(II)I" } : Jvm.MethodName)) ∈ lw_all := lw_g (lw_at lw_m4 105 rfl) rfl
theorem q1127 : (Jvm.Cond.code ({ cls := "java/lang/Math", name := "min", desc := "(II)I" } : Jvm.MethodName) prog_65_method_69_code (2 : Nat) (Option.some Jvm.ClassFile.FieldType.int)) ∈ lw_all := lw_g (lw_at lw_m4 106 rfl) rfl
theorem q3643 : (Jvm.Cond.static ({ cls := "java/lang/Math", name := "abs", desc := "(J)J" } : Jvm.MethodName)) ∈ lw_all := lw_g (lw_at lw_m14 222 rfl) rfl
theorem q3644 : (Jvm.Cond.code ({ cls := "java/lang/Math", name := "abs", desc := "(J)J" } : Jvm.MethodName) prog_65_method_61_code (2 : Nat) (Option.some Jvm.ClassFile.FieldType.long)) ∈ lw_all := lw_g (lw_at lw_m14 223 rfl) rfl
theorem q324 : (Jvm.Cond.initialized "java/util/Arrays") ∈ lw_all := lw_g (lw_at lw_m1 23 rfl) rfl
theorem q1055 : (Jvm.Cond.static ({ cls := "java/util/Arrays", name := "copyOf", desc := "([Ljava/lang/Object;I)[Ljava/lang/Object;" } : Jvm.MethodName)) ∈ lw_all := lw_g (lw_at lw_m4 34 rfl) rfl
theorem q1056 : (Jvm.Cond.code ({ cls := "java/util/Arrays", name := "copyOf", desc := "([Ljava/lang/Object;I)[Ljava/lang/Object;" } : Jvm.MethodName) prog_76_method_119_code (2 : Nat) (Option.some (Jvm.ClassFile.FieldType.array (Jvm.ClassFile.FieldType.object "java/lang/Object")))) ∈ lw_all := lw_g (lw_at lw_m4 35 rfl) rfl
theorem q1057 : (Jvm.Cond.methodLink "java/util/Arrays" (86 : Nat) ({ cls := "java/lang/Object", name := "getClass", desc := "()Ljava/lang/Class;" } : Jvm.MethodName)) ∈ lw_all := lw_g (lw_at lw_m4 36 rfl) rfl
theorem q1119 : (Jvm.Cond.methodLink "java/util/Arrays" (300 : Nat) ({ cls := "java/util/Arrays", name := "copyOf", desc := "([Ljava/lang/Object;ILjava/lang/Class;)[Ljava/lang/Object;" } : Jvm.MethodName)) ∈ lw_all := lw_g (lw_at lw_m4 98 rfl) rfl
theorem q1120 : (Jvm.Cond.static ({ cls := "java/util/Arrays", name := "copyOf", desc := "([Ljava/lang/Object;ILjava/lang/Class;)[Ljava/lang/Object;" } : Jvm.MethodName)) ∈ lw_all := lw_g (lw_at lw_m4 99 rfl) rfl
theorem q1121 : (Jvm.Cond.code ({ cls := "java/util/Arrays", name := "copyOf", desc := "([Ljava/lang/Object;ILjava/lang/Class;)[Ljava/lang/Object;" } : Jvm.MethodName) prog_76_method_120_code (4 : Nat) (Option.some (Jvm.ClassFile.FieldType.array (Jvm.ClassFile.FieldType.object "java/lang/Object")))) ∈ lw_all := lw_g (lw_at lw_m4 100 rfl) rfl
theorem q1122 : (Jvm.Cond.classLink "java/util/Arrays" (110 : Nat) "[Ljava/lang/Object;") ∈ lw_all := lw_g (lw_at lw_m4 101 rfl) rfl
theorem q1124 : (Jvm.Cond.classLink "java/util/Arrays" (2 : Nat) "java/lang/Object") ∈ lw_all := lw_g (lw_at lw_m4 103 rfl) rfl
theorem q1125 : (Jvm.Cond.methodLink "java/util/Arrays" (304 : Nat) ({ cls := "java/lang/Math", name := "min", desc := "(II)I" } : Jvm.MethodName)) ∈ lw_all := lw_g (lw_at lw_m4 104 rfl) rfl
theorem q1128 : (Jvm.Cond.methodLink "java/util/Arrays" (150 : Nat) ({ cls := "java/lang/System", name := "arraycopy", desc := "(Ljava/lang/Object;ILjava/lang/Object;II)V" } : Jvm.MethodName)) ∈ lw_all := lw_g (lw_at lw_m4 107 rfl) rfl
theorem q1314 : (Jvm.Cond.static ({ cls := "java/util/Arrays", name := "copyOf", desc := "([BI)[B" } : Jvm.MethodName)) ∈ lw_all := lw_g (lw_at lw_m5 53 rfl) rfl
theorem q1315 : (Jvm.Cond.code ({ cls := "java/util/Arrays", name := "copyOf", desc := "([BI)[B" } : Jvm.MethodName) prog_76_method_121_code (3 : Nat) (Option.some (Jvm.ClassFile.FieldType.array Jvm.ClassFile.FieldType.byte))) ∈ lw_all := lw_g (lw_at lw_m5 54 rfl) rfl
theorem q1316 : (Jvm.Cond.methodLink "java/util/Arrays" (310 : Nat) ({ cls := "[B", name := "clone", desc := "()Ljava/lang/Object;" } : Jvm.MethodName)) ∈ lw_all := lw_g (lw_at lw_m5 55 rfl) rfl
theorem q1322 : (Jvm.Cond.classLink "java/util/Arrays" (311 : Nat) "[B") ∈ lw_all := lw_g (lw_at lw_m5 61 rfl) rfl
theorem q1471 : (Jvm.Cond.static ({ cls := "java/util/Arrays", name := "copyOf", desc := "([II)[I" } : Jvm.MethodName)) ∈ lw_all := lw_g (lw_at lw_m5 210 rfl) rfl
theorem q1472 : (Jvm.Cond.code ({ cls := "java/util/Arrays", name := "copyOf", desc := "([II)[I" } : Jvm.MethodName) prog_76_method_123_code (3 : Nat) (Option.some (Jvm.ClassFile.FieldType.array Jvm.ClassFile.FieldType.int))) ∈ lw_all := lw_g (lw_at lw_m5 211 rfl) rfl
theorem q1473 : (Jvm.Cond.methodLink "java/util/Arrays" (316 : Nat) ({ cls := "[I", name := "clone", desc := "()Ljava/lang/Object;" } : Jvm.MethodName)) ∈ lw_all := lw_g (lw_at lw_m5 212 rfl) rfl
theorem q1477 : (Jvm.Cond.classLink "java/util/Arrays" (317 : Nat) "[I") ∈ lw_all := lw_g (lw_at lw_m5 216 rfl) rfl
theorem q2259 : (Jvm.Cond.static ({ cls := "java/util/Arrays", name := "copyOfRange", desc := "([BII)[B" } : Jvm.MethodName)) ∈ lw_all := lw_g (lw_at lw_m9 38 rfl) rfl
theorem q2260 : (Jvm.Cond.code ({ cls := "java/util/Arrays", name := "copyOfRange", desc := "([BII)[B" } : Jvm.MethodName) prog_76_method_132_code (3 : Nat) (Option.some (Jvm.ClassFile.FieldType.array Jvm.ClassFile.FieldType.byte))) ∈ lw_all := lw_g (lw_at lw_m9 39 rfl) rfl
theorem q2261 : (Jvm.Cond.methodLink "java/util/Arrays" (339 : Nat) ({ cls := "java/util/Arrays", name := "copyOfRangeByte", desc := "([BII)[B" } : Jvm.MethodName)) ∈ lw_all := lw_g (lw_at lw_m9 40 rfl) rfl
theorem q2262 : (Jvm.Cond.static ({ cls := "java/util/Arrays", name := "copyOfRangeByte", desc := "([BII)[B" } : Jvm.MethodName)) ∈ lw_all := lw_g (lw_at lw_m9 41 rfl) rfl
theorem q2263 : (Jvm.Cond.code ({ cls := "java/util/Arrays", name := "copyOfRangeByte", desc := "([BII)[B" } : Jvm.MethodName) prog_76_method_133_code (5 : Nat) (Option.some (Jvm.ClassFile.FieldType.array Jvm.ClassFile.FieldType.byte))) ∈ lw_all := lw_g (lw_at lw_m9 42 rfl) rfl
theorem q2264 : (Jvm.Cond.methodLink "java/util/Arrays" (343 : Nat) ({ cls := "java/util/Arrays", name := "checkLength", desc := "(II)V" } : Jvm.MethodName)) ∈ lw_all := lw_g (lw_at lw_m9 43 rfl) rfl
theorem q2265 : (Jvm.Cond.static ({ cls := "java/util/Arrays", name := "checkLength", desc := "(II)V" } : Jvm.MethodName)) ∈ lw_all := lw_g (lw_at lw_m9 44 rfl) rfl
theorem q2266 : (Jvm.Cond.code ({ cls := "java/util/Arrays", name := "checkLength", desc := "(II)V" } : Jvm.MethodName) prog_76_method_131_code (2 : Nat) (Option.none : Option Jvm.ClassFile.FieldType)) ∈ lw_all := lw_g (lw_at lw_m9 45 rfl) rfl
theorem q2267 : (Jvm.Cond.classLink "java/util/Arrays" (43 : Nat) "java/lang/IllegalArgumentException") ∈ lw_all := lw_g (lw_at lw_m9 46 rfl) rfl
theorem q2268 : (Jvm.Cond.classLink "java/util/Arrays" (45 : Nat) "java/lang/StringBuilder") ∈ lw_all := lw_g (lw_at lw_m9 47 rfl) rfl
theorem q2269 : (Jvm.Cond.methodLink "java/util/Arrays" (47 : Nat) ({ cls := "java/lang/StringBuilder", name := "<init>", desc := "()V" } : Jvm.MethodName)) ∈ lw_all := lw_g (lw_at lw_m9 48 rfl) rfl
theorem q2270 : (Jvm.Cond.methodLink "java/util/Arrays" (54 : Nat) ({ cls := "java/lang/StringBuilder", name := "append", desc := "(I)Ljava/lang/StringBuilder;" } : Jvm.MethodName)) ∈ lw_all := lw_g (lw_at lw_m9 49 rfl) rfl
theorem q2271 : (Jvm.Cond.stringRef "java/util/Arrays" (337 : Nat) " > ") ∈ lw_tbl := lw_at lw_m9 50 rfl
theorem q2272 : (Jvm.Cond.methodLink "java/util/Arrays" (50 : Nat) ({ cls := "java/lang/StringBuilder", name := "append", desc := "(Ljava/lang/String;)Ljava/lang/StringBuilder;" } : Jvm.MethodName)) ∈ lw_all := lw_g (lw_at lw_m9 51 rfl) rfl
theorem q2273 : (Jvm.Cond.methodLink "java/util/Arrays" (61 : Nat) ({ cls := "java/lang/StringBuilder", name := "toString", desc := "()Ljava/lang/String;" } : Jvm.MethodName)) ∈ lw_all := lw_g (lw_at lw_m9 52 rfl) rfl
theorem q2274 : (Jvm.Cond.methodLink "java/util/Arrays" (65 : Nat) ({ cls := "java/lang/IllegalArgumentException", name := "<init>", desc := "(Ljava/lang/String;)V" } : Jvm.MethodName)) ∈ lw_all := lw_g (lw_at lw_m9 53 rfl) rfl
theorem q2965 : (Jvm.Cond.static ({ cls := "java/util/Arrays", name := "copyOf", desc := "([JI)[J" } : Jvm.MethodName)) ∈ lw_all := lw_g (lw_at lw_m12 24 rfl) rfl
theorem q2966 : (Jvm.Cond.code ({ cls := "java/util/Arrays", name := "copyOf", desc := "([JI)[J" } : Jvm.MethodName) prog_76_method_124_code (3 : Nat) (Option.some (Jvm.ClassFile.FieldType.array Jvm.ClassFile.FieldType.long))) ∈ lw_all := lw_g (lw_at lw_m12 25 rfl) rfl
theorem q2967 : (Jvm.Cond.methodLink "java/util/Arrays" (319 : Nat) ({ cls := "[J", name := "clone", desc := "()Ljava/lang/Object;" } : Jvm.MethodName)) ∈ lw_all := lw_g (lw_at lw_m12 26 rfl) rfl
theorem q2971 : (Jvm.Cond.classLink "java/util/Arrays" (320 : Nat) "[J") ∈ lw_all := lw_g (lw_at lw_m12 30 rfl) rfl
theorem q2974 : (Jvm.Cond.static ({ cls := "java/util/Arrays", name := "copyOf", desc := "([ZI)[Z" } : Jvm.MethodName)) ∈ lw_all := lw_g (lw_at lw_m12 33 rfl) rfl
theorem q2975 : (Jvm.Cond.code ({ cls := "java/util/Arrays", name := "copyOf", desc := "([ZI)[Z" } : Jvm.MethodName) prog_76_method_128_code (3 : Nat) (Option.some (Jvm.ClassFile.FieldType.array Jvm.ClassFile.FieldType.boolean))) ∈ lw_all := lw_g (lw_at lw_m12 34 rfl) rfl
theorem q2976 : (Jvm.Cond.methodLink "java/util/Arrays" (331 : Nat) ({ cls := "[Z", name := "clone", desc := "()Ljava/lang/Object;" } : Jvm.MethodName)) ∈ lw_all := lw_g (lw_at lw_m12 35 rfl) rfl
theorem q2980 : (Jvm.Cond.classLink "java/util/Arrays" (332 : Nat) "[Z") ∈ lw_all := lw_g (lw_at lw_m12 39 rfl) rfl
theorem q326 : (Jvm.Cond.initialized "java/util/Objects") ∈ lw_all := lw_g (lw_at lw_m1 25 rfl) rfl
theorem q1143 : (Jvm.Cond.static ({ cls := "java/util/Objects", name := "checkIndex", desc := "(II)I" } : Jvm.MethodName)) ∈ lw_all := lw_g (lw_at lw_m4 122 rfl) rfl
theorem q1144 : (Jvm.Cond.code ({ cls := "java/util/Objects", name := "checkIndex", desc := "(II)I" } : Jvm.MethodName) prog_80_method_17_code (2 : Nat) (Option.some Jvm.ClassFile.FieldType.int)) ∈ lw_all := lw_g (lw_at lw_m4 123 rfl) rfl
theorem q1145 : (Jvm.Cond.methodLink "java/util/Objects" (105 : Nat) ({ cls := "jdk/internal/util/Preconditions", name := "checkIndex", desc := "(IILjava/util/function/BiFunction;)I" } : Jvm.MethodName)) ∈ lw_all := lw_g (lw_at lw_m4 124 rfl) rfl
theorem q301 : (Jvm.Cond.initialized "LinkedTongueLaw") ∈ lw_all := lw_g (lw_at lw_m1 0 rfl) rfl
theorem q378 : (Jvm.Cond.classLink "LinkedTongueLaw" (8 : Nat) "LinkedTongue") ∈ lw_all := lw_g (lw_at lw_m1 77 rfl) rfl
theorem q380 : (Jvm.Cond.methodLink "LinkedTongueLaw" (33 : Nat) ({ cls := "LinkedTongue", name := "<init>", desc := "()V" } : Jvm.MethodName)) ∈ lw_all := lw_g (lw_at lw_m1 79 rfl) rfl
theorem q1302 : (Jvm.Cond.methodLink "LinkedTongueLaw" (39 : Nat) ({ cls := "LinkedTongue", name := "feed", desc := "(JJ)I" } : Jvm.MethodName)) ∈ lw_all := lw_g (lw_at lw_m5 41 rfl) rfl
theorem q1323 : (Jvm.Cond.methodLink "LinkedTongueLaw" (44 : Nat) ({ cls := "LinkedTongue", name := "host", desc := "()I" } : Jvm.MethodName)) ∈ lw_all := lw_g (lw_at lw_m5 62 rfl) rfl
theorem q1659 : (Jvm.Cond.methodLink "LinkedTongueLaw" (49 : Nat) ({ cls := "LinkedTongue", name := "type", desc := "(II)I" } : Jvm.MethodName)) ∈ lw_all := lw_g (lw_at lw_m6 158 rfl) rfl
theorem q1670 : (Jvm.Cond.methodLink "LinkedTongueLaw" (53 : Nat) ({ cls := "LinkedTongue", name := "member", desc := "(II)I" } : Jvm.MethodName)) ∈ lw_all := lw_g (lw_at lw_m6 169 rfl) rfl
theorem q1679 : (Jvm.Cond.methodLink "LinkedTongueLaw" (57 : Nat) ({ cls := "LinkedTongue", name := "subtype", desc := "(II)Z" } : Jvm.MethodName)) ∈ lw_all := lw_g (lw_at lw_m6 178 rfl) rfl
theorem q1695 : (Jvm.Cond.methodLink "LinkedTongueLaw" (62 : Nat) ({ cls := "LinkedTongue", name := "compile", desc := "()I" } : Jvm.MethodName)) ∈ lw_all := lw_g (lw_at lw_m6 194 rfl) rfl
theorem q2744 : (Jvm.Cond.methodLink "LinkedTongueLaw" (66 : Nat) ({ cls := "LinkedTongue", name := "function", desc := "(II)I" } : Jvm.MethodName)) ∈ lw_all := lw_g (lw_at lw_m11 43 rfl) rfl
theorem q2753 : (Jvm.Cond.methodLink "LinkedTongueLaw" (70 : Nat) ({ cls := "LinkedTongue", name := "code", desc := "(III)I" } : Jvm.MethodName)) ∈ lw_all := lw_g (lw_at lw_m11 52 rfl) rfl
theorem q2757 : (Jvm.Cond.methodLink "LinkedTongueLaw" (75 : Nat) ({ cls := "LinkedTongue", name := "site", desc := "(II)I" } : Jvm.MethodName)) ∈ lw_all := lw_g (lw_at lw_m11 56 rfl) rfl
theorem q2766 : (Jvm.Cond.methodLink "LinkedTongueLaw" (79 : Nat) ({ cls := "LinkedTongue", name := "entry", desc := "(III)I" } : Jvm.MethodName)) ∈ lw_all := lw_g (lw_at lw_m11 65 rfl) rfl
theorem q2778 : (Jvm.Cond.methodLink "LinkedTongueLaw" (83 : Nat) ({ cls := "LinkedTongue", name := "name", desc := "(II)I" } : Jvm.MethodName)) ∈ lw_all := lw_g (lw_at lw_m11 77 rfl) rfl
theorem q2786 : (Jvm.Cond.methodLink "LinkedTongueLaw" (87 : Nat) ({ cls := "LinkedTongue", name := "start", desc := "(II)Z" } : Jvm.MethodName)) ∈ lw_all := lw_g (lw_at lw_m11 85 rfl) rfl
theorem q2825 : (Jvm.Cond.methodLink "LinkedTongueLaw" (100 : Nat) ({ cls := "LinkedTongue", name := "task", desc := "(II)I" } : Jvm.MethodName)) ∈ lw_all := lw_g (lw_at lw_m11 124 rfl) rfl
theorem q2833 : (Jvm.Cond.methodLink "LinkedTongueLaw" (107 : Nat) ({ cls := "LinkedTongue", name := "sign", desc := "(II)I" } : Jvm.MethodName)) ∈ lw_all := lw_g (lw_at lw_m11 132 rfl) rfl
theorem q2841 : (Jvm.Cond.methodLink "LinkedTongueLaw" (115 : Nat) ({ cls := "LinkedTongue", name := "thing", desc := "(II)I" } : Jvm.MethodName)) ∈ lw_all := lw_g (lw_at lw_m11 140 rfl) rfl
theorem q2868 : (Jvm.Cond.methodLink "LinkedTongueLaw" (123 : Nat) ({ cls := "LinkedTongue", name := "shape", desc := "(II)I" } : Jvm.MethodName)) ∈ lw_all := lw_g (lw_at lw_m11 167 rfl) rfl
theorem q2877 : (Jvm.Cond.methodLink "LinkedTongueLaw" (127 : Nat) ({ cls := "LinkedTongue", name := "output", desc := "(I)I" } : Jvm.MethodName)) ∈ lw_all := lw_g (lw_at lw_m11 176 rfl) rfl
theorem q2881 : (Jvm.Cond.methodLink "LinkedTongueLaw" (132 : Nat) ({ cls := "LinkedTongue", name := "trace", desc := "(I)I" } : Jvm.MethodName)) ∈ lw_all := lw_g (lw_at lw_m11 180 rfl) rfl
theorem q2885 : (Jvm.Cond.methodLink "LinkedTongueLaw" (136 : Nat) ({ cls := "LinkedTongue", name := "count", desc := "(I)I" } : Jvm.MethodName)) ∈ lw_all := lw_g (lw_at lw_m11 184 rfl) rfl
theorem q2889 : (Jvm.Cond.methodLink "LinkedTongueLaw" (91 : Nat) ({ cls := "LinkedTongueLaw", name := "steps", desc := "(LLinkedTongue;II[J)I" } : Jvm.MethodName)) ∈ lw_all := lw_g (lw_at lw_m11 188 rfl) rfl
theorem q2890 : (Jvm.Cond.static ({ cls := "LinkedTongueLaw", name := "steps", desc := "(LLinkedTongue;II[J)I" } : Jvm.MethodName)) ∈ lw_all := lw_g (lw_at lw_m11 189 rfl) rfl
theorem q2891 : (Jvm.Cond.codeWith ({ cls := "LinkedTongueLaw", name := "steps", desc := "(LLinkedTongue;II[J)I" } : Jvm.MethodName) method_3_code (5 : Nat) (Option.some Jvm.ClassFile.FieldType.int) [((0 : Nat), (10 : Nat), (13 : Nat), (13 : Nat)), ((0 : Nat), (10 : Nat), (17 : Nat), (15 : Nat))]) ∈ lw_all := lw_g (lw_at lw_m11 190 rfl) rfl
theorem q2892 : (Jvm.Cond.classLink "LinkedTongueLaw" (13 : Nat) "java/lang/IllegalArgumentException") ∈ lw_all := lw_g (lw_at lw_m11 191 rfl) rfl
theorem q2893 : (Jvm.Cond.classLink "LinkedTongueLaw" (15 : Nat) "java/lang/IllegalStateException") ∈ lw_all := lw_g (lw_at lw_m11 192 rfl) rfl
theorem q2894 : (Jvm.Cond.methodLink "LinkedTongueLaw" (7 : Nat) ({ cls := "LinkedTongue", name := "steps", desc := "(II)I" } : Jvm.MethodName)) ∈ lw_all := lw_g (lw_at lw_m11 193 rfl) rfl
theorem q3716 : (Jvm.Cond.methodLink "LinkedTongueLaw" (104 : Nat) ({ cls := "LinkedTongueLaw", name := "result", desc := "(LLinkedTongue;II[J)I" } : Jvm.MethodName)) ∈ lw_all := lw_g (lw_at lw_m15 55 rfl) rfl
theorem q3717 : (Jvm.Cond.static ({ cls := "LinkedTongueLaw", name := "result", desc := "(LLinkedTongue;II[J)I" } : Jvm.MethodName)) ∈ lw_all := lw_g (lw_at lw_m15 56 rfl) rfl
theorem q3718 : (Jvm.Cond.codeWith ({ cls := "LinkedTongueLaw", name := "result", desc := "(LLinkedTongue;II[J)I" } : Jvm.MethodName) method_4_code (5 : Nat) (Option.some Jvm.ClassFile.FieldType.int) [((0 : Nat), (9 : Nat), (12 : Nat), (21 : Nat)), ((0 : Nat), (9 : Nat), (16 : Nat), (15 : Nat))]) ∈ lw_all := lw_g (lw_at lw_m15 57 rfl) rfl
theorem q3719 : (Jvm.Cond.classLink "LinkedTongueLaw" (21 : Nat) "java/lang/IndexOutOfBoundsException") ∈ lw_all := lw_g (lw_at lw_m15 58 rfl) rfl
theorem q3738 : (Jvm.Cond.methodLink "LinkedTongueLaw" (17 : Nat) ({ cls := "LinkedTongue", name := "result", desc := "(II)J" } : Jvm.MethodName)) ∈ lw_all := lw_g (lw_at lw_m15 77 rfl) rfl
theorem q3761 : (Jvm.Cond.methodLink "LinkedTongueLaw" (111 : Nat) ({ cls := "LinkedTongueLaw", name := "global", desc := "(LLinkedTongue;I[J)I" } : Jvm.MethodName)) ∈ lw_all := lw_g (lw_at lw_m15 100 rfl) rfl
theorem q3762 : (Jvm.Cond.static ({ cls := "LinkedTongueLaw", name := "global", desc := "(LLinkedTongue;I[J)I" } : Jvm.MethodName)) ∈ lw_all := lw_g (lw_at lw_m15 101 rfl) rfl
theorem q3763 : (Jvm.Cond.codeWith ({ cls := "LinkedTongueLaw", name := "global", desc := "(LLinkedTongue;I[J)I" } : Jvm.MethodName) method_5_code (4 : Nat) (Option.some Jvm.ClassFile.FieldType.int) [((0 : Nat), (8 : Nat), (11 : Nat), (21 : Nat)), ((0 : Nat), (8 : Nat), (14 : Nat), (27 : Nat))]) ∈ lw_all := lw_g (lw_at lw_m15 102 rfl) rfl
theorem q3764 : (Jvm.Cond.classLink "LinkedTongueLaw" (27 : Nat) "java/util/NoSuchElementException") ∈ lw_all := lw_g (lw_at lw_m15 103 rfl) rfl
theorem q3765 : (Jvm.Cond.methodLink "LinkedTongueLaw" (23 : Nat) ({ cls := "LinkedTongue", name := "global", desc := "(I)J" } : Jvm.MethodName)) ∈ lw_all := lw_g (lw_at lw_m15 104 rfl) rfl
theorem q3785 : (Jvm.Cond.methodLink "LinkedTongueLaw" (119 : Nat) ({ cls := "LinkedTongueLaw", name := "property", desc := "(LLinkedTongue;III[J)I" } : Jvm.MethodName)) ∈ lw_all := lw_g (lw_at lw_m15 124 rfl) rfl
theorem q3786 : (Jvm.Cond.static ({ cls := "LinkedTongueLaw", name := "property", desc := "(LLinkedTongue;III[J)I" } : Jvm.MethodName)) ∈ lw_all := lw_g (lw_at lw_m15 125 rfl) rfl
theorem q3787 : (Jvm.Cond.codeWith ({ cls := "LinkedTongueLaw", name := "property", desc := "(LLinkedTongue;III[J)I" } : Jvm.MethodName) method_6_code (6 : Nat) (Option.some Jvm.ClassFile.FieldType.int) [((0 : Nat), (11 : Nat), (14 : Nat), (21 : Nat))]) ∈ lw_all := lw_g (lw_at lw_m15 126 rfl) rfl
theorem q3788 : (Jvm.Cond.methodLink "LinkedTongueLaw" (29 : Nat) ({ cls := "LinkedTongue", name := "property", desc := "(III)J" } : Jvm.MethodName)) ∈ lw_all := lw_g (lw_at lw_m15 127 rfl) rfl
theorem q3793 : (Jvm.Cond.classLink "LinkedTongueLaw" (34 : Nat) "LinkedTongueModel") ∈ lw_all := lw_g (lw_at lw_m15 132 rfl) rfl
theorem q3795 : (Jvm.Cond.methodLink "LinkedTongueLaw" (36 : Nat) ({ cls := "LinkedTongueModel", name := "<init>", desc := "()V" } : Jvm.MethodName)) ∈ lw_all := lw_g (lw_at lw_m15 134 rfl) rfl
theorem q4486 : (Jvm.Cond.methodLink "LinkedTongueLaw" (97 : Nat) ({ cls := "LinkedTongueModel", name := "thrown", desc := "()I" } : Jvm.MethodName)) ∈ lw_all := lw_g (lw_at lw_m18 105 rfl) rfl
theorem q4490 : (Jvm.Cond.methodLink "LinkedTongueLaw" (43 : Nat) ({ cls := "LinkedTongueModel", name := "feed", desc := "(JJ)I" } : Jvm.MethodName)) ∈ lw_all := lw_g (lw_at lw_m18 109 rfl) rfl
theorem q4507 : (Jvm.Cond.methodLink "LinkedTongueLaw" (48 : Nat) ({ cls := "LinkedTongueModel", name := "host", desc := "()I" } : Jvm.MethodName)) ∈ lw_all := lw_g (lw_at lw_m18 126 rfl) rfl
theorem q4621 : (Jvm.Cond.methodLink "LinkedTongueLaw" (52 : Nat) ({ cls := "LinkedTongueModel", name := "type", desc := "(II)I" } : Jvm.MethodName)) ∈ lw_all := lw_g (lw_at lw_m19 0 rfl) rfl
theorem q4625 : (Jvm.Cond.methodLink "LinkedTongueLaw" (56 : Nat) ({ cls := "LinkedTongueModel", name := "member", desc := "(II)I" } : Jvm.MethodName)) ∈ lw_all := lw_g (lw_at lw_m19 4 rfl) rfl
theorem q4629 : (Jvm.Cond.methodLink "LinkedTongueLaw" (61 : Nat) ({ cls := "LinkedTongueModel", name := "subtype", desc := "(II)Z" } : Jvm.MethodName)) ∈ lw_all := lw_g (lw_at lw_m19 8 rfl) rfl
theorem q4637 : (Jvm.Cond.methodLink "LinkedTongueLaw" (65 : Nat) ({ cls := "LinkedTongueModel", name := "compile", desc := "()I" } : Jvm.MethodName)) ∈ lw_all := lw_g (lw_at lw_m19 16 rfl) rfl
theorem q4903 : (Jvm.Cond.methodLink "LinkedTongueLaw" (69 : Nat) ({ cls := "LinkedTongueModel", name := "function", desc := "(II)I" } : Jvm.MethodName)) ∈ lw_all := lw_g (lw_at lw_m20 42 rfl) rfl
theorem q4907 : (Jvm.Cond.methodLink "LinkedTongueLaw" (74 : Nat) ({ cls := "LinkedTongueModel", name := "code", desc := "(III)I" } : Jvm.MethodName)) ∈ lw_all := lw_g (lw_at lw_m20 46 rfl) rfl
theorem q4911 : (Jvm.Cond.methodLink "LinkedTongueLaw" (86 : Nat) ({ cls := "LinkedTongueModel", name := "name", desc := "(II)I" } : Jvm.MethodName)) ∈ lw_all := lw_g (lw_at lw_m20 50 rfl) rfl
theorem q4915 : (Jvm.Cond.methodLink "LinkedTongueLaw" (90 : Nat) ({ cls := "LinkedTongueModel", name := "start", desc := "(II)Z" } : Jvm.MethodName)) ∈ lw_all := lw_g (lw_at lw_m20 54 rfl) rfl
theorem q4943 : (Jvm.Cond.methodLink "LinkedTongueLaw" (96 : Nat) ({ cls := "LinkedTongueModel", name := "steps", desc := "(II)I" } : Jvm.MethodName)) ∈ lw_all := lw_g (lw_at lw_m20 82 rfl) rfl
theorem q5397 : (Jvm.Cond.methodLink "LinkedTongueLaw" (78 : Nat) ({ cls := "LinkedTongueModel", name := "site", desc := "(II)I" } : Jvm.MethodName)) ∈ lw_all := lw_g (lw_at lw_m22 56 rfl) rfl
theorem q5401 : (Jvm.Cond.methodLink "LinkedTongueLaw" (82 : Nat) ({ cls := "LinkedTongueModel", name := "entry", desc := "(III)I" } : Jvm.MethodName)) ∈ lw_all := lw_g (lw_at lw_m22 60 rfl) rfl
theorem q5405 : (Jvm.Cond.methodLink "LinkedTongueLaw" (103 : Nat) ({ cls := "LinkedTongueModel", name := "task", desc := "(II)I" } : Jvm.MethodName)) ∈ lw_all := lw_g (lw_at lw_m22 64 rfl) rfl
theorem q5409 : (Jvm.Cond.methodLink "LinkedTongueLaw" (106 : Nat) ({ cls := "LinkedTongueModel", name := "result", desc := "(II)J" } : Jvm.MethodName)) ∈ lw_all := lw_g (lw_at lw_m22 68 rfl) rfl
theorem q5417 : (Jvm.Cond.methodLink "LinkedTongueLaw" (110 : Nat) ({ cls := "LinkedTongueModel", name := "sign", desc := "(II)I" } : Jvm.MethodName)) ∈ lw_all := lw_g (lw_at lw_m22 76 rfl) rfl
theorem q5421 : (Jvm.Cond.methodLink "LinkedTongueLaw" (114 : Nat) ({ cls := "LinkedTongueModel", name := "global", desc := "(I)J" } : Jvm.MethodName)) ∈ lw_all := lw_g (lw_at lw_m22 80 rfl) rfl
theorem q5425 : (Jvm.Cond.methodLink "LinkedTongueLaw" (118 : Nat) ({ cls := "LinkedTongueModel", name := "thing", desc := "(II)I" } : Jvm.MethodName)) ∈ lw_all := lw_g (lw_at lw_m22 84 rfl) rfl
theorem q5429 : (Jvm.Cond.methodLink "LinkedTongueLaw" (122 : Nat) ({ cls := "LinkedTongueModel", name := "property", desc := "(III)J" } : Jvm.MethodName)) ∈ lw_all := lw_g (lw_at lw_m22 88 rfl) rfl
theorem q5434 : (Jvm.Cond.methodLink "LinkedTongueLaw" (126 : Nat) ({ cls := "LinkedTongueModel", name := "shape", desc := "(II)I" } : Jvm.MethodName)) ∈ lw_all := lw_g (lw_at lw_m22 93 rfl) rfl
theorem q5438 : (Jvm.Cond.methodLink "LinkedTongueLaw" (131 : Nat) ({ cls := "LinkedTongueModel", name := "output", desc := "(I)I" } : Jvm.MethodName)) ∈ lw_all := lw_g (lw_at lw_m22 97 rfl) rfl
theorem q5442 : (Jvm.Cond.methodLink "LinkedTongueLaw" (135 : Nat) ({ cls := "LinkedTongueModel", name := "trace", desc := "(I)I" } : Jvm.MethodName)) ∈ lw_all := lw_g (lw_at lw_m22 101 rfl) rfl
theorem q5446 : (Jvm.Cond.methodLink "LinkedTongueLaw" (139 : Nat) ({ cls := "LinkedTongueModel", name := "count", desc := "(I)I" } : Jvm.MethodName)) ∈ lw_all := lw_g (lw_at lw_m22 105 rfl) rfl
theorem q5453 : (Jvm.Cond.constantLong "LinkedTongueLaw" (37 : Nat) (4294967295 : Int64)) ∈ lw_all := lw_g (lw_at lw_m22 112 rfl) rfl
theorem q302 : (Jvm.Cond.initialized "LinkedTongue") ∈ lw_all := lw_g (lw_at lw_m1 1 rfl) rfl
theorem q379 : (Jvm.Cond.instantiable "LinkedTongue" (7 : Nat)) ∈ lw_all := lw_g (lw_at lw_m1 78 rfl) rfl
theorem q381 : (Jvm.Cond.instanceMethod ({ cls := "LinkedTongue", name := "<init>", desc := "()V" } : Jvm.MethodName)) ∈ lw_all := lw_g (lw_at lw_m1 80 rfl) rfl
theorem q382 : (Jvm.Cond.code ({ cls := "LinkedTongue", name := "<init>", desc := "()V" } : Jvm.MethodName) prog_1_method_3_code (1 : Nat) (Option.none : Option Jvm.ClassFile.FieldType)) ∈ lw_all := lw_g (lw_at lw_m1 81 rfl) rfl
theorem q383 : (Jvm.Cond.methodLink "LinkedTongue" (3 : Nat) ({ cls := "java/lang/Object", name := "<init>", desc := "()V" } : Jvm.MethodName)) ∈ lw_all := lw_g (lw_at lw_m1 82 rfl) rfl
theorem q386 : (Jvm.Cond.classLink "LinkedTongue" (13 : Nat) "LinkedTongue$Fault") ∈ lw_all := lw_g (lw_at lw_m1 85 rfl) rfl
theorem q432 : (Jvm.Cond.methodLink "LinkedTongue" (15 : Nat) ({ cls := "LinkedTongue$Fault", name := "<init>", desc := "()V" } : Jvm.MethodName)) ∈ lw_all := lw_g (lw_at lw_m1 131 rfl) rfl
theorem q445 : (Jvm.Cond.fieldLinkNest "LinkedTongue" (82 : Nat) "LinkedTongue$Fault" "told" "I" "LinkedTongue") ∈ lw_tbl := lw_at lw_m1 144 rfl
theorem q462 : (Jvm.Cond.classLink "LinkedTongue" (20 : Nat) "LinkedTongue$Scanner") ∈ lw_all := lw_g (lw_at lw_m1 161 rfl) rfl
theorem q464 : (Jvm.Cond.methodLink "LinkedTongue" (22 : Nat) ({ cls := "LinkedTongue$Scanner", name := "<init>", desc := "(LLinkedTongue$Fault;)V" } : Jvm.MethodName)) ∈ lw_all := lw_g (lw_at lw_m1 163 rfl) rfl
theorem q510 : (Jvm.Cond.classLink "LinkedTongue" (29 : Nat) "LinkedTongue$Host") ∈ lw_all := lw_g (lw_at lw_m1 209 rfl) rfl
theorem q512 : (Jvm.Cond.methodLinkNest "LinkedTongue" (31 : Nat) ({ cls := "LinkedTongue$Host", name := "<init>", desc := "()V" } : Jvm.MethodName) "LinkedTongue") ∈ lw_tbl := lw_at lw_m1 211 rfl
theorem q575 : (Jvm.Cond.fieldLinkNest "LinkedTongue" (182 : Nat) "LinkedTongue$Words" "size" "[I" "LinkedTongue") ∈ lw_tbl := lw_at lw_m2 34 rfl
theorem q580 : (Jvm.Cond.fieldLinkNest "LinkedTongue" (128 : Nat) "LinkedTongue$Words" "many" "I" "LinkedTongue") ∈ lw_tbl := lw_at lw_m2 39 rfl
theorem q604 : (Jvm.Cond.fieldLinkNest "LinkedTongue" (88 : Nat) "LinkedTongue$Host" "types" "Ljava/util/ArrayList;" "LinkedTongue") ∈ lw_tbl := lw_at lw_m2 63 rfl
theorem q607 : (Jvm.Cond.fieldLinkNest "LinkedTongue" (107 : Nat) "LinkedTongue$Host" "members" "Ljava/util/ArrayList;" "LinkedTongue") ∈ lw_tbl := lw_at lw_m2 66 rfl
theorem q640 : (Jvm.Cond.classLink "LinkedTongue" (39 : Nat) "LinkedTongue$Machine") ∈ lw_all := lw_g (lw_at lw_m2 99 rfl) rfl
theorem q642 : (Jvm.Cond.methodLink "LinkedTongue" (41 : Nat) ({ cls := "LinkedTongue$Machine", name := "<init>", desc := "(LLinkedTongue$Host;)V" } : Jvm.MethodName)) ∈ lw_all := lw_g (lw_at lw_m2 101 rfl) rfl
theorem q677 : (Jvm.Cond.fieldLinkNest "LinkedTongue" (234 : Nat) "LinkedTongue$Texts" "bytes" "[B" "LinkedTongue") ∈ lw_tbl := lw_at lw_m2 136 rfl
theorem q680 : (Jvm.Cond.fieldLinkNest "LinkedTongue" (237 : Nat) "LinkedTongue$Texts" "from" "[I" "LinkedTongue") ∈ lw_tbl := lw_at lw_m2 139 rfl
theorem q683 : (Jvm.Cond.fieldLinkNest "LinkedTongue" (214 : Nat) "LinkedTongue$Texts" "size" "[I" "LinkedTongue") ∈ lw_tbl := lw_at lw_m2 142 rfl
theorem q714 : (Jvm.Cond.fieldLinkNest "LinkedTongue" (262 : Nat) "LinkedTongue$Heap" "things" "Ljava/util/ArrayList;" "LinkedTongue") ∈ lw_tbl := lw_at lw_m2 173 rfl
theorem q717 : (Jvm.Cond.fieldLinkNest "LinkedTongue" (321 : Nat) "LinkedTongue$Heap" "shapes" "Ljava/util/ArrayList;" "LinkedTongue") ∈ lw_tbl := lw_at lw_m2 176 rfl
theorem q719 : (Jvm.Cond.fieldLinkNest "LinkedTongue" (343 : Nat) "LinkedTongue$Heap" "calls" "I" "LinkedTongue") ∈ lw_tbl := lw_at lw_m2 178 rfl
theorem q848 : (Jvm.Cond.fieldLinkNest "LinkedTongue" (197 : Nat) "LinkedTongue$Task" "state" "I" "LinkedTongue") ∈ lw_tbl := lw_at lw_m3 67 rfl
theorem q875 : (Jvm.Cond.fieldLinkNest "LinkedTongue" (223 : Nat) "LinkedTongue$Task" "tag" "B" "LinkedTongue") ∈ lw_tbl := lw_at lw_m3 94 rfl
theorem q877 : (Jvm.Cond.fieldLinkNest "LinkedTongue" (227 : Nat) "LinkedTongue$Task" "word" "J" "LinkedTongue") ∈ lw_tbl := lw_at lw_m3 96 rfl
theorem q939 : (Jvm.Cond.fieldLinkNest "LinkedTongue" (358 : Nat) "LinkedTongue$Lookup" "asked" "[I" "LinkedTongue") ∈ lw_tbl := lw_at lw_m3 158 rfl
theorem q942 : (Jvm.Cond.fieldLinkNest "LinkedTongue" (350 : Nat) "LinkedTongue$Lookup" "kept" "I" "LinkedTongue") ∈ lw_tbl := lw_at lw_m3 161 rfl
theorem q945 : (Jvm.Cond.fieldLinkNest "LinkedTongue" (355 : Nat) "LinkedTongue$Lookup" "workedOut" "I" "LinkedTongue") ∈ lw_tbl := lw_at lw_m3 164 rfl
theorem q997 : (Jvm.Cond.fieldLinkNest "LinkedTongue" (282 : Nat) "LinkedTongue$Shape" "number" "I" "LinkedTongue") ∈ lw_tbl := lw_at lw_m3 216 rfl
theorem q1002 : (Jvm.Cond.fieldLinkNest "LinkedTongue" (287 : Nat) "LinkedTongue$Shape" "prototype" "LLinkedTongue$Obj;" "LinkedTongue") ∈ lw_tbl := lw_at lw_m3 221 rfl
theorem q1008 : (Jvm.Cond.fieldLinkNest "LinkedTongue" (324 : Nat) "LinkedTongue$Shape" "size" "I" "LinkedTongue") ∈ lw_tbl := lw_at lw_m3 227 rfl
theorem q1060 : (Jvm.Cond.selects "LinkedTongue" ({ cls := "java/lang/Object", name := "getClass", desc := "()Ljava/lang/Class;" } : Jvm.MethodName) ({ cls := "java/lang/Object", name := "getClass", desc := "()Ljava/lang/Class;" } : Jvm.MethodName)) ∈ lw_all := lw_g (lw_at lw_m4 39 rfl) rfl
theorem q1168 : (Jvm.Cond.fieldLinkNest "LinkedTongue" (124 : Nat) "LinkedTongue$Machine" "names" "LLinkedTongue$Words;" "LinkedTongue") ∈ lw_tbl := lw_at lw_m4 147 rfl
theorem q1170 : (Jvm.Cond.fieldLinkNest "LinkedTongue" (133 : Nat) "LinkedTongue$Machine" "literals" "LLinkedTongue$Words;" "LinkedTongue") ∈ lw_tbl := lw_at lw_m4 149 rfl
theorem q1172 : (Jvm.Cond.fieldLinkNest "LinkedTongue" (210 : Nat) "LinkedTongue$Machine" "texts" "LLinkedTongue$Texts;" "LinkedTongue") ∈ lw_tbl := lw_at lw_m4 151 rfl
theorem q1174 : (Jvm.Cond.fieldLinkNest "LinkedTongue" (258 : Nat) "LinkedTongue$Machine" "heap" "LLinkedTongue$Heap;" "LinkedTongue") ∈ lw_tbl := lw_at lw_m4 153 rfl
theorem q1176 : (Jvm.Cond.fieldLinkNest "LinkedTongue" (346 : Nat) "LinkedTongue$Machine" "lookup" "LLinkedTongue$Lookup;" "LinkedTongue") ∈ lw_tbl := lw_at lw_m4 155 rfl
theorem q1180 : (Jvm.Cond.fieldLinkNest "LinkedTongue" (138 : Nat) "LinkedTongue$Machine" "functions" "Ljava/util/ArrayList;" "LinkedTongue") ∈ lw_tbl := lw_at lw_m4 159 rfl
theorem q1182 : (Jvm.Cond.fieldLinkNest "LinkedTongue" (165 : Nat) "LinkedTongue$Machine" "sites" "Ljava/util/ArrayList;" "LinkedTongue") ∈ lw_tbl := lw_at lw_m4 161 rfl
theorem q1184 : (Jvm.Cond.fieldLinkNest "LinkedTongue" (340 : Nat) "LinkedTongue$Machine" "descriptors" "Ljava/util/ArrayList;" "LinkedTongue") ∈ lw_tbl := lw_at lw_m4 163 rfl
theorem q1186 : (Jvm.Cond.fieldLinkNest "LinkedTongue" (121 : Nat) "LinkedTongue$Machine" "units" "I" "LinkedTongue") ∈ lw_tbl := lw_at lw_m4 165 rfl
theorem q1188 : (Jvm.Cond.fieldLinkNest "LinkedTongue" (337 : Nat) "LinkedTongue$Machine" "instructions" "I" "LinkedTongue") ∈ lw_tbl := lw_at lw_m4 167 rfl
theorem q1193 : (Jvm.Cond.fieldLinkNest "LinkedTongue" (193 : Nat) "LinkedTongue$Machine" "tasks" "[LLinkedTongue$Task;" "LinkedTongue") ∈ lw_tbl := lw_at lw_m4 172 rfl
theorem q1195 : (Jvm.Cond.fieldLinkNest "LinkedTongue" (254 : Nat) "LinkedTongue$Machine" "globalWords" "[J" "LinkedTongue") ∈ lw_tbl := lw_at lw_m4 174 rfl
theorem q1197 : (Jvm.Cond.fieldLinkNest "LinkedTongue" (251 : Nat) "LinkedTongue$Machine" "globalTags" "[B" "LinkedTongue") ∈ lw_tbl := lw_at lw_m4 176 rfl
theorem q1199 : (Jvm.Cond.fieldLinkNest "LinkedTongue" (244 : Nat) "LinkedTongue$Machine" "isGlobal" "[Z" "LinkedTongue") ∈ lw_tbl := lw_at lw_m4 178 rfl
theorem q1201 : (Jvm.Cond.fieldLinkNest "LinkedTongue" (328 : Nat) "LinkedTongue$Machine" "output" "[B" "LinkedTongue") ∈ lw_tbl := lw_at lw_m4 180 rfl
theorem q1203 : (Jvm.Cond.fieldLinkNest "LinkedTongue" (325 : Nat) "LinkedTongue$Machine" "outputSize" "I" "LinkedTongue") ∈ lw_tbl := lw_at lw_m4 182 rfl
theorem q1205 : (Jvm.Cond.fieldLinkNest "LinkedTongue" (334 : Nat) "LinkedTongue$Machine" "trace" "[I" "LinkedTongue") ∈ lw_tbl := lw_at lw_m4 184 rfl
theorem q1207 : (Jvm.Cond.fieldLinkNest "LinkedTongue" (331 : Nat) "LinkedTongue$Machine" "traceSize" "I" "LinkedTongue") ∈ lw_tbl := lw_at lw_m4 186 rfl
theorem q1280 : (Jvm.Cond.fieldLink "LinkedTongue" (9 : Nat) "LinkedTongue" "tape" "[B") ∈ lw_all := lw_g (lw_at lw_m5 19 rfl) rfl
theorem q1281 : (Jvm.Cond.fieldLink "LinkedTongue" (52 : Nat) "LinkedTongue" "taped" "I") ∈ lw_all := lw_g (lw_at lw_m5 20 rfl) rfl
theorem q1282 : (Jvm.Cond.fieldLink "LinkedTongue" (16 : Nat) "LinkedTongue" "fault" "LLinkedTongue$Fault;") ∈ lw_all := lw_g (lw_at lw_m5 21 rfl) rfl
theorem q1283 : (Jvm.Cond.fieldLink "LinkedTongue" (25 : Nat) "LinkedTongue" "scanner" "LLinkedTongue$Scanner;") ∈ lw_all := lw_g (lw_at lw_m5 22 rfl) rfl
theorem q1284 : (Jvm.Cond.fieldLink "LinkedTongue" (32 : Nat) "LinkedTongue" "host" "LLinkedTongue$Host;") ∈ lw_all := lw_g (lw_at lw_m5 23 rfl) rfl
theorem q1285 : (Jvm.Cond.fieldLink "LinkedTongue" (36 : Nat) "LinkedTongue" "spare" "LLinkedTongue$Host;") ∈ lw_all := lw_g (lw_at lw_m5 24 rfl) rfl
theorem q1286 : (Jvm.Cond.fieldLink "LinkedTongue" (44 : Nat) "LinkedTongue" "machine" "LLinkedTongue$Machine;") ∈ lw_all := lw_g (lw_at lw_m5 25 rfl) rfl
theorem q1287 : (Jvm.Cond.lays "LinkedTongue" "LinkedTongue" "tape" "[B") ∈ lw_all := lw_g (lw_at lw_m5 26 rfl) rfl
theorem q1288 : (Jvm.Cond.soleField "LinkedTongue" "tape") ∈ lw_all := lw_g (lw_at lw_m5 27 rfl) rfl
theorem q1289 : (Jvm.Cond.lays "LinkedTongue" "LinkedTongue" "taped" "I") ∈ lw_all := lw_g (lw_at lw_m5 28 rfl) rfl
theorem q1290 : (Jvm.Cond.soleField "LinkedTongue" "taped") ∈ lw_all := lw_g (lw_at lw_m5 29 rfl) rfl
theorem q1291 : (Jvm.Cond.laysFinal "LinkedTongue" "LinkedTongue" "fault" "LLinkedTongue$Fault;") ∈ lw_all := lw_g (lw_at lw_m5 30 rfl) rfl
theorem q1292 : (Jvm.Cond.soleField "LinkedTongue" "fault") ∈ lw_all := lw_g (lw_at lw_m5 31 rfl) rfl
theorem q1293 : (Jvm.Cond.laysFinal "LinkedTongue" "LinkedTongue" "scanner" "LLinkedTongue$Scanner;") ∈ lw_all := lw_g (lw_at lw_m5 32 rfl) rfl
theorem q1294 : (Jvm.Cond.soleField "LinkedTongue" "scanner") ∈ lw_all := lw_g (lw_at lw_m5 33 rfl) rfl
theorem q1295 : (Jvm.Cond.lays "LinkedTongue" "LinkedTongue" "host" "LLinkedTongue$Host;") ∈ lw_all := lw_g (lw_at lw_m5 34 rfl) rfl
theorem q1296 : (Jvm.Cond.soleField "LinkedTongue" "host") ∈ lw_all := lw_g (lw_at lw_m5 35 rfl) rfl
theorem q1297 : (Jvm.Cond.lays "LinkedTongue" "LinkedTongue" "spare" "LLinkedTongue$Host;") ∈ lw_all := lw_g (lw_at lw_m5 36 rfl) rfl
theorem q1298 : (Jvm.Cond.soleField "LinkedTongue" "spare") ∈ lw_all := lw_g (lw_at lw_m5 37 rfl) rfl
theorem q1299 : (Jvm.Cond.laysFinal "LinkedTongue" "LinkedTongue" "machine" "LLinkedTongue$Machine;") ∈ lw_all := lw_g (lw_at lw_m5 38 rfl) rfl
theorem q1300 : (Jvm.Cond.soleField "LinkedTongue" "machine") ∈ lw_all := lw_g (lw_at lw_m5 39 rfl) rfl
theorem q1301 : (Jvm.Cond.superclass "LinkedTongue" "java/lang/Object") ∈ lw_all := lw_g (lw_at lw_m5 40 rfl) rfl
theorem q1303 : (Jvm.Cond.instanceMethod ({ cls := "LinkedTongue", name := "feed", desc := "(JJ)I" } : Jvm.MethodName)) ∈ lw_all := lw_g (lw_at lw_m5 42 rfl) rfl
theorem q1304 : (Jvm.Cond.selects "LinkedTongue" ({ cls := "LinkedTongue", name := "feed", desc := "(JJ)I" } : Jvm.MethodName) ({ cls := "LinkedTongue", name := "feed", desc := "(JJ)I" } : Jvm.MethodName)) ∈ lw_all := lw_g (lw_at lw_m5 43 rfl) rfl
theorem q1305 : (Jvm.Cond.code ({ cls := "LinkedTongue", name := "feed", desc := "(JJ)I" } : Jvm.MethodName) prog_1_method_5_code (8 : Nat) (Option.some Jvm.ClassFile.FieldType.int)) ∈ lw_all := lw_g (lw_at lw_m5 44 rfl) rfl
theorem q1306 : (Jvm.Cond.methodLink "LinkedTongue" (48 : Nat) ({ cls := "LinkedTongue", name := "signAt", desc := "(JJI)I" } : Jvm.MethodName)) ∈ lw_all := lw_g (lw_at lw_m5 45 rfl) rfl
theorem q1307 : (Jvm.Cond.static ({ cls := "LinkedTongue", name := "signAt", desc := "(JJI)I" } : Jvm.MethodName)) ∈ lw_all := lw_g (lw_at lw_m5 46 rfl) rfl
theorem q1308 : (Jvm.Cond.code ({ cls := "LinkedTongue", name := "signAt", desc := "(JJI)I" } : Jvm.MethodName) prog_1_method_4_code (5 : Nat) (Option.some Jvm.ClassFile.FieldType.int)) ∈ lw_all := lw_g (lw_at lw_m5 47 rfl) rfl
theorem q1309 : (Jvm.Cond.constant "LinkedTongue" (56 : Nat) (65536 : Int32)) ∈ lw_all := lw_g (lw_at lw_m5 48 rfl) rfl
theorem q1310 : (Jvm.Cond.methodLink "LinkedTongue" (57 : Nat) ({ cls := "LinkedTongue", name := "larger", desc := "(II)I" } : Jvm.MethodName)) ∈ lw_all := lw_g (lw_at lw_m5 49 rfl) rfl
theorem q1311 : (Jvm.Cond.static ({ cls := "LinkedTongue", name := "larger", desc := "(II)I" } : Jvm.MethodName)) ∈ lw_all := lw_g (lw_at lw_m5 50 rfl) rfl
theorem q1312 : (Jvm.Cond.code ({ cls := "LinkedTongue", name := "larger", desc := "(II)I" } : Jvm.MethodName) prog_1_method_1_code (2 : Nat) (Option.some Jvm.ClassFile.FieldType.int)) ∈ lw_all := lw_g (lw_at lw_m5 51 rfl) rfl
theorem q1313 : (Jvm.Cond.methodLink "LinkedTongue" (61 : Nat) ({ cls := "java/util/Arrays", name := "copyOf", desc := "([BI)[B" } : Jvm.MethodName)) ∈ lw_all := lw_g (lw_at lw_m5 52 rfl) rfl
theorem q1324 : (Jvm.Cond.instanceMethod ({ cls := "LinkedTongue", name := "host", desc := "()I" } : Jvm.MethodName)) ∈ lw_all := lw_g (lw_at lw_m5 63 rfl) rfl
theorem q1325 : (Jvm.Cond.selects "LinkedTongue" ({ cls := "LinkedTongue", name := "host", desc := "()I" } : Jvm.MethodName) ({ cls := "LinkedTongue", name := "host", desc := "()I" } : Jvm.MethodName)) ∈ lw_all := lw_g (lw_at lw_m5 64 rfl) rfl
theorem q1326 : (Jvm.Cond.codeWith ({ cls := "LinkedTongue", name := "host", desc := "()I" } : Jvm.MethodName) prog_1_method_7_code (3 : Nat) (Option.some Jvm.ClassFile.FieldType.int) [((5 : Nat), (36 : Nat), (39 : Nat), (13 : Nat))]) ∈ lw_all := lw_g (lw_at lw_m5 65 rfl) rfl
theorem q1327 : (Jvm.Cond.methodLink "LinkedTongue" (67 : Nat) ({ cls := "LinkedTongue", name := "useTape", desc := "()I" } : Jvm.MethodName)) ∈ lw_all := lw_g (lw_at lw_m5 66 rfl) rfl
theorem q1328 : (Jvm.Cond.privateMethod ({ cls := "LinkedTongue", name := "useTape", desc := "()I" } : Jvm.MethodName)) ∈ lw_tbl := lw_at lw_m5 67 rfl
theorem q1329 : (Jvm.Cond.instanceMethod ({ cls := "LinkedTongue", name := "useTape", desc := "()I" } : Jvm.MethodName)) ∈ lw_all := lw_g (lw_at lw_m5 68 rfl) rfl
theorem q1330 : (Jvm.Cond.code ({ cls := "LinkedTongue", name := "useTape", desc := "()I" } : Jvm.MethodName) prog_1_method_6_code (2 : Nat) (Option.some Jvm.ClassFile.FieldType.int)) ∈ lw_all := lw_g (lw_at lw_m5 69 rfl) rfl
theorem q1331 : (Jvm.Cond.methodLink "LinkedTongue" (71 : Nat) ({ cls := "LinkedTongue$Host", name := "clear", desc := "()V" } : Jvm.MethodName)) ∈ lw_all := lw_g (lw_at lw_m5 70 rfl) rfl
theorem q1337 : (Jvm.Cond.methodLink "LinkedTongue" (74 : Nat) ({ cls := "LinkedTongue$Scanner", name := "begin", desc := "([BIZ)V" } : Jvm.MethodName)) ∈ lw_all := lw_g (lw_at lw_m5 76 rfl) rfl
theorem q1382 : (Jvm.Cond.methodLink "LinkedTongue" (78 : Nat) ({ cls := "LinkedTongue$Host", name := "read", desc := "(LLinkedTongue$Scanner;)V" } : Jvm.MethodName)) ∈ lw_all := lw_g (lw_at lw_m5 121 rfl) rfl
theorem q1502 : (Jvm.Cond.fieldLinkNest "LinkedTongue" (298 : Nat) "LinkedTongue$HostType" "number" "I" "LinkedTongue") ∈ lw_tbl := lw_at lw_m6 1 rfl
theorem q1656 : (Jvm.Cond.static ({ cls := "LinkedTongue", name := "tagOf", desc := "(I)B" } : Jvm.MethodName)) ∈ lw_all := lw_g (lw_at lw_m6 155 rfl) rfl
theorem q1657 : (Jvm.Cond.code ({ cls := "LinkedTongue", name := "tagOf", desc := "(I)B" } : Jvm.MethodName) prog_1_method_2_code (1 : Nat) (Option.some Jvm.ClassFile.FieldType.byte)) ∈ lw_all := lw_g (lw_at lw_m6 156 rfl) rfl
theorem q1658 : (Jvm.Cond.methodLink "LinkedTongue" (85 : Nat) ({ cls := "LinkedTongue$Machine", name := "anew", desc := "(LLinkedTongue$Host;)V" } : Jvm.MethodName)) ∈ lw_all := lw_g (lw_at lw_m6 157 rfl) rfl
theorem q1660 : (Jvm.Cond.instanceMethod ({ cls := "LinkedTongue", name := "type", desc := "(II)I" } : Jvm.MethodName)) ∈ lw_all := lw_g (lw_at lw_m6 159 rfl) rfl
theorem q1661 : (Jvm.Cond.selects "LinkedTongue" ({ cls := "LinkedTongue", name := "type", desc := "(II)I" } : Jvm.MethodName) ({ cls := "LinkedTongue", name := "type", desc := "(II)I" } : Jvm.MethodName)) ∈ lw_all := lw_g (lw_at lw_m6 160 rfl) rfl
theorem q1662 : (Jvm.Cond.code ({ cls := "LinkedTongue", name := "type", desc := "(II)I" } : Jvm.MethodName) prog_1_method_8_code (3 : Nat) (Option.some Jvm.ClassFile.FieldType.int)) ∈ lw_all := lw_g (lw_at lw_m6 161 rfl) rfl
theorem q1663 : (Jvm.Cond.methodLink "LinkedTongue" (92 : Nat) ({ cls := "java/util/ArrayList", name := "size", desc := "()I" } : Jvm.MethodName)) ∈ lw_all := lw_g (lw_at lw_m6 162 rfl) rfl
theorem q1664 : (Jvm.Cond.methodLink "LinkedTongue" (97 : Nat) ({ cls := "java/util/ArrayList", name := "get", desc := "(I)Ljava/lang/Object;" } : Jvm.MethodName)) ∈ lw_all := lw_g (lw_at lw_m6 163 rfl) rfl
theorem q1665 : (Jvm.Cond.classLink "LinkedTongue" (101 : Nat) "LinkedTongue$HostType") ∈ lw_all := lw_g (lw_at lw_m6 164 rfl) rfl
theorem q1666 : (Jvm.Cond.methodLink "LinkedTongue" (103 : Nat) ({ cls := "LinkedTongue$HostType", name := "tell", desc := "(I)I" } : Jvm.MethodName)) ∈ lw_all := lw_g (lw_at lw_m6 165 rfl) rfl
theorem q1671 : (Jvm.Cond.instanceMethod ({ cls := "LinkedTongue", name := "member", desc := "(II)I" } : Jvm.MethodName)) ∈ lw_all := lw_g (lw_at lw_m6 170 rfl) rfl
theorem q1672 : (Jvm.Cond.selects "LinkedTongue" ({ cls := "LinkedTongue", name := "member", desc := "(II)I" } : Jvm.MethodName) ({ cls := "LinkedTongue", name := "member", desc := "(II)I" } : Jvm.MethodName)) ∈ lw_all := lw_g (lw_at lw_m6 171 rfl) rfl
theorem q1673 : (Jvm.Cond.code ({ cls := "LinkedTongue", name := "member", desc := "(II)I" } : Jvm.MethodName) prog_1_method_9_code (3 : Nat) (Option.some Jvm.ClassFile.FieldType.int)) ∈ lw_all := lw_g (lw_at lw_m6 172 rfl) rfl
theorem q1674 : (Jvm.Cond.classLink "LinkedTongue" (110 : Nat) "LinkedTongue$Member") ∈ lw_all := lw_g (lw_at lw_m6 173 rfl) rfl
theorem q1675 : (Jvm.Cond.methodLink "LinkedTongue" (112 : Nat) ({ cls := "LinkedTongue$Member", name := "tell", desc := "(I)I" } : Jvm.MethodName)) ∈ lw_all := lw_g (lw_at lw_m6 174 rfl) rfl
theorem q1680 : (Jvm.Cond.instanceMethod ({ cls := "LinkedTongue", name := "subtype", desc := "(II)Z" } : Jvm.MethodName)) ∈ lw_all := lw_g (lw_at lw_m6 179 rfl) rfl
theorem q1681 : (Jvm.Cond.selects "LinkedTongue" ({ cls := "LinkedTongue", name := "subtype", desc := "(II)Z" } : Jvm.MethodName) ({ cls := "LinkedTongue", name := "subtype", desc := "(II)Z" } : Jvm.MethodName)) ∈ lw_all := lw_g (lw_at lw_m6 180 rfl) rfl
theorem q1682 : (Jvm.Cond.code ({ cls := "LinkedTongue", name := "subtype", desc := "(II)Z" } : Jvm.MethodName) prog_1_method_10_code (3 : Nat) (Option.some Jvm.ClassFile.FieldType.boolean)) ∈ lw_all := lw_g (lw_at lw_m6 181 rfl) rfl
theorem q1683 : (Jvm.Cond.methodLink "LinkedTongue" (113 : Nat) ({ cls := "LinkedTongue$Host", name := "isType", desc := "(I)Z" } : Jvm.MethodName)) ∈ lw_all := lw_g (lw_at lw_m6 182 rfl) rfl
theorem q1687 : (Jvm.Cond.methodLink "LinkedTongue" (117 : Nat) ({ cls := "LinkedTongue$Host", name := "isUnder", desc := "(II)Z" } : Jvm.MethodName)) ∈ lw_all := lw_g (lw_at lw_m6 186 rfl) rfl
theorem q1696 : (Jvm.Cond.instanceMethod ({ cls := "LinkedTongue", name := "compile", desc := "()I" } : Jvm.MethodName)) ∈ lw_all := lw_g (lw_at lw_m6 195 rfl) rfl
theorem q1697 : (Jvm.Cond.selects "LinkedTongue" ({ cls := "LinkedTongue", name := "compile", desc := "()I" } : Jvm.MethodName) ({ cls := "LinkedTongue", name := "compile", desc := "()I" } : Jvm.MethodName)) ∈ lw_all := lw_g (lw_at lw_m6 196 rfl) rfl
theorem q1698 : (Jvm.Cond.codeWith ({ cls := "LinkedTongue", name := "compile", desc := "()I" } : Jvm.MethodName) prog_1_method_11_code (6 : Nat) (Option.some Jvm.ClassFile.FieldType.int) [((42 : Nat), (123 : Nat), (136 : Nat), (13 : Nat)), ((124 : Nat), (133 : Nat), (136 : Nat), (13 : Nat))]) ∈ lw_all := lw_g (lw_at lw_m6 197 rfl) rfl
theorem q1699 : (Jvm.Cond.classLink "LinkedTongue" (136 : Nat) "LinkedTongue$Parser") ∈ lw_all := lw_g (lw_at lw_m6 198 rfl) rfl
theorem q1701 : (Jvm.Cond.methodLink "LinkedTongue" (141 : Nat) ({ cls := "LinkedTongue$Parser", name := "<init>", desc := "(LLinkedTongue$Scanner;LLinkedTongue$Words;LLinkedTongue$Words;II)V" } : Jvm.MethodName)) ∈ lw_all := lw_g (lw_at lw_m6 200 rfl) rfl
theorem q1764 : (Jvm.Cond.methodLink "LinkedTongue" (144 : Nat) ({ cls := "LinkedTongue$Parser", name := "parse", desc := "()Ljava/util/ArrayList;" } : Jvm.MethodName)) ∈ lw_all := lw_g (lw_at lw_m7 23 rfl) rfl
theorem q1799 : (Jvm.Cond.fieldLinkNest "LinkedTongue" (309 : Nat) "LinkedTongue$Code" "number" "I" "LinkedTongue") ∈ lw_tbl := lw_at lw_m7 58 rfl
theorem q1809 : (Jvm.Cond.fieldLinkNest "LinkedTongue" (159 : Nat) "LinkedTongue$Code" "size" "I" "LinkedTongue") ∈ lw_tbl := lw_at lw_m7 68 rfl
theorem q1816 : (Jvm.Cond.fieldLinkNest "LinkedTongue" (161 : Nat) "LinkedTongue$Code" "rows" "[I" "LinkedTongue") ∈ lw_tbl := lw_at lw_m7 75 rfl
theorem q2478 : (Jvm.Cond.methodLink "LinkedTongue" (148 : Nat) ({ cls := "LinkedTongue$Machine", name := "accept", desc := "(Ljava/util/ArrayList;)Z" } : Jvm.MethodName)) ∈ lw_all := lw_g (lw_at lw_m10 17 rfl) rfl
theorem q2646 : (Jvm.Cond.fieldLinkNest "LinkedTongue" (171 : Nat) "LinkedTongue$Site" "size" "I" "LinkedTongue") ∈ lw_tbl := lw_at lw_m10 185 rfl
theorem q2649 : (Jvm.Cond.fieldLinkNest "LinkedTongue" (172 : Nat) "LinkedTongue$Site" "first" "LLinkedTongue$Entry;" "LinkedTongue") ∈ lw_tbl := lw_at lw_m10 188 rfl
theorem q2743 : (Jvm.Cond.methodLink "LinkedTongue" (152 : Nat) ({ cls := "LinkedTongue$Words", name := "cut", desc := "(I)V" } : Jvm.MethodName)) ∈ lw_all := lw_g (lw_at lw_m11 42 rfl) rfl
theorem q2745 : (Jvm.Cond.instanceMethod ({ cls := "LinkedTongue", name := "function", desc := "(II)I" } : Jvm.MethodName)) ∈ lw_all := lw_g (lw_at lw_m11 44 rfl) rfl
theorem q2746 : (Jvm.Cond.selects "LinkedTongue" ({ cls := "LinkedTongue", name := "function", desc := "(II)I" } : Jvm.MethodName) ({ cls := "LinkedTongue", name := "function", desc := "(II)I" } : Jvm.MethodName)) ∈ lw_all := lw_g (lw_at lw_m11 45 rfl) rfl
theorem q2747 : (Jvm.Cond.code ({ cls := "LinkedTongue", name := "function", desc := "(II)I" } : Jvm.MethodName) prog_1_method_12_code (3 : Nat) (Option.some Jvm.ClassFile.FieldType.int)) ∈ lw_all := lw_g (lw_at lw_m11 46 rfl) rfl
theorem q2748 : (Jvm.Cond.classLink "LinkedTongue" (156 : Nat) "LinkedTongue$Code") ∈ lw_all := lw_g (lw_at lw_m11 47 rfl) rfl
theorem q2749 : (Jvm.Cond.methodLink "LinkedTongue" (158 : Nat) ({ cls := "LinkedTongue$Code", name := "tell", desc := "(I)I" } : Jvm.MethodName)) ∈ lw_all := lw_g (lw_at lw_m11 48 rfl) rfl
theorem q2754 : (Jvm.Cond.instanceMethod ({ cls := "LinkedTongue", name := "code", desc := "(III)I" } : Jvm.MethodName)) ∈ lw_all := lw_g (lw_at lw_m11 53 rfl) rfl
theorem q2755 : (Jvm.Cond.selects "LinkedTongue" ({ cls := "LinkedTongue", name := "code", desc := "(III)I" } : Jvm.MethodName) ({ cls := "LinkedTongue", name := "code", desc := "(III)I" } : Jvm.MethodName)) ∈ lw_all := lw_g (lw_at lw_m11 54 rfl) rfl
theorem q2756 : (Jvm.Cond.code ({ cls := "LinkedTongue", name := "code", desc := "(III)I" } : Jvm.MethodName) prog_1_method_13_code (5 : Nat) (Option.some Jvm.ClassFile.FieldType.int)) ∈ lw_all := lw_g (lw_at lw_m11 55 rfl) rfl
theorem q2758 : (Jvm.Cond.instanceMethod ({ cls := "LinkedTongue", name := "site", desc := "(II)I" } : Jvm.MethodName)) ∈ lw_all := lw_g (lw_at lw_m11 57 rfl) rfl
theorem q2759 : (Jvm.Cond.selects "LinkedTongue" ({ cls := "LinkedTongue", name := "site", desc := "(II)I" } : Jvm.MethodName) ({ cls := "LinkedTongue", name := "site", desc := "(II)I" } : Jvm.MethodName)) ∈ lw_all := lw_g (lw_at lw_m11 58 rfl) rfl
theorem q2760 : (Jvm.Cond.code ({ cls := "LinkedTongue", name := "site", desc := "(II)I" } : Jvm.MethodName) prog_1_method_14_code (3 : Nat) (Option.some Jvm.ClassFile.FieldType.int)) ∈ lw_all := lw_g (lw_at lw_m11 59 rfl) rfl
theorem q2761 : (Jvm.Cond.classLink "LinkedTongue" (168 : Nat) "LinkedTongue$Site") ∈ lw_all := lw_g (lw_at lw_m11 60 rfl) rfl
theorem q2762 : (Jvm.Cond.methodLink "LinkedTongue" (170 : Nat) ({ cls := "LinkedTongue$Site", name := "tell", desc := "(I)I" } : Jvm.MethodName)) ∈ lw_all := lw_g (lw_at lw_m11 61 rfl) rfl
theorem q2767 : (Jvm.Cond.instanceMethod ({ cls := "LinkedTongue", name := "entry", desc := "(III)I" } : Jvm.MethodName)) ∈ lw_all := lw_g (lw_at lw_m11 66 rfl) rfl
theorem q2768 : (Jvm.Cond.selects "LinkedTongue" ({ cls := "LinkedTongue", name := "entry", desc := "(III)I" } : Jvm.MethodName) ({ cls := "LinkedTongue", name := "entry", desc := "(III)I" } : Jvm.MethodName)) ∈ lw_all := lw_g (lw_at lw_m11 67 rfl) rfl
theorem q2769 : (Jvm.Cond.code ({ cls := "LinkedTongue", name := "entry", desc := "(III)I" } : Jvm.MethodName) prog_1_method_15_code (6 : Nat) (Option.some Jvm.ClassFile.FieldType.int)) ∈ lw_all := lw_g (lw_at lw_m11 68 rfl) rfl
theorem q2770 : (Jvm.Cond.methodLink "LinkedTongue" (181 : Nat) ({ cls := "LinkedTongue$Entry", name := "tell", desc := "(I)I" } : Jvm.MethodName)) ∈ lw_all := lw_g (lw_at lw_m11 69 rfl) rfl
theorem q2779 : (Jvm.Cond.instanceMethod ({ cls := "LinkedTongue", name := "name", desc := "(II)I" } : Jvm.MethodName)) ∈ lw_all := lw_g (lw_at lw_m11 78 rfl) rfl
theorem q2780 : (Jvm.Cond.selects "LinkedTongue" ({ cls := "LinkedTongue", name := "name", desc := "(II)I" } : Jvm.MethodName) ({ cls := "LinkedTongue", name := "name", desc := "(II)I" } : Jvm.MethodName)) ∈ lw_all := lw_g (lw_at lw_m11 79 rfl) rfl
theorem q2781 : (Jvm.Cond.code ({ cls := "LinkedTongue", name := "name", desc := "(II)I" } : Jvm.MethodName) prog_1_method_16_code (3 : Nat) (Option.some Jvm.ClassFile.FieldType.int)) ∈ lw_all := lw_g (lw_at lw_m11 80 rfl) rfl
theorem q2782 : (Jvm.Cond.methodLink "LinkedTongue" (184 : Nat) ({ cls := "LinkedTongue$Words", name := "byteAt", desc := "(II)I" } : Jvm.MethodName)) ∈ lw_all := lw_g (lw_at lw_m11 81 rfl) rfl
theorem q2787 : (Jvm.Cond.instanceMethod ({ cls := "LinkedTongue", name := "start", desc := "(II)Z" } : Jvm.MethodName)) ∈ lw_all := lw_g (lw_at lw_m11 86 rfl) rfl
theorem q2788 : (Jvm.Cond.selects "LinkedTongue" ({ cls := "LinkedTongue", name := "start", desc := "(II)Z" } : Jvm.MethodName) ({ cls := "LinkedTongue", name := "start", desc := "(II)Z" } : Jvm.MethodName)) ∈ lw_all := lw_g (lw_at lw_m11 87 rfl) rfl
theorem q2789 : (Jvm.Cond.code ({ cls := "LinkedTongue", name := "start", desc := "(II)Z" } : Jvm.MethodName) prog_1_method_17_code (3 : Nat) (Option.some Jvm.ClassFile.FieldType.boolean)) ∈ lw_all := lw_g (lw_at lw_m11 88 rfl) rfl
theorem q2790 : (Jvm.Cond.methodLink "LinkedTongue" (187 : Nat) ({ cls := "LinkedTongue$Machine", name := "start", desc := "(II)Z" } : Jvm.MethodName)) ∈ lw_all := lw_g (lw_at lw_m11 89 rfl) rfl
theorem q2826 : (Jvm.Cond.instanceMethod ({ cls := "LinkedTongue", name := "task", desc := "(II)I" } : Jvm.MethodName)) ∈ lw_all := lw_g (lw_at lw_m11 125 rfl) rfl
theorem q2827 : (Jvm.Cond.selects "LinkedTongue" ({ cls := "LinkedTongue", name := "task", desc := "(II)I" } : Jvm.MethodName) ({ cls := "LinkedTongue", name := "task", desc := "(II)I" } : Jvm.MethodName)) ∈ lw_all := lw_g (lw_at lw_m11 126 rfl) rfl
theorem q2828 : (Jvm.Cond.code ({ cls := "LinkedTongue", name := "task", desc := "(II)I" } : Jvm.MethodName) prog_1_method_19_code (3 : Nat) (Option.some Jvm.ClassFile.FieldType.int)) ∈ lw_all := lw_g (lw_at lw_m11 127 rfl) rfl
theorem q2829 : (Jvm.Cond.methodLink "LinkedTongue" (209 : Nat) ({ cls := "LinkedTongue$Task", name := "tell", desc := "(I)I" } : Jvm.MethodName)) ∈ lw_all := lw_g (lw_at lw_m11 128 rfl) rfl
theorem q2834 : (Jvm.Cond.instanceMethod ({ cls := "LinkedTongue", name := "sign", desc := "(II)I" } : Jvm.MethodName)) ∈ lw_all := lw_g (lw_at lw_m11 133 rfl) rfl
theorem q2835 : (Jvm.Cond.selects "LinkedTongue" ({ cls := "LinkedTongue", name := "sign", desc := "(II)I" } : Jvm.MethodName) ({ cls := "LinkedTongue", name := "sign", desc := "(II)I" } : Jvm.MethodName)) ∈ lw_all := lw_g (lw_at lw_m11 134 rfl) rfl
theorem q2836 : (Jvm.Cond.code ({ cls := "LinkedTongue", name := "sign", desc := "(II)I" } : Jvm.MethodName) prog_1_method_23_code (4 : Nat) (Option.some Jvm.ClassFile.FieldType.int)) ∈ lw_all := lw_g (lw_at lw_m11 135 rfl) rfl
theorem q2837 : (Jvm.Cond.methodLink "LinkedTongue" (220 : Nat) ({ cls := "LinkedTongue", name := "hasResult", desc := "(I)Z" } : Jvm.MethodName)) ∈ lw_all := lw_g (lw_at lw_m11 136 rfl) rfl
theorem q2838 : (Jvm.Cond.privateMethod ({ cls := "LinkedTongue", name := "hasResult", desc := "(I)Z" } : Jvm.MethodName)) ∈ lw_tbl := lw_at lw_m11 137 rfl
theorem q2839 : (Jvm.Cond.instanceMethod ({ cls := "LinkedTongue", name := "hasResult", desc := "(I)Z" } : Jvm.MethodName)) ∈ lw_all := lw_g (lw_at lw_m11 138 rfl) rfl
theorem q2840 : (Jvm.Cond.code ({ cls := "LinkedTongue", name := "hasResult", desc := "(I)Z" } : Jvm.MethodName) prog_1_method_21_code (2 : Nat) (Option.some Jvm.ClassFile.FieldType.boolean)) ∈ lw_all := lw_g (lw_at lw_m11 139 rfl) rfl
theorem q2842 : (Jvm.Cond.instanceMethod ({ cls := "LinkedTongue", name := "thing", desc := "(II)I" } : Jvm.MethodName)) ∈ lw_all := lw_g (lw_at lw_m11 141 rfl) rfl
theorem q2843 : (Jvm.Cond.selects "LinkedTongue" ({ cls := "LinkedTongue", name := "thing", desc := "(II)I" } : Jvm.MethodName) ({ cls := "LinkedTongue", name := "thing", desc := "(II)I" } : Jvm.MethodName)) ∈ lw_all := lw_g (lw_at lw_m11 142 rfl) rfl
theorem q2844 : (Jvm.Cond.code ({ cls := "LinkedTongue", name := "thing", desc := "(II)I" } : Jvm.MethodName) prog_1_method_25_code (5 : Nat) (Option.some Jvm.ClassFile.FieldType.int)) ∈ lw_all := lw_g (lw_at lw_m11 143 rfl) rfl
theorem q2845 : (Jvm.Cond.classLink "LinkedTongue" (267 : Nat) "LinkedTongue$Thing") ∈ lw_all := lw_g (lw_at lw_m11 144 rfl) rfl
theorem q2846 : (Jvm.Cond.methodLink "LinkedTongue" (269 : Nat) ({ cls := "LinkedTongue$Thing", name := "tag", desc := "()B" } : Jvm.MethodName)) ∈ lw_all := lw_g (lw_at lw_m11 145 rfl) rfl
theorem q2861 : (Jvm.Cond.methodLink "LinkedTongue" (272 : Nat) ({ cls := "LinkedTongue$Machine", name := "objectOf", desc := "(BJ)LLinkedTongue$Obj;" } : Jvm.MethodName)) ∈ lw_all := lw_g (lw_at lw_m11 160 rfl) rfl
theorem q2866 : (Jvm.Cond.classLink "LinkedTongue" (292 : Nat) "LinkedTongue$Instance") ∈ lw_all := lw_g (lw_at lw_m11 165 rfl) rfl
theorem q2867 : (Jvm.Cond.classLink "LinkedTongue" (303 : Nat) "LinkedTongue$Fun") ∈ lw_all := lw_g (lw_at lw_m11 166 rfl) rfl
theorem q2869 : (Jvm.Cond.instanceMethod ({ cls := "LinkedTongue", name := "shape", desc := "(II)I" } : Jvm.MethodName)) ∈ lw_all := lw_g (lw_at lw_m11 168 rfl) rfl
theorem q2870 : (Jvm.Cond.selects "LinkedTongue" ({ cls := "LinkedTongue", name := "shape", desc := "(II)I" } : Jvm.MethodName) ({ cls := "LinkedTongue", name := "shape", desc := "(II)I" } : Jvm.MethodName)) ∈ lw_all := lw_g (lw_at lw_m11 169 rfl) rfl
theorem q2871 : (Jvm.Cond.code ({ cls := "LinkedTongue", name := "shape", desc := "(II)I" } : Jvm.MethodName) prog_1_method_27_code (4 : Nat) (Option.some Jvm.ClassFile.FieldType.int)) ∈ lw_all := lw_g (lw_at lw_m11 170 rfl) rfl
theorem q2872 : (Jvm.Cond.classLink "LinkedTongue" (283 : Nat) "LinkedTongue$Shape") ∈ lw_all := lw_g (lw_at lw_m11 171 rfl) rfl
theorem q2873 : (Jvm.Cond.methodLink "LinkedTongue" (318 : Nat) ({ cls := "LinkedTongue$Shape", name := "nameAt", desc := "(I)I" } : Jvm.MethodName)) ∈ lw_all := lw_g (lw_at lw_m11 172 rfl) rfl
theorem q2878 : (Jvm.Cond.instanceMethod ({ cls := "LinkedTongue", name := "output", desc := "(I)I" } : Jvm.MethodName)) ∈ lw_all := lw_g (lw_at lw_m11 177 rfl) rfl
theorem q2879 : (Jvm.Cond.selects "LinkedTongue" ({ cls := "LinkedTongue", name := "output", desc := "(I)I" } : Jvm.MethodName) ({ cls := "LinkedTongue", name := "output", desc := "(I)I" } : Jvm.MethodName)) ∈ lw_all := lw_g (lw_at lw_m11 178 rfl) rfl
theorem q2880 : (Jvm.Cond.code ({ cls := "LinkedTongue", name := "output", desc := "(I)I" } : Jvm.MethodName) prog_1_method_28_code (2 : Nat) (Option.some Jvm.ClassFile.FieldType.int)) ∈ lw_all := lw_g (lw_at lw_m11 179 rfl) rfl
theorem q2882 : (Jvm.Cond.instanceMethod ({ cls := "LinkedTongue", name := "trace", desc := "(I)I" } : Jvm.MethodName)) ∈ lw_all := lw_g (lw_at lw_m11 181 rfl) rfl
theorem q2883 : (Jvm.Cond.selects "LinkedTongue" ({ cls := "LinkedTongue", name := "trace", desc := "(I)I" } : Jvm.MethodName) ({ cls := "LinkedTongue", name := "trace", desc := "(I)I" } : Jvm.MethodName)) ∈ lw_all := lw_g (lw_at lw_m11 182 rfl) rfl
theorem q2884 : (Jvm.Cond.code ({ cls := "LinkedTongue", name := "trace", desc := "(I)I" } : Jvm.MethodName) prog_1_method_29_code (2 : Nat) (Option.some Jvm.ClassFile.FieldType.int)) ∈ lw_all := lw_g (lw_at lw_m11 183 rfl) rfl
theorem q2886 : (Jvm.Cond.instanceMethod ({ cls := "LinkedTongue", name := "count", desc := "(I)I" } : Jvm.MethodName)) ∈ lw_all := lw_g (lw_at lw_m11 185 rfl) rfl
theorem q2887 : (Jvm.Cond.selects "LinkedTongue" ({ cls := "LinkedTongue", name := "count", desc := "(I)I" } : Jvm.MethodName) ({ cls := "LinkedTongue", name := "count", desc := "(I)I" } : Jvm.MethodName)) ∈ lw_all := lw_g (lw_at lw_m11 186 rfl) rfl
theorem q2888 : (Jvm.Cond.code ({ cls := "LinkedTongue", name := "count", desc := "(I)I" } : Jvm.MethodName) prog_1_method_30_code (2 : Nat) (Option.some Jvm.ClassFile.FieldType.int)) ∈ lw_all := lw_g (lw_at lw_m11 187 rfl) rfl
theorem q2895 : (Jvm.Cond.instanceMethod ({ cls := "LinkedTongue", name := "steps", desc := "(II)I" } : Jvm.MethodName)) ∈ lw_all := lw_g (lw_at lw_m11 194 rfl) rfl
theorem q2896 : (Jvm.Cond.selects "LinkedTongue" ({ cls := "LinkedTongue", name := "steps", desc := "(II)I" } : Jvm.MethodName) ({ cls := "LinkedTongue", name := "steps", desc := "(II)I" } : Jvm.MethodName)) ∈ lw_all := lw_g (lw_at lw_m11 195 rfl) rfl
theorem q2897 : (Jvm.Cond.code ({ cls := "LinkedTongue", name := "steps", desc := "(II)I" } : Jvm.MethodName) prog_1_method_18_code (5 : Nat) (Option.some Jvm.ClassFile.FieldType.int)) ∈ lw_all := lw_g (lw_at lw_m11 196 rfl) rfl
theorem q2898 : (Jvm.Cond.classLink "LinkedTongue" (190 : Nat) "java/lang/IllegalArgumentException") ∈ lw_all := lw_g (lw_at lw_m11 197 rfl) rfl
theorem q2899 : (Jvm.Cond.methodLink "LinkedTongue" (192 : Nat) ({ cls := "java/lang/IllegalArgumentException", name := "<init>", desc := "()V" } : Jvm.MethodName)) ∈ lw_all := lw_g (lw_at lw_m11 198 rfl) rfl
theorem q2909 : (Jvm.Cond.classLink "LinkedTongue" (202 : Nat) "java/lang/IllegalStateException") ∈ lw_all := lw_g (lw_at lw_m11 208 rfl) rfl
theorem q2918 : (Jvm.Cond.methodLink "LinkedTongue" (204 : Nat) ({ cls := "java/lang/IllegalStateException", name := "<init>", desc := "()V" } : Jvm.MethodName)) ∈ lw_all := lw_g (lw_at lw_m11 217 rfl) rfl
theorem q2924 : (Jvm.Cond.methodLink "LinkedTongue" (205 : Nat) ({ cls := "LinkedTongue$Machine", name := "step", desc := "(LLinkedTongue$Task;)Z" } : Jvm.MethodName)) ∈ lw_all := lw_g (lw_at lw_m11 223 rfl) rfl
theorem q3013 : (Jvm.Cond.fieldLinkNest "LinkedTongue" (305 : Nat) "LinkedTongue$Fun" "code" "LLinkedTongue$Code;" "LinkedTongue") ∈ lw_tbl := lw_at lw_m12 72 rfl
theorem q3021 : (Jvm.Cond.fieldLinkNest "LinkedTongue" (276 : Nat) "LinkedTongue$Obj" "shape" "LLinkedTongue$Shape;" "LinkedTongue") ∈ lw_tbl := lw_at lw_m12 80 rfl
theorem q3026 : (Jvm.Cond.fieldLinkNest "LinkedTongue" (300 : Nat) "LinkedTongue$Obj" "epoch" "I" "LinkedTongue") ∈ lw_tbl := lw_at lw_m12 85 rfl
theorem q3038 : (Jvm.Cond.fieldLink "LinkedTongue" (291 : Nat) "LinkedTongue$Obj" "number" "I") ∈ lw_all := lw_g (lw_at lw_m12 97 rfl) rfl
theorem q3044 : (Jvm.Cond.fieldLink "LinkedTongue" (313 : Nat) "LinkedTongue$Thing" "words" "[J") ∈ lw_all := lw_g (lw_at lw_m12 103 rfl) rfl
theorem q3052 : (Jvm.Cond.fieldLink "LinkedTongue" (310 : Nat) "LinkedTongue$Thing" "tags" "[B") ∈ lw_all := lw_g (lw_at lw_m12 111 rfl) rfl
theorem q3060 : (Jvm.Cond.fieldLink "LinkedTongue" (299 : Nat) "LinkedTongue$Thing" "size" "I") ∈ lw_all := lw_g (lw_at lw_m12 119 rfl) rfl
theorem q3360 : (Jvm.Cond.fieldLinkNest "LinkedTongue" (176 : Nat) "LinkedTongue$Entry" "next" "LLinkedTongue$Entry;" "LinkedTongue") ∈ lw_tbl := lw_at lw_m13 179 rfl
theorem q3518 : (Jvm.Cond.fieldLinkNest "LinkedTongue" (294 : Nat) "LinkedTongue$Instance" "type" "LLinkedTongue$HostType;" "LinkedTongue") ∈ lw_tbl := lw_at lw_m14 97 rfl
theorem q3739 : (Jvm.Cond.instanceMethod ({ cls := "LinkedTongue", name := "result", desc := "(II)J" } : Jvm.MethodName)) ∈ lw_all := lw_g (lw_at lw_m15 78 rfl) rfl
theorem q3740 : (Jvm.Cond.selects "LinkedTongue" ({ cls := "LinkedTongue", name := "result", desc := "(II)J" } : Jvm.MethodName) ({ cls := "LinkedTongue", name := "result", desc := "(II)J" } : Jvm.MethodName)) ∈ lw_all := lw_g (lw_at lw_m15 79 rfl) rfl
theorem q3741 : (Jvm.Cond.code ({ cls := "LinkedTongue", name := "result", desc := "(II)J" } : Jvm.MethodName) prog_1_method_22_code (3 : Nat) (Option.some Jvm.ClassFile.FieldType.long)) ∈ lw_all := lw_g (lw_at lw_m15 80 rfl) rfl
theorem q3742 : (Jvm.Cond.classLink "LinkedTongue" (217 : Nat) "java/lang/IndexOutOfBoundsException") ∈ lw_all := lw_g (lw_at lw_m15 81 rfl) rfl
theorem q3751 : (Jvm.Cond.methodLink "LinkedTongue" (219 : Nat) ({ cls := "java/lang/IndexOutOfBoundsException", name := "<init>", desc := "()V" } : Jvm.MethodName)) ∈ lw_all := lw_g (lw_at lw_m15 90 rfl) rfl
theorem q3757 : (Jvm.Cond.methodLink "LinkedTongue" (231 : Nat) ({ cls := "LinkedTongue", name := "tell", desc := "(BJI)J" } : Jvm.MethodName)) ∈ lw_all := lw_g (lw_at lw_m15 96 rfl) rfl
theorem q3758 : (Jvm.Cond.privateMethod ({ cls := "LinkedTongue", name := "tell", desc := "(BJI)J" } : Jvm.MethodName)) ∈ lw_tbl := lw_at lw_m15 97 rfl
theorem q3759 : (Jvm.Cond.instanceMethod ({ cls := "LinkedTongue", name := "tell", desc := "(BJI)J" } : Jvm.MethodName)) ∈ lw_all := lw_g (lw_at lw_m15 98 rfl) rfl
theorem q3760 : (Jvm.Cond.code ({ cls := "LinkedTongue", name := "tell", desc := "(BJI)J" } : Jvm.MethodName) prog_1_method_20_code (5 : Nat) (Option.some Jvm.ClassFile.FieldType.long)) ∈ lw_all := lw_g (lw_at lw_m15 99 rfl) rfl
theorem q3766 : (Jvm.Cond.instanceMethod ({ cls := "LinkedTongue", name := "global", desc := "(I)J" } : Jvm.MethodName)) ∈ lw_all := lw_g (lw_at lw_m15 105 rfl) rfl
theorem q3767 : (Jvm.Cond.selects "LinkedTongue" ({ cls := "LinkedTongue", name := "global", desc := "(I)J" } : Jvm.MethodName) ({ cls := "LinkedTongue", name := "global", desc := "(I)J" } : Jvm.MethodName)) ∈ lw_all := lw_g (lw_at lw_m15 106 rfl) rfl
theorem q3768 : (Jvm.Cond.code ({ cls := "LinkedTongue", name := "global", desc := "(I)J" } : Jvm.MethodName) prog_1_method_24_code (4 : Nat) (Option.some Jvm.ClassFile.FieldType.long)) ∈ lw_all := lw_g (lw_at lw_m15 107 rfl) rfl
theorem q3769 : (Jvm.Cond.methodLink "LinkedTongue" (240 : Nat) ({ cls := "LinkedTongue$Words", name := "find", desc := "([BII)I" } : Jvm.MethodName)) ∈ lw_all := lw_g (lw_at lw_m15 108 rfl) rfl
theorem q3770 : (Jvm.Cond.classLink "LinkedTongue" (248 : Nat) "java/util/NoSuchElementException") ∈ lw_all := lw_g (lw_at lw_m15 109 rfl) rfl
theorem q3779 : (Jvm.Cond.methodLink "LinkedTongue" (250 : Nat) ({ cls := "java/util/NoSuchElementException", name := "<init>", desc := "()V" } : Jvm.MethodName)) ∈ lw_all := lw_g (lw_at lw_m15 118 rfl) rfl
theorem q3789 : (Jvm.Cond.instanceMethod ({ cls := "LinkedTongue", name := "property", desc := "(III)J" } : Jvm.MethodName)) ∈ lw_all := lw_g (lw_at lw_m15 128 rfl) rfl
theorem q3790 : (Jvm.Cond.selects "LinkedTongue" ({ cls := "LinkedTongue", name := "property", desc := "(III)J" } : Jvm.MethodName) ({ cls := "LinkedTongue", name := "property", desc := "(III)J" } : Jvm.MethodName)) ∈ lw_all := lw_g (lw_at lw_m15 129 rfl) rfl
theorem q3791 : (Jvm.Cond.code ({ cls := "LinkedTongue", name := "property", desc := "(III)J" } : Jvm.MethodName) prog_1_method_26_code (6 : Nat) (Option.some Jvm.ClassFile.FieldType.long)) ∈ lw_all := lw_g (lw_at lw_m15 130 rfl) rfl
theorem q3792 : (Jvm.Cond.constantLong "LinkedTongue" (316 : Nat) (-1 : Int64)) ∈ lw_all := lw_g (lw_at lw_m15 131 rfl) rfl
theorem q5511 : (Jvm.Cond.castable "LinkedTongue" "java/lang/Object") ∈ lw_tbl := lw_at lw_m22 170 rfl
theorem q317 : (Jvm.Cond.initialized "LinkedTongue$Found") ∈ lw_all := lw_g (lw_at lw_m1 16 rfl) rfl
theorem q745 : (Jvm.Cond.instantiable "LinkedTongue$Found" (14 : Nat)) ∈ lw_all := lw_g (lw_at lw_m2 204 rfl) rfl
theorem q747 : (Jvm.Cond.instanceMethod ({ cls := "LinkedTongue$Found", name := "<init>", desc := "()V" } : Jvm.MethodName)) ∈ lw_all := lw_g (lw_at lw_m2 206 rfl) rfl
theorem q748 : (Jvm.Cond.code ({ cls := "LinkedTongue$Found", name := "<init>", desc := "()V" } : Jvm.MethodName) prog_12_method_1_code (1 : Nat) (Option.none : Option Jvm.ClassFile.FieldType)) ∈ lw_all := lw_g (lw_at lw_m2 207 rfl) rfl
theorem q749 : (Jvm.Cond.methodLink "LinkedTongue$Found" (1 : Nat) ({ cls := "java/lang/Object", name := "<init>", desc := "()V" } : Jvm.MethodName)) ∈ lw_all := lw_g (lw_at lw_m2 208 rfl) rfl
theorem q771 : (Jvm.Cond.fieldLink "LinkedTongue$Found" (7 : Nat) "LinkedTongue$Found" "classes" "[I") ∈ lw_all := lw_g (lw_at lw_m2 230 rfl) rfl
theorem q792 : (Jvm.Cond.lays "LinkedTongue$Found" "LinkedTongue$Found" "linker" "I") ∈ lw_all := lw_g (lw_at lw_m3 11 rfl) rfl
theorem q793 : (Jvm.Cond.soleField "LinkedTongue$Found" "linker") ∈ lw_all := lw_g (lw_at lw_m3 12 rfl) rfl
theorem q794 : (Jvm.Cond.lays "LinkedTongue$Found" "LinkedTongue$Found" "element" "I") ∈ lw_all := lw_g (lw_at lw_m3 13 rfl) rfl
theorem q795 : (Jvm.Cond.soleField "LinkedTongue$Found" "element") ∈ lw_all := lw_g (lw_at lw_m3 14 rfl) rfl
theorem q796 : (Jvm.Cond.lays "LinkedTongue$Found" "LinkedTongue$Found" "operands" "I") ∈ lw_all := lw_g (lw_at lw_m3 15 rfl) rfl
theorem q797 : (Jvm.Cond.soleField "LinkedTongue$Found" "operands") ∈ lw_all := lw_g (lw_at lw_m3 16 rfl) rfl
theorem q798 : (Jvm.Cond.lays "LinkedTongue$Found" "LinkedTongue$Found" "shape" "LLinkedTongue$Shape;") ∈ lw_all := lw_g (lw_at lw_m3 17 rfl) rfl
theorem q799 : (Jvm.Cond.soleField "LinkedTongue$Found" "shape") ∈ lw_all := lw_g (lw_at lw_m3 18 rfl) rfl
theorem q800 : (Jvm.Cond.lays "LinkedTongue$Found" "LinkedTongue$Found" "type" "LLinkedTongue$HostType;") ∈ lw_all := lw_g (lw_at lw_m3 19 rfl) rfl
theorem q801 : (Jvm.Cond.soleField "LinkedTongue$Found" "type") ∈ lw_all := lw_g (lw_at lw_m3 20 rfl) rfl
theorem q802 : (Jvm.Cond.lays "LinkedTongue$Found" "LinkedTongue$Found" "code" "LLinkedTongue$Code;") ∈ lw_all := lw_g (lw_at lw_m3 21 rfl) rfl
theorem q803 : (Jvm.Cond.soleField "LinkedTongue$Found" "code") ∈ lw_all := lw_g (lw_at lw_m3 22 rfl) rfl
theorem q804 : (Jvm.Cond.lays "LinkedTongue$Found" "LinkedTongue$Found" "isText" "Z") ∈ lw_all := lw_g (lw_at lw_m3 23 rfl) rfl
theorem q805 : (Jvm.Cond.soleField "LinkedTongue$Found" "isText") ∈ lw_all := lw_g (lw_at lw_m3 24 rfl) rfl
theorem q806 : (Jvm.Cond.laysFinal "LinkedTongue$Found" "LinkedTongue$Found" "classes" "[I") ∈ lw_all := lw_g (lw_at lw_m3 25 rfl) rfl
theorem q807 : (Jvm.Cond.soleField "LinkedTongue$Found" "classes") ∈ lw_all := lw_g (lw_at lw_m3 26 rfl) rfl
theorem q808 : (Jvm.Cond.lays "LinkedTongue$Found" "LinkedTongue$Found" "action" "I") ∈ lw_all := lw_g (lw_at lw_m3 27 rfl) rfl
theorem q809 : (Jvm.Cond.soleField "LinkedTongue$Found" "action") ∈ lw_all := lw_g (lw_at lw_m3 28 rfl) rfl
theorem q810 : (Jvm.Cond.lays "LinkedTongue$Found" "LinkedTongue$Found" "place" "I") ∈ lw_all := lw_g (lw_at lw_m3 29 rfl) rfl
theorem q811 : (Jvm.Cond.soleField "LinkedTongue$Found" "place") ∈ lw_all := lw_g (lw_at lw_m3 30 rfl) rfl
theorem q812 : (Jvm.Cond.lays "LinkedTongue$Found" "LinkedTongue$Found" "holder" "LLinkedTongue$Obj;") ∈ lw_all := lw_g (lw_at lw_m3 31 rfl) rfl
theorem q813 : (Jvm.Cond.soleField "LinkedTongue$Found" "holder") ∈ lw_all := lw_g (lw_at lw_m3 32 rfl) rfl
theorem q814 : (Jvm.Cond.lays "LinkedTongue$Found" "LinkedTongue$Found" "to" "LLinkedTongue$Shape;") ∈ lw_all := lw_g (lw_at lw_m3 33 rfl) rfl
theorem q815 : (Jvm.Cond.soleField "LinkedTongue$Found" "to") ∈ lw_all := lw_g (lw_at lw_m3 34 rfl) rfl
theorem q816 : (Jvm.Cond.lays "LinkedTongue$Found" "LinkedTongue$Found" "member" "LLinkedTongue$Member;") ∈ lw_all := lw_g (lw_at lw_m3 35 rfl) rfl
theorem q817 : (Jvm.Cond.soleField "LinkedTongue$Found" "member") ∈ lw_all := lw_g (lw_at lw_m3 36 rfl) rfl
theorem q818 : (Jvm.Cond.lays "LinkedTongue$Found" "LinkedTongue$Found" "byClasses" "Z") ∈ lw_all := lw_g (lw_at lw_m3 37 rfl) rfl
theorem q819 : (Jvm.Cond.soleField "LinkedTongue$Found" "byClasses") ∈ lw_all := lw_g (lw_at lw_m3 38 rfl) rfl
theorem q820 : (Jvm.Cond.superclass "LinkedTongue$Found" "java/lang/Object") ∈ lw_all := lw_g (lw_at lw_m3 39 rfl) rfl
theorem q1071 : (Jvm.Cond.selects "LinkedTongue$Found" ({ cls := "java/lang/Object", name := "getClass", desc := "()Ljava/lang/Class;" } : Jvm.MethodName) ({ cls := "java/lang/Object", name := "getClass", desc := "()Ljava/lang/Class;" } : Jvm.MethodName)) ∈ lw_all := lw_g (lw_at lw_m4 50 rfl) rfl
theorem q5521 : (Jvm.Cond.castable "LinkedTongue$Found" "java/lang/Object") ∈ lw_tbl := lw_at lw_m22 180 rfl
theorem q318 : (Jvm.Cond.initialized "LinkedTongue$Spare") ∈ lw_all := lw_g (lw_at lw_m1 17 rfl) rfl
theorem q822 : (Jvm.Cond.instantiable "LinkedTongue$Spare" (1 : Nat)) ∈ lw_all := lw_g (lw_at lw_m3 41 rfl) rfl
theorem q824 : (Jvm.Cond.instanceMethod ({ cls := "LinkedTongue$Spare", name := "<init>", desc := "()V" } : Jvm.MethodName)) ∈ lw_all := lw_g (lw_at lw_m3 43 rfl) rfl
theorem q825 : (Jvm.Cond.code ({ cls := "LinkedTongue$Spare", name := "<init>", desc := "()V" } : Jvm.MethodName) prog_37_method_1_code (1 : Nat) (Option.none : Option Jvm.ClassFile.FieldType)) ∈ lw_all := lw_g (lw_at lw_m3 44 rfl) rfl
theorem q826 : (Jvm.Cond.methodLink "LinkedTongue$Spare" (1 : Nat) ({ cls := "java/lang/Object", name := "<init>", desc := "()V" } : Jvm.MethodName)) ∈ lw_all := lw_g (lw_at lw_m3 45 rfl) rfl
theorem q827 : (Jvm.Cond.fieldLink "LinkedTongue$Spare" (7 : Nat) "LinkedTongue$Spare" "free" "LLinkedTongue$Entry;") ∈ lw_all := lw_g (lw_at lw_m3 46 rfl) rfl
theorem q828 : (Jvm.Cond.lays "LinkedTongue$Spare" "LinkedTongue$Spare" "free" "LLinkedTongue$Entry;") ∈ lw_all := lw_g (lw_at lw_m3 47 rfl) rfl
theorem q829 : (Jvm.Cond.soleField "LinkedTongue$Spare" "free") ∈ lw_all := lw_g (lw_at lw_m3 48 rfl) rfl
theorem q830 : (Jvm.Cond.superclass "LinkedTongue$Spare" "java/lang/Object") ∈ lw_all := lw_g (lw_at lw_m3 49 rfl) rfl
theorem q1095 : (Jvm.Cond.selects "LinkedTongue$Spare" ({ cls := "java/lang/Object", name := "getClass", desc := "()Ljava/lang/Class;" } : Jvm.MethodName) ({ cls := "java/lang/Object", name := "getClass", desc := "()Ljava/lang/Class;" } : Jvm.MethodName)) ∈ lw_all := lw_g (lw_at lw_m4 74 rfl) rfl
theorem q1158 : (Jvm.Cond.instanceMethod ({ cls := "LinkedTongue$Spare", name := "give", desc := "(LLinkedTongue$Entry;)V" } : Jvm.MethodName)) ∈ lw_all := lw_g (lw_at lw_m4 137 rfl) rfl
theorem q1159 : (Jvm.Cond.selects "LinkedTongue$Spare" ({ cls := "LinkedTongue$Spare", name := "give", desc := "(LLinkedTongue$Entry;)V" } : Jvm.MethodName) ({ cls := "LinkedTongue$Spare", name := "give", desc := "(LLinkedTongue$Entry;)V" } : Jvm.MethodName)) ∈ lw_all := lw_g (lw_at lw_m4 138 rfl) rfl
theorem q1160 : (Jvm.Cond.code ({ cls := "LinkedTongue$Spare", name := "give", desc := "(LLinkedTongue$Entry;)V" } : Jvm.MethodName) prog_37_method_3_code (2 : Nat) (Option.none : Option Jvm.ClassFile.FieldType)) ∈ lw_all := lw_g (lw_at lw_m4 139 rfl) rfl
theorem q3335 : (Jvm.Cond.instanceMethod ({ cls := "LinkedTongue$Spare", name := "take", desc := "(LLinkedTongue$Found;LLinkedTongue$Entry;I)LLinkedTongue$Entry;" } : Jvm.MethodName)) ∈ lw_all := lw_g (lw_at lw_m13 154 rfl) rfl
theorem q3336 : (Jvm.Cond.selects "LinkedTongue$Spare" ({ cls := "LinkedTongue$Spare", name := "take", desc := "(LLinkedTongue$Found;LLinkedTongue$Entry;I)LLinkedTongue$Entry;" } : Jvm.MethodName) ({ cls := "LinkedTongue$Spare", name := "take", desc := "(LLinkedTongue$Found;LLinkedTongue$Entry;I)LLinkedTongue$Entry;" } : Jvm.MethodName)) ∈ lw_all := lw_g (lw_at lw_m13 155 rfl) rfl
theorem q3337 : (Jvm.Cond.code ({ cls := "LinkedTongue$Spare", name := "take", desc := "(LLinkedTongue$Found;LLinkedTongue$Entry;I)LLinkedTongue$Entry;" } : Jvm.MethodName) prog_37_method_2_code (5 : Nat) (Option.some (Jvm.ClassFile.FieldType.object "LinkedTongue$Entry"))) ∈ lw_all := lw_g (lw_at lw_m13 156 rfl) rfl
theorem q3338 : (Jvm.Cond.classLink "LinkedTongue$Spare" (13 : Nat) "LinkedTongue$Entry") ∈ lw_all := lw_g (lw_at lw_m13 157 rfl) rfl
theorem q3339 : (Jvm.Cond.methodLinkNest "LinkedTongue$Spare" (15 : Nat) ({ cls := "LinkedTongue$Entry", name := "<init>", desc := "()V" } : Jvm.MethodName) "LinkedTongue") ∈ lw_tbl := lw_at lw_m13 158 rfl
theorem q3357 : (Jvm.Cond.fieldLinkNest "LinkedTongue$Spare" (16 : Nat) "LinkedTongue$Entry" "next" "LLinkedTongue$Entry;" "LinkedTongue") ∈ lw_tbl := lw_at lw_m13 176 rfl
theorem q3392 : (Jvm.Cond.methodLink "LinkedTongue$Spare" (19 : Nat) ({ cls := "LinkedTongue$Entry", name := "set", desc := "(LLinkedTongue$Found;LLinkedTongue$Entry;I)V" } : Jvm.MethodName)) ∈ lw_all := lw_g (lw_at lw_m13 211 rfl) rfl
theorem q5522 : (Jvm.Cond.castable "LinkedTongue$Spare" "java/lang/Object") ∈ lw_tbl := lw_at lw_m22 181 rfl
theorem q319 : (Jvm.Cond.initialized "LinkedTongue$Task") ∈ lw_all := lw_g (lw_at lw_m1 18 rfl) rfl
theorem q835 : (Jvm.Cond.instantiable "LinkedTongue$Task" (18 : Nat)) ∈ lw_all := lw_g (lw_at lw_m3 54 rfl) rfl
theorem q837 : (Jvm.Cond.instanceMethod ({ cls := "LinkedTongue$Task", name := "<init>", desc := "()V" } : Jvm.MethodName)) ∈ lw_all := lw_g (lw_at lw_m3 56 rfl) rfl
theorem q838 : (Jvm.Cond.code ({ cls := "LinkedTongue$Task", name := "<init>", desc := "()V" } : Jvm.MethodName) prog_38_method_1_code (1 : Nat) (Option.none : Option Jvm.ClassFile.FieldType)) ∈ lw_all := lw_g (lw_at lw_m3 57 rfl) rfl
theorem q839 : (Jvm.Cond.methodLink "LinkedTongue$Task" (3 : Nat) ({ cls := "java/lang/Object", name := "<init>", desc := "()V" } : Jvm.MethodName)) ∈ lw_all := lw_g (lw_at lw_m3 58 rfl) rfl
theorem q840 : (Jvm.Cond.classLink "LinkedTongue$Task" (19 : Nat) "LinkedTongue$Code") ∈ lw_all := lw_g (lw_at lw_m3 59 rfl) rfl
theorem q842 : (Jvm.Cond.classLink "LinkedTongue$Task" (32 : Nat) "LinkedTongue$Variables") ∈ lw_all := lw_g (lw_at lw_m3 61 rfl) rfl
theorem q844 : (Jvm.Cond.classLink "LinkedTongue$Task" (44 : Nat) "LinkedTongue$Obj") ∈ lw_all := lw_g (lw_at lw_m3 63 rfl) rfl
theorem q846 : (Jvm.Cond.fieldLink "LinkedTongue$Task" (75 : Nat) "LinkedTongue$Task" "state" "I") ∈ lw_all := lw_g (lw_at lw_m3 65 rfl) rfl
theorem q849 : (Jvm.Cond.fieldLink "LinkedTongue$Task" (59 : Nat) "LinkedTongue$Task" "size" "I") ∈ lw_all := lw_g (lw_at lw_m3 68 rfl) rfl
theorem q851 : (Jvm.Cond.fieldLink "LinkedTongue$Task" (72 : Nat) "LinkedTongue$Task" "calls" "I") ∈ lw_all := lw_g (lw_at lw_m3 70 rfl) rfl
theorem q853 : (Jvm.Cond.fieldLink "LinkedTongue$Task" (63 : Nat) "LinkedTongue$Task" "tries" "I") ∈ lw_all := lw_g (lw_at lw_m3 72 rfl) rfl
theorem q855 : (Jvm.Cond.fieldLink "LinkedTongue$Task" (11 : Nat) "LinkedTongue$Task" "words" "[J") ∈ lw_all := lw_g (lw_at lw_m3 74 rfl) rfl
theorem q857 : (Jvm.Cond.fieldLink "LinkedTongue$Task" (15 : Nat) "LinkedTongue$Task" "tags" "[B") ∈ lw_all := lw_g (lw_at lw_m3 76 rfl) rfl
theorem q859 : (Jvm.Cond.fieldLink "LinkedTongue$Task" (21 : Nat) "LinkedTongue$Task" "code" "[LLinkedTongue$Code;") ∈ lw_all := lw_g (lw_at lw_m3 78 rfl) rfl
theorem q861 : (Jvm.Cond.fieldLink "LinkedTongue$Task" (25 : Nat) "LinkedTongue$Task" "next" "[I") ∈ lw_all := lw_g (lw_at lw_m3 80 rfl) rfl
theorem q863 : (Jvm.Cond.fieldLink "LinkedTongue$Task" (29 : Nat) "LinkedTongue$Task" "base" "[I") ∈ lw_all := lw_g (lw_at lw_m3 82 rfl) rfl
theorem q864 : (Jvm.Cond.fieldLink "LinkedTongue$Task" (34 : Nat) "LinkedTongue$Task" "variables" "[LLinkedTongue$Variables;") ∈ lw_all := lw_g (lw_at lw_m3 83 rfl) rfl
theorem q866 : (Jvm.Cond.fieldLink "LinkedTongue$Task" (38 : Nat) "LinkedTongue$Task" "thisTag" "[B") ∈ lw_all := lw_g (lw_at lw_m3 85 rfl) rfl
theorem q868 : (Jvm.Cond.fieldLink "LinkedTongue$Task" (41 : Nat) "LinkedTongue$Task" "thisWord" "[J") ∈ lw_all := lw_g (lw_at lw_m3 87 rfl) rfl
theorem q870 : (Jvm.Cond.fieldLink "LinkedTongue$Task" (46 : Nat) "LinkedTongue$Task" "made" "[LLinkedTongue$Obj;") ∈ lw_all := lw_g (lw_at lw_m3 89 rfl) rfl
theorem q871 : (Jvm.Cond.fieldLink "LinkedTongue$Task" (50 : Nat) "LinkedTongue$Task" "tryCall" "[I") ∈ lw_all := lw_g (lw_at lw_m3 90 rfl) rfl
theorem q872 : (Jvm.Cond.fieldLink "LinkedTongue$Task" (53 : Nat) "LinkedTongue$Task" "tryTo" "[I") ∈ lw_all := lw_g (lw_at lw_m3 91 rfl) rfl
theorem q873 : (Jvm.Cond.fieldLink "LinkedTongue$Task" (56 : Nat) "LinkedTongue$Task" "trySize" "[I") ∈ lw_all := lw_g (lw_at lw_m3 92 rfl) rfl
theorem q874 : (Jvm.Cond.fieldLink "LinkedTongue$Task" (96 : Nat) "LinkedTongue$Task" "tag" "B") ∈ lw_all := lw_g (lw_at lw_m3 93 rfl) rfl
theorem q876 : (Jvm.Cond.fieldLink "LinkedTongue$Task" (100 : Nat) "LinkedTongue$Task" "word" "J") ∈ lw_all := lw_g (lw_at lw_m3 95 rfl) rfl
theorem q878 : (Jvm.Cond.lays "LinkedTongue$Task" "LinkedTongue$Task" "state" "I") ∈ lw_all := lw_g (lw_at lw_m3 97 rfl) rfl
theorem q879 : (Jvm.Cond.soleField "LinkedTongue$Task" "state") ∈ lw_all := lw_g (lw_at lw_m3 98 rfl) rfl
theorem q880 : (Jvm.Cond.lays "LinkedTongue$Task" "LinkedTongue$Task" "size" "I") ∈ lw_all := lw_g (lw_at lw_m3 99 rfl) rfl
theorem q881 : (Jvm.Cond.soleField "LinkedTongue$Task" "size") ∈ lw_all := lw_g (lw_at lw_m3 100 rfl) rfl
theorem q882 : (Jvm.Cond.lays "LinkedTongue$Task" "LinkedTongue$Task" "calls" "I") ∈ lw_all := lw_g (lw_at lw_m3 101 rfl) rfl
theorem q883 : (Jvm.Cond.soleField "LinkedTongue$Task" "calls") ∈ lw_all := lw_g (lw_at lw_m3 102 rfl) rfl
theorem q884 : (Jvm.Cond.lays "LinkedTongue$Task" "LinkedTongue$Task" "tries" "I") ∈ lw_all := lw_g (lw_at lw_m3 103 rfl) rfl
theorem q885 : (Jvm.Cond.soleField "LinkedTongue$Task" "tries") ∈ lw_all := lw_g (lw_at lw_m3 104 rfl) rfl
theorem q886 : (Jvm.Cond.laysFinal "LinkedTongue$Task" "LinkedTongue$Task" "words" "[J") ∈ lw_all := lw_g (lw_at lw_m3 105 rfl) rfl
theorem q887 : (Jvm.Cond.soleField "LinkedTongue$Task" "words") ∈ lw_all := lw_g (lw_at lw_m3 106 rfl) rfl
theorem q888 : (Jvm.Cond.laysFinal "LinkedTongue$Task" "LinkedTongue$Task" "tags" "[B") ∈ lw_all := lw_g (lw_at lw_m3 107 rfl) rfl
theorem q889 : (Jvm.Cond.soleField "LinkedTongue$Task" "tags") ∈ lw_all := lw_g (lw_at lw_m3 108 rfl) rfl
theorem q890 : (Jvm.Cond.laysFinal "LinkedTongue$Task" "LinkedTongue$Task" "code" "[LLinkedTongue$Code;") ∈ lw_all := lw_g (lw_at lw_m3 109 rfl) rfl
theorem q891 : (Jvm.Cond.soleField "LinkedTongue$Task" "code") ∈ lw_all := lw_g (lw_at lw_m3 110 rfl) rfl
theorem q892 : (Jvm.Cond.laysFinal "LinkedTongue$Task" "LinkedTongue$Task" "next" "[I") ∈ lw_all := lw_g (lw_at lw_m3 111 rfl) rfl
theorem q893 : (Jvm.Cond.soleField "LinkedTongue$Task" "next") ∈ lw_all := lw_g (lw_at lw_m3 112 rfl) rfl
theorem q894 : (Jvm.Cond.laysFinal "LinkedTongue$Task" "LinkedTongue$Task" "base" "[I") ∈ lw_all := lw_g (lw_at lw_m3 113 rfl) rfl
theorem q895 : (Jvm.Cond.soleField "LinkedTongue$Task" "base") ∈ lw_all := lw_g (lw_at lw_m3 114 rfl) rfl
theorem q896 : (Jvm.Cond.laysFinal "LinkedTongue$Task" "LinkedTongue$Task" "variables" "[LLinkedTongue$Variables;") ∈ lw_all := lw_g (lw_at lw_m3 115 rfl) rfl
theorem q897 : (Jvm.Cond.soleField "LinkedTongue$Task" "variables") ∈ lw_all := lw_g (lw_at lw_m3 116 rfl) rfl
theorem q898 : (Jvm.Cond.laysFinal "LinkedTongue$Task" "LinkedTongue$Task" "thisTag" "[B") ∈ lw_all := lw_g (lw_at lw_m3 117 rfl) rfl
theorem q899 : (Jvm.Cond.soleField "LinkedTongue$Task" "thisTag") ∈ lw_all := lw_g (lw_at lw_m3 118 rfl) rfl
theorem q900 : (Jvm.Cond.laysFinal "LinkedTongue$Task" "LinkedTongue$Task" "thisWord" "[J") ∈ lw_all := lw_g (lw_at lw_m3 119 rfl) rfl
theorem q901 : (Jvm.Cond.soleField "LinkedTongue$Task" "thisWord") ∈ lw_all := lw_g (lw_at lw_m3 120 rfl) rfl
theorem q902 : (Jvm.Cond.laysFinal "LinkedTongue$Task" "LinkedTongue$Task" "made" "[LLinkedTongue$Obj;") ∈ lw_all := lw_g (lw_at lw_m3 121 rfl) rfl
theorem q903 : (Jvm.Cond.soleField "LinkedTongue$Task" "made") ∈ lw_all := lw_g (lw_at lw_m3 122 rfl) rfl
theorem q904 : (Jvm.Cond.lays "LinkedTongue$Task" "LinkedTongue$Task" "tryCall" "[I") ∈ lw_all := lw_g (lw_at lw_m3 123 rfl) rfl
theorem q905 : (Jvm.Cond.soleField "LinkedTongue$Task" "tryCall") ∈ lw_all := lw_g (lw_at lw_m3 124 rfl) rfl
theorem q906 : (Jvm.Cond.lays "LinkedTongue$Task" "LinkedTongue$Task" "tryTo" "[I") ∈ lw_all := lw_g (lw_at lw_m3 125 rfl) rfl
theorem q907 : (Jvm.Cond.soleField "LinkedTongue$Task" "tryTo") ∈ lw_all := lw_g (lw_at lw_m3 126 rfl) rfl
theorem q908 : (Jvm.Cond.lays "LinkedTongue$Task" "LinkedTongue$Task" "trySize" "[I") ∈ lw_all := lw_g (lw_at lw_m3 127 rfl) rfl
theorem q909 : (Jvm.Cond.soleField "LinkedTongue$Task" "trySize") ∈ lw_all := lw_g (lw_at lw_m3 128 rfl) rfl
theorem q910 : (Jvm.Cond.lays "LinkedTongue$Task" "LinkedTongue$Task" "tag" "B") ∈ lw_all := lw_g (lw_at lw_m3 129 rfl) rfl
theorem q911 : (Jvm.Cond.soleField "LinkedTongue$Task" "tag") ∈ lw_all := lw_g (lw_at lw_m3 130 rfl) rfl
theorem q912 : (Jvm.Cond.lays "LinkedTongue$Task" "LinkedTongue$Task" "word" "J") ∈ lw_all := lw_g (lw_at lw_m3 131 rfl) rfl
theorem q913 : (Jvm.Cond.soleField "LinkedTongue$Task" "word") ∈ lw_all := lw_g (lw_at lw_m3 132 rfl) rfl
theorem q914 : (Jvm.Cond.superclass "LinkedTongue$Task" "java/lang/Object") ∈ lw_all := lw_g (lw_at lw_m3 133 rfl) rfl
theorem q1096 : (Jvm.Cond.selects "LinkedTongue$Task" ({ cls := "java/lang/Object", name := "getClass", desc := "()Ljava/lang/Class;" } : Jvm.MethodName) ({ cls := "java/lang/Object", name := "getClass", desc := "()Ljava/lang/Class;" } : Jvm.MethodName)) ∈ lw_all := lw_g (lw_at lw_m4 75 rfl) rfl
theorem q1162 : (Jvm.Cond.instanceMethod ({ cls := "LinkedTongue$Task", name := "end", desc := "(IBJ)V" } : Jvm.MethodName)) ∈ lw_all := lw_g (lw_at lw_m4 141 rfl) rfl
theorem q1163 : (Jvm.Cond.selects "LinkedTongue$Task" ({ cls := "LinkedTongue$Task", name := "end", desc := "(IBJ)V" } : Jvm.MethodName) ({ cls := "LinkedTongue$Task", name := "end", desc := "(IBJ)V" } : Jvm.MethodName)) ∈ lw_all := lw_g (lw_at lw_m4 142 rfl) rfl
theorem q1164 : (Jvm.Cond.code ({ cls := "LinkedTongue$Task", name := "end", desc := "(IBJ)V" } : Jvm.MethodName) prog_38_method_7_code (5 : Nat) (Option.none : Option Jvm.ClassFile.FieldType)) ∈ lw_all := lw_g (lw_at lw_m4 143 rfl) rfl
theorem q1798 : (Jvm.Cond.fieldLinkNest "LinkedTongue$Task" (104 : Nat) "LinkedTongue$Code" "number" "I" "LinkedTongue") ∈ lw_tbl := lw_at lw_m7 57 rfl
theorem q2800 : (Jvm.Cond.instanceMethod ({ cls := "LinkedTongue$Task", name := "begin", desc := "(LLinkedTongue$Code;)V" } : Jvm.MethodName)) ∈ lw_all := lw_g (lw_at lw_m11 99 rfl) rfl
theorem q2801 : (Jvm.Cond.selects "LinkedTongue$Task" ({ cls := "LinkedTongue$Task", name := "begin", desc := "(LLinkedTongue$Code;)V" } : Jvm.MethodName) ({ cls := "LinkedTongue$Task", name := "begin", desc := "(LLinkedTongue$Code;)V" } : Jvm.MethodName)) ∈ lw_all := lw_g (lw_at lw_m11 100 rfl) rfl
theorem q2802 : (Jvm.Cond.code ({ cls := "LinkedTongue$Task", name := "begin", desc := "(LLinkedTongue$Code;)V" } : Jvm.MethodName) prog_38_method_4_code (2 : Nat) (Option.none : Option Jvm.ClassFile.FieldType)) ∈ lw_all := lw_g (lw_at lw_m11 101 rfl) rfl
theorem q2804 : (Jvm.Cond.methodLink "LinkedTongue$Task" (78 : Nat) ({ cls := "LinkedTongue$Variables", name := "<init>", desc := "(LLinkedTongue$Variables;I)V" } : Jvm.MethodName)) ∈ lw_all := lw_g (lw_at lw_m11 103 rfl) rfl
theorem q2821 : (Jvm.Cond.methodLink "LinkedTongue$Task" (81 : Nat) ({ cls := "LinkedTongue$Task", name := "call", desc := "(LLinkedTongue$Code;LLinkedTongue$Variables;BJLLinkedTongue$Obj;)V" } : Jvm.MethodName)) ∈ lw_all := lw_g (lw_at lw_m11 120 rfl) rfl
theorem q2822 : (Jvm.Cond.instanceMethod ({ cls := "LinkedTongue$Task", name := "call", desc := "(LLinkedTongue$Code;LLinkedTongue$Variables;BJLLinkedTongue$Obj;)V" } : Jvm.MethodName)) ∈ lw_all := lw_g (lw_at lw_m11 121 rfl) rfl
theorem q2823 : (Jvm.Cond.selects "LinkedTongue$Task" ({ cls := "LinkedTongue$Task", name := "call", desc := "(LLinkedTongue$Code;LLinkedTongue$Variables;BJLLinkedTongue$Obj;)V" } : Jvm.MethodName) ({ cls := "LinkedTongue$Task", name := "call", desc := "(LLinkedTongue$Code;LLinkedTongue$Variables;BJLLinkedTongue$Obj;)V" } : Jvm.MethodName)) ∈ lw_all := lw_g (lw_at lw_m11 122 rfl) rfl
theorem q2824 : (Jvm.Cond.code ({ cls := "LinkedTongue$Task", name := "call", desc := "(LLinkedTongue$Code;LLinkedTongue$Variables;BJLLinkedTongue$Obj;)V" } : Jvm.MethodName) prog_38_method_5_code (7 : Nat) (Option.none : Option Jvm.ClassFile.FieldType)) ∈ lw_all := lw_g (lw_at lw_m11 123 rfl) rfl
theorem q2830 : (Jvm.Cond.instanceMethod ({ cls := "LinkedTongue$Task", name := "tell", desc := "(I)I" } : Jvm.MethodName)) ∈ lw_all := lw_g (lw_at lw_m11 129 rfl) rfl
theorem q2831 : (Jvm.Cond.selects "LinkedTongue$Task" ({ cls := "LinkedTongue$Task", name := "tell", desc := "(I)I" } : Jvm.MethodName) ({ cls := "LinkedTongue$Task", name := "tell", desc := "(I)I" } : Jvm.MethodName)) ∈ lw_all := lw_g (lw_at lw_m11 130 rfl) rfl
theorem q2832 : (Jvm.Cond.code ({ cls := "LinkedTongue$Task", name := "tell", desc := "(I)I" } : Jvm.MethodName) prog_38_method_9_code (3 : Nat) (Option.some Jvm.ClassFile.FieldType.int)) ∈ lw_all := lw_g (lw_at lw_m11 131 rfl) rfl
theorem q2949 : (Jvm.Cond.instanceMethod ({ cls := "LinkedTongue$Task", name := "push", desc := "(BJ)V" } : Jvm.MethodName)) ∈ lw_all := lw_g (lw_at lw_m12 8 rfl) rfl
theorem q2950 : (Jvm.Cond.selects "LinkedTongue$Task" ({ cls := "LinkedTongue$Task", name := "push", desc := "(BJ)V" } : Jvm.MethodName) ({ cls := "LinkedTongue$Task", name := "push", desc := "(BJ)V" } : Jvm.MethodName)) ∈ lw_all := lw_g (lw_at lw_m12 9 rfl) rfl
theorem q2951 : (Jvm.Cond.code ({ cls := "LinkedTongue$Task", name := "push", desc := "(BJ)V" } : Jvm.MethodName) prog_38_method_2_code (4 : Nat) (Option.none : Option Jvm.ClassFile.FieldType)) ∈ lw_all := lw_g (lw_at lw_m12 10 rfl) rfl
theorem q3030 : (Jvm.Cond.fieldLink "LinkedTongue$Task" (85 : Nat) "LinkedTongue$Obj" "number" "I") ∈ lw_all := lw_g (lw_at lw_m12 89 rfl) rfl
theorem q3682 : (Jvm.Cond.instanceMethod ({ cls := "LinkedTongue$Task", name := "comeBack", desc := "(BJ)V" } : Jvm.MethodName)) ∈ lw_all := lw_g (lw_at lw_m15 21 rfl) rfl
theorem q3683 : (Jvm.Cond.selects "LinkedTongue$Task" ({ cls := "LinkedTongue$Task", name := "comeBack", desc := "(BJ)V" } : Jvm.MethodName) ({ cls := "LinkedTongue$Task", name := "comeBack", desc := "(BJ)V" } : Jvm.MethodName)) ∈ lw_all := lw_g (lw_at lw_m15 22 rfl) rfl
theorem q3684 : (Jvm.Cond.code ({ cls := "LinkedTongue$Task", name := "comeBack", desc := "(BJ)V" } : Jvm.MethodName) prog_38_method_6_code (8 : Nat) (Option.none : Option Jvm.ClassFile.FieldType)) ∈ lw_all := lw_g (lw_at lw_m15 23 rfl) rfl
theorem q3685 : (Jvm.Cond.methodLink "LinkedTongue$Task" (88 : Nat) ({ cls := "LinkedTongue$Task", name := "push", desc := "(BJ)V" } : Jvm.MethodName)) ∈ lw_all := lw_g (lw_at lw_m15 24 rfl) rfl
theorem q3686 : (Jvm.Cond.methodLink "LinkedTongue$Task" (92 : Nat) ({ cls := "LinkedTongue$Task", name := "end", desc := "(IBJ)V" } : Jvm.MethodName)) ∈ lw_all := lw_g (lw_at lw_m15 25 rfl) rfl
theorem q3688 : (Jvm.Cond.instanceMethod ({ cls := "LinkedTongue$Task", name := "raise", desc := "(BJ)V" } : Jvm.MethodName)) ∈ lw_all := lw_g (lw_at lw_m15 27 rfl) rfl
theorem q3689 : (Jvm.Cond.selects "LinkedTongue$Task" ({ cls := "LinkedTongue$Task", name := "raise", desc := "(BJ)V" } : Jvm.MethodName) ({ cls := "LinkedTongue$Task", name := "raise", desc := "(BJ)V" } : Jvm.MethodName)) ∈ lw_all := lw_g (lw_at lw_m15 28 rfl) rfl
theorem q3690 : (Jvm.Cond.code ({ cls := "LinkedTongue$Task", name := "raise", desc := "(BJ)V" } : Jvm.MethodName) prog_38_method_8_code (4 : Nat) (Option.none : Option Jvm.ClassFile.FieldType)) ∈ lw_all := lw_g (lw_at lw_m15 29 rfl) rfl
theorem q3692 : (Jvm.Cond.instanceMethod ({ cls := "LinkedTongue$Task", name := "addTry", desc := "(I)V" } : Jvm.MethodName)) ∈ lw_all := lw_g (lw_at lw_m15 31 rfl) rfl
theorem q3693 : (Jvm.Cond.selects "LinkedTongue$Task" ({ cls := "LinkedTongue$Task", name := "addTry", desc := "(I)V" } : Jvm.MethodName) ({ cls := "LinkedTongue$Task", name := "addTry", desc := "(I)V" } : Jvm.MethodName)) ∈ lw_all := lw_g (lw_at lw_m15 32 rfl) rfl
theorem q3694 : (Jvm.Cond.code ({ cls := "LinkedTongue$Task", name := "addTry", desc := "(I)V" } : Jvm.MethodName) prog_38_method_3_code (2 : Nat) (Option.none : Option Jvm.ClassFile.FieldType)) ∈ lw_all := lw_g (lw_at lw_m15 33 rfl) rfl
theorem q3695 : (Jvm.Cond.methodLink "LinkedTongue$Task" (66 : Nat) ({ cls := "java/util/Arrays", name := "copyOf", desc := "([II)[I" } : Jvm.MethodName)) ∈ lw_all := lw_g (lw_at lw_m15 34 rfl) rfl
theorem q5523 : (Jvm.Cond.castable "LinkedTongue$Task" "java/lang/Object") ∈ lw_tbl := lw_at lw_m22 182 rfl
theorem q320 : (Jvm.Cond.initialized "LinkedTongue$Lookup") ∈ lw_all := lw_g (lw_at lw_m1 19 rfl) rfl
theorem q574 : (Jvm.Cond.fieldLinkNest "LinkedTongue$Lookup" (144 : Nat) "LinkedTongue$Words" "size" "[I" "LinkedTongue") ∈ lw_tbl := lw_at lw_m2 33 rfl
theorem q609 : (Jvm.Cond.fieldLinkNest "LinkedTongue$Lookup" (162 : Nat) "LinkedTongue$Host" "words" "LLinkedTongue$Words;" "LinkedTongue") ∈ lw_tbl := lw_at lw_m2 68 rfl
theorem q616 : (Jvm.Cond.fieldLinkNest "LinkedTongue$Lookup" (253 : Nat) "LinkedTongue$Host" "why" "I" "LinkedTongue") ∈ lw_tbl := lw_at lw_m2 75 rfl
theorem q751 : (Jvm.Cond.fieldLinkNest "LinkedTongue$Lookup" (48 : Nat) "LinkedTongue$Found" "linker" "I" "LinkedTongue") ∈ lw_tbl := lw_at lw_m2 210 rfl
theorem q754 : (Jvm.Cond.fieldLinkNest "LinkedTongue$Lookup" (99 : Nat) "LinkedTongue$Found" "element" "I" "LinkedTongue") ∈ lw_tbl := lw_at lw_m2 213 rfl
theorem q757 : (Jvm.Cond.fieldLinkNest "LinkedTongue$Lookup" (234 : Nat) "LinkedTongue$Found" "operands" "I" "LinkedTongue") ∈ lw_tbl := lw_at lw_m2 216 rfl
theorem q760 : (Jvm.Cond.fieldLinkNest "LinkedTongue$Lookup" (102 : Nat) "LinkedTongue$Found" "shape" "LLinkedTongue$Shape;" "LinkedTongue") ∈ lw_tbl := lw_at lw_m2 219 rfl
theorem q763 : (Jvm.Cond.fieldLinkNest "LinkedTongue$Lookup" (183 : Nat) "LinkedTongue$Found" "type" "LLinkedTongue$HostType;" "LinkedTongue") ∈ lw_tbl := lw_at lw_m2 222 rfl
theorem q766 : (Jvm.Cond.fieldLinkNest "LinkedTongue$Lookup" (86 : Nat) "LinkedTongue$Found" "code" "LLinkedTongue$Code;" "LinkedTongue") ∈ lw_tbl := lw_at lw_m2 225 rfl
theorem q769 : (Jvm.Cond.fieldLinkNest "LinkedTongue$Lookup" (132 : Nat) "LinkedTongue$Found" "isText" "Z" "LinkedTongue") ∈ lw_tbl := lw_at lw_m2 228 rfl
theorem q773 : (Jvm.Cond.fieldLinkNest "LinkedTongue$Lookup" (235 : Nat) "LinkedTongue$Found" "classes" "[I" "LinkedTongue") ∈ lw_tbl := lw_at lw_m2 232 rfl
theorem q776 : (Jvm.Cond.fieldLinkNest "LinkedTongue$Lookup" (96 : Nat) "LinkedTongue$Found" "action" "I" "LinkedTongue") ∈ lw_tbl := lw_at lw_m2 235 rfl
theorem q779 : (Jvm.Cond.fieldLinkNest "LinkedTongue$Lookup" (53 : Nat) "LinkedTongue$Found" "place" "I" "LinkedTongue") ∈ lw_tbl := lw_at lw_m2 238 rfl
theorem q782 : (Jvm.Cond.fieldLinkNest "LinkedTongue$Lookup" (56 : Nat) "LinkedTongue$Found" "holder" "LLinkedTongue$Obj;" "LinkedTongue") ∈ lw_tbl := lw_at lw_m3 1 rfl
theorem q785 : (Jvm.Cond.fieldLinkNest "LinkedTongue$Lookup" (60 : Nat) "LinkedTongue$Found" "to" "LLinkedTongue$Shape;" "LinkedTongue") ∈ lw_tbl := lw_at lw_m3 4 rfl
theorem q788 : (Jvm.Cond.fieldLinkNest "LinkedTongue$Lookup" (64 : Nat) "LinkedTongue$Found" "member" "LLinkedTongue$Member;" "LinkedTongue") ∈ lw_tbl := lw_at lw_m3 7 rfl
theorem q791 : (Jvm.Cond.fieldLinkNest "LinkedTongue$Lookup" (68 : Nat) "LinkedTongue$Found" "byClasses" "Z" "LinkedTongue") ∈ lw_tbl := lw_at lw_m3 10 rfl
theorem q927 : (Jvm.Cond.instantiable "LinkedTongue$Lookup" (10 : Nat)) ∈ lw_all := lw_g (lw_at lw_m3 146 rfl) rfl
theorem q929 : (Jvm.Cond.instanceMethod ({ cls := "LinkedTongue$Lookup", name := "<init>", desc := "(LLinkedTongue$Words;LLinkedTongue$Heap;LLinkedTongue$Signal;)V" } : Jvm.MethodName)) ∈ lw_all := lw_g (lw_at lw_m3 148 rfl) rfl
theorem q930 : (Jvm.Cond.code ({ cls := "LinkedTongue$Lookup", name := "<init>", desc := "(LLinkedTongue$Words;LLinkedTongue$Heap;LLinkedTongue$Signal;)V" } : Jvm.MethodName) prog_21_method_1_code (4 : Nat) (Option.none : Option Jvm.ClassFile.FieldType)) ∈ lw_all := lw_g (lw_at lw_m3 149 rfl) rfl
theorem q931 : (Jvm.Cond.methodLink "LinkedTongue$Lookup" (3 : Nat) ({ cls := "java/lang/Object", name := "<init>", desc := "()V" } : Jvm.MethodName)) ∈ lw_all := lw_g (lw_at lw_m3 150 rfl) rfl
theorem q932 : (Jvm.Cond.classLink "LinkedTongue$Lookup" (15 : Nat) "LinkedTongue$Choice") ∈ lw_all := lw_g (lw_at lw_m3 151 rfl) rfl
theorem q934 : (Jvm.Cond.fieldLink "LinkedTongue$Lookup" (25 : Nat) "LinkedTongue$Lookup" "names" "LLinkedTongue$Words;") ∈ lw_all := lw_g (lw_at lw_m3 153 rfl) rfl
theorem q935 : (Jvm.Cond.fieldLink "LinkedTongue$Lookup" (33 : Nat) "LinkedTongue$Lookup" "signal" "LLinkedTongue$Signal;") ∈ lw_all := lw_g (lw_at lw_m3 154 rfl) rfl
theorem q936 : (Jvm.Cond.fieldLink "LinkedTongue$Lookup" (29 : Nat) "LinkedTongue$Lookup" "heap" "LLinkedTongue$Heap;") ∈ lw_all := lw_g (lw_at lw_m3 155 rfl) rfl
theorem q937 : (Jvm.Cond.fieldLink "LinkedTongue$Lookup" (37 : Nat) "LinkedTongue$Lookup" "host" "LLinkedTongue$Host;") ∈ lw_all := lw_g (lw_at lw_m3 156 rfl) rfl
theorem q938 : (Jvm.Cond.fieldLink "LinkedTongue$Lookup" (9 : Nat) "LinkedTongue$Lookup" "asked" "[I") ∈ lw_all := lw_g (lw_at lw_m3 157 rfl) rfl
theorem q940 : (Jvm.Cond.fieldLink "LinkedTongue$Lookup" (17 : Nat) "LinkedTongue$Lookup" "choices" "[LLinkedTongue$Choice;") ∈ lw_all := lw_g (lw_at lw_m3 159 rfl) rfl
theorem q941 : (Jvm.Cond.fieldLink "LinkedTongue$Lookup" (41 : Nat) "LinkedTongue$Lookup" "kept" "I") ∈ lw_all := lw_g (lw_at lw_m3 160 rfl) rfl
theorem q943 : (Jvm.Cond.fieldLink "LinkedTongue$Lookup" (254 : Nat) "LinkedTongue$Lookup" "allKept" "I") ∈ lw_all := lw_g (lw_at lw_m3 162 rfl) rfl
theorem q944 : (Jvm.Cond.fieldLink "LinkedTongue$Lookup" (45 : Nat) "LinkedTongue$Lookup" "workedOut" "I") ∈ lw_all := lw_g (lw_at lw_m3 163 rfl) rfl
theorem q946 : (Jvm.Cond.fieldLink "LinkedTongue$Lookup" (21 : Nat) "LinkedTongue$Lookup" "word" "[B") ∈ lw_all := lw_g (lw_at lw_m3 165 rfl) rfl
theorem q947 : (Jvm.Cond.laysFinal "LinkedTongue$Lookup" "LinkedTongue$Lookup" "names" "LLinkedTongue$Words;") ∈ lw_all := lw_g (lw_at lw_m3 166 rfl) rfl
theorem q948 : (Jvm.Cond.soleField "LinkedTongue$Lookup" "names") ∈ lw_all := lw_g (lw_at lw_m3 167 rfl) rfl
theorem q949 : (Jvm.Cond.laysFinal "LinkedTongue$Lookup" "LinkedTongue$Lookup" "signal" "LLinkedTongue$Signal;") ∈ lw_all := lw_g (lw_at lw_m3 168 rfl) rfl
theorem q950 : (Jvm.Cond.soleField "LinkedTongue$Lookup" "signal") ∈ lw_all := lw_g (lw_at lw_m3 169 rfl) rfl
theorem q951 : (Jvm.Cond.laysFinal "LinkedTongue$Lookup" "LinkedTongue$Lookup" "heap" "LLinkedTongue$Heap;") ∈ lw_all := lw_g (lw_at lw_m3 170 rfl) rfl
theorem q952 : (Jvm.Cond.soleField "LinkedTongue$Lookup" "heap") ∈ lw_all := lw_g (lw_at lw_m3 171 rfl) rfl
theorem q953 : (Jvm.Cond.lays "LinkedTongue$Lookup" "LinkedTongue$Lookup" "host" "LLinkedTongue$Host;") ∈ lw_all := lw_g (lw_at lw_m3 172 rfl) rfl
theorem q954 : (Jvm.Cond.soleField "LinkedTongue$Lookup" "host") ∈ lw_all := lw_g (lw_at lw_m3 173 rfl) rfl
theorem q955 : (Jvm.Cond.laysFinal "LinkedTongue$Lookup" "LinkedTongue$Lookup" "asked" "[I") ∈ lw_all := lw_g (lw_at lw_m3 174 rfl) rfl
theorem q956 : (Jvm.Cond.soleField "LinkedTongue$Lookup" "asked") ∈ lw_all := lw_g (lw_at lw_m3 175 rfl) rfl
theorem q957 : (Jvm.Cond.laysFinal "LinkedTongue$Lookup" "LinkedTongue$Lookup" "choices" "[LLinkedTongue$Choice;") ∈ lw_all := lw_g (lw_at lw_m3 176 rfl) rfl
theorem q958 : (Jvm.Cond.soleField "LinkedTongue$Lookup" "choices") ∈ lw_all := lw_g (lw_at lw_m3 177 rfl) rfl
theorem q959 : (Jvm.Cond.lays "LinkedTongue$Lookup" "LinkedTongue$Lookup" "kept" "I") ∈ lw_all := lw_g (lw_at lw_m3 178 rfl) rfl
theorem q960 : (Jvm.Cond.soleField "LinkedTongue$Lookup" "kept") ∈ lw_all := lw_g (lw_at lw_m3 179 rfl) rfl
theorem q961 : (Jvm.Cond.lays "LinkedTongue$Lookup" "LinkedTongue$Lookup" "allKept" "I") ∈ lw_all := lw_g (lw_at lw_m3 180 rfl) rfl
theorem q962 : (Jvm.Cond.soleField "LinkedTongue$Lookup" "allKept") ∈ lw_all := lw_g (lw_at lw_m3 181 rfl) rfl
theorem q963 : (Jvm.Cond.lays "LinkedTongue$Lookup" "LinkedTongue$Lookup" "workedOut" "I") ∈ lw_all := lw_g (lw_at lw_m3 182 rfl) rfl
theorem q964 : (Jvm.Cond.soleField "LinkedTongue$Lookup" "workedOut") ∈ lw_all := lw_g (lw_at lw_m3 183 rfl) rfl
theorem q965 : (Jvm.Cond.laysFinal "LinkedTongue$Lookup" "LinkedTongue$Lookup" "word" "[B") ∈ lw_all := lw_g (lw_at lw_m3 184 rfl) rfl
theorem q966 : (Jvm.Cond.soleField "LinkedTongue$Lookup" "word") ∈ lw_all := lw_g (lw_at lw_m3 185 rfl) rfl
theorem q967 : (Jvm.Cond.superclass "LinkedTongue$Lookup" "java/lang/Object") ∈ lw_all := lw_g (lw_at lw_m3 186 rfl) rfl
theorem q973 : (Jvm.Cond.instanceMethod ({ cls := "LinkedTongue$Lookup", name := "anew", desc := "(LLinkedTongue$Host;)V" } : Jvm.MethodName)) ∈ lw_all := lw_g (lw_at lw_m3 192 rfl) rfl
theorem q974 : (Jvm.Cond.selects "LinkedTongue$Lookup" ({ cls := "LinkedTongue$Lookup", name := "anew", desc := "(LLinkedTongue$Host;)V" } : Jvm.MethodName) ({ cls := "LinkedTongue$Lookup", name := "anew", desc := "(LLinkedTongue$Host;)V" } : Jvm.MethodName)) ∈ lw_all := lw_g (lw_at lw_m3 193 rfl) rfl
theorem q975 : (Jvm.Cond.code ({ cls := "LinkedTongue$Lookup", name := "anew", desc := "(LLinkedTongue$Host;)V" } : Jvm.MethodName) prog_21_method_2_code (3 : Nat) (Option.none : Option Jvm.ClassFile.FieldType)) ∈ lw_all := lw_g (lw_at lw_m3 194 rfl) rfl
theorem q1000 : (Jvm.Cond.fieldLinkNest "LinkedTongue$Lookup" (117 : Nat) "LinkedTongue$Shape" "prototype" "LLinkedTongue$Obj;" "LinkedTongue") ∈ lw_tbl := lw_at lw_m3 219 rfl
theorem q1080 : (Jvm.Cond.selects "LinkedTongue$Lookup" ({ cls := "java/lang/Object", name := "getClass", desc := "()Ljava/lang/Class;" } : Jvm.MethodName) ({ cls := "java/lang/Object", name := "getClass", desc := "()Ljava/lang/Class;" } : Jvm.MethodName)) ∈ lw_all := lw_g (lw_at lw_m4 59 rfl) rfl
theorem q1501 : (Jvm.Cond.fieldLinkNest "LinkedTongue$Lookup" (231 : Nat) "LinkedTongue$HostType" "number" "I" "LinkedTongue") ∈ lw_tbl := lw_at lw_m6 0 rfl
theorem q1511 : (Jvm.Cond.fieldLinkNest "LinkedTongue$Lookup" (210 : Nat) "LinkedTongue$HostType" "above" "LLinkedTongue$HostType;" "LinkedTongue") ∈ lw_tbl := lw_at lw_m6 10 rfl
theorem q1597 : (Jvm.Cond.fieldLinkNest "LinkedTongue$Lookup" (221 : Nat) "LinkedTongue$Member" "type" "I" "LinkedTongue") ∈ lw_tbl := lw_at lw_m6 96 rfl
theorem q1603 : (Jvm.Cond.fieldLinkNest "LinkedTongue$Lookup" (205 : Nat) "LinkedTongue$Member" "isStatic" "Z" "LinkedTongue") ∈ lw_tbl := lw_at lw_m6 102 rfl
theorem q2631 : (Jvm.Cond.fieldLinkNest "LinkedTongue$Lookup" (81 : Nat) "LinkedTongue$Site" "kind" "I" "LinkedTongue") ∈ lw_tbl := lw_at lw_m10 170 rfl
theorem q2634 : (Jvm.Cond.fieldLinkNest "LinkedTongue$Lookup" (123 : Nat) "LinkedTongue$Site" "name" "I" "LinkedTongue") ∈ lw_tbl := lw_at lw_m10 173 rfl
theorem q2637 : (Jvm.Cond.fieldLinkNest "LinkedTongue$Lookup" (137 : Nat) "LinkedTongue$Site" "operands" "I" "LinkedTongue") ∈ lw_tbl := lw_at lw_m10 176 rfl
theorem q3019 : (Jvm.Cond.fieldLinkNest "LinkedTongue$Lookup" (120 : Nat) "LinkedTongue$Obj" "shape" "LLinkedTongue$Shape;" "LinkedTongue") ∈ lw_tbl := lw_at lw_m12 78 rfl
theorem q3169 : (Jvm.Cond.instanceMethod ({ cls := "LinkedTongue$Lookup", name := "look", desc := "(LLinkedTongue$Site;LLinkedTongue$Found;)V" } : Jvm.MethodName)) ∈ lw_all := lw_g (lw_at lw_m12 228 rfl) rfl
theorem q3170 : (Jvm.Cond.selects "LinkedTongue$Lookup" ({ cls := "LinkedTongue$Lookup", name := "look", desc := "(LLinkedTongue$Site;LLinkedTongue$Found;)V" } : Jvm.MethodName) ({ cls := "LinkedTongue$Lookup", name := "look", desc := "(LLinkedTongue$Site;LLinkedTongue$Found;)V" } : Jvm.MethodName)) ∈ lw_all := lw_g (lw_at lw_m12 229 rfl) rfl
theorem q3171 : (Jvm.Cond.code ({ cls := "LinkedTongue$Lookup", name := "look", desc := "(LLinkedTongue$Site;LLinkedTongue$Found;)V" } : Jvm.MethodName) prog_21_method_3_code (3 : Nat) (Option.none : Option Jvm.ClassFile.FieldType)) ∈ lw_all := lw_g (lw_at lw_m12 230 rfl) rfl
theorem q3172 : (Jvm.Cond.methodLink "LinkedTongue$Lookup" (72 : Nat) ({ cls := "LinkedTongue$Lookup", name := "object", desc := "(LLinkedTongue$Site;LLinkedTongue$Found;)V" } : Jvm.MethodName)) ∈ lw_all := lw_g (lw_at lw_m12 231 rfl) rfl
theorem q3173 : (Jvm.Cond.privateMethod ({ cls := "LinkedTongue$Lookup", name := "object", desc := "(LLinkedTongue$Site;LLinkedTongue$Found;)V" } : Jvm.MethodName)) ∈ lw_tbl := lw_at lw_m12 232 rfl
theorem q3174 : (Jvm.Cond.instanceMethod ({ cls := "LinkedTongue$Lookup", name := "object", desc := "(LLinkedTongue$Site;LLinkedTongue$Found;)V" } : Jvm.MethodName)) ∈ lw_all := lw_g (lw_at lw_m12 233 rfl) rfl
theorem q3175 : (Jvm.Cond.code ({ cls := "LinkedTongue$Lookup", name := "object", desc := "(LLinkedTongue$Site;LLinkedTongue$Found;)V" } : Jvm.MethodName) prog_21_method_4_code (4 : Nat) (Option.none : Option Jvm.ClassFile.FieldType)) ∈ lw_all := lw_g (lw_at lw_m12 234 rfl) rfl
theorem q3176 : (Jvm.Cond.methodLink "LinkedTongue$Lookup" (90 : Nat) ({ cls := "LinkedTongue$Signal", name := "of", desc := "(I)LLinkedTongue$Signal;" } : Jvm.MethodName)) ∈ lw_all := lw_g (lw_at lw_m12 235 rfl) rfl
theorem q3177 : (Jvm.Cond.methodLink "LinkedTongue$Lookup" (105 : Nat) ({ cls := "LinkedTongue$Shape", name := "find", desc := "(I)I" } : Jvm.MethodName)) ∈ lw_all := lw_g (lw_at lw_m12 236 rfl) rfl
theorem q3181 : (Jvm.Cond.methodLink "LinkedTongue$Lookup" (111 : Nat) ({ cls := "LinkedTongue$Heap", name := "after", desc := "(LLinkedTongue$Shape;I)LLinkedTongue$Shape;" } : Jvm.MethodName)) ∈ lw_all := lw_g (lw_at lw_m13 0 rfl) rfl
theorem q3194 : (Jvm.Cond.methodLink "LinkedTongue$Lookup" (76 : Nat) ({ cls := "LinkedTongue$Lookup", name := "row", desc := "(LLinkedTongue$Site;LLinkedTongue$Found;)V" } : Jvm.MethodName)) ∈ lw_all := lw_g (lw_at lw_m13 13 rfl) rfl
theorem q3195 : (Jvm.Cond.privateMethod ({ cls := "LinkedTongue$Lookup", name := "row", desc := "(LLinkedTongue$Site;LLinkedTongue$Found;)V" } : Jvm.MethodName)) ∈ lw_tbl := lw_at lw_m13 14 rfl
theorem q3196 : (Jvm.Cond.instanceMethod ({ cls := "LinkedTongue$Lookup", name := "row", desc := "(LLinkedTongue$Site;LLinkedTongue$Found;)V" } : Jvm.MethodName)) ∈ lw_all := lw_g (lw_at lw_m13 15 rfl) rfl
theorem q3197 : (Jvm.Cond.code ({ cls := "LinkedTongue$Lookup", name := "row", desc := "(LLinkedTongue$Site;LLinkedTongue$Found;)V" } : Jvm.MethodName) prog_21_method_5_code (3 : Nat) (Option.none : Option Jvm.ClassFile.FieldType)) ∈ lw_all := lw_g (lw_at lw_m13 16 rfl) rfl
theorem q3198 : (Jvm.Cond.stringRef "LinkedTongue$Lookup" (126 : Nat) "size") ∈ lw_tbl := lw_at lw_m13 17 rfl
theorem q3199 : (Jvm.Cond.methodLink "LinkedTongue$Lookup" (128 : Nat) ({ cls := "LinkedTongue$Lookup", name := "isName", desc := "(ILjava/lang/String;)Z" } : Jvm.MethodName)) ∈ lw_all := lw_g (lw_at lw_m13 18 rfl) rfl
theorem q3200 : (Jvm.Cond.privateMethod ({ cls := "LinkedTongue$Lookup", name := "isName", desc := "(ILjava/lang/String;)Z" } : Jvm.MethodName)) ∈ lw_tbl := lw_at lw_m13 19 rfl
theorem q3201 : (Jvm.Cond.instanceMethod ({ cls := "LinkedTongue$Lookup", name := "isName", desc := "(ILjava/lang/String;)Z" } : Jvm.MethodName)) ∈ lw_all := lw_g (lw_at lw_m13 20 rfl) rfl
theorem q3202 : (Jvm.Cond.code ({ cls := "LinkedTongue$Lookup", name := "isName", desc := "(ILjava/lang/String;)Z" } : Jvm.MethodName) prog_21_method_6_code (5 : Nat) (Option.some Jvm.ClassFile.FieldType.boolean)) ∈ lw_all := lw_g (lw_at lw_m13 21 rfl) rfl
theorem q3203 : (Jvm.Cond.methodLink "LinkedTongue$Lookup" (148 : Nat) ({ cls := "java/lang/String", name := "length", desc := "()I" } : Jvm.MethodName)) ∈ lw_all := lw_g (lw_at lw_m13 22 rfl) rfl
theorem q3204 : (Jvm.Cond.methodLink "LinkedTongue$Lookup" (154 : Nat) ({ cls := "LinkedTongue$Words", name := "byteAt", desc := "(II)I" } : Jvm.MethodName)) ∈ lw_all := lw_g (lw_at lw_m13 23 rfl) rfl
theorem q3205 : (Jvm.Cond.methodLink "LinkedTongue$Lookup" (158 : Nat) ({ cls := "java/lang/String", name := "charAt", desc := "(I)C" } : Jvm.MethodName)) ∈ lw_all := lw_g (lw_at lw_m13 24 rfl) rfl
theorem q3206 : (Jvm.Cond.stringRef "LinkedTongue$Lookup" (135 : Nat) "sub") ∈ lw_tbl := lw_at lw_m13 25 rfl
theorem q3207 : (Jvm.Cond.stringRef "LinkedTongue$Lookup" (140 : Nat) "push") ∈ lw_tbl := lw_at lw_m13 26 rfl
theorem q3208 : (Jvm.Cond.stringRef "LinkedTongue$Lookup" (142 : Nat) "pop") ∈ lw_tbl := lw_at lw_m13 27 rfl
theorem q3209 : (Jvm.Cond.methodLink "LinkedTongue$Lookup" (79 : Nat) ({ cls := "LinkedTongue$Lookup", name := "host", desc := "(LLinkedTongue$Site;LLinkedTongue$Found;)V" } : Jvm.MethodName)) ∈ lw_all := lw_g (lw_at lw_m13 28 rfl) rfl
theorem q3210 : (Jvm.Cond.privateMethod ({ cls := "LinkedTongue$Lookup", name := "host", desc := "(LLinkedTongue$Site;LLinkedTongue$Found;)V" } : Jvm.MethodName)) ∈ lw_tbl := lw_at lw_m13 29 rfl
theorem q3211 : (Jvm.Cond.instanceMethod ({ cls := "LinkedTongue$Lookup", name := "host", desc := "(LLinkedTongue$Site;LLinkedTongue$Found;)V" } : Jvm.MethodName)) ∈ lw_all := lw_g (lw_at lw_m13 30 rfl) rfl
theorem q3212 : (Jvm.Cond.code ({ cls := "LinkedTongue$Lookup", name := "host", desc := "(LLinkedTongue$Site;LLinkedTongue$Found;)V" } : Jvm.MethodName) prog_21_method_8_code (5 : Nat) (Option.none : Option Jvm.ClassFile.FieldType)) ∈ lw_all := lw_g (lw_at lw_m13 31 rfl) rfl
theorem q3213 : (Jvm.Cond.methodLink "LinkedTongue$Lookup" (170 : Nat) ({ cls := "LinkedTongue$Lookup", name := "hostGet", desc := "(LLinkedTongue$Site;LLinkedTongue$Found;Z)V" } : Jvm.MethodName)) ∈ lw_all := lw_g (lw_at lw_m13 32 rfl) rfl
theorem q3214 : (Jvm.Cond.privateMethod ({ cls := "LinkedTongue$Lookup", name := "hostGet", desc := "(LLinkedTongue$Site;LLinkedTongue$Found;Z)V" } : Jvm.MethodName)) ∈ lw_tbl := lw_at lw_m13 33 rfl
theorem q3215 : (Jvm.Cond.instanceMethod ({ cls := "LinkedTongue$Lookup", name := "hostGet", desc := "(LLinkedTongue$Site;LLinkedTongue$Found;Z)V" } : Jvm.MethodName)) ∈ lw_all := lw_g (lw_at lw_m13 34 rfl) rfl
theorem q3216 : (Jvm.Cond.code ({ cls := "LinkedTongue$Lookup", name := "hostGet", desc := "(LLinkedTongue$Site;LLinkedTongue$Found;Z)V" } : Jvm.MethodName) prog_21_method_10_code (7 : Nat) (Option.none : Option Jvm.ClassFile.FieldType)) ∈ lw_all := lw_g (lw_at lw_m13 35 rfl) rfl
theorem q3217 : (Jvm.Cond.stringRef "LinkedTongue$Lookup" (213 : Nat) "get") ∈ lw_tbl := lw_at lw_m13 36 rfl
theorem q3218 : (Jvm.Cond.methodLink "LinkedTongue$Lookup" (179 : Nat) ({ cls := "LinkedTongue$Lookup", name := "hostName", desc := "(Ljava/lang/String;I)I" } : Jvm.MethodName)) ∈ lw_all := lw_g (lw_at lw_m13 37 rfl) rfl
theorem q3219 : (Jvm.Cond.privateMethod ({ cls := "LinkedTongue$Lookup", name := "hostName", desc := "(Ljava/lang/String;I)I" } : Jvm.MethodName)) ∈ lw_tbl := lw_at lw_m13 38 rfl
theorem q3220 : (Jvm.Cond.instanceMethod ({ cls := "LinkedTongue$Lookup", name := "hostName", desc := "(Ljava/lang/String;I)I" } : Jvm.MethodName)) ∈ lw_all := lw_g (lw_at lw_m13 39 rfl) rfl
theorem q3221 : (Jvm.Cond.code ({ cls := "LinkedTongue$Lookup", name := "hostName", desc := "(Ljava/lang/String;I)I" } : Jvm.MethodName) prog_21_method_7_code (5 : Nat) (Option.some Jvm.ClassFile.FieldType.int)) ∈ lw_all := lw_g (lw_at lw_m13 40 rfl) rfl
theorem q3222 : (Jvm.Cond.methodLink "LinkedTongue$Lookup" (167 : Nat) ({ cls := "LinkedTongue$Words", name := "find", desc := "([BII)I" } : Jvm.MethodName)) ∈ lw_all := lw_g (lw_at lw_m13 41 rfl) rfl
theorem q3223 : (Jvm.Cond.methodLink "LinkedTongue$Lookup" (215 : Nat) ({ cls := "LinkedTongue$Host", name := "getter", desc := "(LLinkedTongue$HostType;ZI)LLinkedTongue$Member;" } : Jvm.MethodName)) ∈ lw_all := lw_g (lw_at lw_m13 42 rfl) rfl
theorem q3239 : (Jvm.Cond.stringRef "LinkedTongue$Lookup" (219 : Nat) "is") ∈ lw_tbl := lw_at lw_m13 58 rfl
theorem q3240 : (Jvm.Cond.stringRef "LinkedTongue$Lookup" (177 : Nat) "") ∈ lw_tbl := lw_at lw_m13 59 rfl
theorem q3241 : (Jvm.Cond.methodLink "LinkedTongue$Lookup" (223 : Nat) ({ cls := "LinkedTongue$Lookup", name := "field", desc := "(LLinkedTongue$Found;ZI)LLinkedTongue$Member;" } : Jvm.MethodName)) ∈ lw_all := lw_g (lw_at lw_m13 60 rfl) rfl
theorem q3242 : (Jvm.Cond.privateMethod ({ cls := "LinkedTongue$Lookup", name := "field", desc := "(LLinkedTongue$Found;ZI)LLinkedTongue$Member;" } : Jvm.MethodName)) ∈ lw_tbl := lw_at lw_m13 61 rfl
theorem q3243 : (Jvm.Cond.instanceMethod ({ cls := "LinkedTongue$Lookup", name := "field", desc := "(LLinkedTongue$Found;ZI)LLinkedTongue$Member;" } : Jvm.MethodName)) ∈ lw_all := lw_g (lw_at lw_m13 62 rfl) rfl
theorem q3244 : (Jvm.Cond.code ({ cls := "LinkedTongue$Lookup", name := "field", desc := "(LLinkedTongue$Found;ZI)LLinkedTongue$Member;" } : Jvm.MethodName) prog_21_method_9_code (6 : Nat) (Option.some (Jvm.ClassFile.FieldType.object "LinkedTongue$Member"))) ∈ lw_all := lw_g (lw_at lw_m13 63 rfl) rfl
theorem q3245 : (Jvm.Cond.methodLink "LinkedTongue$Lookup" (199 : Nat) ({ cls := "LinkedTongue$HostType", name := "field", desc := "(I)LLinkedTongue$Member;" } : Jvm.MethodName)) ∈ lw_all := lw_g (lw_at lw_m13 64 rfl) rfl
theorem q3246 : (Jvm.Cond.methodLink "LinkedTongue$Lookup" (174 : Nat) ({ cls := "LinkedTongue$Lookup", name := "hostSet", desc := "(LLinkedTongue$Site;LLinkedTongue$Found;Z)V" } : Jvm.MethodName)) ∈ lw_all := lw_g (lw_at lw_m13 65 rfl) rfl
theorem q3247 : (Jvm.Cond.privateMethod ({ cls := "LinkedTongue$Lookup", name := "hostSet", desc := "(LLinkedTongue$Site;LLinkedTongue$Found;Z)V" } : Jvm.MethodName)) ∈ lw_tbl := lw_at lw_m13 66 rfl
theorem q3248 : (Jvm.Cond.instanceMethod ({ cls := "LinkedTongue$Lookup", name := "hostSet", desc := "(LLinkedTongue$Site;LLinkedTongue$Found;Z)V" } : Jvm.MethodName)) ∈ lw_all := lw_g (lw_at lw_m13 67 rfl) rfl
theorem q3249 : (Jvm.Cond.code ({ cls := "LinkedTongue$Lookup", name := "hostSet", desc := "(LLinkedTongue$Site;LLinkedTongue$Found;Z)V" } : Jvm.MethodName) prog_21_method_11_code (5 : Nat) (Option.none : Option Jvm.ClassFile.FieldType)) ∈ lw_all := lw_g (lw_at lw_m13 68 rfl) rfl
theorem q3250 : (Jvm.Cond.stringRef "LinkedTongue$Lookup" (226 : Nat) "set") ∈ lw_tbl := lw_at lw_m13 69 rfl
theorem q3251 : (Jvm.Cond.methodLink "LinkedTongue$Lookup" (228 : Nat) ({ cls := "LinkedTongue$Host", name := "hasSetter", desc := "(LLinkedTongue$HostType;ZI)Z" } : Jvm.MethodName)) ∈ lw_all := lw_g (lw_at lw_m13 70 rfl) rfl
theorem q3255 : (Jvm.Cond.methodLink "LinkedTongue$Lookup" (191 : Nat) ({ cls := "LinkedTongue$Lookup", name := "chosen", desc := "(LLinkedTongue$Found;IZIZ)V" } : Jvm.MethodName)) ∈ lw_all := lw_g (lw_at lw_m13 74 rfl) rfl
theorem q3256 : (Jvm.Cond.privateMethod ({ cls := "LinkedTongue$Lookup", name := "chosen", desc := "(LLinkedTongue$Found;IZIZ)V" } : Jvm.MethodName)) ∈ lw_tbl := lw_at lw_m13 75 rfl
theorem q3257 : (Jvm.Cond.instanceMethod ({ cls := "LinkedTongue$Lookup", name := "chosen", desc := "(LLinkedTongue$Found;IZIZ)V" } : Jvm.MethodName)) ∈ lw_all := lw_g (lw_at lw_m13 76 rfl) rfl
theorem q3258 : (Jvm.Cond.code ({ cls := "LinkedTongue$Lookup", name := "chosen", desc := "(LLinkedTongue$Found;IZIZ)V" } : Jvm.MethodName) prog_21_method_12_code (10 : Nat) (Option.none : Option Jvm.ClassFile.FieldType)) ∈ lw_all := lw_g (lw_at lw_m13 77 rfl) rfl
theorem q3259 : (Jvm.Cond.methodLink "LinkedTongue$Lookup" (238 : Nat) ({ cls := "LinkedTongue$Choice", name := "is", desc := "(LLinkedTongue$HostType;IZIZ[II)Z" } : Jvm.MethodName)) ∈ lw_all := lw_g (lw_at lw_m13 78 rfl) rfl
theorem q3263 : (Jvm.Cond.methodLink "LinkedTongue$Lookup" (249 : Nat) ({ cls := "LinkedTongue$Host", name := "choose", desc := "(LLinkedTongue$HostType;IZIZ[II)LLinkedTongue$Member;" } : Jvm.MethodName)) ∈ lw_all := lw_g (lw_at lw_m13 82 rfl) rfl
theorem q3287 : (Jvm.Cond.methodLink "LinkedTongue$Lookup" (257 : Nat) ({ cls := "java/util/Arrays", name := "copyOf", desc := "([II)[I" } : Jvm.MethodName)) ∈ lw_all := lw_g (lw_at lw_m13 106 rfl) rfl
theorem q3288 : (Jvm.Cond.methodLink "LinkedTongue$Lookup" (263 : Nat) ({ cls := "LinkedTongue$Choice", name := "<init>", desc := "(LLinkedTongue$HostType;IZIZ[ILLinkedTongue$Choice;)V" } : Jvm.MethodName)) ∈ lw_all := lw_g (lw_at lw_m13 107 rfl) rfl
theorem q3298 : (Jvm.Cond.fieldLinkNest "LinkedTongue$Lookup" (245 : Nat) "LinkedTongue$Choice" "member" "LLinkedTongue$Member;" "LinkedTongue") ∈ lw_tbl := lw_at lw_m13 117 rfl
theorem q3299 : (Jvm.Cond.fieldLinkNest "LinkedTongue$Lookup" (246 : Nat) "LinkedTongue$Choice" "why" "I" "LinkedTongue") ∈ lw_tbl := lw_at lw_m13 118 rfl
theorem q3301 : (Jvm.Cond.fieldLinkNest "LinkedTongue$Lookup" (241 : Nat) "LinkedTongue$Choice" "next" "LLinkedTongue$Choice;" "LinkedTongue") ∈ lw_tbl := lw_at lw_m13 120 rfl
theorem q3321 : (Jvm.Cond.methodLink "LinkedTongue$Lookup" (187 : Nat) ({ cls := "LinkedTongue$Host", name := "hasMethods", desc := "(LLinkedTongue$HostType;ZI)Z" } : Jvm.MethodName)) ∈ lw_all := lw_g (lw_at lw_m13 140 rfl) rfl
theorem q3325 : (Jvm.Cond.methodLink "LinkedTongue$Lookup" (195 : Nat) ({ cls := "LinkedTongue$Host", name := "hasMaker", desc := "(LLinkedTongue$HostType;)Z" } : Jvm.MethodName)) ∈ lw_all := lw_g (lw_at lw_m13 144 rfl) rfl
theorem q5524 : (Jvm.Cond.castable "LinkedTongue$Lookup" "java/lang/Object") ∈ lw_tbl := lw_at lw_m22 183 rfl
theorem q321 : (Jvm.Cond.initialized "LinkedTongue$Shape") ∈ lw_all := lw_g (lw_at lw_m1 20 rfl) rfl
theorem q990 : (Jvm.Cond.instantiable "LinkedTongue$Shape" (7 : Nat)) ∈ lw_all := lw_g (lw_at lw_m3 209 rfl) rfl
theorem q992 : (Jvm.Cond.instanceMethod ({ cls := "LinkedTongue$Shape", name := "<init>", desc := "(ILLinkedTongue$Obj;LLinkedTongue$Shape;I)V" } : Jvm.MethodName)) ∈ lw_all := lw_g (lw_at lw_m3 211 rfl) rfl
theorem q993 : (Jvm.Cond.code ({ cls := "LinkedTongue$Shape", name := "<init>", desc := "(ILLinkedTongue$Obj;LLinkedTongue$Shape;I)V" } : Jvm.MethodName) prog_33_method_1_code (5 : Nat) (Option.none : Option Jvm.ClassFile.FieldType)) ∈ lw_all := lw_g (lw_at lw_m3 212 rfl) rfl
theorem q994 : (Jvm.Cond.methodLink "LinkedTongue$Shape" (3 : Nat) ({ cls := "java/lang/Object", name := "<init>", desc := "()V" } : Jvm.MethodName)) ∈ lw_all := lw_g (lw_at lw_m3 213 rfl) rfl
theorem q995 : (Jvm.Cond.fieldLink "LinkedTongue$Shape" (9 : Nat) "LinkedTongue$Shape" "number" "I") ∈ lw_all := lw_g (lw_at lw_m3 214 rfl) rfl
theorem q998 : (Jvm.Cond.fieldLink "LinkedTongue$Shape" (15 : Nat) "LinkedTongue$Shape" "prototype" "LLinkedTongue$Obj;") ∈ lw_all := lw_g (lw_at lw_m3 217 rfl) rfl
theorem q1004 : (Jvm.Cond.fieldLink "LinkedTongue$Shape" (19 : Nat) "LinkedTongue$Shape" "before" "LLinkedTongue$Shape;") ∈ lw_all := lw_g (lw_at lw_m3 223 rfl) rfl
theorem q1005 : (Jvm.Cond.fieldLink "LinkedTongue$Shape" (23 : Nat) "LinkedTongue$Shape" "name" "I") ∈ lw_all := lw_g (lw_at lw_m3 224 rfl) rfl
theorem q1006 : (Jvm.Cond.fieldLink "LinkedTongue$Shape" (26 : Nat) "LinkedTongue$Shape" "size" "I") ∈ lw_all := lw_g (lw_at lw_m3 225 rfl) rfl
theorem q1009 : (Jvm.Cond.fieldLink "LinkedTongue$Shape" (29 : Nat) "LinkedTongue$Shape" "child" "LLinkedTongue$Shape;") ∈ lw_all := lw_g (lw_at lw_m3 228 rfl) rfl
theorem q1011 : (Jvm.Cond.fieldLink "LinkedTongue$Shape" (32 : Nat) "LinkedTongue$Shape" "sibling" "LLinkedTongue$Shape;") ∈ lw_all := lw_g (lw_at lw_m3 230 rfl) rfl
theorem q1013 : (Jvm.Cond.laysFinal "LinkedTongue$Shape" "LinkedTongue$Shape" "number" "I") ∈ lw_all := lw_g (lw_at lw_m3 232 rfl) rfl
theorem q1014 : (Jvm.Cond.soleField "LinkedTongue$Shape" "number") ∈ lw_all := lw_g (lw_at lw_m3 233 rfl) rfl
theorem q1015 : (Jvm.Cond.laysFinal "LinkedTongue$Shape" "LinkedTongue$Shape" "prototype" "LLinkedTongue$Obj;") ∈ lw_all := lw_g (lw_at lw_m3 234 rfl) rfl
theorem q1016 : (Jvm.Cond.soleField "LinkedTongue$Shape" "prototype") ∈ lw_all := lw_g (lw_at lw_m3 235 rfl) rfl
theorem q1017 : (Jvm.Cond.laysFinal "LinkedTongue$Shape" "LinkedTongue$Shape" "before" "LLinkedTongue$Shape;") ∈ lw_all := lw_g (lw_at lw_m3 236 rfl) rfl
theorem q1018 : (Jvm.Cond.soleField "LinkedTongue$Shape" "before") ∈ lw_all := lw_g (lw_at lw_m3 237 rfl) rfl
theorem q1019 : (Jvm.Cond.laysFinal "LinkedTongue$Shape" "LinkedTongue$Shape" "name" "I") ∈ lw_all := lw_g (lw_at lw_m3 238 rfl) rfl
theorem q1020 : (Jvm.Cond.soleField "LinkedTongue$Shape" "name") ∈ lw_all := lw_g (lw_at lw_m3 239 rfl) rfl
theorem q1021 : (Jvm.Cond.laysFinal "LinkedTongue$Shape" "LinkedTongue$Shape" "size" "I") ∈ lw_all := lw_g (lw_at lw_m4 0 rfl) rfl
theorem q1022 : (Jvm.Cond.soleField "LinkedTongue$Shape" "size") ∈ lw_all := lw_g (lw_at lw_m4 1 rfl) rfl
theorem q1023 : (Jvm.Cond.lays "LinkedTongue$Shape" "LinkedTongue$Shape" "child" "LLinkedTongue$Shape;") ∈ lw_all := lw_g (lw_at lw_m4 2 rfl) rfl
theorem q1024 : (Jvm.Cond.soleField "LinkedTongue$Shape" "child") ∈ lw_all := lw_g (lw_at lw_m4 3 rfl) rfl
theorem q1025 : (Jvm.Cond.lays "LinkedTongue$Shape" "LinkedTongue$Shape" "sibling" "LLinkedTongue$Shape;") ∈ lw_all := lw_g (lw_at lw_m4 4 rfl) rfl
theorem q1026 : (Jvm.Cond.soleField "LinkedTongue$Shape" "sibling") ∈ lw_all := lw_g (lw_at lw_m4 5 rfl) rfl
theorem q1027 : (Jvm.Cond.superclass "LinkedTongue$Shape" "java/lang/Object") ∈ lw_all := lw_g (lw_at lw_m4 6 rfl) rfl
theorem q1091 : (Jvm.Cond.selects "LinkedTongue$Shape" ({ cls := "java/lang/Object", name := "getClass", desc := "()Ljava/lang/Class;" } : Jvm.MethodName) ({ cls := "java/lang/Object", name := "getClass", desc := "()Ljava/lang/Class;" } : Jvm.MethodName)) ∈ lw_all := lw_g (lw_at lw_m4 70 rfl) rfl
theorem q2874 : (Jvm.Cond.instanceMethod ({ cls := "LinkedTongue$Shape", name := "nameAt", desc := "(I)I" } : Jvm.MethodName)) ∈ lw_all := lw_g (lw_at lw_m11 173 rfl) rfl
theorem q2875 : (Jvm.Cond.selects "LinkedTongue$Shape" ({ cls := "LinkedTongue$Shape", name := "nameAt", desc := "(I)I" } : Jvm.MethodName) ({ cls := "LinkedTongue$Shape", name := "nameAt", desc := "(I)I" } : Jvm.MethodName)) ∈ lw_all := lw_g (lw_at lw_m11 174 rfl) rfl
theorem q2876 : (Jvm.Cond.code ({ cls := "LinkedTongue$Shape", name := "nameAt", desc := "(I)I" } : Jvm.MethodName) prog_33_method_3_code (3 : Nat) (Option.some Jvm.ClassFile.FieldType.int)) ∈ lw_all := lw_g (lw_at lw_m11 175 rfl) rfl
theorem q3178 : (Jvm.Cond.instanceMethod ({ cls := "LinkedTongue$Shape", name := "find", desc := "(I)I" } : Jvm.MethodName)) ∈ lw_all := lw_g (lw_at lw_m12 237 rfl) rfl
theorem q3179 : (Jvm.Cond.selects "LinkedTongue$Shape" ({ cls := "LinkedTongue$Shape", name := "find", desc := "(I)I" } : Jvm.MethodName) ({ cls := "LinkedTongue$Shape", name := "find", desc := "(I)I" } : Jvm.MethodName)) ∈ lw_all := lw_g (lw_at lw_m12 238 rfl) rfl
theorem q3180 : (Jvm.Cond.code ({ cls := "LinkedTongue$Shape", name := "find", desc := "(I)I" } : Jvm.MethodName) prog_33_method_2_code (3 : Nat) (Option.some Jvm.ClassFile.FieldType.int)) ∈ lw_all := lw_g (lw_at lw_m12 239 rfl) rfl
theorem q3186 : (Jvm.Cond.instanceMethod ({ cls := "LinkedTongue$Shape", name := "known", desc := "(I)LLinkedTongue$Shape;" } : Jvm.MethodName)) ∈ lw_all := lw_g (lw_at lw_m13 5 rfl) rfl
theorem q3187 : (Jvm.Cond.selects "LinkedTongue$Shape" ({ cls := "LinkedTongue$Shape", name := "known", desc := "(I)LLinkedTongue$Shape;" } : Jvm.MethodName) ({ cls := "LinkedTongue$Shape", name := "known", desc := "(I)LLinkedTongue$Shape;" } : Jvm.MethodName)) ∈ lw_all := lw_g (lw_at lw_m13 6 rfl) rfl
theorem q3188 : (Jvm.Cond.code ({ cls := "LinkedTongue$Shape", name := "known", desc := "(I)LLinkedTongue$Shape;" } : Jvm.MethodName) prog_33_method_4_code (3 : Nat) (Option.some (Jvm.ClassFile.FieldType.object "LinkedTongue$Shape"))) ∈ lw_all := lw_g (lw_at lw_m13 7 rfl) rfl
theorem q5506 : (Jvm.Cond.castable "LinkedTongue$Shape" "LinkedTongue$Shape") ∈ lw_tbl := lw_at lw_m22 165 rfl
theorem q5525 : (Jvm.Cond.castable "LinkedTongue$Shape" "java/lang/Object") ∈ lw_tbl := lw_at lw_m22 184 rfl
theorem q328 : (Jvm.Cond.initialized "LinkedTongueModel") ∈ lw_all := lw_g (lw_at lw_m1 27 rfl) rfl
theorem q1105 : (Jvm.Cond.selects "LinkedTongueModel" ({ cls := "java/lang/Object", name := "getClass", desc := "()Ljava/lang/Class;" } : Jvm.MethodName) ({ cls := "java/lang/Object", name := "getClass", desc := "()Ljava/lang/Class;" } : Jvm.MethodName)) ∈ lw_all := lw_g (lw_at lw_m4 84 rfl) rfl
theorem q3794 : (Jvm.Cond.instantiable "LinkedTongueModel" (180 : Nat)) ∈ lw_all := lw_g (lw_at lw_m15 133 rfl) rfl
theorem q3796 : (Jvm.Cond.instanceMethod ({ cls := "LinkedTongueModel", name := "<init>", desc := "()V" } : Jvm.MethodName)) ∈ lw_all := lw_g (lw_at lw_m15 135 rfl) rfl
theorem q3797 : (Jvm.Cond.code ({ cls := "LinkedTongueModel", name := "<init>", desc := "()V" } : Jvm.MethodName) prog_49_method_1_code (1 : Nat) (Option.none : Option Jvm.ClassFile.FieldType)) ∈ lw_all := lw_g (lw_at lw_m15 136 rfl) rfl
theorem q3798 : (Jvm.Cond.methodLink "LinkedTongueModel" (3 : Nat) ({ cls := "java/lang/Object", name := "<init>", desc := "()V" } : Jvm.MethodName)) ∈ lw_all := lw_g (lw_at lw_m15 137 rfl) rfl
theorem q3799 : (Jvm.Cond.classLink "LinkedTongueModel" (9 : Nat) "LinkedTongueModel$Halt") ∈ lw_all := lw_g (lw_at lw_m15 138 rfl) rfl
theorem q3808 : (Jvm.Cond.methodLinkNest "LinkedTongueModel" (11 : Nat) ({ cls := "LinkedTongueModel$Halt", name := "<init>", desc := "()V" } : Jvm.MethodName) "LinkedTongueModel") ∈ lw_tbl := lw_at lw_m15 147 rfl
theorem q3813 : (Jvm.Cond.fieldLinkNest "LinkedTongueModel" (501 : Nat) "LinkedTongueModel$Halt" "number" "I" "LinkedTongueModel") ∈ lw_tbl := lw_at lw_m15 152 rfl
theorem q3815 : (Jvm.Cond.fieldLinkNest "LinkedTongueModel" (502 : Nat) "LinkedTongueModel$Halt" "place" "I" "LinkedTongueModel") ∈ lw_tbl := lw_at lw_m15 154 rfl
theorem q3822 : (Jvm.Cond.constant "LinkedTongueModel" (16 : Nat) (65552 : Int32)) ∈ lw_all := lw_g (lw_at lw_m15 161 rfl) rfl
theorem q3823 : (Jvm.Cond.classLink "LinkedTongueModel" (24 : Nat) "LinkedTongueModel$Host") ∈ lw_all := lw_g (lw_at lw_m15 162 rfl) rfl
theorem q3825 : (Jvm.Cond.methodLinkNest "LinkedTongueModel" (26 : Nat) ({ cls := "LinkedTongueModel$Host", name := "<init>", desc := "()V" } : Jvm.MethodName) "LinkedTongueModel") ∈ lw_tbl := lw_at lw_m15 164 rfl
theorem q3831 : (Jvm.Cond.fieldLinkNest "LinkedTongueModel" (499 : Nat) "LinkedTongueModel$Host" "signs" "[B" "LinkedTongueModel") ∈ lw_tbl := lw_at lw_m15 170 rfl
theorem q3832 : (Jvm.Cond.fieldLinkNest "LinkedTongueModel" (480 : Nat) "LinkedTongueModel$Host" "classes" "I" "LinkedTongueModel") ∈ lw_tbl := lw_at lw_m15 171 rfl
theorem q3834 : (Jvm.Cond.fieldLinkNest "LinkedTongueModel" (520 : Nat) "LinkedTongueModel$Host" "isInterface" "[Z" "LinkedTongueModel") ∈ lw_tbl := lw_at lw_m15 173 rfl
theorem q3836 : (Jvm.Cond.fieldLinkNest "LinkedTongueModel" (523 : Nat) "LinkedTongueModel$Host" "above" "[I" "LinkedTongueModel") ∈ lw_tbl := lw_at lw_m15 175 rfl
theorem q3838 : (Jvm.Cond.fieldLinkNest "LinkedTongueModel" (526 : Nat) "LinkedTongueModel$Host" "supers" "[I" "LinkedTongueModel") ∈ lw_tbl := lw_at lw_m15 177 rfl
theorem q3840 : (Jvm.Cond.fieldLinkNest "LinkedTongueModel" (550 : Nat) "LinkedTongueModel$Host" "superOf" "[I" "LinkedTongueModel") ∈ lw_tbl := lw_at lw_m15 179 rfl
theorem q3842 : (Jvm.Cond.fieldLinkNest "LinkedTongueModel" (529 : Nat) "LinkedTongueModel$Host" "all" "[J" "LinkedTongueModel") ∈ lw_tbl := lw_at lw_m15 181 rfl
theorem q3844 : (Jvm.Cond.fieldLinkNest "LinkedTongueModel" (532 : Nat) "LinkedTongueModel$Host" "first" "[I" "LinkedTongueModel") ∈ lw_tbl := lw_at lw_m15 183 rfl
theorem q3846 : (Jvm.Cond.fieldLinkNest "LinkedTongueModel" (535 : Nat) "LinkedTongueModel$Host" "many" "[I" "LinkedTongueModel") ∈ lw_tbl := lw_at lw_m15 185 rfl
theorem q3848 : (Jvm.Cond.fieldLinkNest "LinkedTongueModel" (486 : Nat) "LinkedTongueModel$Host" "nameFrom" "[I" "LinkedTongueModel") ∈ lw_tbl := lw_at lw_m15 187 rfl
theorem q3850 : (Jvm.Cond.fieldLinkNest "LinkedTongueModel" (483 : Nat) "LinkedTongueModel$Host" "nameTo" "[I" "LinkedTongueModel") ∈ lw_tbl := lw_at lw_m15 189 rfl
theorem q3851 : (Jvm.Cond.fieldLinkNest "LinkedTongueModel" (489 : Nat) "LinkedTongueModel$Host" "members" "I" "LinkedTongueModel") ∈ lw_tbl := lw_at lw_m15 190 rfl
theorem q3853 : (Jvm.Cond.fieldLinkNest "LinkedTongueModel" (559 : Nat) "LinkedTongueModel$Host" "itsClass" "[I" "LinkedTongueModel") ∈ lw_tbl := lw_at lw_m15 192 rfl
theorem q3855 : (Jvm.Cond.fieldLinkNest "LinkedTongueModel" (571 : Nat) "LinkedTongueModel$Host" "sort" "[I" "LinkedTongueModel") ∈ lw_tbl := lw_at lw_m15 194 rfl
theorem q3857 : (Jvm.Cond.fieldLinkNest "LinkedTongueModel" (562 : Nat) "LinkedTongueModel$Host" "isStatic" "[Z" "LinkedTongueModel") ∈ lw_tbl := lw_at lw_m15 196 rfl
theorem q3859 : (Jvm.Cond.fieldLinkNest "LinkedTongueModel" (574 : Nat) "LinkedTongueModel$Host" "type" "[I" "LinkedTongueModel") ∈ lw_tbl := lw_at lw_m15 198 rfl
theorem q3861 : (Jvm.Cond.fieldLinkNest "LinkedTongueModel" (588 : Nat) "LinkedTongueModel$Host" "parameters" "[I" "LinkedTongueModel") ∈ lw_tbl := lw_at lw_m15 200 rfl
theorem q3863 : (Jvm.Cond.fieldLinkNest "LinkedTongueModel" (591 : Nat) "LinkedTongueModel$Host" "variable" "[Z" "LinkedTongueModel") ∈ lw_tbl := lw_at lw_m15 202 rfl
theorem q3865 : (Jvm.Cond.fieldLinkNest "LinkedTongueModel" (598 : Nat) "LinkedTongueModel$Host" "parameter" "[I" "LinkedTongueModel") ∈ lw_tbl := lw_at lw_m15 204 rfl
theorem q3867 : (Jvm.Cond.fieldLinkNest "LinkedTongueModel" (565 : Nat) "LinkedTongueModel$Host" "memberFrom" "[I" "LinkedTongueModel") ∈ lw_tbl := lw_at lw_m15 206 rfl
theorem q3869 : (Jvm.Cond.fieldLinkNest "LinkedTongueModel" (568 : Nat) "LinkedTongueModel$Host" "memberTo" "[I" "LinkedTongueModel") ∈ lw_tbl := lw_at lw_m15 208 rfl
theorem q3913 : (Jvm.Cond.constant "LinkedTongueModel" (34 : Nat) (240000 : Int32)) ∈ lw_all := lw_g (lw_at lw_m16 12 rfl) rfl
theorem q3914 : (Jvm.Cond.constant "LinkedTongueModel" (42 : Nat) (269632 : Int32)) ∈ lw_all := lw_g (lw_at lw_m16 13 rfl) rfl
theorem q3915 : (Jvm.Cond.classLink "LinkedTongueModel" (52 : Nat) "LinkedTongueModel$Part") ∈ lw_all := lw_g (lw_at lw_m16 14 rfl) rfl
theorem q3917 : (Jvm.Cond.classLink "LinkedTongueModel" (58 : Nat) "LinkedTongueModel$Ints") ∈ lw_all := lw_g (lw_at lw_m16 16 rfl) rfl
theorem q3919 : (Jvm.Cond.methodLink "LinkedTongueModel" (60 : Nat) ({ cls := "LinkedTongueModel$Ints", name := "<init>", desc := "(I)V" } : Jvm.MethodName)) ∈ lw_all := lw_g (lw_at lw_m16 18 rfl) rfl
theorem q3925 : (Jvm.Cond.fieldLinkNest "LinkedTongueModel" (768 : Nat) "LinkedTongueModel$Ints" "a" "[I" "LinkedTongueModel") ∈ lw_tbl := lw_at lw_m16 24 rfl
theorem q3928 : (Jvm.Cond.fieldLinkNest "LinkedTongueModel" (654 : Nat) "LinkedTongueModel$Ints" "size" "I" "LinkedTongueModel") ∈ lw_tbl := lw_at lw_m16 27 rfl
theorem q3936 : (Jvm.Cond.constant "LinkedTongueModel" (170 : Nat) (60000 : Int32)) ∈ lw_all := lw_g (lw_at lw_m16 35 rfl) rfl
theorem q3937 : (Jvm.Cond.constant "LinkedTongueModel" (223 : Nat) (65536 : Int32)) ∈ lw_all := lw_g (lw_at lw_m16 36 rfl) rfl
theorem q3938 : (Jvm.Cond.constant "LinkedTongueModel" (227 : Nat) (100000 : Int32)) ∈ lw_all := lw_g (lw_at lw_m16 37 rfl) rfl
theorem q3939 : (Jvm.Cond.methodLink "LinkedTongueModel" (363 : Nat) ({ cls := "LinkedTongueModel", name := "anew", desc := "()V" } : Jvm.MethodName)) ∈ lw_all := lw_g (lw_at lw_m16 38 rfl) rfl
theorem q3940 : (Jvm.Cond.privateMethod ({ cls := "LinkedTongueModel", name := "anew", desc := "()V" } : Jvm.MethodName)) ∈ lw_tbl := lw_at lw_m16 39 rfl
theorem q3941 : (Jvm.Cond.instanceMethod ({ cls := "LinkedTongueModel", name := "anew", desc := "()V" } : Jvm.MethodName)) ∈ lw_all := lw_g (lw_at lw_m16 40 rfl) rfl
theorem q3942 : (Jvm.Cond.code ({ cls := "LinkedTongueModel", name := "anew", desc := "()V" } : Jvm.MethodName) prog_49_method_83_code (2 : Nat) (Option.none : Option Jvm.ClassFile.FieldType)) ∈ lw_all := lw_g (lw_at lw_m16 41 rfl) rfl
theorem q3943 : (Jvm.Cond.methodLink "LinkedTongueModel" (907 : Nat) ({ cls := "LinkedTongueModel", name := "firstType", desc := "(I)I" } : Jvm.MethodName)) ∈ lw_all := lw_g (lw_at lw_m16 42 rfl) rfl
theorem q3944 : (Jvm.Cond.static ({ cls := "LinkedTongueModel", name := "firstType", desc := "(I)I" } : Jvm.MethodName)) ∈ lw_all := lw_g (lw_at lw_m16 43 rfl) rfl
theorem q3945 : (Jvm.Cond.code ({ cls := "LinkedTongueModel", name := "firstType", desc := "(I)I" } : Jvm.MethodName) prog_49_method_84_code (1 : Nat) (Option.some Jvm.ClassFile.FieldType.int)) ∈ lw_all := lw_g (lw_at lw_m16 44 rfl) rfl
theorem q3946 : (Jvm.Cond.fieldLink "LinkedTongueModel" (366 : Nat) "LinkedTongueModel" "thrown" "I") ∈ lw_all := lw_g (lw_at lw_m16 45 rfl) rfl
theorem q3947 : (Jvm.Cond.fieldLink "LinkedTongueModel" (12 : Nat) "LinkedTongueModel" "halt" "LLinkedTongueModel$Halt;") ∈ lw_all := lw_g (lw_at lw_m16 46 rfl) rfl
theorem q3948 : (Jvm.Cond.fieldLink "LinkedTongueModel" (17 : Nat) "LinkedTongueModel" "tape" "[B") ∈ lw_all := lw_g (lw_at lw_m16 47 rfl) rfl
theorem q3949 : (Jvm.Cond.fieldLink "LinkedTongueModel" (380 : Nat) "LinkedTongueModel" "taped" "I") ∈ lw_all := lw_g (lw_at lw_m16 48 rfl) rfl
theorem q3950 : (Jvm.Cond.fieldLink "LinkedTongueModel" (390 : Nat) "LinkedTongueModel" "size" "I") ∈ lw_all := lw_g (lw_at lw_m16 49 rfl) rfl
theorem q3951 : (Jvm.Cond.fieldLink "LinkedTongueModel" (405 : Nat) "LinkedTongueModel" "ofHost" "Z") ∈ lw_all := lw_g (lw_at lw_m16 50 rfl) rfl
theorem q3952 : (Jvm.Cond.fieldLink "LinkedTongueModel" (422 : Nat) "LinkedTongueModel" "token" "I") ∈ lw_all := lw_g (lw_at lw_m16 51 rfl) rfl
theorem q3953 : (Jvm.Cond.fieldLink "LinkedTongueModel" (419 : Nat) "LinkedTongueModel" "from" "I") ∈ lw_all := lw_g (lw_at lw_m16 52 rfl) rfl
theorem q3954 : (Jvm.Cond.fieldLink "LinkedTongueModel" (409 : Nat) "LinkedTongueModel" "to" "I") ∈ lw_all := lw_g (lw_at lw_m16 53 rfl) rfl
theorem q3955 : (Jvm.Cond.fieldLink "LinkedTongueModel" (449 : Nat) "LinkedTongueModel" "sign" "I") ∈ lw_all := lw_g (lw_at lw_m16 54 rfl) rfl
theorem q3956 : (Jvm.Cond.fieldLink "LinkedTongueModel" (436 : Nat) "LinkedTongueModel" "number" "I") ∈ lw_all := lw_g (lw_at lw_m16 55 rfl) rfl
theorem q3957 : (Jvm.Cond.fieldLink "LinkedTongueModel" (21 : Nat) "LinkedTongueModel" "text" "[B") ∈ lw_all := lw_g (lw_at lw_m16 56 rfl) rfl
theorem q3958 : (Jvm.Cond.fieldLink "LinkedTongueModel" (446 : Nat) "LinkedTongueModel" "textSize" "I") ∈ lw_all := lw_g (lw_at lw_m16 57 rfl) rfl
theorem q3959 : (Jvm.Cond.fieldLink "LinkedTongueModel" (27 : Nat) "LinkedTongueModel" "host" "LLinkedTongueModel$Host;") ∈ lw_all := lw_g (lw_at lw_m16 58 rfl) rfl
theorem q3960 : (Jvm.Cond.fieldLink "LinkedTongueModel" (31 : Nat) "LinkedTongueModel" "spare" "LLinkedTongueModel$Host;") ∈ lw_all := lw_g (lw_at lw_m16 59 rfl) rfl
theorem q3961 : (Jvm.Cond.fieldLink "LinkedTongueModel" (477 : Nat) "LinkedTongueModel" "making" "LLinkedTongueModel$Host;") ∈ lw_all := lw_g (lw_at lw_m16 60 rfl) rfl
theorem q3962 : (Jvm.Cond.fieldLink "LinkedTongueModel" (607 : Nat) "LinkedTongueModel" "names" "I") ∈ lw_all := lw_g (lw_at lw_m16 61 rfl) rfl
theorem q3963 : (Jvm.Cond.fieldLink "LinkedTongueModel" (35 : Nat) "LinkedTongueModel" "nameSigns" "[B") ∈ lw_all := lw_g (lw_at lw_m16 62 rfl) rfl
theorem q3964 : (Jvm.Cond.fieldLink "LinkedTongueModel" (38 : Nat) "LinkedTongueModel" "nameSize" "[I") ∈ lw_all := lw_g (lw_at lw_m16 63 rfl) rfl
theorem q3965 : (Jvm.Cond.fieldLink "LinkedTongueModel" (613 : Nat) "LinkedTongueModel" "sourceTexts" "I") ∈ lw_all := lw_g (lw_at lw_m16 64 rfl) rfl
theorem q3966 : (Jvm.Cond.fieldLink "LinkedTongueModel" (616 : Nat) "LinkedTongueModel" "sourceBytes" "I") ∈ lw_all := lw_g (lw_at lw_m16 65 rfl) rfl
theorem q3967 : (Jvm.Cond.fieldLink "LinkedTongueModel" (43 : Nat) "LinkedTongueModel" "textSigns" "[B") ∈ lw_all := lw_g (lw_at lw_m16 66 rfl) rfl
theorem q3968 : (Jvm.Cond.fieldLink "LinkedTongueModel" (46 : Nat) "LinkedTongueModel" "textFrom" "[I") ∈ lw_all := lw_g (lw_at lw_m16 67 rfl) rfl
theorem q3969 : (Jvm.Cond.fieldLink "LinkedTongueModel" (49 : Nat) "LinkedTongueModel" "textLength" "[I") ∈ lw_all := lw_g (lw_at lw_m16 68 rfl) rfl
theorem q3970 : (Jvm.Cond.fieldLink "LinkedTongueModel" (54 : Nat) "LinkedTongueModel" "parts" "[LLinkedTongueModel$Part;") ∈ lw_all := lw_g (lw_at lw_m16 69 rfl) rfl
theorem q3971 : (Jvm.Cond.fieldLink "LinkedTongueModel" (634 : Nat) "LinkedTongueModel" "partsMade" "I") ∈ lw_all := lw_g (lw_at lw_m16 70 rfl) rfl
theorem q3972 : (Jvm.Cond.fieldLink "LinkedTongueModel" (631 : Nat) "LinkedTongueModel" "partCount" "I") ∈ lw_all := lw_g (lw_at lw_m16 71 rfl) rfl
theorem q3973 : (Jvm.Cond.fieldLink "LinkedTongueModel" (638 : Nat) "LinkedTongueModel" "current" "I") ∈ lw_all := lw_g (lw_at lw_m16 72 rfl) rfl
theorem q3974 : (Jvm.Cond.fieldLink "LinkedTongueModel" (644 : Nat) "LinkedTongueModel" "part" "LLinkedTongueModel$Part;") ∈ lw_all := lw_g (lw_at lw_m16 73 rfl) rfl
theorem q3975 : (Jvm.Cond.fieldLink "LinkedTongueModel" (648 : Nat) "LinkedTongueModel" "depth" "I") ∈ lw_all := lw_g (lw_at lw_m16 74 rfl) rfl
theorem q3976 : (Jvm.Cond.fieldLink "LinkedTongueModel" (63 : Nat) "LinkedTongueModel" "newKind" "LLinkedTongueModel$Ints;") ∈ lw_all := lw_g (lw_at lw_m16 75 rfl) rfl
theorem q3977 : (Jvm.Cond.fieldLink "LinkedTongueModel" (67 : Nat) "LinkedTongueModel" "newName" "LLinkedTongueModel$Ints;") ∈ lw_all := lw_g (lw_at lw_m16 76 rfl) rfl
theorem q3978 : (Jvm.Cond.fieldLink "LinkedTongueModel" (70 : Nat) "LinkedTongueModel" "newMany" "LLinkedTongueModel$Ints;") ∈ lw_all := lw_g (lw_at lw_m16 77 rfl) rfl
theorem q3979 : (Jvm.Cond.fieldLink "LinkedTongueModel" (610 : Nat) "LinkedTongueModel" "units" "I") ∈ lw_all := lw_g (lw_at lw_m16 78 rfl) rfl
theorem q3980 : (Jvm.Cond.fieldLink "LinkedTongueModel" (655 : Nat) "LinkedTongueModel" "functions" "I") ∈ lw_all := lw_g (lw_at lw_m16 79 rfl) rfl
theorem q3981 : (Jvm.Cond.fieldLink "LinkedTongueModel" (73 : Nat) "LinkedTongueModel" "unitOf" "[I") ∈ lw_all := lw_g (lw_at lw_m16 80 rfl) rfl
theorem q3982 : (Jvm.Cond.fieldLink "LinkedTongueModel" (76 : Nat) "LinkedTongueModel" "unitFunction" "[I") ∈ lw_all := lw_g (lw_at lw_m16 81 rfl) rfl
theorem q3983 : (Jvm.Cond.fieldLink "LinkedTongueModel" (79 : Nat) "LinkedTongueModel" "parametersOf" "[I") ∈ lw_all := lw_g (lw_at lw_m16 82 rfl) rfl
theorem q3984 : (Jvm.Cond.fieldLink "LinkedTongueModel" (82 : Nat) "LinkedTongueModel" "variablesOf" "[I") ∈ lw_all := lw_g (lw_at lw_m16 83 rfl) rfl
theorem q3985 : (Jvm.Cond.fieldLink "LinkedTongueModel" (85 : Nat) "LinkedTongueModel" "codeFrom" "[I") ∈ lw_all := lw_g (lw_at lw_m16 84 rfl) rfl
theorem q3986 : (Jvm.Cond.fieldLink "LinkedTongueModel" (88 : Nat) "LinkedTongueModel" "codeSize" "[I") ∈ lw_all := lw_g (lw_at lw_m16 85 rfl) rfl
theorem q3987 : (Jvm.Cond.fieldLink "LinkedTongueModel" (91 : Nat) "LinkedTongueModel" "siteFrom" "[I") ∈ lw_all := lw_g (lw_at lw_m16 86 rfl) rfl
theorem q3988 : (Jvm.Cond.fieldLink "LinkedTongueModel" (94 : Nat) "LinkedTongueModel" "siteCount" "[I") ∈ lw_all := lw_g (lw_at lw_m16 87 rfl) rfl
theorem q3989 : (Jvm.Cond.fieldLink "LinkedTongueModel" (842 : Nat) "LinkedTongueModel" "instructions" "I") ∈ lw_all := lw_g (lw_at lw_m16 88 rfl) rfl
theorem q3990 : (Jvm.Cond.fieldLink "LinkedTongueModel" (97 : Nat) "LinkedTongueModel" "codeOp" "[I") ∈ lw_all := lw_g (lw_at lw_m16 89 rfl) rfl
theorem q3991 : (Jvm.Cond.fieldLink "LinkedTongueModel" (100 : Nat) "LinkedTongueModel" "codeA" "[I") ∈ lw_all := lw_g (lw_at lw_m16 90 rfl) rfl
theorem q3992 : (Jvm.Cond.fieldLink "LinkedTongueModel" (103 : Nat) "LinkedTongueModel" "codeB" "[I") ∈ lw_all := lw_g (lw_at lw_m16 91 rfl) rfl
theorem q3993 : (Jvm.Cond.fieldLink "LinkedTongueModel" (845 : Nat) "LinkedTongueModel" "sites" "I") ∈ lw_all := lw_g (lw_at lw_m16 92 rfl) rfl
theorem q3994 : (Jvm.Cond.fieldLink "LinkedTongueModel" (862 : Nat) "LinkedTongueModel" "descriptors" "I") ∈ lw_all := lw_g (lw_at lw_m16 93 rfl) rfl
theorem q3995 : (Jvm.Cond.fieldLink "LinkedTongueModel" (106 : Nat) "LinkedTongueModel" "siteKind" "[I") ∈ lw_all := lw_g (lw_at lw_m16 94 rfl) rfl
theorem q3996 : (Jvm.Cond.fieldLink "LinkedTongueModel" (109 : Nat) "LinkedTongueModel" "siteName" "[I") ∈ lw_all := lw_g (lw_at lw_m16 95 rfl) rfl
theorem q3997 : (Jvm.Cond.fieldLink "LinkedTongueModel" (112 : Nat) "LinkedTongueModel" "siteMany" "[I") ∈ lw_all := lw_g (lw_at lw_m16 96 rfl) rfl
theorem q3998 : (Jvm.Cond.fieldLink "LinkedTongueModel" (115 : Nat) "LinkedTongueModel" "siteFunction" "[I") ∈ lw_all := lw_g (lw_at lw_m16 97 rfl) rfl
theorem q3999 : (Jvm.Cond.fieldLink "LinkedTongueModel" (118 : Nat) "LinkedTongueModel" "siteAt" "[I") ∈ lw_all := lw_g (lw_at lw_m16 98 rfl) rfl
theorem q4000 : (Jvm.Cond.fieldLink "LinkedTongueModel" (121 : Nat) "LinkedTongueModel" "descriptor" "[I") ∈ lw_all := lw_g (lw_at lw_m16 99 rfl) rfl
theorem q4001 : (Jvm.Cond.fieldLink "LinkedTongueModel" (124 : Nat) "LinkedTongueModel" "links" "[I") ∈ lw_all := lw_g (lw_at lw_m16 100 rfl) rfl
theorem q4002 : (Jvm.Cond.fieldLink "LinkedTongueModel" (127 : Nat) "LinkedTongueModel" "hits" "[I") ∈ lw_all := lw_g (lw_at lw_m16 101 rfl) rfl
theorem q4003 : (Jvm.Cond.fieldLink "LinkedTongueModel" (130 : Nat) "LinkedTongueModel" "pruned" "[I") ∈ lw_all := lw_g (lw_at lw_m16 102 rfl) rfl
theorem q4004 : (Jvm.Cond.fieldLink "LinkedTongueModel" (133 : Nat) "LinkedTongueModel" "isMega" "[Z") ∈ lw_all := lw_g (lw_at lw_m16 103 rfl) rfl
theorem q4005 : (Jvm.Cond.fieldLink "LinkedTongueModel" (651 : Nat) "LinkedTongueModel" "emitted" "I") ∈ lw_all := lw_g (lw_at lw_m16 104 rfl) rfl
theorem q4006 : (Jvm.Cond.fieldLink "LinkedTongueModel" (689 : Nat) "LinkedTongueModel" "lastName" "I") ∈ lw_all := lw_g (lw_at lw_m16 105 rfl) rfl
theorem q4007 : (Jvm.Cond.fieldLink "LinkedTongueModel" (777 : Nat) "LinkedTongueModel" "lastSiteName" "I") ∈ lw_all := lw_g (lw_at lw_m16 106 rfl) rfl
theorem q4008 : (Jvm.Cond.fieldLink "LinkedTongueModel" (910 : Nat) "LinkedTongueModel" "allMade" "I") ∈ lw_all := lw_g (lw_at lw_m16 107 rfl) rfl
theorem q4009 : (Jvm.Cond.fieldLink "LinkedTongueModel" (913 : Nat) "LinkedTongueModel" "allSlots" "I") ∈ lw_all := lw_g (lw_at lw_m16 108 rfl) rfl
theorem q4010 : (Jvm.Cond.fieldLink "LinkedTongueModel" (958 : Nat) "LinkedTongueModel" "allTexts" "I") ∈ lw_all := lw_g (lw_at lw_m16 109 rfl) rfl
theorem q4011 : (Jvm.Cond.fieldLink "LinkedTongueModel" (961 : Nat) "LinkedTongueModel" "allBytes" "I") ∈ lw_all := lw_g (lw_at lw_m16 110 rfl) rfl
theorem q4012 : (Jvm.Cond.fieldLink "LinkedTongueModel" (924 : Nat) "LinkedTongueModel" "allShapes" "I") ∈ lw_all := lw_g (lw_at lw_m16 111 rfl) rfl
theorem q4013 : (Jvm.Cond.fieldLink "LinkedTongueModel" (1030 : Nat) "LinkedTongueModel" "allChoices" "I") ∈ lw_all := lw_g (lw_at lw_m16 112 rfl) rfl
theorem q4014 : (Jvm.Cond.fieldLink "LinkedTongueModel" (870 : Nat) "LinkedTongueModel" "things" "I") ∈ lw_all := lw_g (lw_at lw_m16 113 rfl) rfl
theorem q4015 : (Jvm.Cond.fieldLink "LinkedTongueModel" (873 : Nat) "LinkedTongueModel" "calls" "I") ∈ lw_all := lw_g (lw_at lw_m16 114 rfl) rfl
theorem q4016 : (Jvm.Cond.fieldLink "LinkedTongueModel" (137 : Nat) "LinkedTongueModel" "thingKind" "[I") ∈ lw_all := lw_g (lw_at lw_m16 115 rfl) rfl
theorem q4017 : (Jvm.Cond.fieldLink "LinkedTongueModel" (140 : Nat) "LinkedTongueModel" "thingShape" "[I") ∈ lw_all := lw_g (lw_at lw_m16 116 rfl) rfl
theorem q4018 : (Jvm.Cond.fieldLink "LinkedTongueModel" (143 : Nat) "LinkedTongueModel" "thingFirst" "[I") ∈ lw_all := lw_g (lw_at lw_m16 117 rfl) rfl
theorem q4019 : (Jvm.Cond.fieldLink "LinkedTongueModel" (146 : Nat) "LinkedTongueModel" "thingCount" "[I") ∈ lw_all := lw_g (lw_at lw_m16 118 rfl) rfl
theorem q4020 : (Jvm.Cond.fieldLink "LinkedTongueModel" (149 : Nat) "LinkedTongueModel" "thingLast" "[I") ∈ lw_all := lw_g (lw_at lw_m16 119 rfl) rfl
theorem q4021 : (Jvm.Cond.fieldLink "LinkedTongueModel" (152 : Nat) "LinkedTongueModel" "thingFunction" "[I") ∈ lw_all := lw_g (lw_at lw_m16 120 rfl) rfl
theorem q4022 : (Jvm.Cond.fieldLink "LinkedTongueModel" (155 : Nat) "LinkedTongueModel" "thingAround" "[I") ∈ lw_all := lw_g (lw_at lw_m16 121 rfl) rfl
theorem q4023 : (Jvm.Cond.fieldLink "LinkedTongueModel" (158 : Nat) "LinkedTongueModel" "thingClass" "[I") ∈ lw_all := lw_g (lw_at lw_m16 122 rfl) rfl
theorem q4024 : (Jvm.Cond.fieldLink "LinkedTongueModel" (161 : Nat) "LinkedTongueModel" "isWatched" "[Z") ∈ lw_all := lw_g (lw_at lw_m16 123 rfl) rfl
theorem q4025 : (Jvm.Cond.fieldLink "LinkedTongueModel" (164 : Nat) "LinkedTongueModel" "epoch" "[I") ∈ lw_all := lw_g (lw_at lw_m16 124 rfl) rfl
theorem q4026 : (Jvm.Cond.fieldLink "LinkedTongueModel" (167 : Nat) "LinkedTongueModel" "changedAt" "[I") ∈ lw_all := lw_g (lw_at lw_m16 125 rfl) rfl
theorem q4027 : (Jvm.Cond.fieldLink "LinkedTongueModel" (876 : Nat) "LinkedTongueModel" "changes" "I") ∈ lw_all := lw_g (lw_at lw_m16 126 rfl) rfl
theorem q4028 : (Jvm.Cond.fieldLink "LinkedTongueModel" (879 : Nat) "LinkedTongueModel" "slots" "I") ∈ lw_all := lw_g (lw_at lw_m16 127 rfl) rfl
theorem q4029 : (Jvm.Cond.fieldLink "LinkedTongueModel" (171 : Nat) "LinkedTongueModel" "slotType" "[I") ∈ lw_all := lw_g (lw_at lw_m16 128 rfl) rfl
theorem q4030 : (Jvm.Cond.fieldLink "LinkedTongueModel" (174 : Nat) "LinkedTongueModel" "slotValue" "[J") ∈ lw_all := lw_g (lw_at lw_m16 129 rfl) rfl
theorem q4031 : (Jvm.Cond.fieldLink "LinkedTongueModel" (178 : Nat) "LinkedTongueModel" "slotName" "[I") ∈ lw_all := lw_g (lw_at lw_m16 130 rfl) rfl
theorem q4032 : (Jvm.Cond.fieldLink "LinkedTongueModel" (181 : Nat) "LinkedTongueModel" "slotNext" "[I") ∈ lw_all := lw_g (lw_at lw_m16 131 rfl) rfl
theorem q4033 : (Jvm.Cond.fieldLink "LinkedTongueModel" (882 : Nat) "LinkedTongueModel" "shapes" "I") ∈ lw_all := lw_g (lw_at lw_m16 132 rfl) rfl
theorem q4034 : (Jvm.Cond.fieldLink "LinkedTongueModel" (184 : Nat) "LinkedTongueModel" "shapeProto" "[I") ∈ lw_all := lw_g (lw_at lw_m16 133 rfl) rfl
theorem q4035 : (Jvm.Cond.fieldLink "LinkedTongueModel" (187 : Nat) "LinkedTongueModel" "shapeBefore" "[I") ∈ lw_all := lw_g (lw_at lw_m16 134 rfl) rfl
theorem q4036 : (Jvm.Cond.fieldLink "LinkedTongueModel" (190 : Nat) "LinkedTongueModel" "shapeName" "[I") ∈ lw_all := lw_g (lw_at lw_m16 135 rfl) rfl
theorem q4037 : (Jvm.Cond.fieldLink "LinkedTongueModel" (193 : Nat) "LinkedTongueModel" "shapeCount" "[I") ∈ lw_all := lw_g (lw_at lw_m16 136 rfl) rfl
theorem q4038 : (Jvm.Cond.fieldLink "LinkedTongueModel" (196 : Nat) "LinkedTongueModel" "around" "[I") ∈ lw_all := lw_g (lw_at lw_m16 137 rfl) rfl
theorem q4039 : (Jvm.Cond.fieldLink "LinkedTongueModel" (199 : Nat) "LinkedTongueModel" "variablesFrom" "[I") ∈ lw_all := lw_g (lw_at lw_m16 138 rfl) rfl
theorem q4040 : (Jvm.Cond.fieldLink "LinkedTongueModel" (885 : Nat) "LinkedTongueModel" "variables" "I") ∈ lw_all := lw_g (lw_at lw_m16 139 rfl) rfl
theorem q4041 : (Jvm.Cond.fieldLink "LinkedTongueModel" (202 : Nat) "LinkedTongueModel" "variableTypes" "[I") ∈ lw_all := lw_g (lw_at lw_m16 140 rfl) rfl
theorem q4042 : (Jvm.Cond.fieldLink "LinkedTongueModel" (205 : Nat) "LinkedTongueModel" "variableValue" "[J") ∈ lw_all := lw_g (lw_at lw_m16 141 rfl) rfl
theorem q4043 : (Jvm.Cond.fieldLink "LinkedTongueModel" (208 : Nat) "LinkedTongueModel" "isGlobal" "[Z") ∈ lw_all := lw_g (lw_at lw_m16 142 rfl) rfl
theorem q4044 : (Jvm.Cond.fieldLink "LinkedTongueModel" (211 : Nat) "LinkedTongueModel" "globalType" "[I") ∈ lw_all := lw_g (lw_at lw_m16 143 rfl) rfl
theorem q4045 : (Jvm.Cond.fieldLink "LinkedTongueModel" (214 : Nat) "LinkedTongueModel" "globalValue" "[J") ∈ lw_all := lw_g (lw_at lw_m16 144 rfl) rfl
theorem q4046 : (Jvm.Cond.fieldLink "LinkedTongueModel" (217 : Nat) "LinkedTongueModel" "staticType" "[I") ∈ lw_all := lw_g (lw_at lw_m16 145 rfl) rfl
theorem q4047 : (Jvm.Cond.fieldLink "LinkedTongueModel" (220 : Nat) "LinkedTongueModel" "staticValue" "[J") ∈ lw_all := lw_g (lw_at lw_m16 146 rfl) rfl
theorem q4048 : (Jvm.Cond.fieldLink "LinkedTongueModel" (886 : Nat) "LinkedTongueModel" "madeTexts" "I") ∈ lw_all := lw_g (lw_at lw_m16 147 rfl) rfl
theorem q4049 : (Jvm.Cond.fieldLink "LinkedTongueModel" (889 : Nat) "LinkedTongueModel" "madeBytes" "I") ∈ lw_all := lw_g (lw_at lw_m16 148 rfl) rfl
theorem q4050 : (Jvm.Cond.fieldLink "LinkedTongueModel" (892 : Nat) "LinkedTongueModel" "shown" "I") ∈ lw_all := lw_g (lw_at lw_m16 149 rfl) rfl
theorem q4051 : (Jvm.Cond.fieldLink "LinkedTongueModel" (224 : Nat) "LinkedTongueModel" "output" "[B") ∈ lw_all := lw_g (lw_at lw_m16 150 rfl) rfl
theorem q4052 : (Jvm.Cond.fieldLink "LinkedTongueModel" (895 : Nat) "LinkedTongueModel" "traced" "I") ∈ lw_all := lw_g (lw_at lw_m16 151 rfl) rfl
theorem q4053 : (Jvm.Cond.fieldLink "LinkedTongueModel" (228 : Nat) "LinkedTongueModel" "trace" "[I") ∈ lw_all := lw_g (lw_at lw_m16 152 rfl) rfl
theorem q4054 : (Jvm.Cond.fieldLink "LinkedTongueModel" (898 : Nat) "LinkedTongueModel" "wrong" "I") ∈ lw_all := lw_g (lw_at lw_m16 153 rfl) rfl
theorem q4055 : (Jvm.Cond.fieldLink "LinkedTongueModel" (231 : Nat) "LinkedTongueModel" "asked" "[I") ∈ lw_all := lw_g (lw_at lw_m16 154 rfl) rfl
theorem q4056 : (Jvm.Cond.fieldLink "LinkedTongueModel" (865 : Nat) "LinkedTongueModel" "type" "I") ∈ lw_all := lw_g (lw_at lw_m16 155 rfl) rfl
theorem q4057 : (Jvm.Cond.fieldLink "LinkedTongueModel" (867 : Nat) "LinkedTongueModel" "value" "J") ∈ lw_all := lw_g (lw_at lw_m16 156 rfl) rfl
theorem q4058 : (Jvm.Cond.fieldLink "LinkedTongueModel" (234 : Nat) "LinkedTongueModel" "spelt" "[B") ∈ lw_all := lw_g (lw_at lw_m16 157 rfl) rfl
theorem q4059 : (Jvm.Cond.fieldLink "LinkedTongueModel" (933 : Nat) "LinkedTongueModel" "spelling" "I") ∈ lw_all := lw_g (lw_at lw_m16 158 rfl) rfl
theorem q4060 : (Jvm.Cond.fieldLink "LinkedTongueModel" (901 : Nat) "LinkedTongueModel" "choices" "I") ∈ lw_all := lw_g (lw_at lw_m16 159 rfl) rfl
theorem q4061 : (Jvm.Cond.fieldLink "LinkedTongueModel" (904 : Nat) "LinkedTongueModel" "workedOut" "I") ∈ lw_all := lw_g (lw_at lw_m16 160 rfl) rfl
theorem q4062 : (Jvm.Cond.fieldLink "LinkedTongueModel" (237 : Nat) "LinkedTongueModel" "choiceClass" "[I") ∈ lw_all := lw_g (lw_at lw_m16 161 rfl) rfl
theorem q4063 : (Jvm.Cond.fieldLink "LinkedTongueModel" (240 : Nat) "LinkedTongueModel" "choiceMode" "[I") ∈ lw_all := lw_g (lw_at lw_m16 162 rfl) rfl
theorem q4064 : (Jvm.Cond.fieldLink "LinkedTongueModel" (243 : Nat) "LinkedTongueModel" "choiceName" "[I") ∈ lw_all := lw_g (lw_at lw_m16 163 rfl) rfl
theorem q4065 : (Jvm.Cond.fieldLink "LinkedTongueModel" (246 : Nat) "LinkedTongueModel" "choiceMany" "[I") ∈ lw_all := lw_g (lw_at lw_m16 164 rfl) rfl
theorem q4066 : (Jvm.Cond.fieldLink "LinkedTongueModel" (249 : Nat) "LinkedTongueModel" "choiceTypes" "[I") ∈ lw_all := lw_g (lw_at lw_m16 165 rfl) rfl
theorem q4067 : (Jvm.Cond.fieldLink "LinkedTongueModel" (252 : Nat) "LinkedTongueModel" "choiceFound" "[I") ∈ lw_all := lw_g (lw_at lw_m16 166 rfl) rfl
theorem q4068 : (Jvm.Cond.fieldLink "LinkedTongueModel" (1007 : Nat) "LinkedTongueModel" "many" "I") ∈ lw_all := lw_g (lw_at lw_m16 167 rfl) rfl
theorem q4069 : (Jvm.Cond.fieldLink "LinkedTongueModel" (255 : Nat) "LinkedTongueModel" "types" "[I") ∈ lw_all := lw_g (lw_at lw_m16 168 rfl) rfl
theorem q4070 : (Jvm.Cond.fieldLink "LinkedTongueModel" (983 : Nat) "LinkedTongueModel" "ordered" "I") ∈ lw_all := lw_g (lw_at lw_m16 169 rfl) rfl
theorem q4071 : (Jvm.Cond.fieldLink "LinkedTongueModel" (258 : Nat) "LinkedTongueModel" "order" "[I") ∈ lw_all := lw_g (lw_at lw_m16 170 rfl) rfl
theorem q4072 : (Jvm.Cond.fieldLink "LinkedTongueModel" (992 : Nat) "LinkedTongueModel" "wantSize" "I") ∈ lw_all := lw_g (lw_at lw_m16 171 rfl) rfl
theorem q4073 : (Jvm.Cond.fieldLink "LinkedTongueModel" (261 : Nat) "LinkedTongueModel" "want" "[B") ∈ lw_all := lw_g (lw_at lw_m16 172 rfl) rfl
theorem q4074 : (Jvm.Cond.fieldLink "LinkedTongueModel" (998 : Nat) "LinkedTongueModel" "candidates" "I") ∈ lw_all := lw_g (lw_at lw_m16 173 rfl) rfl
theorem q4075 : (Jvm.Cond.fieldLink "LinkedTongueModel" (264 : Nat) "LinkedTongueModel" "candidate" "[I") ∈ lw_all := lw_g (lw_at lw_m16 174 rfl) rfl
theorem q4076 : (Jvm.Cond.fieldLink "LinkedTongueModel" (1033 : Nat) "LinkedTongueModel" "fields" "I") ∈ lw_all := lw_g (lw_at lw_m16 175 rfl) rfl
theorem q4077 : (Jvm.Cond.fieldLink "LinkedTongueModel" (267 : Nat) "LinkedTongueModel" "fieldOf" "[I") ∈ lw_all := lw_g (lw_at lw_m16 176 rfl) rfl
theorem q4078 : (Jvm.Cond.fieldLink "LinkedTongueModel" (270 : Nat) "LinkedTongueModel" "state" "[I") ∈ lw_all := lw_g (lw_at lw_m16 177 rfl) rfl
theorem q4079 : (Jvm.Cond.fieldLink "LinkedTongueModel" (273 : Nat) "LinkedTongueModel" "frames" "[I") ∈ lw_all := lw_g (lw_at lw_m16 178 rfl) rfl
theorem q4080 : (Jvm.Cond.fieldLink "LinkedTongueModel" (276 : Nat) "LinkedTongueModel" "height" "[I") ∈ lw_all := lw_g (lw_at lw_m16 179 rfl) rfl
theorem q4081 : (Jvm.Cond.fieldLink "LinkedTongueModel" (279 : Nat) "LinkedTongueModel" "tries" "[I") ∈ lw_all := lw_g (lw_at lw_m16 180 rfl) rfl
theorem q4082 : (Jvm.Cond.fieldLink "LinkedTongueModel" (282 : Nat) "LinkedTongueModel" "resultType" "[I") ∈ lw_all := lw_g (lw_at lw_m16 181 rfl) rfl
theorem q4083 : (Jvm.Cond.fieldLink "LinkedTongueModel" (285 : Nat) "LinkedTongueModel" "resultValue" "[J") ∈ lw_all := lw_g (lw_at lw_m16 182 rfl) rfl
theorem q4084 : (Jvm.Cond.fieldLink "LinkedTongueModel" (288 : Nat) "LinkedTongueModel" "pileType" "[I") ∈ lw_all := lw_g (lw_at lw_m16 183 rfl) rfl
theorem q4085 : (Jvm.Cond.fieldLink "LinkedTongueModel" (291 : Nat) "LinkedTongueModel" "pileValue" "[J") ∈ lw_all := lw_g (lw_at lw_m16 184 rfl) rfl
theorem q4086 : (Jvm.Cond.fieldLink "LinkedTongueModel" (294 : Nat) "LinkedTongueModel" "frameFunction" "[I") ∈ lw_all := lw_g (lw_at lw_m16 185 rfl) rfl
theorem q4087 : (Jvm.Cond.fieldLink "LinkedTongueModel" (297 : Nat) "LinkedTongueModel" "frameAt" "[I") ∈ lw_all := lw_g (lw_at lw_m16 186 rfl) rfl
theorem q4088 : (Jvm.Cond.fieldLink "LinkedTongueModel" (300 : Nat) "LinkedTongueModel" "frameAround" "[I") ∈ lw_all := lw_g (lw_at lw_m16 187 rfl) rfl
theorem q4089 : (Jvm.Cond.fieldLink "LinkedTongueModel" (303 : Nat) "LinkedTongueModel" "thisType" "[I") ∈ lw_all := lw_g (lw_at lw_m16 188 rfl) rfl
theorem q4090 : (Jvm.Cond.fieldLink "LinkedTongueModel" (306 : Nat) "LinkedTongueModel" "thisValue" "[J") ∈ lw_all := lw_g (lw_at lw_m16 189 rfl) rfl
theorem q4091 : (Jvm.Cond.fieldLink "LinkedTongueModel" (309 : Nat) "LinkedTongueModel" "frameNew" "[I") ∈ lw_all := lw_g (lw_at lw_m16 190 rfl) rfl
theorem q4092 : (Jvm.Cond.fieldLink "LinkedTongueModel" (312 : Nat) "LinkedTongueModel" "frameBase" "[I") ∈ lw_all := lw_g (lw_at lw_m16 191 rfl) rfl
theorem q4093 : (Jvm.Cond.fieldLink "LinkedTongueModel" (315 : Nat) "LinkedTongueModel" "frameTries" "[I") ∈ lw_all := lw_g (lw_at lw_m16 192 rfl) rfl
theorem q4094 : (Jvm.Cond.fieldLink "LinkedTongueModel" (318 : Nat) "LinkedTongueModel" "tryAt" "[I") ∈ lw_all := lw_g (lw_at lw_m16 193 rfl) rfl
theorem q4095 : (Jvm.Cond.fieldLink "LinkedTongueModel" (321 : Nat) "LinkedTongueModel" "tryHeight" "[I") ∈ lw_all := lw_g (lw_at lw_m16 194 rfl) rfl
theorem q4096 : (Jvm.Cond.fieldLink "LinkedTongueModel" (324 : Nat) "LinkedTongueModel" "tryFrame" "[I") ∈ lw_all := lw_g (lw_at lw_m16 195 rfl) rfl
theorem q4097 : (Jvm.Cond.fieldLink "LinkedTongueModel" (1039 : Nat) "LinkedTongueModel" "t" "I") ∈ lw_all := lw_g (lw_at lw_m16 196 rfl) rfl
theorem q4098 : (Jvm.Cond.fieldLink "LinkedTongueModel" (1042 : Nat) "LinkedTongueModel" "p0" "I") ∈ lw_all := lw_g (lw_at lw_m16 197 rfl) rfl
theorem q4099 : (Jvm.Cond.fieldLink "LinkedTongueModel" (1045 : Nat) "LinkedTongueModel" "f0" "I") ∈ lw_all := lw_g (lw_at lw_m16 198 rfl) rfl
theorem q4100 : (Jvm.Cond.fieldLink "LinkedTongueModel" (1048 : Nat) "LinkedTongueModel" "top" "I") ∈ lw_all := lw_g (lw_at lw_m16 199 rfl) rfl
theorem q4101 : (Jvm.Cond.fieldLink "LinkedTongueModel" (1089 : Nat) "LinkedTongueModel" "after" "I") ∈ lw_all := lw_g (lw_at lw_m16 200 rfl) rfl
theorem q4102 : (Jvm.Cond.fieldLink "LinkedTongueModel" (327 : Nat) "LinkedTongueModel" "entries" "[I") ∈ lw_all := lw_g (lw_at lw_m16 201 rfl) rfl
theorem q4103 : (Jvm.Cond.fieldLink "LinkedTongueModel" (330 : Nat) "LinkedTongueModel" "linker" "[I") ∈ lw_all := lw_g (lw_at lw_m16 202 rfl) rfl
theorem q4104 : (Jvm.Cond.fieldLink "LinkedTongueModel" (333 : Nat) "LinkedTongueModel" "guard" "[I") ∈ lw_all := lw_g (lw_at lw_m16 203 rfl) rfl
theorem q4105 : (Jvm.Cond.fieldLink "LinkedTongueModel" (336 : Nat) "LinkedTongueModel" "guardName" "[I") ∈ lw_all := lw_g (lw_at lw_m16 204 rfl) rfl
theorem q4106 : (Jvm.Cond.fieldLink "LinkedTongueModel" (339 : Nat) "LinkedTongueModel" "holder" "[I") ∈ lw_all := lw_g (lw_at lw_m16 205 rfl) rfl
theorem q4107 : (Jvm.Cond.fieldLink "LinkedTongueModel" (342 : Nat) "LinkedTongueModel" "which" "[I") ∈ lw_all := lw_g (lw_at lw_m16 206 rfl) rfl
theorem q4108 : (Jvm.Cond.fieldLink "LinkedTongueModel" (345 : Nat) "LinkedTongueModel" "toShape" "[I") ∈ lw_all := lw_g (lw_at lw_m16 207 rfl) rfl
theorem q4109 : (Jvm.Cond.fieldLink "LinkedTongueModel" (348 : Nat) "LinkedTongueModel" "linkedAt" "[I") ∈ lw_all := lw_g (lw_at lw_m16 208 rfl) rfl
theorem q4110 : (Jvm.Cond.fieldLink "LinkedTongueModel" (351 : Nat) "LinkedTongueModel" "guardMany" "[I") ∈ lw_all := lw_g (lw_at lw_m16 209 rfl) rfl
theorem q4111 : (Jvm.Cond.fieldLink "LinkedTongueModel" (354 : Nat) "LinkedTongueModel" "guardTypes" "[J") ∈ lw_all := lw_g (lw_at lw_m16 210 rfl) rfl
theorem q4112 : (Jvm.Cond.fieldLink "LinkedTongueModel" (1272 : Nat) "LinkedTongueModel" "foundLinker" "I") ∈ lw_all := lw_g (lw_at lw_m16 211 rfl) rfl
theorem q4113 : (Jvm.Cond.fieldLink "LinkedTongueModel" (1275 : Nat) "LinkedTongueModel" "foundGuard" "I") ∈ lw_all := lw_g (lw_at lw_m16 212 rfl) rfl
theorem q4114 : (Jvm.Cond.fieldLink "LinkedTongueModel" (1263 : Nat) "LinkedTongueModel" "foundHolder" "I") ∈ lw_all := lw_g (lw_at lw_m16 213 rfl) rfl
theorem q4115 : (Jvm.Cond.fieldLink "LinkedTongueModel" (1266 : Nat) "LinkedTongueModel" "foundWhich" "I") ∈ lw_all := lw_g (lw_at lw_m16 214 rfl) rfl
theorem q4116 : (Jvm.Cond.fieldLink "LinkedTongueModel" (1269 : Nat) "LinkedTongueModel" "foundShape" "I") ∈ lw_all := lw_g (lw_at lw_m16 215 rfl) rfl
theorem q4117 : (Jvm.Cond.fieldLink "LinkedTongueModel" (1278 : Nat) "LinkedTongueModel" "foundMany" "I") ∈ lw_all := lw_g (lw_at lw_m16 216 rfl) rfl
