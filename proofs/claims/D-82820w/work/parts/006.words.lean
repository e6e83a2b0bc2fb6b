set_option maxRecDepth 100000
theorem q3059 : (Jvm.Cond.sameField "LinkedTongue$Obj" "LinkedTongue$Thing" "size" "I") ∈ lw_all := lw_g (lw_at lw_m12 118 rfl) rfl
theorem q3069 : (Jvm.Cond.soleField "LinkedTongue$Obj" "shape") ∈ lw_all := lw_g (lw_at lw_m12 128 rfl) rfl
theorem q3071 : (Jvm.Cond.soleField "LinkedTongue$Obj" "root") ∈ lw_all := lw_g (lw_at lw_m12 130 rfl) rfl
theorem q3073 : (Jvm.Cond.soleField "LinkedTongue$Obj" "epoch") ∈ lw_all := lw_g (lw_at lw_m12 132 rfl) rfl
theorem q3075 : (Jvm.Cond.soleField "LinkedTongue$Obj" "changedAt") ∈ lw_all := lw_g (lw_at lw_m12 134 rfl) rfl
theorem q3112 : (Jvm.Cond.instantiable "LinkedTongue$Obj" (8 : Nat)) ∈ lw_all := lw_g (lw_at lw_m12 171 rfl) rfl
theorem q3114 : (Jvm.Cond.lays "LinkedTongue$Obj" "LinkedTongue$Obj" "shape" "LLinkedTongue$Shape;") ∈ lw_all := lw_g (lw_at lw_m12 173 rfl) rfl
theorem q3115 : (Jvm.Cond.lays "LinkedTongue$Obj" "LinkedTongue$Obj" "root" "LLinkedTongue$Shape;") ∈ lw_all := lw_g (lw_at lw_m12 174 rfl) rfl
theorem q3116 : (Jvm.Cond.lays "LinkedTongue$Obj" "LinkedTongue$Obj" "epoch" "I") ∈ lw_all := lw_g (lw_at lw_m12 175 rfl) rfl
theorem q3117 : (Jvm.Cond.lays "LinkedTongue$Obj" "LinkedTongue$Obj" "changedAt" "I") ∈ lw_all := lw_g (lw_at lw_m12 176 rfl) rfl
theorem q3118 : (Jvm.Cond.laysFinal "LinkedTongue$Obj" "LinkedTongue$Thing" "number" "I") ∈ lw_all := lw_g (lw_at lw_m12 177 rfl) rfl
theorem q3119 : (Jvm.Cond.lays "LinkedTongue$Obj" "LinkedTongue$Thing" "words" "[J") ∈ lw_all := lw_g (lw_at lw_m12 178 rfl) rfl
theorem q3120 : (Jvm.Cond.lays "LinkedTongue$Obj" "LinkedTongue$Thing" "tags" "[B") ∈ lw_all := lw_g (lw_at lw_m12 179 rfl) rfl
theorem q3121 : (Jvm.Cond.lays "LinkedTongue$Obj" "LinkedTongue$Thing" "size" "I") ∈ lw_all := lw_g (lw_at lw_m12 180 rfl) rfl
theorem q3122 : (Jvm.Cond.superclass "LinkedTongue$Obj" "LinkedTongue$Thing") ∈ lw_all := lw_g (lw_at lw_m12 181 rfl) rfl
theorem q3420 : (Jvm.Cond.sameMethod "LinkedTongue$Obj" "LinkedTongue$Thing" "set" "(IBJ)V") ∈ lw_all := lw_g (lw_at lw_m13 239 rfl) rfl
theorem q3423 : (Jvm.Cond.selects "LinkedTongue$Obj" ({ cls := "LinkedTongue$Obj", name := "set", desc := "(IBJ)V" } : Jvm.MethodName) ({ cls := "LinkedTongue$Thing", name := "set", desc := "(IBJ)V" } : Jvm.MethodName)) ∈ lw_all := lw_g (lw_at lw_m14 2 rfl) rfl
theorem q3432 : (Jvm.Cond.sameMethod "LinkedTongue$Obj" "LinkedTongue$Thing" "add" "(BJ)V") ∈ lw_all := lw_g (lw_at lw_m14 11 rfl) rfl
theorem q3434 : (Jvm.Cond.selects "LinkedTongue$Obj" ({ cls := "LinkedTongue$Obj", name := "add", desc := "(BJ)V" } : Jvm.MethodName) ({ cls := "LinkedTongue$Thing", name := "add", desc := "(BJ)V" } : Jvm.MethodName)) ∈ lw_all := lw_g (lw_at lw_m14 13 rfl) rfl
theorem q5467 : (Jvm.Cond.selects "LinkedTongue$Obj" ({ cls := "LinkedTongue$Thing", name := "set", desc := "(IBJ)V" } : Jvm.MethodName) ({ cls := "LinkedTongue$Thing", name := "set", desc := "(IBJ)V" } : Jvm.MethodName)) ∈ lw_all := lw_g (lw_at lw_m22 126 rfl) rfl
theorem q5469 : (Jvm.Cond.sameMethod "LinkedTongue$Obj" "LinkedTongue$Obj" "tag" "()B") ∈ lw_all := lw_g (lw_at lw_m22 128 rfl) rfl
theorem q5471 : (Jvm.Cond.selects "LinkedTongue$Obj" ({ cls := "LinkedTongue$Obj", name := "tag", desc := "()B" } : Jvm.MethodName) ({ cls := "LinkedTongue$Obj", name := "tag", desc := "()B" } : Jvm.MethodName)) ∈ lw_all := lw_g (lw_at lw_m22 130 rfl) rfl
theorem q5500 : (Jvm.Cond.castable "LinkedTongue$Obj" "LinkedTongue$Thing") ∈ lw_tbl := lw_at lw_m22 159 rfl
theorem q5503 : (Jvm.Cond.castable "LinkedTongue$Obj" "LinkedTongue$Obj") ∈ lw_tbl := lw_at lw_m22 162 rfl
theorem q5562 : (Jvm.Cond.castable "LinkedTongue$Obj" "java/lang/Object") ∈ lw_tbl := lw_at lw_m22 221 rfl
theorem q369 : (Jvm.Cond.initialized "LinkedTongue$Fun") ∈ lw_all := lw_g (lw_at lw_m1 68 rfl) rfl
theorem q1072 : (Jvm.Cond.selects "LinkedTongue$Fun" ({ cls := "java/lang/Object", name := "getClass", desc := "()Ljava/lang/Class;" } : Jvm.MethodName) ({ cls := "java/lang/Object", name := "getClass", desc := "()Ljava/lang/Class;" } : Jvm.MethodName)) ∈ lw_all := lw_g (lw_at lw_m4 51 rfl) rfl
theorem q2849 : (Jvm.Cond.selects "LinkedTongue$Fun" ({ cls := "LinkedTongue$Thing", name := "tag", desc := "()B" } : Jvm.MethodName) ({ cls := "LinkedTongue$Fun", name := "tag", desc := "()B" } : Jvm.MethodName)) ∈ lw_all := lw_g (lw_at lw_m11 148 rfl) rfl
theorem q2850 : (Jvm.Cond.instanceMethod ({ cls := "LinkedTongue$Fun", name := "tag", desc := "()B" } : Jvm.MethodName)) ∈ lw_all := lw_g (lw_at lw_m11 149 rfl) rfl
theorem q2851 : (Jvm.Cond.code ({ cls := "LinkedTongue$Fun", name := "tag", desc := "()B" } : Jvm.MethodName) prog_13_method_2_code (1 : Nat) (Option.some Jvm.ClassFile.FieldType.byte)) ∈ lw_all := lw_g (lw_at lw_m11 150 rfl) rfl
theorem q3000 : (Jvm.Cond.instantiable "LinkedTongue$Fun" (10 : Nat)) ∈ lw_all := lw_g (lw_at lw_m12 59 rfl) rfl
theorem q3003 : (Jvm.Cond.instanceMethod ({ cls := "LinkedTongue$Fun", name := "<init>", desc := "(ILLinkedTongue$Shape;LLinkedTongue$Code;LLinkedTongue$Variables;)V" } : Jvm.MethodName)) ∈ lw_all := lw_g (lw_at lw_m12 62 rfl) rfl
theorem q3004 : (Jvm.Cond.code ({ cls := "LinkedTongue$Fun", name := "<init>", desc := "(ILLinkedTongue$Shape;LLinkedTongue$Code;LLinkedTongue$Variables;)V" } : Jvm.MethodName) prog_13_method_1_code (5 : Nat) (Option.none : Option Jvm.ClassFile.FieldType)) ∈ lw_all := lw_g (lw_at lw_m12 63 rfl) rfl
theorem q3005 : (Jvm.Cond.methodLink "LinkedTongue$Fun" (3 : Nat) ({ cls := "LinkedTongue$Obj", name := "<init>", desc := "(ILLinkedTongue$Shape;)V" } : Jvm.MethodName)) ∈ lw_all := lw_g (lw_at lw_m12 64 rfl) rfl
theorem q3012 : (Jvm.Cond.fieldLink "LinkedTongue$Fun" (9 : Nat) "LinkedTongue$Fun" "code" "LLinkedTongue$Code;") ∈ lw_all := lw_g (lw_at lw_m12 71 rfl) rfl
theorem q3015 : (Jvm.Cond.fieldLink "LinkedTongue$Fun" (15 : Nat) "LinkedTongue$Fun" "around" "LLinkedTongue$Variables;") ∈ lw_all := lw_g (lw_at lw_m12 74 rfl) rfl
theorem q3034 : (Jvm.Cond.sameField "LinkedTongue$Fun" "LinkedTongue$Thing" "number" "I") ∈ lw_all := lw_g (lw_at lw_m12 93 rfl) rfl
theorem q3064 : (Jvm.Cond.laysFinal "LinkedTongue$Fun" "LinkedTongue$Fun" "code" "LLinkedTongue$Code;") ∈ lw_all := lw_g (lw_at lw_m12 123 rfl) rfl
theorem q3065 : (Jvm.Cond.soleField "LinkedTongue$Fun" "code") ∈ lw_all := lw_g (lw_at lw_m12 124 rfl) rfl
theorem q3066 : (Jvm.Cond.laysFinal "LinkedTongue$Fun" "LinkedTongue$Fun" "around" "LLinkedTongue$Variables;") ∈ lw_all := lw_g (lw_at lw_m12 125 rfl) rfl
theorem q3067 : (Jvm.Cond.soleField "LinkedTongue$Fun" "around") ∈ lw_all := lw_g (lw_at lw_m12 126 rfl) rfl
theorem q3068 : (Jvm.Cond.lays "LinkedTongue$Fun" "LinkedTongue$Obj" "shape" "LLinkedTongue$Shape;") ∈ lw_all := lw_g (lw_at lw_m12 127 rfl) rfl
theorem q3070 : (Jvm.Cond.lays "LinkedTongue$Fun" "LinkedTongue$Obj" "root" "LLinkedTongue$Shape;") ∈ lw_all := lw_g (lw_at lw_m12 129 rfl) rfl
theorem q3072 : (Jvm.Cond.lays "LinkedTongue$Fun" "LinkedTongue$Obj" "epoch" "I") ∈ lw_all := lw_g (lw_at lw_m12 131 rfl) rfl
theorem q3074 : (Jvm.Cond.lays "LinkedTongue$Fun" "LinkedTongue$Obj" "changedAt" "I") ∈ lw_all := lw_g (lw_at lw_m12 133 rfl) rfl
theorem q3076 : (Jvm.Cond.laysFinal "LinkedTongue$Fun" "LinkedTongue$Thing" "number" "I") ∈ lw_all := lw_g (lw_at lw_m12 135 rfl) rfl
theorem q3078 : (Jvm.Cond.lays "LinkedTongue$Fun" "LinkedTongue$Thing" "words" "[J") ∈ lw_all := lw_g (lw_at lw_m12 137 rfl) rfl
theorem q3080 : (Jvm.Cond.lays "LinkedTongue$Fun" "LinkedTongue$Thing" "tags" "[B") ∈ lw_all := lw_g (lw_at lw_m12 139 rfl) rfl
theorem q3082 : (Jvm.Cond.lays "LinkedTongue$Fun" "LinkedTongue$Thing" "size" "I") ∈ lw_all := lw_g (lw_at lw_m12 141 rfl) rfl
theorem q3084 : (Jvm.Cond.superclass "LinkedTongue$Fun" "LinkedTongue$Obj") ∈ lw_all := lw_g (lw_at lw_m12 143 rfl) rfl
theorem q3422 : (Jvm.Cond.selects "LinkedTongue$Fun" ({ cls := "LinkedTongue$Obj", name := "set", desc := "(IBJ)V" } : Jvm.MethodName) ({ cls := "LinkedTongue$Thing", name := "set", desc := "(IBJ)V" } : Jvm.MethodName)) ∈ lw_all := lw_g (lw_at lw_m14 1 rfl) rfl
theorem q3433 : (Jvm.Cond.selects "LinkedTongue$Fun" ({ cls := "LinkedTongue$Obj", name := "add", desc := "(BJ)V" } : Jvm.MethodName) ({ cls := "LinkedTongue$Thing", name := "add", desc := "(BJ)V" } : Jvm.MethodName)) ∈ lw_all := lw_g (lw_at lw_m14 12 rfl) rfl
theorem q5465 : (Jvm.Cond.selects "LinkedTongue$Fun" ({ cls := "LinkedTongue$Thing", name := "set", desc := "(IBJ)V" } : Jvm.MethodName) ({ cls := "LinkedTongue$Thing", name := "set", desc := "(IBJ)V" } : Jvm.MethodName)) ∈ lw_all := lw_g (lw_at lw_m22 124 rfl) rfl
theorem q5470 : (Jvm.Cond.selects "LinkedTongue$Fun" ({ cls := "LinkedTongue$Obj", name := "tag", desc := "()B" } : Jvm.MethodName) ({ cls := "LinkedTongue$Fun", name := "tag", desc := "()B" } : Jvm.MethodName)) ∈ lw_all := lw_g (lw_at lw_m22 129 rfl) rfl
theorem q5498 : (Jvm.Cond.castable "LinkedTongue$Fun" "LinkedTongue$Thing") ∈ lw_tbl := lw_at lw_m22 157 rfl
theorem q5502 : (Jvm.Cond.castable "LinkedTongue$Fun" "LinkedTongue$Obj") ∈ lw_tbl := lw_at lw_m22 161 rfl
theorem q5505 : (Jvm.Cond.castable "LinkedTongue$Fun" "LinkedTongue$Fun") ∈ lw_tbl := lw_at lw_m22 164 rfl
theorem q5560 : (Jvm.Cond.castable "LinkedTongue$Fun" "java/lang/Object") ∈ lw_tbl := lw_at lw_m22 219 rfl
theorem q370 : (Jvm.Cond.initialized "LinkedTongue$Row") ∈ lw_all := lw_g (lw_at lw_m1 69 rfl) rfl
theorem q1088 : (Jvm.Cond.selects "LinkedTongue$Row" ({ cls := "java/lang/Object", name := "getClass", desc := "()Ljava/lang/Class;" } : Jvm.MethodName) ({ cls := "java/lang/Object", name := "getClass", desc := "()Ljava/lang/Class;" } : Jvm.MethodName)) ∈ lw_all := lw_g (lw_at lw_m4 67 rfl) rfl
theorem q2858 : (Jvm.Cond.selects "LinkedTongue$Row" ({ cls := "LinkedTongue$Thing", name := "tag", desc := "()B" } : Jvm.MethodName) ({ cls := "LinkedTongue$Row", name := "tag", desc := "()B" } : Jvm.MethodName)) ∈ lw_all := lw_g (lw_at lw_m11 157 rfl) rfl
theorem q2859 : (Jvm.Cond.instanceMethod ({ cls := "LinkedTongue$Row", name := "tag", desc := "()B" } : Jvm.MethodName)) ∈ lw_all := lw_g (lw_at lw_m11 158 rfl) rfl
theorem q2860 : (Jvm.Cond.code ({ cls := "LinkedTongue$Row", name := "tag", desc := "()B" } : Jvm.MethodName) prog_30_method_2_code (1 : Nat) (Option.some Jvm.ClassFile.FieldType.byte)) ∈ lw_all := lw_g (lw_at lw_m11 159 rfl) rfl
theorem q3037 : (Jvm.Cond.sameField "LinkedTongue$Row" "LinkedTongue$Thing" "number" "I") ∈ lw_all := lw_g (lw_at lw_m12 96 rfl) rfl
theorem q3047 : (Jvm.Cond.sameField "LinkedTongue$Row" "LinkedTongue$Thing" "words" "[J") ∈ lw_all := lw_g (lw_at lw_m12 106 rfl) rfl
theorem q3055 : (Jvm.Cond.sameField "LinkedTongue$Row" "LinkedTongue$Thing" "tags" "[B") ∈ lw_all := lw_g (lw_at lw_m12 114 rfl) rfl
theorem q3063 : (Jvm.Cond.sameField "LinkedTongue$Row" "LinkedTongue$Thing" "size" "I") ∈ lw_all := lw_g (lw_at lw_m12 122 rfl) rfl
theorem q3094 : (Jvm.Cond.instantiable "LinkedTongue$Row" (4 : Nat)) ∈ lw_all := lw_g (lw_at lw_m12 153 rfl) rfl
theorem q3096 : (Jvm.Cond.instanceMethod ({ cls := "LinkedTongue$Row", name := "<init>", desc := "(II)V" } : Jvm.MethodName)) ∈ lw_all := lw_g (lw_at lw_m12 155 rfl) rfl
theorem q3097 : (Jvm.Cond.code ({ cls := "LinkedTongue$Row", name := "<init>", desc := "(II)V" } : Jvm.MethodName) prog_30_method_1_code (3 : Nat) (Option.none : Option Jvm.ClassFile.FieldType)) ∈ lw_all := lw_g (lw_at lw_m12 156 rfl) rfl
theorem q3098 : (Jvm.Cond.methodLink "LinkedTongue$Row" (3 : Nat) ({ cls := "LinkedTongue$Thing", name := "<init>", desc := "(II)V" } : Jvm.MethodName)) ∈ lw_all := lw_g (lw_at lw_m12 157 rfl) rfl
theorem q3099 : (Jvm.Cond.laysFinal "LinkedTongue$Row" "LinkedTongue$Thing" "number" "I") ∈ lw_all := lw_g (lw_at lw_m12 158 rfl) rfl
theorem q3100 : (Jvm.Cond.lays "LinkedTongue$Row" "LinkedTongue$Thing" "words" "[J") ∈ lw_all := lw_g (lw_at lw_m12 159 rfl) rfl
theorem q3101 : (Jvm.Cond.lays "LinkedTongue$Row" "LinkedTongue$Thing" "tags" "[B") ∈ lw_all := lw_g (lw_at lw_m12 160 rfl) rfl
theorem q3102 : (Jvm.Cond.lays "LinkedTongue$Row" "LinkedTongue$Thing" "size" "I") ∈ lw_all := lw_g (lw_at lw_m12 161 rfl) rfl
theorem q3103 : (Jvm.Cond.superclass "LinkedTongue$Row" "LinkedTongue$Thing") ∈ lw_all := lw_g (lw_at lw_m12 162 rfl) rfl
theorem q3105 : (Jvm.Cond.sameMethod "LinkedTongue$Row" "LinkedTongue$Thing" "add" "(BJ)V") ∈ lw_all := lw_g (lw_at lw_m12 164 rfl) rfl
theorem q3107 : (Jvm.Cond.selects "LinkedTongue$Row" ({ cls := "LinkedTongue$Row", name := "add", desc := "(BJ)V" } : Jvm.MethodName) ({ cls := "LinkedTongue$Thing", name := "add", desc := "(BJ)V" } : Jvm.MethodName)) ∈ lw_all := lw_g (lw_at lw_m12 166 rfl) rfl
theorem q3615 : (Jvm.Cond.sameMethod "LinkedTongue$Row" "LinkedTongue$Thing" "set" "(IBJ)V") ∈ lw_all := lw_g (lw_at lw_m14 194 rfl) rfl
theorem q3616 : (Jvm.Cond.selects "LinkedTongue$Row" ({ cls := "LinkedTongue$Row", name := "set", desc := "(IBJ)V" } : Jvm.MethodName) ({ cls := "LinkedTongue$Thing", name := "set", desc := "(IBJ)V" } : Jvm.MethodName)) ∈ lw_all := lw_g (lw_at lw_m14 195 rfl) rfl
theorem q5468 : (Jvm.Cond.selects "LinkedTongue$Row" ({ cls := "LinkedTongue$Thing", name := "set", desc := "(IBJ)V" } : Jvm.MethodName) ({ cls := "LinkedTongue$Thing", name := "set", desc := "(IBJ)V" } : Jvm.MethodName)) ∈ lw_all := lw_g (lw_at lw_m22 127 rfl) rfl
theorem q5501 : (Jvm.Cond.castable "LinkedTongue$Row" "LinkedTongue$Thing") ∈ lw_tbl := lw_at lw_m22 160 rfl
theorem q5507 : (Jvm.Cond.castable "LinkedTongue$Row" "LinkedTongue$Row") ∈ lw_tbl := lw_at lw_m22 166 rfl
theorem q5561 : (Jvm.Cond.castable "LinkedTongue$Row" "java/lang/Object") ∈ lw_tbl := lw_at lw_m22 220 rfl
theorem q312 : (Jvm.Cond.initialized "LinkedTongue$Words") ∈ lw_all := lw_g (lw_at lw_m1 11 rfl) rfl
theorem q554 : (Jvm.Cond.instantiable "LinkedTongue$Words" (9 : Nat)) ∈ lw_all := lw_g (lw_at lw_m2 13 rfl) rfl
theorem q556 : (Jvm.Cond.instanceMethod ({ cls := "LinkedTongue$Words", name := "<init>", desc := "(II)V" } : Jvm.MethodName)) ∈ lw_all := lw_g (lw_at lw_m2 15 rfl) rfl
theorem q557 : (Jvm.Cond.code ({ cls := "LinkedTongue$Words", name := "<init>", desc := "(II)V" } : Jvm.MethodName) prog_47_method_1_code (3 : Nat) (Option.none : Option Jvm.ClassFile.FieldType)) ∈ lw_all := lw_g (lw_at lw_m2 16 rfl) rfl
theorem q558 : (Jvm.Cond.methodLink "LinkedTongue$Words" (3 : Nat) ({ cls := "java/lang/Object", name := "<init>", desc := "()V" } : Jvm.MethodName)) ∈ lw_all := lw_g (lw_at lw_m2 17 rfl) rfl
theorem q559 : (Jvm.Cond.methodLink "LinkedTongue$Words" (35 : Nat) ({ cls := "LinkedTongue$Words", name := "cut", desc := "(I)V" } : Jvm.MethodName)) ∈ lw_all := lw_g (lw_at lw_m2 18 rfl) rfl
theorem q560 : (Jvm.Cond.instanceMethod ({ cls := "LinkedTongue$Words", name := "cut", desc := "(I)V" } : Jvm.MethodName)) ∈ lw_all := lw_g (lw_at lw_m2 19 rfl) rfl
theorem q561 : (Jvm.Cond.selects "LinkedTongue$Words" ({ cls := "LinkedTongue$Words", name := "cut", desc := "(I)V" } : Jvm.MethodName) ({ cls := "LinkedTongue$Words", name := "cut", desc := "(I)V" } : Jvm.MethodName)) ∈ lw_all := lw_g (lw_at lw_m2 20 rfl) rfl
theorem q562 : (Jvm.Cond.code ({ cls := "LinkedTongue$Words", name := "cut", desc := "(I)V" } : Jvm.MethodName) prog_47_method_6_code (4 : Nat) (Option.none : Option Jvm.ClassFile.FieldType)) ∈ lw_all := lw_g (lw_at lw_m2 21 rfl) rfl
theorem q563 : (Jvm.Cond.methodLink "LinkedTongue$Words" (39 : Nat) ({ cls := "LinkedTongue$Words", name := "hash", desc := "([BII)I" } : Jvm.MethodName)) ∈ lw_all := lw_g (lw_at lw_m2 22 rfl) rfl
theorem q564 : (Jvm.Cond.static ({ cls := "LinkedTongue$Words", name := "hash", desc := "([BII)I" } : Jvm.MethodName)) ∈ lw_all := lw_g (lw_at lw_m2 23 rfl) rfl
theorem q565 : (Jvm.Cond.code ({ cls := "LinkedTongue$Words", name := "hash", desc := "([BII)I" } : Jvm.MethodName) prog_47_method_2_code (5 : Nat) (Option.some Jvm.ClassFile.FieldType.int)) ∈ lw_all := lw_g (lw_at lw_m2 24 rfl) rfl
theorem q566 : (Jvm.Cond.fieldLink "LinkedTongue$Words" (28 : Nat) "LinkedTongue$Words" "most" "I") ∈ lw_all := lw_g (lw_at lw_m2 25 rfl) rfl
theorem q567 : (Jvm.Cond.fieldLink "LinkedTongue$Words" (32 : Nat) "LinkedTongue$Words" "mostBytes" "I") ∈ lw_all := lw_g (lw_at lw_m2 26 rfl) rfl
theorem q568 : (Jvm.Cond.fieldLink "LinkedTongue$Words" (9 : Nat) "LinkedTongue$Words" "bytes" "[B") ∈ lw_all := lw_g (lw_at lw_m2 27 rfl) rfl
theorem q570 : (Jvm.Cond.fieldLink "LinkedTongue$Words" (15 : Nat) "LinkedTongue$Words" "from" "[I") ∈ lw_all := lw_g (lw_at lw_m2 29 rfl) rfl
theorem q572 : (Jvm.Cond.fieldLink "LinkedTongue$Words" (19 : Nat) "LinkedTongue$Words" "size" "[I") ∈ lw_all := lw_g (lw_at lw_m2 31 rfl) rfl
theorem q576 : (Jvm.Cond.fieldLink "LinkedTongue$Words" (22 : Nat) "LinkedTongue$Words" "next" "[I") ∈ lw_all := lw_g (lw_at lw_m2 35 rfl) rfl
theorem q577 : (Jvm.Cond.fieldLink "LinkedTongue$Words" (25 : Nat) "LinkedTongue$Words" "heads" "[I") ∈ lw_all := lw_g (lw_at lw_m2 36 rfl) rfl
theorem q579 : (Jvm.Cond.fieldLink "LinkedTongue$Words" (50 : Nat) "LinkedTongue$Words" "many" "I") ∈ lw_all := lw_g (lw_at lw_m2 38 rfl) rfl
theorem q581 : (Jvm.Cond.fieldLink "LinkedTongue$Words" (59 : Nat) "LinkedTongue$Words" "used" "I") ∈ lw_all := lw_g (lw_at lw_m2 40 rfl) rfl
theorem q582 : (Jvm.Cond.laysFinal "LinkedTongue$Words" "LinkedTongue$Words" "most" "I") ∈ lw_all := lw_g (lw_at lw_m2 41 rfl) rfl
theorem q583 : (Jvm.Cond.soleField "LinkedTongue$Words" "most") ∈ lw_all := lw_g (lw_at lw_m2 42 rfl) rfl
theorem q584 : (Jvm.Cond.laysFinal "LinkedTongue$Words" "LinkedTongue$Words" "mostBytes" "I") ∈ lw_all := lw_g (lw_at lw_m2 43 rfl) rfl
theorem q585 : (Jvm.Cond.soleField "LinkedTongue$Words" "mostBytes") ∈ lw_all := lw_g (lw_at lw_m2 44 rfl) rfl
theorem q586 : (Jvm.Cond.lays "LinkedTongue$Words" "LinkedTongue$Words" "bytes" "[B") ∈ lw_all := lw_g (lw_at lw_m2 45 rfl) rfl
theorem q587 : (Jvm.Cond.soleField "LinkedTongue$Words" "bytes") ∈ lw_all := lw_g (lw_at lw_m2 46 rfl) rfl
theorem q588 : (Jvm.Cond.lays "LinkedTongue$Words" "LinkedTongue$Words" "from" "[I") ∈ lw_all := lw_g (lw_at lw_m2 47 rfl) rfl
theorem q589 : (Jvm.Cond.soleField "LinkedTongue$Words" "from") ∈ lw_all := lw_g (lw_at lw_m2 48 rfl) rfl
theorem q590 : (Jvm.Cond.lays "LinkedTongue$Words" "LinkedTongue$Words" "size" "[I") ∈ lw_all := lw_g (lw_at lw_m2 49 rfl) rfl
theorem q591 : (Jvm.Cond.soleField "LinkedTongue$Words" "size") ∈ lw_all := lw_g (lw_at lw_m2 50 rfl) rfl
theorem q592 : (Jvm.Cond.lays "LinkedTongue$Words" "LinkedTongue$Words" "next" "[I") ∈ lw_all := lw_g (lw_at lw_m2 51 rfl) rfl
theorem q593 : (Jvm.Cond.soleField "LinkedTongue$Words" "next") ∈ lw_all := lw_g (lw_at lw_m2 52 rfl) rfl
theorem q594 : (Jvm.Cond.laysFinal "LinkedTongue$Words" "LinkedTongue$Words" "heads" "[I") ∈ lw_all := lw_g (lw_at lw_m2 53 rfl) rfl
theorem q595 : (Jvm.Cond.soleField "LinkedTongue$Words" "heads") ∈ lw_all := lw_g (lw_at lw_m2 54 rfl) rfl
theorem q596 : (Jvm.Cond.lays "LinkedTongue$Words" "LinkedTongue$Words" "many" "I") ∈ lw_all := lw_g (lw_at lw_m2 55 rfl) rfl
theorem q597 : (Jvm.Cond.soleField "LinkedTongue$Words" "many") ∈ lw_all := lw_g (lw_at lw_m2 56 rfl) rfl
theorem q598 : (Jvm.Cond.lays "LinkedTongue$Words" "LinkedTongue$Words" "used" "I") ∈ lw_all := lw_g (lw_at lw_m2 57 rfl) rfl
theorem q599 : (Jvm.Cond.soleField "LinkedTongue$Words" "used") ∈ lw_all := lw_g (lw_at lw_m2 58 rfl) rfl
theorem q600 : (Jvm.Cond.superclass "LinkedTongue$Words" "java/lang/Object") ∈ lw_all := lw_g (lw_at lw_m2 59 rfl) rfl
theorem q1104 : (Jvm.Cond.selects "LinkedTongue$Words" ({ cls := "java/lang/Object", name := "getClass", desc := "()Ljava/lang/Class;" } : Jvm.MethodName) ({ cls := "java/lang/Object", name := "getClass", desc := "()Ljava/lang/Class;" } : Jvm.MethodName)) ∈ lw_all := lw_g (lw_at lw_m4 83 rfl) rfl
theorem q1459 : (Jvm.Cond.instanceMethod ({ cls := "LinkedTongue$Words", name := "take", desc := "([BII)I" } : Jvm.MethodName)) ∈ lw_all := lw_g (lw_at lw_m5 198 rfl) rfl
theorem q1460 : (Jvm.Cond.selects "LinkedTongue$Words" ({ cls := "LinkedTongue$Words", name := "take", desc := "([BII)I" } : Jvm.MethodName) ({ cls := "LinkedTongue$Words", name := "take", desc := "([BII)I" } : Jvm.MethodName)) ∈ lw_all := lw_g (lw_at lw_m5 199 rfl) rfl
theorem q1461 : (Jvm.Cond.code ({ cls := "LinkedTongue$Words", name := "take", desc := "([BII)I" } : Jvm.MethodName) prog_47_method_5_code (7 : Nat) (Option.some Jvm.ClassFile.FieldType.int)) ∈ lw_all := lw_g (lw_at lw_m5 200 rfl) rfl
theorem q1462 : (Jvm.Cond.methodLink "LinkedTongue$Words" (47 : Nat) ({ cls := "LinkedTongue$Words", name := "find", desc := "([BII)I" } : Jvm.MethodName)) ∈ lw_all := lw_g (lw_at lw_m5 201 rfl) rfl
theorem q1463 : (Jvm.Cond.instanceMethod ({ cls := "LinkedTongue$Words", name := "find", desc := "([BII)I" } : Jvm.MethodName)) ∈ lw_all := lw_g (lw_at lw_m5 202 rfl) rfl
theorem q1464 : (Jvm.Cond.selects "LinkedTongue$Words" ({ cls := "LinkedTongue$Words", name := "find", desc := "([BII)I" } : Jvm.MethodName) ({ cls := "LinkedTongue$Words", name := "find", desc := "([BII)I" } : Jvm.MethodName)) ∈ lw_all := lw_g (lw_at lw_m5 203 rfl) rfl
theorem q1465 : (Jvm.Cond.code ({ cls := "LinkedTongue$Words", name := "find", desc := "([BII)I" } : Jvm.MethodName) prog_47_method_3_code (5 : Nat) (Option.some Jvm.ClassFile.FieldType.int)) ∈ lw_all := lw_g (lw_at lw_m5 204 rfl) rfl
theorem q1466 : (Jvm.Cond.methodLink "LinkedTongue$Words" (43 : Nat) ({ cls := "LinkedTongue$Words", name := "is", desc := "(I[BII)Z" } : Jvm.MethodName)) ∈ lw_all := lw_g (lw_at lw_m5 205 rfl) rfl
theorem q1467 : (Jvm.Cond.instanceMethod ({ cls := "LinkedTongue$Words", name := "is", desc := "(I[BII)Z" } : Jvm.MethodName)) ∈ lw_all := lw_g (lw_at lw_m5 206 rfl) rfl
theorem q1468 : (Jvm.Cond.selects "LinkedTongue$Words" ({ cls := "LinkedTongue$Words", name := "is", desc := "(I[BII)Z" } : Jvm.MethodName) ({ cls := "LinkedTongue$Words", name := "is", desc := "(I[BII)Z" } : Jvm.MethodName)) ∈ lw_all := lw_g (lw_at lw_m5 207 rfl) rfl
theorem q1469 : (Jvm.Cond.code ({ cls := "LinkedTongue$Words", name := "is", desc := "(I[BII)Z" } : Jvm.MethodName) prog_47_method_4_code (7 : Nat) (Option.some Jvm.ClassFile.FieldType.boolean)) ∈ lw_all := lw_g (lw_at lw_m5 208 rfl) rfl
theorem q1470 : (Jvm.Cond.methodLink "LinkedTongue$Words" (53 : Nat) ({ cls := "java/util/Arrays", name := "copyOf", desc := "([II)[I" } : Jvm.MethodName)) ∈ lw_all := lw_g (lw_at lw_m5 209 rfl) rfl
theorem q1478 : (Jvm.Cond.methodLink "LinkedTongue$Words" (62 : Nat) ({ cls := "java/lang/Math", name := "max", desc := "(II)I" } : Jvm.MethodName)) ∈ lw_all := lw_g (lw_at lw_m5 217 rfl) rfl
theorem q1479 : (Jvm.Cond.methodLinkNest "LinkedTongue$Words" (68 : Nat) ({ cls := "LinkedTongue", name := "larger", desc := "(II)I" } : Jvm.MethodName) "LinkedTongue") ∈ lw_tbl := lw_at lw_m5 218 rfl
theorem q1480 : (Jvm.Cond.methodLink "LinkedTongue$Words" (71 : Nat) ({ cls := "java/util/Arrays", name := "copyOf", desc := "([BI)[B" } : Jvm.MethodName)) ∈ lw_all := lw_g (lw_at lw_m5 219 rfl) rfl
theorem q2783 : (Jvm.Cond.instanceMethod ({ cls := "LinkedTongue$Words", name := "byteAt", desc := "(II)I" } : Jvm.MethodName)) ∈ lw_all := lw_g (lw_at lw_m11 82 rfl) rfl
theorem q2784 : (Jvm.Cond.selects "LinkedTongue$Words" ({ cls := "LinkedTongue$Words", name := "byteAt", desc := "(II)I" } : Jvm.MethodName) ({ cls := "LinkedTongue$Words", name := "byteAt", desc := "(II)I" } : Jvm.MethodName)) ∈ lw_all := lw_g (lw_at lw_m11 83 rfl) rfl
theorem q2785 : (Jvm.Cond.code ({ cls := "LinkedTongue$Words", name := "byteAt", desc := "(II)I" } : Jvm.MethodName) prog_47_method_7_code (3 : Nat) (Option.some Jvm.ClassFile.FieldType.int)) ∈ lw_all := lw_g (lw_at lw_m11 84 rfl) rfl
theorem q5516 : (Jvm.Cond.castable "LinkedTongue$Words" "java/lang/Object") ∈ lw_tbl := lw_at lw_m22 175 rfl
theorem q371 : (Jvm.Cond.initialized "LinkedTongue$Choice") ∈ lw_all := lw_g (lw_at lw_m1 70 rfl) rfl
theorem q1065 : (Jvm.Cond.selects "LinkedTongue$Choice" ({ cls := "java/lang/Object", name := "getClass", desc := "()Ljava/lang/Class;" } : Jvm.MethodName) ({ cls := "java/lang/Object", name := "getClass", desc := "()Ljava/lang/Class;" } : Jvm.MethodName)) ∈ lw_all := lw_g (lw_at lw_m4 44 rfl) rfl
theorem q3260 : (Jvm.Cond.instanceMethod ({ cls := "LinkedTongue$Choice", name := "is", desc := "(LLinkedTongue$HostType;IZIZ[II)Z" } : Jvm.MethodName)) ∈ lw_all := lw_g (lw_at lw_m13 79 rfl) rfl
theorem q3261 : (Jvm.Cond.selects "LinkedTongue$Choice" ({ cls := "LinkedTongue$Choice", name := "is", desc := "(LLinkedTongue$HostType;IZIZ[II)Z" } : Jvm.MethodName) ({ cls := "LinkedTongue$Choice", name := "is", desc := "(LLinkedTongue$HostType;IZIZ[II)Z" } : Jvm.MethodName)) ∈ lw_all := lw_g (lw_at lw_m13 80 rfl) rfl
theorem q3262 : (Jvm.Cond.code ({ cls := "LinkedTongue$Choice", name := "is", desc := "(LLinkedTongue$HostType;IZIZ[II)Z" } : Jvm.MethodName) prog_6_method_2_code (10 : Nat) (Option.some Jvm.ClassFile.FieldType.boolean)) ∈ lw_all := lw_g (lw_at lw_m13 81 rfl) rfl
theorem q3286 : (Jvm.Cond.instantiable "LinkedTongue$Choice" (9 : Nat)) ∈ lw_all := lw_g (lw_at lw_m13 105 rfl) rfl
theorem q3289 : (Jvm.Cond.instanceMethod ({ cls := "LinkedTongue$Choice", name := "<init>", desc := "(LLinkedTongue$HostType;IZIZ[ILLinkedTongue$Choice;)V" } : Jvm.MethodName)) ∈ lw_all := lw_g (lw_at lw_m13 108 rfl) rfl
theorem q3290 : (Jvm.Cond.code ({ cls := "LinkedTongue$Choice", name := "<init>", desc := "(LLinkedTongue$HostType;IZIZ[ILLinkedTongue$Choice;)V" } : Jvm.MethodName) prog_6_method_1_code (8 : Nat) (Option.none : Option Jvm.ClassFile.FieldType)) ∈ lw_all := lw_g (lw_at lw_m13 109 rfl) rfl
theorem q3291 : (Jvm.Cond.methodLink "LinkedTongue$Choice" (1 : Nat) ({ cls := "java/lang/Object", name := "<init>", desc := "()V" } : Jvm.MethodName)) ∈ lw_all := lw_g (lw_at lw_m13 110 rfl) rfl
theorem q3292 : (Jvm.Cond.fieldLink "LinkedTongue$Choice" (7 : Nat) "LinkedTongue$Choice" "type" "LLinkedTongue$HostType;") ∈ lw_all := lw_g (lw_at lw_m13 111 rfl) rfl
theorem q3293 : (Jvm.Cond.fieldLink "LinkedTongue$Choice" (13 : Nat) "LinkedTongue$Choice" "kind" "I") ∈ lw_all := lw_g (lw_at lw_m13 112 rfl) rfl
theorem q3294 : (Jvm.Cond.fieldLink "LinkedTongue$Choice" (21 : Nat) "LinkedTongue$Choice" "name" "I") ∈ lw_all := lw_g (lw_at lw_m13 113 rfl) rfl
theorem q3295 : (Jvm.Cond.fieldLink "LinkedTongue$Choice" (17 : Nat) "LinkedTongue$Choice" "isStatic" "Z") ∈ lw_all := lw_g (lw_at lw_m13 114 rfl) rfl
theorem q3296 : (Jvm.Cond.fieldLink "LinkedTongue$Choice" (24 : Nat) "LinkedTongue$Choice" "setter" "Z") ∈ lw_all := lw_g (lw_at lw_m13 115 rfl) rfl
theorem q3297 : (Jvm.Cond.fieldLink "LinkedTongue$Choice" (27 : Nat) "LinkedTongue$Choice" "classes" "[I") ∈ lw_all := lw_g (lw_at lw_m13 116 rfl) rfl
theorem q3300 : (Jvm.Cond.fieldLink "LinkedTongue$Choice" (31 : Nat) "LinkedTongue$Choice" "next" "LLinkedTongue$Choice;") ∈ lw_all := lw_g (lw_at lw_m13 119 rfl) rfl
theorem q3302 : (Jvm.Cond.laysFinal "LinkedTongue$Choice" "LinkedTongue$Choice" "type" "LLinkedTongue$HostType;") ∈ lw_all := lw_g (lw_at lw_m13 121 rfl) rfl
theorem q3303 : (Jvm.Cond.soleField "LinkedTongue$Choice" "type") ∈ lw_all := lw_g (lw_at lw_m13 122 rfl) rfl
theorem q3304 : (Jvm.Cond.laysFinal "LinkedTongue$Choice" "LinkedTongue$Choice" "kind" "I") ∈ lw_all := lw_g (lw_at lw_m13 123 rfl) rfl
theorem q3305 : (Jvm.Cond.soleField "LinkedTongue$Choice" "kind") ∈ lw_all := lw_g (lw_at lw_m13 124 rfl) rfl
theorem q3306 : (Jvm.Cond.laysFinal "LinkedTongue$Choice" "LinkedTongue$Choice" "name" "I") ∈ lw_all := lw_g (lw_at lw_m13 125 rfl) rfl
theorem q3307 : (Jvm.Cond.soleField "LinkedTongue$Choice" "name") ∈ lw_all := lw_g (lw_at lw_m13 126 rfl) rfl
theorem q3308 : (Jvm.Cond.laysFinal "LinkedTongue$Choice" "LinkedTongue$Choice" "isStatic" "Z") ∈ lw_all := lw_g (lw_at lw_m13 127 rfl) rfl
theorem q3309 : (Jvm.Cond.soleField "LinkedTongue$Choice" "isStatic") ∈ lw_all := lw_g (lw_at lw_m13 128 rfl) rfl
theorem q3310 : (Jvm.Cond.laysFinal "LinkedTongue$Choice" "LinkedTongue$Choice" "setter" "Z") ∈ lw_all := lw_g (lw_at lw_m13 129 rfl) rfl
theorem q3311 : (Jvm.Cond.soleField "LinkedTongue$Choice" "setter") ∈ lw_all := lw_g (lw_at lw_m13 130 rfl) rfl
theorem q3312 : (Jvm.Cond.laysFinal "LinkedTongue$Choice" "LinkedTongue$Choice" "classes" "[I") ∈ lw_all := lw_g (lw_at lw_m13 131 rfl) rfl
theorem q3313 : (Jvm.Cond.soleField "LinkedTongue$Choice" "classes") ∈ lw_all := lw_g (lw_at lw_m13 132 rfl) rfl
theorem q3314 : (Jvm.Cond.lays "LinkedTongue$Choice" "LinkedTongue$Choice" "member" "LLinkedTongue$Member;") ∈ lw_all := lw_g (lw_at lw_m13 133 rfl) rfl
theorem q3315 : (Jvm.Cond.soleField "LinkedTongue$Choice" "member") ∈ lw_all := lw_g (lw_at lw_m13 134 rfl) rfl
theorem q3316 : (Jvm.Cond.lays "LinkedTongue$Choice" "LinkedTongue$Choice" "why" "I") ∈ lw_all := lw_g (lw_at lw_m13 135 rfl) rfl
theorem q3317 : (Jvm.Cond.soleField "LinkedTongue$Choice" "why") ∈ lw_all := lw_g (lw_at lw_m13 136 rfl) rfl
theorem q3318 : (Jvm.Cond.lays "LinkedTongue$Choice" "LinkedTongue$Choice" "next" "LLinkedTongue$Choice;") ∈ lw_all := lw_g (lw_at lw_m13 137 rfl) rfl
theorem q3319 : (Jvm.Cond.soleField "LinkedTongue$Choice" "next") ∈ lw_all := lw_g (lw_at lw_m13 138 rfl) rfl
theorem q3320 : (Jvm.Cond.superclass "LinkedTongue$Choice" "java/lang/Object") ∈ lw_all := lw_g (lw_at lw_m13 139 rfl) rfl
theorem q5563 : (Jvm.Cond.castable "LinkedTongue$Choice" "java/lang/Object") ∈ lw_tbl := lw_at lw_m22 222 rfl
theorem q372 : (Jvm.Cond.initialized "LinkedTongue$Entry") ∈ lw_all := lw_g (lw_at lw_m1 71 rfl) rfl
theorem q750 : (Jvm.Cond.fieldLinkNest "LinkedTongue$Entry" (9 : Nat) "LinkedTongue$Found" "linker" "I" "LinkedTongue") ∈ lw_tbl := lw_at lw_m2 209 rfl
theorem q753 : (Jvm.Cond.fieldLinkNest "LinkedTongue$Entry" (18 : Nat) "LinkedTongue$Found" "element" "I" "LinkedTongue") ∈ lw_tbl := lw_at lw_m2 212 rfl
theorem q756 : (Jvm.Cond.fieldLinkNest "LinkedTongue$Entry" (67 : Nat) "LinkedTongue$Found" "operands" "I" "LinkedTongue") ∈ lw_tbl := lw_at lw_m2 215 rfl
theorem q759 : (Jvm.Cond.fieldLinkNest "LinkedTongue$Entry" (30 : Nat) "LinkedTongue$Found" "shape" "LLinkedTongue$Shape;" "LinkedTongue") ∈ lw_tbl := lw_at lw_m2 218 rfl
theorem q762 : (Jvm.Cond.fieldLinkNest "LinkedTongue$Entry" (39 : Nat) "LinkedTongue$Found" "type" "LLinkedTongue$HostType;" "LinkedTongue") ∈ lw_tbl := lw_at lw_m2 221 rfl
theorem q765 : (Jvm.Cond.fieldLinkNest "LinkedTongue$Entry" (44 : Nat) "LinkedTongue$Found" "code" "LLinkedTongue$Code;" "LinkedTongue") ∈ lw_tbl := lw_at lw_m2 224 rfl
theorem q768 : (Jvm.Cond.fieldLinkNest "LinkedTongue$Entry" (49 : Nat) "LinkedTongue$Found" "isText" "Z" "LinkedTongue") ∈ lw_tbl := lw_at lw_m2 227 rfl
theorem q772 : (Jvm.Cond.fieldLinkNest "LinkedTongue$Entry" (75 : Nat) "LinkedTongue$Found" "classes" "[I" "LinkedTongue") ∈ lw_tbl := lw_at lw_m2 231 rfl
theorem q775 : (Jvm.Cond.fieldLinkNest "LinkedTongue$Entry" (22 : Nat) "LinkedTongue$Found" "action" "I" "LinkedTongue") ∈ lw_tbl := lw_at lw_m2 234 rfl
theorem q778 : (Jvm.Cond.fieldLinkNest "LinkedTongue$Entry" (26 : Nat) "LinkedTongue$Found" "place" "I" "LinkedTongue") ∈ lw_tbl := lw_at lw_m2 237 rfl
theorem q781 : (Jvm.Cond.fieldLinkNest "LinkedTongue$Entry" (54 : Nat) "LinkedTongue$Found" "holder" "LLinkedTongue$Obj;" "LinkedTongue") ∈ lw_tbl := lw_at lw_m3 0 rfl
theorem q784 : (Jvm.Cond.fieldLinkNest "LinkedTongue$Entry" (35 : Nat) "LinkedTongue$Found" "to" "LLinkedTongue$Shape;" "LinkedTongue") ∈ lw_tbl := lw_at lw_m3 3 rfl
theorem q787 : (Jvm.Cond.fieldLinkNest "LinkedTongue$Entry" (59 : Nat) "LinkedTongue$Found" "member" "LLinkedTongue$Member;" "LinkedTongue") ∈ lw_tbl := lw_at lw_m3 6 rfl
theorem q790 : (Jvm.Cond.fieldLinkNest "LinkedTongue$Entry" (64 : Nat) "LinkedTongue$Found" "byClasses" "Z" "LinkedTongue") ∈ lw_tbl := lw_at lw_m3 9 rfl
theorem q996 : (Jvm.Cond.fieldLinkNest "LinkedTongue$Entry" (103 : Nat) "LinkedTongue$Shape" "number" "I" "LinkedTongue") ∈ lw_tbl := lw_at lw_m3 215 rfl
theorem q999 : (Jvm.Cond.fieldLinkNest "LinkedTongue$Entry" (83 : Nat) "LinkedTongue$Shape" "prototype" "LLinkedTongue$Obj;" "LinkedTongue") ∈ lw_tbl := lw_at lw_m3 218 rfl
theorem q1069 : (Jvm.Cond.selects "LinkedTongue$Entry" ({ cls := "java/lang/Object", name := "getClass", desc := "()Ljava/lang/Class;" } : Jvm.MethodName) ({ cls := "java/lang/Object", name := "getClass", desc := "()Ljava/lang/Class;" } : Jvm.MethodName)) ∈ lw_all := lw_g (lw_at lw_m4 48 rfl) rfl
theorem q1500 : (Jvm.Cond.fieldLinkNest "LinkedTongue$Entry" (104 : Nat) "LinkedTongue$HostType" "number" "I" "LinkedTongue") ∈ lw_tbl := lw_at lw_m5 239 rfl
theorem q1588 : (Jvm.Cond.fieldLinkNest "LinkedTongue$Entry" (108 : Nat) "LinkedTongue$Member" "number" "I" "LinkedTongue") ∈ lw_tbl := lw_at lw_m6 87 rfl
theorem q1796 : (Jvm.Cond.fieldLinkNest "LinkedTongue$Entry" (98 : Nat) "LinkedTongue$Code" "number" "I" "LinkedTongue") ∈ lw_tbl := lw_at lw_m7 55 rfl
theorem q2771 : (Jvm.Cond.instanceMethod ({ cls := "LinkedTongue$Entry", name := "tell", desc := "(I)I" } : Jvm.MethodName)) ∈ lw_all := lw_g (lw_at lw_m11 70 rfl) rfl
theorem q2772 : (Jvm.Cond.selects "LinkedTongue$Entry" ({ cls := "LinkedTongue$Entry", name := "tell", desc := "(I)I" } : Jvm.MethodName) ({ cls := "LinkedTongue$Entry", name := "tell", desc := "(I)I" } : Jvm.MethodName)) ∈ lw_all := lw_g (lw_at lw_m11 71 rfl) rfl
theorem q2773 : (Jvm.Cond.code ({ cls := "LinkedTongue$Entry", name := "tell", desc := "(I)I" } : Jvm.MethodName) prog_10_method_7_code (2 : Nat) (Option.some Jvm.ClassFile.FieldType.int)) ∈ lw_all := lw_g (lw_at lw_m11 72 rfl) rfl
theorem q2774 : (Jvm.Cond.methodLink "LinkedTongue$Entry" (111 : Nat) ({ cls := "LinkedTongue$Entry", name := "isStale", desc := "()Z" } : Jvm.MethodName)) ∈ lw_all := lw_g (lw_at lw_m11 73 rfl) rfl
theorem q2775 : (Jvm.Cond.instanceMethod ({ cls := "LinkedTongue$Entry", name := "isStale", desc := "()Z" } : Jvm.MethodName)) ∈ lw_all := lw_g (lw_at lw_m11 74 rfl) rfl
theorem q2776 : (Jvm.Cond.selects "LinkedTongue$Entry" ({ cls := "LinkedTongue$Entry", name := "isStale", desc := "()Z" } : Jvm.MethodName) ({ cls := "LinkedTongue$Entry", name := "isStale", desc := "()Z" } : Jvm.MethodName)) ∈ lw_all := lw_g (lw_at lw_m11 75 rfl) rfl
theorem q2777 : (Jvm.Cond.code ({ cls := "LinkedTongue$Entry", name := "isStale", desc := "()Z" } : Jvm.MethodName) prog_10_method_3_code (2 : Nat) (Option.some Jvm.ClassFile.FieldType.boolean)) ∈ lw_all := lw_g (lw_at lw_m11 76 rfl) rfl
theorem q3018 : (Jvm.Cond.fieldLinkNest "LinkedTongue$Entry" (93 : Nat) "LinkedTongue$Obj" "shape" "LLinkedTongue$Shape;" "LinkedTongue") ∈ lw_tbl := lw_at lw_m12 77 rfl
theorem q3027 : (Jvm.Cond.fieldLinkNest "LinkedTongue$Entry" (88 : Nat) "LinkedTongue$Obj" "changedAt" "I" "LinkedTongue") ∈ lw_tbl := lw_at lw_m12 86 rfl
theorem q3032 : (Jvm.Cond.fieldLink "LinkedTongue$Entry" (107 : Nat) "LinkedTongue$Obj" "number" "I") ∈ lw_all := lw_g (lw_at lw_m12 91 rfl) rfl
theorem q3156 : (Jvm.Cond.instanceMethod ({ cls := "LinkedTongue$Entry", name := "holds", desc := "(LLinkedTongue$Found;)Z" } : Jvm.MethodName)) ∈ lw_all := lw_g (lw_at lw_m12 215 rfl) rfl
theorem q3157 : (Jvm.Cond.selects "LinkedTongue$Entry" ({ cls := "LinkedTongue$Entry", name := "holds", desc := "(LLinkedTongue$Found;)Z" } : Jvm.MethodName) ({ cls := "LinkedTongue$Entry", name := "holds", desc := "(LLinkedTongue$Found;)Z" } : Jvm.MethodName)) ∈ lw_all := lw_g (lw_at lw_m12 216 rfl) rfl
theorem q3158 : (Jvm.Cond.code ({ cls := "LinkedTongue$Entry", name := "holds", desc := "(LLinkedTongue$Found;)Z" } : Jvm.MethodName) prog_10_method_4_code (2 : Nat) (Option.some Jvm.ClassFile.FieldType.boolean)) ∈ lw_all := lw_g (lw_at lw_m12 217 rfl) rfl
theorem q3159 : (Jvm.Cond.methodLink "LinkedTongue$Entry" (94 : Nat) ({ cls := "LinkedTongue$Entry", name := "hasClasses", desc := "(LLinkedTongue$Found;)Z" } : Jvm.MethodName)) ∈ lw_all := lw_g (lw_at lw_m12 218 rfl) rfl
theorem q3160 : (Jvm.Cond.privateMethod ({ cls := "LinkedTongue$Entry", name := "hasClasses", desc := "(LLinkedTongue$Found;)Z" } : Jvm.MethodName)) ∈ lw_tbl := lw_at lw_m12 219 rfl
theorem q3161 : (Jvm.Cond.instanceMethod ({ cls := "LinkedTongue$Entry", name := "hasClasses", desc := "(LLinkedTongue$Found;)Z" } : Jvm.MethodName)) ∈ lw_all := lw_g (lw_at lw_m12 220 rfl) rfl
theorem q3162 : (Jvm.Cond.instantiable "LinkedTongue$Entry" (15 : Nat)) ∈ lw_all := lw_g (lw_at lw_m12 221 rfl) rfl
theorem q3163 : (Jvm.Cond.code ({ cls := "LinkedTongue$Entry", name := "hasClasses", desc := "(LLinkedTongue$Found;)Z" } : Jvm.MethodName) prog_10_method_5_code (4 : Nat) (Option.some Jvm.ClassFile.FieldType.boolean)) ∈ lw_all := lw_g (lw_at lw_m12 222 rfl) rfl
theorem q3165 : (Jvm.Cond.instanceMethod ({ cls := "LinkedTongue$Entry", name := "tellTo", desc := "(LLinkedTongue$Found;)V" } : Jvm.MethodName)) ∈ lw_all := lw_g (lw_at lw_m12 224 rfl) rfl
theorem q3166 : (Jvm.Cond.selects "LinkedTongue$Entry" ({ cls := "LinkedTongue$Entry", name := "tellTo", desc := "(LLinkedTongue$Found;)V" } : Jvm.MethodName) ({ cls := "LinkedTongue$Entry", name := "tellTo", desc := "(LLinkedTongue$Found;)V" } : Jvm.MethodName)) ∈ lw_all := lw_g (lw_at lw_m12 225 rfl) rfl
theorem q3167 : (Jvm.Cond.code ({ cls := "LinkedTongue$Entry", name := "tellTo", desc := "(LLinkedTongue$Found;)V" } : Jvm.MethodName) prog_10_method_6_code (2 : Nat) (Option.none : Option Jvm.ClassFile.FieldType)) ∈ lw_all := lw_g (lw_at lw_m12 226 rfl) rfl
theorem q3340 : (Jvm.Cond.instanceMethod ({ cls := "LinkedTongue$Entry", name := "<init>", desc := "()V" } : Jvm.MethodName)) ∈ lw_all := lw_g (lw_at lw_m13 159 rfl) rfl
theorem q3341 : (Jvm.Cond.code ({ cls := "LinkedTongue$Entry", name := "<init>", desc := "()V" } : Jvm.MethodName) prog_10_method_1_code (1 : Nat) (Option.none : Option Jvm.ClassFile.FieldType)) ∈ lw_all := lw_g (lw_at lw_m13 160 rfl) rfl
theorem q3342 : (Jvm.Cond.methodLink "LinkedTongue$Entry" (3 : Nat) ({ cls := "java/lang/Object", name := "<init>", desc := "()V" } : Jvm.MethodName)) ∈ lw_all := lw_g (lw_at lw_m13 161 rfl) rfl
theorem q3343 : (Jvm.Cond.fieldLink "LinkedTongue$Entry" (15 : Nat) "LinkedTongue$Entry" "linker" "I") ∈ lw_all := lw_g (lw_at lw_m13 162 rfl) rfl
theorem q3344 : (Jvm.Cond.fieldLink "LinkedTongue$Entry" (21 : Nat) "LinkedTongue$Entry" "element" "I") ∈ lw_all := lw_g (lw_at lw_m13 163 rfl) rfl
theorem q3345 : (Jvm.Cond.fieldLink "LinkedTongue$Entry" (25 : Nat) "LinkedTongue$Entry" "action" "I") ∈ lw_all := lw_g (lw_at lw_m13 164 rfl) rfl
theorem q3346 : (Jvm.Cond.fieldLink "LinkedTongue$Entry" (29 : Nat) "LinkedTongue$Entry" "place" "I") ∈ lw_all := lw_g (lw_at lw_m13 165 rfl) rfl
theorem q3347 : (Jvm.Cond.fieldLink "LinkedTongue$Entry" (80 : Nat) "LinkedTongue$Entry" "ticks" "I") ∈ lw_all := lw_g (lw_at lw_m13 166 rfl) rfl
theorem q3348 : (Jvm.Cond.fieldLink "LinkedTongue$Entry" (34 : Nat) "LinkedTongue$Entry" "shape" "LLinkedTongue$Shape;") ∈ lw_all := lw_g (lw_at lw_m13 167 rfl) rfl
theorem q3349 : (Jvm.Cond.fieldLink "LinkedTongue$Entry" (38 : Nat) "LinkedTongue$Entry" "to" "LLinkedTongue$Shape;") ∈ lw_all := lw_g (lw_at lw_m13 168 rfl) rfl
theorem q3350 : (Jvm.Cond.fieldLink "LinkedTongue$Entry" (43 : Nat) "LinkedTongue$Entry" "type" "LLinkedTongue$HostType;") ∈ lw_all := lw_g (lw_at lw_m13 169 rfl) rfl
theorem q3351 : (Jvm.Cond.fieldLink "LinkedTongue$Entry" (48 : Nat) "LinkedTongue$Entry" "code" "LLinkedTongue$Code;") ∈ lw_all := lw_g (lw_at lw_m13 170 rfl) rfl
theorem q3352 : (Jvm.Cond.fieldLink "LinkedTongue$Entry" (53 : Nat) "LinkedTongue$Entry" "isText" "Z") ∈ lw_all := lw_g (lw_at lw_m13 171 rfl) rfl
theorem q3353 : (Jvm.Cond.fieldLink "LinkedTongue$Entry" (70 : Nat) "LinkedTongue$Entry" "operands" "I") ∈ lw_all := lw_g (lw_at lw_m13 172 rfl) rfl
theorem q3354 : (Jvm.Cond.fieldLink "LinkedTongue$Entry" (71 : Nat) "LinkedTongue$Entry" "classes" "[I") ∈ lw_all := lw_g (lw_at lw_m13 173 rfl) rfl
theorem q3355 : (Jvm.Cond.fieldLink "LinkedTongue$Entry" (58 : Nat) "LinkedTongue$Entry" "holder" "LLinkedTongue$Obj;") ∈ lw_all := lw_g (lw_at lw_m13 174 rfl) rfl
theorem q3356 : (Jvm.Cond.fieldLink "LinkedTongue$Entry" (63 : Nat) "LinkedTongue$Entry" "member" "LLinkedTongue$Member;") ∈ lw_all := lw_g (lw_at lw_m13 175 rfl) rfl
theorem q3358 : (Jvm.Cond.fieldLink "LinkedTongue$Entry" (76 : Nat) "LinkedTongue$Entry" "next" "LLinkedTongue$Entry;") ∈ lw_all := lw_g (lw_at lw_m13 177 rfl) rfl
theorem q3361 : (Jvm.Cond.lays "LinkedTongue$Entry" "LinkedTongue$Entry" "linker" "I") ∈ lw_all := lw_g (lw_at lw_m13 180 rfl) rfl
theorem q3362 : (Jvm.Cond.soleField "LinkedTongue$Entry" "linker") ∈ lw_all := lw_g (lw_at lw_m13 181 rfl) rfl
theorem q3363 : (Jvm.Cond.lays "LinkedTongue$Entry" "LinkedTongue$Entry" "element" "I") ∈ lw_all := lw_g (lw_at lw_m13 182 rfl) rfl
theorem q3364 : (Jvm.Cond.soleField "LinkedTongue$Entry" "element") ∈ lw_all := lw_g (lw_at lw_m13 183 rfl) rfl
theorem q3365 : (Jvm.Cond.lays "LinkedTongue$Entry" "LinkedTongue$Entry" "action" "I") ∈ lw_all := lw_g (lw_at lw_m13 184 rfl) rfl
theorem q3366 : (Jvm.Cond.soleField "LinkedTongue$Entry" "action") ∈ lw_all := lw_g (lw_at lw_m13 185 rfl) rfl
theorem q3367 : (Jvm.Cond.lays "LinkedTongue$Entry" "LinkedTongue$Entry" "place" "I") ∈ lw_all := lw_g (lw_at lw_m13 186 rfl) rfl
theorem q3368 : (Jvm.Cond.soleField "LinkedTongue$Entry" "place") ∈ lw_all := lw_g (lw_at lw_m13 187 rfl) rfl
theorem q3369 : (Jvm.Cond.lays "LinkedTongue$Entry" "LinkedTongue$Entry" "ticks" "I") ∈ lw_all := lw_g (lw_at lw_m13 188 rfl) rfl
theorem q3370 : (Jvm.Cond.soleField "LinkedTongue$Entry" "ticks") ∈ lw_all := lw_g (lw_at lw_m13 189 rfl) rfl
theorem q3371 : (Jvm.Cond.lays "LinkedTongue$Entry" "LinkedTongue$Entry" "shape" "LLinkedTongue$Shape;") ∈ lw_all := lw_g (lw_at lw_m13 190 rfl) rfl
theorem q3372 : (Jvm.Cond.soleField "LinkedTongue$Entry" "shape") ∈ lw_all := lw_g (lw_at lw_m13 191 rfl) rfl
theorem q3373 : (Jvm.Cond.lays "LinkedTongue$Entry" "LinkedTongue$Entry" "to" "LLinkedTongue$Shape;") ∈ lw_all := lw_g (lw_at lw_m13 192 rfl) rfl
theorem q3374 : (Jvm.Cond.soleField "LinkedTongue$Entry" "to") ∈ lw_all := lw_g (lw_at lw_m13 193 rfl) rfl
theorem q3375 : (Jvm.Cond.lays "LinkedTongue$Entry" "LinkedTongue$Entry" "type" "LLinkedTongue$HostType;") ∈ lw_all := lw_g (lw_at lw_m13 194 rfl) rfl
theorem q3376 : (Jvm.Cond.soleField "LinkedTongue$Entry" "type") ∈ lw_all := lw_g (lw_at lw_m13 195 rfl) rfl
theorem q3377 : (Jvm.Cond.lays "LinkedTongue$Entry" "LinkedTongue$Entry" "code" "LLinkedTongue$Code;") ∈ lw_all := lw_g (lw_at lw_m13 196 rfl) rfl
theorem q3378 : (Jvm.Cond.soleField "LinkedTongue$Entry" "code") ∈ lw_all := lw_g (lw_at lw_m13 197 rfl) rfl
theorem q3379 : (Jvm.Cond.lays "LinkedTongue$Entry" "LinkedTongue$Entry" "isText" "Z") ∈ lw_all := lw_g (lw_at lw_m13 198 rfl) rfl
theorem q3380 : (Jvm.Cond.soleField "LinkedTongue$Entry" "isText") ∈ lw_all := lw_g (lw_at lw_m13 199 rfl) rfl
theorem q3381 : (Jvm.Cond.lays "LinkedTongue$Entry" "LinkedTongue$Entry" "operands" "I") ∈ lw_all := lw_g (lw_at lw_m13 200 rfl) rfl
theorem q3382 : (Jvm.Cond.soleField "LinkedTongue$Entry" "operands") ∈ lw_all := lw_g (lw_at lw_m13 201 rfl) rfl
theorem q3383 : (Jvm.Cond.lays "LinkedTongue$Entry" "LinkedTongue$Entry" "classes" "[I") ∈ lw_all := lw_g (lw_at lw_m13 202 rfl) rfl
theorem q3384 : (Jvm.Cond.soleField "LinkedTongue$Entry" "classes") ∈ lw_all := lw_g (lw_at lw_m13 203 rfl) rfl
theorem q3385 : (Jvm.Cond.lays "LinkedTongue$Entry" "LinkedTongue$Entry" "holder" "LLinkedTongue$Obj;") ∈ lw_all := lw_g (lw_at lw_m13 204 rfl) rfl
theorem q3386 : (Jvm.Cond.soleField "LinkedTongue$Entry" "holder") ∈ lw_all := lw_g (lw_at lw_m13 205 rfl) rfl
theorem q3387 : (Jvm.Cond.lays "LinkedTongue$Entry" "LinkedTongue$Entry" "member" "LLinkedTongue$Member;") ∈ lw_all := lw_g (lw_at lw_m13 206 rfl) rfl
theorem q3388 : (Jvm.Cond.soleField "LinkedTongue$Entry" "member") ∈ lw_all := lw_g (lw_at lw_m13 207 rfl) rfl
theorem q3389 : (Jvm.Cond.lays "LinkedTongue$Entry" "LinkedTongue$Entry" "next" "LLinkedTongue$Entry;") ∈ lw_all := lw_g (lw_at lw_m13 208 rfl) rfl
theorem q3390 : (Jvm.Cond.soleField "LinkedTongue$Entry" "next") ∈ lw_all := lw_g (lw_at lw_m13 209 rfl) rfl
theorem q3391 : (Jvm.Cond.superclass "LinkedTongue$Entry" "java/lang/Object") ∈ lw_all := lw_g (lw_at lw_m13 210 rfl) rfl
theorem q3393 : (Jvm.Cond.instanceMethod ({ cls := "LinkedTongue$Entry", name := "set", desc := "(LLinkedTongue$Found;LLinkedTongue$Entry;I)V" } : Jvm.MethodName)) ∈ lw_all := lw_g (lw_at lw_m13 212 rfl) rfl
theorem q3394 : (Jvm.Cond.selects "LinkedTongue$Entry" ({ cls := "LinkedTongue$Entry", name := "set", desc := "(LLinkedTongue$Found;LLinkedTongue$Entry;I)V" } : Jvm.MethodName) ({ cls := "LinkedTongue$Entry", name := "set", desc := "(LLinkedTongue$Found;LLinkedTongue$Entry;I)V" } : Jvm.MethodName)) ∈ lw_all := lw_g (lw_at lw_m13 213 rfl) rfl
theorem q3395 : (Jvm.Cond.code ({ cls := "LinkedTongue$Entry", name := "set", desc := "(LLinkedTongue$Found;LLinkedTongue$Entry;I)V" } : Jvm.MethodName) prog_10_method_2_code (6 : Nat) (Option.none : Option Jvm.ClassFile.FieldType)) ∈ lw_all := lw_g (lw_at lw_m13 214 rfl) rfl
theorem q5564 : (Jvm.Cond.castable "LinkedTongue$Entry" "java/lang/Object") ∈ lw_tbl := lw_at lw_m22 223 rfl
theorem q373 : (Jvm.Cond.initialized "LinkedTongue$Instance") ∈ lw_all := lw_g (lw_at lw_m1 72 rfl) rfl
theorem q1079 : (Jvm.Cond.selects "LinkedTongue$Instance" ({ cls := "java/lang/Object", name := "getClass", desc := "()Ljava/lang/Class;" } : Jvm.MethodName) ({ cls := "java/lang/Object", name := "getClass", desc := "()Ljava/lang/Class;" } : Jvm.MethodName)) ∈ lw_all := lw_g (lw_at lw_m4 58 rfl) rfl
theorem q1595 : (Jvm.Cond.fieldLinkNest "LinkedTongue$Instance" (15 : Nat) "LinkedTongue$Member" "type" "I" "LinkedTongue") ∈ lw_tbl := lw_at lw_m6 94 rfl
theorem q2852 : (Jvm.Cond.selects "LinkedTongue$Instance" ({ cls := "LinkedTongue$Thing", name := "tag", desc := "()B" } : Jvm.MethodName) ({ cls := "LinkedTongue$Instance", name := "tag", desc := "()B" } : Jvm.MethodName)) ∈ lw_all := lw_g (lw_at lw_m11 151 rfl) rfl
theorem q2853 : (Jvm.Cond.instanceMethod ({ cls := "LinkedTongue$Instance", name := "tag", desc := "()B" } : Jvm.MethodName)) ∈ lw_all := lw_g (lw_at lw_m11 152 rfl) rfl
theorem q2854 : (Jvm.Cond.code ({ cls := "LinkedTongue$Instance", name := "tag", desc := "()B" } : Jvm.MethodName) prog_20_method_2_code (1 : Nat) (Option.some Jvm.ClassFile.FieldType.byte)) ∈ lw_all := lw_g (lw_at lw_m11 153 rfl) rfl
theorem q3040 : (Jvm.Cond.sameField "LinkedTongue$Instance" "LinkedTongue$Thing" "number" "I") ∈ lw_all := lw_g (lw_at lw_m12 99 rfl) rfl
theorem q3507 : (Jvm.Cond.instantiable "LinkedTongue$Instance" (5 : Nat)) ∈ lw_all := lw_g (lw_at lw_m14 86 rfl) rfl
theorem q3509 : (Jvm.Cond.instanceMethod ({ cls := "LinkedTongue$Instance", name := "<init>", desc := "(ILLinkedTongue$HostType;[LLinkedTongue$Member;)V" } : Jvm.MethodName)) ∈ lw_all := lw_g (lw_at lw_m14 88 rfl) rfl
theorem q3510 : (Jvm.Cond.code ({ cls := "LinkedTongue$Instance", name := "<init>", desc := "(ILLinkedTongue$HostType;[LLinkedTongue$Member;)V" } : Jvm.MethodName) prog_20_method_1_code (5 : Nat) (Option.none : Option Jvm.ClassFile.FieldType)) ∈ lw_all := lw_g (lw_at lw_m14 89 rfl) rfl
theorem q3511 : (Jvm.Cond.methodLink "LinkedTongue$Instance" (3 : Nat) ({ cls := "LinkedTongue$Thing", name := "<init>", desc := "(II)V" } : Jvm.MethodName)) ∈ lw_all := lw_g (lw_at lw_m14 90 rfl) rfl
theorem q3512 : (Jvm.Cond.methodLinkNest "LinkedTongue$Instance" (20 : Nat) ({ cls := "LinkedTongue", name := "tagOf", desc := "(I)B" } : Jvm.MethodName) "LinkedTongue") ∈ lw_tbl := lw_at lw_m14 91 rfl
theorem q3513 : (Jvm.Cond.methodLink "LinkedTongue$Instance" (24 : Nat) ({ cls := "LinkedTongue$Instance", name := "add", desc := "(BJ)V" } : Jvm.MethodName)) ∈ lw_all := lw_g (lw_at lw_m14 92 rfl) rfl
theorem q3514 : (Jvm.Cond.sameMethod "LinkedTongue$Instance" "LinkedTongue$Thing" "add" "(BJ)V") ∈ lw_all := lw_g (lw_at lw_m14 93 rfl) rfl
theorem q3515 : (Jvm.Cond.selects "LinkedTongue$Instance" ({ cls := "LinkedTongue$Instance", name := "add", desc := "(BJ)V" } : Jvm.MethodName) ({ cls := "LinkedTongue$Thing", name := "add", desc := "(BJ)V" } : Jvm.MethodName)) ∈ lw_all := lw_g (lw_at lw_m14 94 rfl) rfl
theorem q3516 : (Jvm.Cond.fieldLink "LinkedTongue$Instance" (9 : Nat) "LinkedTongue$Instance" "type" "LLinkedTongue$HostType;") ∈ lw_all := lw_g (lw_at lw_m14 95 rfl) rfl
theorem q3519 : (Jvm.Cond.laysFinal "LinkedTongue$Instance" "LinkedTongue$Instance" "type" "LLinkedTongue$HostType;") ∈ lw_all := lw_g (lw_at lw_m14 98 rfl) rfl
theorem q3520 : (Jvm.Cond.soleField "LinkedTongue$Instance" "type") ∈ lw_all := lw_g (lw_at lw_m14 99 rfl) rfl
theorem q3521 : (Jvm.Cond.laysFinal "LinkedTongue$Instance" "LinkedTongue$Thing" "number" "I") ∈ lw_all := lw_g (lw_at lw_m14 100 rfl) rfl
theorem q3522 : (Jvm.Cond.lays "LinkedTongue$Instance" "LinkedTongue$Thing" "words" "[J") ∈ lw_all := lw_g (lw_at lw_m14 101 rfl) rfl
theorem q3523 : (Jvm.Cond.lays "LinkedTongue$Instance" "LinkedTongue$Thing" "tags" "[B") ∈ lw_all := lw_g (lw_at lw_m14 102 rfl) rfl
theorem q3524 : (Jvm.Cond.lays "LinkedTongue$Instance" "LinkedTongue$Thing" "size" "I") ∈ lw_all := lw_g (lw_at lw_m14 103 rfl) rfl
theorem q3525 : (Jvm.Cond.superclass "LinkedTongue$Instance" "LinkedTongue$Thing") ∈ lw_all := lw_g (lw_at lw_m14 104 rfl) rfl
theorem q3536 : (Jvm.Cond.sameMethod "LinkedTongue$Instance" "LinkedTongue$Thing" "set" "(IBJ)V") ∈ lw_all := lw_g (lw_at lw_m14 115 rfl) rfl
theorem q3537 : (Jvm.Cond.selects "LinkedTongue$Instance" ({ cls := "LinkedTongue$Instance", name := "set", desc := "(IBJ)V" } : Jvm.MethodName) ({ cls := "LinkedTongue$Thing", name := "set", desc := "(IBJ)V" } : Jvm.MethodName)) ∈ lw_all := lw_g (lw_at lw_m14 116 rfl) rfl
theorem q5466 : (Jvm.Cond.selects "LinkedTongue$Instance" ({ cls := "LinkedTongue$Thing", name := "set", desc := "(IBJ)V" } : Jvm.MethodName) ({ cls := "LinkedTongue$Thing", name := "set", desc := "(IBJ)V" } : Jvm.MethodName)) ∈ lw_all := lw_g (lw_at lw_m22 125 rfl) rfl
theorem q5499 : (Jvm.Cond.castable "LinkedTongue$Instance" "LinkedTongue$Thing") ∈ lw_tbl := lw_at lw_m22 158 rfl
theorem q5504 : (Jvm.Cond.castable "LinkedTongue$Instance" "LinkedTongue$Instance") ∈ lw_tbl := lw_at lw_m22 163 rfl
theorem q5565 : (Jvm.Cond.castable "LinkedTongue$Instance" "java/lang/Object") ∈ lw_tbl := lw_at lw_m22 224 rfl
theorem q313 : (Jvm.Cond.initialized "LinkedTongue$Machine") ∈ lw_all := lw_g (lw_at lw_m1 12 rfl) rfl
theorem q569 : (Jvm.Cond.fieldLinkNest "LinkedTongue$Machine" (235 : Nat) "LinkedTongue$Words" "bytes" "[B" "LinkedTongue") ∈ lw_tbl := lw_at lw_m2 28 rfl
theorem q571 : (Jvm.Cond.fieldLinkNest "LinkedTongue$Machine" (238 : Nat) "LinkedTongue$Words" "from" "[I" "LinkedTongue") ∈ lw_tbl := lw_at lw_m2 30 rfl
theorem q573 : (Jvm.Cond.fieldLinkNest "LinkedTongue$Machine" (241 : Nat) "LinkedTongue$Words" "size" "[I" "LinkedTongue") ∈ lw_tbl := lw_at lw_m2 32 rfl
theorem q578 : (Jvm.Cond.fieldLinkNest "LinkedTongue$Machine" (226 : Nat) "LinkedTongue$Words" "many" "I" "LinkedTongue") ∈ lw_tbl := lw_at lw_m2 37 rfl
theorem q605 : (Jvm.Cond.fieldLinkNest "LinkedTongue$Machine" (355 : Nat) "LinkedTongue$Host" "types" "Ljava/util/ArrayList;" "LinkedTongue") ∈ lw_tbl := lw_at lw_m2 64 rfl
theorem q610 : (Jvm.Cond.fieldLinkNest "LinkedTongue$Machine" (324 : Nat) "LinkedTongue$Host" "words" "LLinkedTongue$Words;" "LinkedTongue") ∈ lw_tbl := lw_at lw_m2 69 rfl
theorem q641 : (Jvm.Cond.instantiable "LinkedTongue$Machine" (32 : Nat)) ∈ lw_all := lw_g (lw_at lw_m2 100 rfl) rfl
theorem q643 : (Jvm.Cond.instanceMethod ({ cls := "LinkedTongue$Machine", name := "<init>", desc := "(LLinkedTongue$Host;)V" } : Jvm.MethodName)) ∈ lw_all := lw_g (lw_at lw_m2 102 rfl) rfl
theorem q644 : (Jvm.Cond.code ({ cls := "LinkedTongue$Machine", name := "<init>", desc := "(LLinkedTongue$Host;)V" } : Jvm.MethodName) prog_22_method_1_code (2 : Nat) (Option.none : Option Jvm.ClassFile.FieldType)) ∈ lw_all := lw_g (lw_at lw_m2 103 rfl) rfl
theorem q645 : (Jvm.Cond.methodLink "LinkedTongue$Machine" (3 : Nat) ({ cls := "java/lang/Object", name := "<init>", desc := "()V" } : Jvm.MethodName)) ∈ lw_all := lw_g (lw_at lw_m2 104 rfl) rfl
theorem q646 : (Jvm.Cond.classLink "LinkedTongue$Machine" (9 : Nat) "LinkedTongue$Signal") ∈ lw_all := lw_g (lw_at lw_m2 105 rfl) rfl
theorem q655 : (Jvm.Cond.methodLink "LinkedTongue$Machine" (11 : Nat) ({ cls := "LinkedTongue$Signal", name := "<init>", desc := "()V" } : Jvm.MethodName)) ∈ lw_all := lw_g (lw_at lw_m2 114 rfl) rfl
theorem q660 : (Jvm.Cond.fieldLinkNest "LinkedTongue$Machine" (385 : Nat) "LinkedTongue$Signal" "error" "I" "LinkedTongue") ∈ lw_tbl := lw_at lw_m2 119 rfl
theorem q665 : (Jvm.Cond.classLink "LinkedTongue$Machine" (18 : Nat) "LinkedTongue$Words") ∈ lw_all := lw_g (lw_at lw_m2 124 rfl) rfl
theorem q666 : (Jvm.Cond.constant "LinkedTongue$Machine" (20 : Nat) (240000 : Int32)) ∈ lw_all := lw_g (lw_at lw_m2 125 rfl) rfl
theorem q667 : (Jvm.Cond.methodLink "LinkedTongue$Machine" (21 : Nat) ({ cls := "LinkedTongue$Words", name := "<init>", desc := "(II)V" } : Jvm.MethodName)) ∈ lw_all := lw_g (lw_at lw_m2 126 rfl) rfl
theorem q668 : (Jvm.Cond.constant "LinkedTongue$Machine" (28 : Nat) (65536 : Int32)) ∈ lw_all := lw_g (lw_at lw_m2 127 rfl) rfl
theorem q669 : (Jvm.Cond.classLink "LinkedTongue$Machine" (32 : Nat) "LinkedTongue$Texts") ∈ lw_all := lw_g (lw_at lw_m2 128 rfl) rfl
theorem q671 : (Jvm.Cond.methodLinkNest "LinkedTongue$Machine" (34 : Nat) ({ cls := "LinkedTongue$Texts", name := "<init>", desc := "()V" } : Jvm.MethodName) "LinkedTongue") ∈ lw_tbl := lw_at lw_m2 130 rfl
theorem q676 : (Jvm.Cond.fieldLinkNest "LinkedTongue$Machine" (343 : Nat) "LinkedTongue$Texts" "bytes" "[B" "LinkedTongue") ∈ lw_tbl := lw_at lw_m2 135 rfl
theorem q679 : (Jvm.Cond.fieldLinkNest "LinkedTongue$Machine" (344 : Nat) "LinkedTongue$Texts" "from" "[I" "LinkedTongue") ∈ lw_tbl := lw_at lw_m2 138 rfl
theorem q682 : (Jvm.Cond.fieldLinkNest "LinkedTongue$Machine" (342 : Nat) "LinkedTongue$Texts" "size" "[I" "LinkedTongue") ∈ lw_tbl := lw_at lw_m2 141 rfl
theorem q703 : (Jvm.Cond.classLink "LinkedTongue$Machine" (39 : Nat) "LinkedTongue$Heap") ∈ lw_all := lw_g (lw_at lw_m2 162 rfl) rfl
theorem q705 : (Jvm.Cond.methodLink "LinkedTongue$Machine" (41 : Nat) ({ cls := "LinkedTongue$Heap", name := "<init>", desc := "(LLinkedTongue$Signal;)V" } : Jvm.MethodName)) ∈ lw_all := lw_g (lw_at lw_m2 164 rfl) rfl
theorem q713 : (Jvm.Cond.fieldLinkNest "LinkedTongue$Machine" (261 : Nat) "LinkedTongue$Heap" "things" "Ljava/util/ArrayList;" "LinkedTongue") ∈ lw_tbl := lw_at lw_m2 172 rfl
theorem q716 : (Jvm.Cond.fieldLinkNest "LinkedTongue$Machine" (442 : Nat) "LinkedTongue$Heap" "shapes" "Ljava/util/ArrayList;" "LinkedTongue") ∈ lw_tbl := lw_at lw_m2 175 rfl
theorem q721 : (Jvm.Cond.fieldLinkNest "LinkedTongue$Machine" (590 : Nat) "LinkedTongue$Heap" "ticks" "I" "LinkedTongue") ∈ lw_tbl := lw_at lw_m2 180 rfl
theorem q723 : (Jvm.Cond.fieldLinkNest "LinkedTongue$Machine" (249 : Nat) "LinkedTongue$Heap" "made" "I" "LinkedTongue") ∈ lw_tbl := lw_at lw_m2 182 rfl
theorem q725 : (Jvm.Cond.fieldLinkNest "LinkedTongue$Machine" (495 : Nat) "LinkedTongue$Heap" "room" "I" "LinkedTongue") ∈ lw_tbl := lw_at lw_m2 184 rfl
theorem q744 : (Jvm.Cond.classLink "LinkedTongue$Machine" (48 : Nat) "LinkedTongue$Found") ∈ lw_all := lw_g (lw_at lw_m2 203 rfl) rfl
theorem q746 : (Jvm.Cond.methodLinkNest "LinkedTongue$Machine" (50 : Nat) ({ cls := "LinkedTongue$Found", name := "<init>", desc := "()V" } : Jvm.MethodName) "LinkedTongue") ∈ lw_tbl := lw_at lw_m2 205 rfl
theorem q752 : (Jvm.Cond.fieldLinkNest "LinkedTongue$Machine" (545 : Nat) "LinkedTongue$Found" "linker" "I" "LinkedTongue") ∈ lw_tbl := lw_at lw_m2 211 rfl
theorem q755 : (Jvm.Cond.fieldLinkNest "LinkedTongue$Machine" (531 : Nat) "LinkedTongue$Found" "element" "I" "LinkedTongue") ∈ lw_tbl := lw_at lw_m2 214 rfl
theorem q758 : (Jvm.Cond.fieldLinkNest "LinkedTongue$Machine" (540 : Nat) "LinkedTongue$Found" "operands" "I" "LinkedTongue") ∈ lw_tbl := lw_at lw_m2 217 rfl
theorem q761 : (Jvm.Cond.fieldLinkNest "LinkedTongue$Machine" (534 : Nat) "LinkedTongue$Found" "shape" "LLinkedTongue$Shape;" "LinkedTongue") ∈ lw_tbl := lw_at lw_m2 220 rfl
theorem q764 : (Jvm.Cond.fieldLinkNest "LinkedTongue$Machine" (538 : Nat) "LinkedTongue$Found" "type" "LLinkedTongue$HostType;" "LinkedTongue") ∈ lw_tbl := lw_at lw_m2 223 rfl
theorem q767 : (Jvm.Cond.fieldLinkNest "LinkedTongue$Machine" (539 : Nat) "LinkedTongue$Found" "code" "LLinkedTongue$Code;" "LinkedTongue") ∈ lw_tbl := lw_at lw_m2 226 rfl
theorem q770 : (Jvm.Cond.fieldLinkNest "LinkedTongue$Machine" (554 : Nat) "LinkedTongue$Found" "isText" "Z" "LinkedTongue") ∈ lw_tbl := lw_at lw_m2 229 rfl
theorem q774 : (Jvm.Cond.fieldLinkNest "LinkedTongue$Machine" (558 : Nat) "LinkedTongue$Found" "classes" "[I" "LinkedTongue") ∈ lw_tbl := lw_at lw_m2 233 rfl
theorem q777 : (Jvm.Cond.fieldLinkNest "LinkedTongue$Machine" (600 : Nat) "LinkedTongue$Found" "action" "I" "LinkedTongue") ∈ lw_tbl := lw_at lw_m2 236 rfl
theorem q780 : (Jvm.Cond.fieldLinkNest "LinkedTongue$Machine" (636 : Nat) "LinkedTongue$Found" "place" "I" "LinkedTongue") ∈ lw_tbl := lw_at lw_m2 239 rfl
theorem q783 : (Jvm.Cond.fieldLinkNest "LinkedTongue$Machine" (632 : Nat) "LinkedTongue$Found" "holder" "LLinkedTongue$Obj;" "LinkedTongue") ∈ lw_tbl := lw_at lw_m3 2 rfl
theorem q786 : (Jvm.Cond.fieldLinkNest "LinkedTongue$Machine" (645 : Nat) "LinkedTongue$Found" "to" "LLinkedTongue$Shape;" "LinkedTongue") ∈ lw_tbl := lw_at lw_m3 5 rfl
theorem q789 : (Jvm.Cond.fieldLinkNest "LinkedTongue$Machine" (621 : Nat) "LinkedTongue$Found" "member" "LLinkedTongue$Member;" "LinkedTongue") ∈ lw_tbl := lw_at lw_m3 8 rfl
theorem q821 : (Jvm.Cond.classLink "LinkedTongue$Machine" (55 : Nat) "LinkedTongue$Spare") ∈ lw_all := lw_g (lw_at lw_m3 40 rfl) rfl
theorem q823 : (Jvm.Cond.methodLinkNest "LinkedTongue$Machine" (57 : Nat) ({ cls := "LinkedTongue$Spare", name := "<init>", desc := "()V" } : Jvm.MethodName) "LinkedTongue") ∈ lw_tbl := lw_at lw_m3 42 rfl
theorem q831 : (Jvm.Cond.classLink "LinkedTongue$Machine" (62 : Nat) "java/util/ArrayList") ∈ lw_all := lw_g (lw_at lw_m3 50 rfl) rfl
theorem q832 : (Jvm.Cond.methodLink "LinkedTongue$Machine" (64 : Nat) ({ cls := "java/util/ArrayList", name := "<init>", desc := "()V" } : Jvm.MethodName)) ∈ lw_all := lw_g (lw_at lw_m3 51 rfl) rfl
theorem q833 : (Jvm.Cond.classLink "LinkedTongue$Machine" (82 : Nat) "LinkedTongue$Task") ∈ lw_all := lw_g (lw_at lw_m3 52 rfl) rfl
theorem q836 : (Jvm.Cond.methodLinkNest "LinkedTongue$Machine" (84 : Nat) ({ cls := "LinkedTongue$Task", name := "<init>", desc := "()V" } : Jvm.MethodName) "LinkedTongue") ∈ lw_tbl := lw_at lw_m3 55 rfl
theorem q847 : (Jvm.Cond.fieldLinkNest "LinkedTongue$Machine" (246 : Nat) "LinkedTongue$Task" "state" "I" "LinkedTongue") ∈ lw_tbl := lw_at lw_m3 66 rfl
theorem q850 : (Jvm.Cond.fieldLinkNest "LinkedTongue$Machine" (392 : Nat) "LinkedTongue$Task" "size" "I" "LinkedTongue") ∈ lw_tbl := lw_at lw_m3 69 rfl
theorem q852 : (Jvm.Cond.fieldLinkNest "LinkedTongue$Machine" (369 : Nat) "LinkedTongue$Task" "calls" "I" "LinkedTongue") ∈ lw_tbl := lw_at lw_m3 71 rfl
theorem q854 : (Jvm.Cond.fieldLinkNest "LinkedTongue$Machine" (474 : Nat) "LinkedTongue$Task" "tries" "I" "LinkedTongue") ∈ lw_tbl := lw_at lw_m3 73 rfl
theorem q856 : (Jvm.Cond.fieldLinkNest "LinkedTongue$Machine" (288 : Nat) "LinkedTongue$Task" "words" "[J" "LinkedTongue") ∈ lw_tbl := lw_at lw_m3 75 rfl
theorem q858 : (Jvm.Cond.fieldLinkNest "LinkedTongue$Machine" (285 : Nat) "LinkedTongue$Task" "tags" "[B" "LinkedTongue") ∈ lw_tbl := lw_at lw_m3 77 rfl
theorem q860 : (Jvm.Cond.fieldLinkNest "LinkedTongue$Machine" (372 : Nat) "LinkedTongue$Task" "code" "[LLinkedTongue$Code;" "LinkedTongue") ∈ lw_tbl := lw_at lw_m3 79 rfl
theorem q862 : (Jvm.Cond.fieldLinkNest "LinkedTongue$Machine" (375 : Nat) "LinkedTongue$Task" "next" "[I" "LinkedTongue") ∈ lw_tbl := lw_at lw_m3 81 rfl
theorem q865 : (Jvm.Cond.fieldLinkNest "LinkedTongue$Machine" (410 : Nat) "LinkedTongue$Task" "variables" "[LLinkedTongue$Variables;" "LinkedTongue") ∈ lw_tbl := lw_at lw_m3 84 rfl
theorem q867 : (Jvm.Cond.fieldLinkNest "LinkedTongue$Machine" (477 : Nat) "LinkedTongue$Task" "thisTag" "[B" "LinkedTongue") ∈ lw_tbl := lw_at lw_m3 86 rfl
theorem q869 : (Jvm.Cond.fieldLinkNest "LinkedTongue$Machine" (480 : Nat) "LinkedTongue$Task" "thisWord" "[J" "LinkedTongue") ∈ lw_tbl := lw_at lw_m3 88 rfl
theorem q916 : (Jvm.Cond.classLink "LinkedTongue$Machine" (119 : Nat) "java/lang/String") ∈ lw_all := lw_g (lw_at lw_m3 135 rfl) rfl
theorem q917 : (Jvm.Cond.stringRef "LinkedTongue$Machine" (121 : Nat) "null") ∈ lw_tbl := lw_at lw_m3 136 rfl
theorem q918 : (Jvm.Cond.stringRef "LinkedTongue$Machine" (123 : Nat) "bool") ∈ lw_tbl := lw_at lw_m3 137 rfl
theorem q919 : (Jvm.Cond.stringRef "LinkedTongue$Machine" (125 : Nat) "int") ∈ lw_tbl := lw_at lw_m3 138 rfl
theorem q920 : (Jvm.Cond.stringRef "LinkedTongue$Machine" (127 : Nat) "text") ∈ lw_tbl := lw_at lw_m3 139 rfl
theorem q921 : (Jvm.Cond.stringRef "LinkedTongue$Machine" (129 : Nat) "object") ∈ lw_tbl := lw_at lw_m3 140 rfl
theorem q922 : (Jvm.Cond.stringRef "LinkedTongue$Machine" (131 : Nat) "fun") ∈ lw_tbl := lw_at lw_m3 141 rfl
theorem q923 : (Jvm.Cond.stringRef "LinkedTongue$Machine" (133 : Nat) "list") ∈ lw_tbl := lw_at lw_m3 142 rfl
theorem q924 : (Jvm.Cond.stringRef "LinkedTongue$Machine" (135 : Nat) "host") ∈ lw_tbl := lw_at lw_m3 143 rfl
theorem q925 : (Jvm.Cond.stringRef "LinkedTongue$Machine" (137 : Nat) "class") ∈ lw_tbl := lw_at lw_m3 144 rfl
theorem q926 : (Jvm.Cond.classLink "LinkedTongue$Machine" (143 : Nat) "LinkedTongue$Lookup") ∈ lw_all := lw_g (lw_at lw_m3 145 rfl) rfl
theorem q928 : (Jvm.Cond.methodLink "LinkedTongue$Machine" (145 : Nat) ({ cls := "LinkedTongue$Lookup", name := "<init>", desc := "(LLinkedTongue$Words;LLinkedTongue$Heap;LLinkedTongue$Signal;)V" } : Jvm.MethodName)) ∈ lw_all := lw_g (lw_at lw_m3 147 rfl) rfl
theorem q968 : (Jvm.Cond.methodLink "LinkedTongue$Machine" (152 : Nat) ({ cls := "LinkedTongue$Machine", name := "anew", desc := "(LLinkedTongue$Host;)V" } : Jvm.MethodName)) ∈ lw_all := lw_g (lw_at lw_m3 187 rfl) rfl
theorem q969 : (Jvm.Cond.instanceMethod ({ cls := "LinkedTongue$Machine", name := "anew", desc := "(LLinkedTongue$Host;)V" } : Jvm.MethodName)) ∈ lw_all := lw_g (lw_at lw_m3 188 rfl) rfl
theorem q970 : (Jvm.Cond.selects "LinkedTongue$Machine" ({ cls := "LinkedTongue$Machine", name := "anew", desc := "(LLinkedTongue$Host;)V" } : Jvm.MethodName) ({ cls := "LinkedTongue$Machine", name := "anew", desc := "(LLinkedTongue$Host;)V" } : Jvm.MethodName)) ∈ lw_all := lw_g (lw_at lw_m3 189 rfl) rfl
theorem q971 : (Jvm.Cond.code ({ cls := "LinkedTongue$Machine", name := "anew", desc := "(LLinkedTongue$Host;)V" } : Jvm.MethodName) prog_22_method_2_code (3 : Nat) (Option.none : Option Jvm.ClassFile.FieldType)) ∈ lw_all := lw_g (lw_at lw_m3 190 rfl) rfl
theorem q972 : (Jvm.Cond.methodLink "LinkedTongue$Machine" (159 : Nat) ({ cls := "LinkedTongue$Lookup", name := "anew", desc := "(LLinkedTongue$Host;)V" } : Jvm.MethodName)) ∈ lw_all := lw_g (lw_at lw_m3 191 rfl) rfl
theorem q976 : (Jvm.Cond.methodLink "LinkedTongue$Machine" (160 : Nat) ({ cls := "LinkedTongue$Words", name := "cut", desc := "(I)V" } : Jvm.MethodName)) ∈ lw_all := lw_g (lw_at lw_m3 195 rfl) rfl
theorem q977 : (Jvm.Cond.methodLink "LinkedTongue$Machine" (164 : Nat) ({ cls := "LinkedTongue$Texts", name := "clear", desc := "()V" } : Jvm.MethodName)) ∈ lw_all := lw_g (lw_at lw_m3 196 rfl) rfl
theorem q981 : (Jvm.Cond.methodLink "LinkedTongue$Machine" (167 : Nat) ({ cls := "LinkedTongue$Heap", name := "clear", desc := "()V" } : Jvm.MethodName)) ∈ lw_all := lw_g (lw_at lw_m3 200 rfl) rfl
theorem q1003 : (Jvm.Cond.fieldLinkNest "LinkedTongue$Machine" (812 : Nat) "LinkedTongue$Shape" "prototype" "LLinkedTongue$Obj;" "LinkedTongue") ∈ lw_tbl := lw_at lw_m3 222 rfl
theorem q1081 : (Jvm.Cond.selects "LinkedTongue$Machine" ({ cls := "java/lang/Object", name := "getClass", desc := "()Ljava/lang/Class;" } : Jvm.MethodName) ({ cls := "java/lang/Object", name := "getClass", desc := "()Ljava/lang/Class;" } : Jvm.MethodName)) ∈ lw_all := lw_g (lw_at lw_m4 60 rfl) rfl
theorem q1133 : (Jvm.Cond.methodLink "LinkedTongue$Machine" (168 : Nat) ({ cls := "java/util/ArrayList", name := "clear", desc := "()V" } : Jvm.MethodName)) ∈ lw_all := lw_g (lw_at lw_m4 112 rfl) rfl
theorem q1134 : (Jvm.Cond.methodLink "LinkedTongue$Machine" (169 : Nat) ({ cls := "java/util/ArrayList", name := "size", desc := "()I" } : Jvm.MethodName)) ∈ lw_all := lw_g (lw_at lw_m4 113 rfl) rfl
theorem q1138 : (Jvm.Cond.methodLink "LinkedTongue$Machine" (173 : Nat) ({ cls := "java/util/ArrayList", name := "get", desc := "(I)Ljava/lang/Object;" } : Jvm.MethodName)) ∈ lw_all := lw_g (lw_at lw_m4 117 rfl) rfl
theorem q1152 : (Jvm.Cond.classLink "LinkedTongue$Machine" (177 : Nat) "LinkedTongue$Site") ∈ lw_all := lw_g (lw_at lw_m4 131 rfl) rfl
theorem q1153 : (Jvm.Cond.methodLink "LinkedTongue$Machine" (179 : Nat) ({ cls := "LinkedTongue$Site", name := "letGo", desc := "(LLinkedTongue$Spare;)V" } : Jvm.MethodName)) ∈ lw_all := lw_g (lw_at lw_m4 132 rfl) rfl
theorem q1161 : (Jvm.Cond.methodLink "LinkedTongue$Machine" (199 : Nat) ({ cls := "LinkedTongue$Task", name := "end", desc := "(IBJ)V" } : Jvm.MethodName)) ∈ lw_all := lw_g (lw_at lw_m4 140 rfl) rfl
theorem q1165 : (Jvm.Cond.fieldLink "LinkedTongue$Machine" (12 : Nat) "LinkedTongue$Machine" "signal" "LLinkedTongue$Signal;") ∈ lw_all := lw_g (lw_at lw_m4 144 rfl) rfl
theorem q1166 : (Jvm.Cond.fieldLink "LinkedTongue$Machine" (156 : Nat) "LinkedTongue$Machine" "host" "LLinkedTongue$Host;") ∈ lw_all := lw_g (lw_at lw_m4 145 rfl) rfl
theorem q1167 : (Jvm.Cond.fieldLink "LinkedTongue$Machine" (24 : Nat) "LinkedTongue$Machine" "names" "LLinkedTongue$Words;") ∈ lw_all := lw_g (lw_at lw_m4 146 rfl) rfl
theorem q1169 : (Jvm.Cond.fieldLink "LinkedTongue$Machine" (29 : Nat) "LinkedTongue$Machine" "literals" "LLinkedTongue$Words;") ∈ lw_all := lw_g (lw_at lw_m4 148 rfl) rfl
theorem q1171 : (Jvm.Cond.fieldLink "LinkedTongue$Machine" (35 : Nat) "LinkedTongue$Machine" "texts" "LLinkedTongue$Texts;") ∈ lw_all := lw_g (lw_at lw_m4 150 rfl) rfl
theorem q1173 : (Jvm.Cond.fieldLink "LinkedTongue$Machine" (44 : Nat) "LinkedTongue$Machine" "heap" "LLinkedTongue$Heap;") ∈ lw_all := lw_g (lw_at lw_m4 152 rfl) rfl
theorem q1175 : (Jvm.Cond.fieldLink "LinkedTongue$Machine" (148 : Nat) "LinkedTongue$Machine" "lookup" "LLinkedTongue$Lookup;") ∈ lw_all := lw_g (lw_at lw_m4 154 rfl) rfl
theorem q1177 : (Jvm.Cond.fieldLink "LinkedTongue$Machine" (51 : Nat) "LinkedTongue$Machine" "found" "LLinkedTongue$Found;") ∈ lw_all := lw_g (lw_at lw_m4 156 rfl) rfl
theorem q1178 : (Jvm.Cond.fieldLink "LinkedTongue$Machine" (58 : Nat) "LinkedTongue$Machine" "spare" "LLinkedTongue$Spare;") ∈ lw_all := lw_g (lw_at lw_m4 157 rfl) rfl
theorem q1179 : (Jvm.Cond.fieldLink "LinkedTongue$Machine" (65 : Nat) "LinkedTongue$Machine" "functions" "Ljava/util/ArrayList;") ∈ lw_all := lw_g (lw_at lw_m4 158 rfl) rfl
theorem q1181 : (Jvm.Cond.fieldLink "LinkedTongue$Machine" (69 : Nat) "LinkedTongue$Machine" "sites" "Ljava/util/ArrayList;") ∈ lw_all := lw_g (lw_at lw_m4 160 rfl) rfl
theorem q1183 : (Jvm.Cond.fieldLink "LinkedTongue$Machine" (72 : Nat) "LinkedTongue$Machine" "descriptors" "Ljava/util/ArrayList;") ∈ lw_all := lw_g (lw_at lw_m4 162 rfl) rfl
theorem q1185 : (Jvm.Cond.fieldLink "LinkedTongue$Machine" (183 : Nat) "LinkedTongue$Machine" "units" "I") ∈ lw_all := lw_g (lw_at lw_m4 164 rfl) rfl
theorem q1187 : (Jvm.Cond.fieldLink "LinkedTongue$Machine" (187 : Nat) "LinkedTongue$Machine" "instructions" "I") ∈ lw_all := lw_g (lw_at lw_m4 166 rfl) rfl
theorem q1189 : (Jvm.Cond.fieldLink "LinkedTongue$Machine" (190 : Nat) "LinkedTongue$Machine" "literalsKnown" "I") ∈ lw_all := lw_g (lw_at lw_m4 168 rfl) rfl
theorem q1190 : (Jvm.Cond.fieldLink "LinkedTongue$Machine" (75 : Nat) "LinkedTongue$Machine" "mains" "[I") ∈ lw_all := lw_g (lw_at lw_m4 169 rfl) rfl
theorem q1191 : (Jvm.Cond.fieldLink "LinkedTongue$Machine" (79 : Nat) "LinkedTongue$Machine" "literalText" "[I") ∈ lw_all := lw_g (lw_at lw_m4 170 rfl) rfl
theorem q1192 : (Jvm.Cond.fieldLink "LinkedTongue$Machine" (85 : Nat) "LinkedTongue$Machine" "tasks" "[LLinkedTongue$Task;") ∈ lw_all := lw_g (lw_at lw_m4 171 rfl) rfl
theorem q1194 : (Jvm.Cond.fieldLink "LinkedTongue$Machine" (89 : Nat) "LinkedTongue$Machine" "globalWords" "[J") ∈ lw_all := lw_g (lw_at lw_m4 173 rfl) rfl
theorem q1196 : (Jvm.Cond.fieldLink "LinkedTongue$Machine" (93 : Nat) "LinkedTongue$Machine" "globalTags" "[B") ∈ lw_all := lw_g (lw_at lw_m4 175 rfl) rfl
theorem q1198 : (Jvm.Cond.fieldLink "LinkedTongue$Machine" (97 : Nat) "LinkedTongue$Machine" "isGlobal" "[Z") ∈ lw_all := lw_g (lw_at lw_m4 177 rfl) rfl
theorem q1200 : (Jvm.Cond.fieldLink "LinkedTongue$Machine" (101 : Nat) "LinkedTongue$Machine" "output" "[B") ∈ lw_all := lw_g (lw_at lw_m4 179 rfl) rfl
theorem q1202 : (Jvm.Cond.fieldLink "LinkedTongue$Machine" (193 : Nat) "LinkedTongue$Machine" "outputSize" "I") ∈ lw_all := lw_g (lw_at lw_m4 181 rfl) rfl
theorem q1204 : (Jvm.Cond.fieldLink "LinkedTongue$Machine" (104 : Nat) "LinkedTongue$Machine" "trace" "[I") ∈ lw_all := lw_g (lw_at lw_m4 183 rfl) rfl
theorem q1206 : (Jvm.Cond.fieldLink "LinkedTongue$Machine" (196 : Nat) "LinkedTongue$Machine" "traceSize" "I") ∈ lw_all := lw_g (lw_at lw_m4 185 rfl) rfl
theorem q1208 : (Jvm.Cond.fieldLink "LinkedTongue$Machine" (107 : Nat) "LinkedTongue$Machine" "print" "[B") ∈ lw_all := lw_g (lw_at lw_m4 187 rfl) rfl
theorem q1209 : (Jvm.Cond.fieldLink "LinkedTongue$Machine" (291 : Nat) "LinkedTongue$Machine" "printed" "I") ∈ lw_all := lw_g (lw_at lw_m4 188 rfl) rfl
theorem q1210 : (Jvm.Cond.fieldLink "LinkedTongue$Machine" (281 : Nat) "LinkedTongue$Machine" "t" "LLinkedTongue$Task;") ∈ lw_all := lw_g (lw_at lw_m4 189 rfl) rfl
theorem q1211 : (Jvm.Cond.fieldLink "LinkedTongue$Machine" (110 : Nat) "LinkedTongue$Machine" "PROTO" "[B") ∈ lw_all := lw_g (lw_at lw_m4 190 rfl) rfl
theorem q1212 : (Jvm.Cond.fieldLink "LinkedTongue$Machine" (113 : Nat) "LinkedTongue$Machine" "small" "[B") ∈ lw_all := lw_g (lw_at lw_m4 191 rfl) rfl
theorem q1213 : (Jvm.Cond.fieldLink "LinkedTongue$Machine" (116 : Nat) "LinkedTongue$Machine" "marks" "[Z") ∈ lw_all := lw_g (lw_at lw_m4 192 rfl) rfl
theorem q1214 : (Jvm.Cond.fieldLink "LinkedTongue$Machine" (139 : Nat) "LinkedTongue$Machine" "KINDS" "[Ljava/lang/String;") ∈ lw_all := lw_g (lw_at lw_m4 193 rfl) rfl
theorem q1215 : (Jvm.Cond.laysFinal "LinkedTongue$Machine" "LinkedTongue$Machine" "signal" "LLinkedTongue$Signal;") ∈ lw_all := lw_g (lw_at lw_m4 194 rfl) rfl
theorem q1216 : (Jvm.Cond.soleField "LinkedTongue$Machine" "signal") ∈ lw_all := lw_g (lw_at lw_m4 195 rfl) rfl
theorem q1217 : (Jvm.Cond.lays "LinkedTongue$Machine" "LinkedTongue$Machine" "host" "LLinkedTongue$Host;") ∈ lw_all := lw_g (lw_at lw_m4 196 rfl) rfl
theorem q1218 : (Jvm.Cond.soleField "LinkedTongue$Machine" "host") ∈ lw_all := lw_g (lw_at lw_m4 197 rfl) rfl
theorem q1219 : (Jvm.Cond.laysFinal "LinkedTongue$Machine" "LinkedTongue$Machine" "names" "LLinkedTongue$Words;") ∈ lw_all := lw_g (lw_at lw_m4 198 rfl) rfl
theorem q1220 : (Jvm.Cond.soleField "LinkedTongue$Machine" "names") ∈ lw_all := lw_g (lw_at lw_m4 199 rfl) rfl
theorem q1221 : (Jvm.Cond.laysFinal "LinkedTongue$Machine" "LinkedTongue$Machine" "literals" "LLinkedTongue$Words;") ∈ lw_all := lw_g (lw_at lw_m4 200 rfl) rfl
theorem q1222 : (Jvm.Cond.soleField "LinkedTongue$Machine" "literals") ∈ lw_all := lw_g (lw_at lw_m4 201 rfl) rfl
theorem q1223 : (Jvm.Cond.laysFinal "LinkedTongue$Machine" "LinkedTongue$Machine" "texts" "LLinkedTongue$Texts;") ∈ lw_all := lw_g (lw_at lw_m4 202 rfl) rfl
theorem q1224 : (Jvm.Cond.soleField "LinkedTongue$Machine" "texts") ∈ lw_all := lw_g (lw_at lw_m4 203 rfl) rfl
theorem q1225 : (Jvm.Cond.laysFinal "LinkedTongue$Machine" "LinkedTongue$Machine" "heap" "LLinkedTongue$Heap;") ∈ lw_all := lw_g (lw_at lw_m4 204 rfl) rfl
theorem q1226 : (Jvm.Cond.soleField "LinkedTongue$Machine" "heap") ∈ lw_all := lw_g (lw_at lw_m4 205 rfl) rfl
theorem q1227 : (Jvm.Cond.laysFinal "LinkedTongue$Machine" "LinkedTongue$Machine" "lookup" "LLinkedTongue$Lookup;") ∈ lw_all := lw_g (lw_at lw_m4 206 rfl) rfl
theorem q1228 : (Jvm.Cond.soleField "LinkedTongue$Machine" "lookup") ∈ lw_all := lw_g (lw_at lw_m4 207 rfl) rfl
theorem q1229 : (Jvm.Cond.laysFinal "LinkedTongue$Machine" "LinkedTongue$Machine" "found" "LLinkedTongue$Found;") ∈ lw_all := lw_g (lw_at lw_m4 208 rfl) rfl
theorem q1230 : (Jvm.Cond.soleField "LinkedTongue$Machine" "found") ∈ lw_all := lw_g (lw_at lw_m4 209 rfl) rfl
theorem q1231 : (Jvm.Cond.laysFinal "LinkedTongue$Machine" "LinkedTongue$Machine" "spare" "LLinkedTongue$Spare;") ∈ lw_all := lw_g (lw_at lw_m4 210 rfl) rfl
theorem q1232 : (Jvm.Cond.soleField "LinkedTongue$Machine" "spare") ∈ lw_all := lw_g (lw_at lw_m4 211 rfl) rfl
theorem q1233 : (Jvm.Cond.laysFinal "LinkedTongue$Machine" "LinkedTongue$Machine" "functions" "Ljava/util/ArrayList;") ∈ lw_all := lw_g (lw_at lw_m4 212 rfl) rfl
theorem q1234 : (Jvm.Cond.soleField "LinkedTongue$Machine" "functions") ∈ lw_all := lw_g (lw_at lw_m4 213 rfl) rfl
theorem q1235 : (Jvm.Cond.laysFinal "LinkedTongue$Machine" "LinkedTongue$Machine" "sites" "Ljava/util/ArrayList;") ∈ lw_all := lw_g (lw_at lw_m4 214 rfl) rfl
theorem q1236 : (Jvm.Cond.soleField "LinkedTongue$Machine" "sites") ∈ lw_all := lw_g (lw_at lw_m4 215 rfl) rfl
theorem q1237 : (Jvm.Cond.laysFinal "LinkedTongue$Machine" "LinkedTongue$Machine" "descriptors" "Ljava/util/ArrayList;") ∈ lw_all := lw_g (lw_at lw_m4 216 rfl) rfl
theorem q1238 : (Jvm.Cond.soleField "LinkedTongue$Machine" "descriptors") ∈ lw_all := lw_g (lw_at lw_m4 217 rfl) rfl
theorem q1239 : (Jvm.Cond.lays "LinkedTongue$Machine" "LinkedTongue$Machine" "units" "I") ∈ lw_all := lw_g (lw_at lw_m4 218 rfl) rfl
theorem q1240 : (Jvm.Cond.soleField "LinkedTongue$Machine" "units") ∈ lw_all := lw_g (lw_at lw_m4 219 rfl) rfl
theorem q1241 : (Jvm.Cond.lays "LinkedTongue$Machine" "LinkedTongue$Machine" "instructions" "I") ∈ lw_all := lw_g (lw_at lw_m4 220 rfl) rfl
theorem q1242 : (Jvm.Cond.soleField "LinkedTongue$Machine" "instructions") ∈ lw_all := lw_g (lw_at lw_m4 221 rfl) rfl
theorem q1243 : (Jvm.Cond.lays "LinkedTongue$Machine" "LinkedTongue$Machine" "literalsKnown" "I") ∈ lw_all := lw_g (lw_at lw_m4 222 rfl) rfl
theorem q1244 : (Jvm.Cond.soleField "LinkedTongue$Machine" "literalsKnown") ∈ lw_all := lw_g (lw_at lw_m4 223 rfl) rfl
theorem q1245 : (Jvm.Cond.laysFinal "LinkedTongue$Machine" "LinkedTongue$Machine" "mains" "[I") ∈ lw_all := lw_g (lw_at lw_m4 224 rfl) rfl
theorem q1246 : (Jvm.Cond.soleField "LinkedTongue$Machine" "mains") ∈ lw_all := lw_g (lw_at lw_m4 225 rfl) rfl
theorem q1247 : (Jvm.Cond.lays "LinkedTongue$Machine" "LinkedTongue$Machine" "literalText" "[I") ∈ lw_all := lw_g (lw_at lw_m4 226 rfl) rfl
theorem q1248 : (Jvm.Cond.soleField "LinkedTongue$Machine" "literalText") ∈ lw_all := lw_g (lw_at lw_m4 227 rfl) rfl
theorem q1249 : (Jvm.Cond.laysFinal "LinkedTongue$Machine" "LinkedTongue$Machine" "tasks" "[LLinkedTongue$Task;") ∈ lw_all := lw_g (lw_at lw_m4 228 rfl) rfl
theorem q1250 : (Jvm.Cond.soleField "LinkedTongue$Machine" "tasks") ∈ lw_all := lw_g (lw_at lw_m4 229 rfl) rfl
theorem q1251 : (Jvm.Cond.lays "LinkedTongue$Machine" "LinkedTongue$Machine" "globalWords" "[J") ∈ lw_all := lw_g (lw_at lw_m4 230 rfl) rfl
theorem q1252 : (Jvm.Cond.soleField "LinkedTongue$Machine" "globalWords") ∈ lw_all := lw_g (lw_at lw_m4 231 rfl) rfl
theorem q1253 : (Jvm.Cond.lays "LinkedTongue$Machine" "LinkedTongue$Machine" "globalTags" "[B") ∈ lw_all := lw_g (lw_at lw_m4 232 rfl) rfl
theorem q1254 : (Jvm.Cond.soleField "LinkedTongue$Machine" "globalTags") ∈ lw_all := lw_g (lw_at lw_m4 233 rfl) rfl
theorem q1255 : (Jvm.Cond.lays "LinkedTongue$Machine" "LinkedTongue$Machine" "isGlobal" "[Z") ∈ lw_all := lw_g (lw_at lw_m4 234 rfl) rfl
theorem q1256 : (Jvm.Cond.soleField "LinkedTongue$Machine" "isGlobal") ∈ lw_all := lw_g (lw_at lw_m4 235 rfl) rfl
theorem q1257 : (Jvm.Cond.lays "LinkedTongue$Machine" "LinkedTongue$Machine" "output" "[B") ∈ lw_all := lw_g (lw_at lw_m4 236 rfl) rfl
theorem q1258 : (Jvm.Cond.soleField "LinkedTongue$Machine" "output") ∈ lw_all := lw_g (lw_at lw_m4 237 rfl) rfl
theorem q1259 : (Jvm.Cond.lays "LinkedTongue$Machine" "LinkedTongue$Machine" "outputSize" "I") ∈ lw_all := lw_g (lw_at lw_m4 238 rfl) rfl
theorem q1260 : (Jvm.Cond.soleField "LinkedTongue$Machine" "outputSize") ∈ lw_all := lw_g (lw_at lw_m4 239 rfl) rfl
theorem q1261 : (Jvm.Cond.lays "LinkedTongue$Machine" "LinkedTongue$Machine" "trace" "[I") ∈ lw_all := lw_g (lw_at lw_m5 0 rfl) rfl
theorem q1262 : (Jvm.Cond.soleField "LinkedTongue$Machine" "trace") ∈ lw_all := lw_g (lw_at lw_m5 1 rfl) rfl
theorem q1263 : (Jvm.Cond.lays "LinkedTongue$Machine" "LinkedTongue$Machine" "traceSize" "I") ∈ lw_all := lw_g (lw_at lw_m5 2 rfl) rfl
theorem q1264 : (Jvm.Cond.soleField "LinkedTongue$Machine" "traceSize") ∈ lw_all := lw_g (lw_at lw_m5 3 rfl) rfl
theorem q1265 : (Jvm.Cond.lays "LinkedTongue$Machine" "LinkedTongue$Machine" "print" "[B") ∈ lw_all := lw_g (lw_at lw_m5 4 rfl) rfl
theorem q1266 : (Jvm.Cond.soleField "LinkedTongue$Machine" "print") ∈ lw_all := lw_g (lw_at lw_m5 5 rfl) rfl
theorem q1267 : (Jvm.Cond.lays "LinkedTongue$Machine" "LinkedTongue$Machine" "printed" "I") ∈ lw_all := lw_g (lw_at lw_m5 6 rfl) rfl
theorem q1268 : (Jvm.Cond.soleField "LinkedTongue$Machine" "printed") ∈ lw_all := lw_g (lw_at lw_m5 7 rfl) rfl
theorem q1269 : (Jvm.Cond.lays "LinkedTongue$Machine" "LinkedTongue$Machine" "t" "LLinkedTongue$Task;") ∈ lw_all := lw_g (lw_at lw_m5 8 rfl) rfl
theorem q1270 : (Jvm.Cond.soleField "LinkedTongue$Machine" "t") ∈ lw_all := lw_g (lw_at lw_m5 9 rfl) rfl
theorem q1271 : (Jvm.Cond.laysFinal "LinkedTongue$Machine" "LinkedTongue$Machine" "PROTO" "[B") ∈ lw_all := lw_g (lw_at lw_m5 10 rfl) rfl
theorem q1272 : (Jvm.Cond.soleField "LinkedTongue$Machine" "PROTO") ∈ lw_all := lw_g (lw_at lw_m5 11 rfl) rfl
theorem q1273 : (Jvm.Cond.laysFinal "LinkedTongue$Machine" "LinkedTongue$Machine" "small" "[B") ∈ lw_all := lw_g (lw_at lw_m5 12 rfl) rfl
theorem q1274 : (Jvm.Cond.soleField "LinkedTongue$Machine" "small") ∈ lw_all := lw_g (lw_at lw_m5 13 rfl) rfl
theorem q1275 : (Jvm.Cond.laysFinal "LinkedTongue$Machine" "LinkedTongue$Machine" "marks" "[Z") ∈ lw_all := lw_g (lw_at lw_m5 14 rfl) rfl
theorem q1276 : (Jvm.Cond.soleField "LinkedTongue$Machine" "marks") ∈ lw_all := lw_g (lw_at lw_m5 15 rfl) rfl
theorem q1277 : (Jvm.Cond.laysFinal "LinkedTongue$Machine" "LinkedTongue$Machine" "KINDS" "[Ljava/lang/String;") ∈ lw_all := lw_g (lw_at lw_m5 16 rfl) rfl
theorem q1278 : (Jvm.Cond.soleField "LinkedTongue$Machine" "KINDS") ∈ lw_all := lw_g (lw_at lw_m5 17 rfl) rfl
theorem q1279 : (Jvm.Cond.superclass "LinkedTongue$Machine" "java/lang/Object") ∈ lw_all := lw_g (lw_at lw_m5 18 rfl) rfl
theorem q1499 : (Jvm.Cond.fieldLinkNest "LinkedTongue$Machine" (276 : Nat) "LinkedTongue$HostType" "number" "I" "LinkedTongue") ∈ lw_tbl := lw_at lw_m5 238 rfl
theorem q1505 : (Jvm.Cond.fieldLinkNest "LinkedTongue$Machine" (349 : Nat) "LinkedTongue$HostType" "name" "I" "LinkedTongue") ∈ lw_tbl := lw_at lw_m6 4 rfl
theorem q1507 : (Jvm.Cond.fieldLinkNest "LinkedTongue$Machine" (700 : Nat) "LinkedTongue$HostType" "firstMember" "I" "LinkedTongue") ∈ lw_tbl := lw_at lw_m6 6 rfl
theorem q1520 : (Jvm.Cond.fieldLinkNest "LinkedTongue$Machine" (708 : Nat) "LinkedTongue$HostType" "words" "[J" "LinkedTongue") ∈ lw_tbl := lw_at lw_m6 19 rfl
theorem q1522 : (Jvm.Cond.fieldLinkNest "LinkedTongue$Machine" (698 : Nat) "LinkedTongue$HostType" "tags" "[B" "LinkedTongue") ∈ lw_tbl := lw_at lw_m6 21 rfl
theorem q1589 : (Jvm.Cond.fieldLinkNest "LinkedTongue$Machine" (699 : Nat) "LinkedTongue$Member" "number" "I" "LinkedTongue") ∈ lw_tbl := lw_at lw_m6 88 rfl
theorem q1593 : (Jvm.Cond.fieldLinkNest "LinkedTongue$Machine" (737 : Nat) "LinkedTongue$Member" "kind" "I" "LinkedTongue") ∈ lw_tbl := lw_at lw_m6 92 rfl
theorem q1598 : (Jvm.Cond.fieldLinkNest "LinkedTongue$Machine" (726 : Nat) "LinkedTongue$Member" "type" "I" "LinkedTongue") ∈ lw_tbl := lw_at lw_m6 97 rfl
theorem q1600 : (Jvm.Cond.fieldLinkNest "LinkedTongue$Machine" (695 : Nat) "LinkedTongue$Member" "owner" "LLinkedTongue$HostType;" "LinkedTongue") ∈ lw_tbl := lw_at lw_m6 99 rfl
theorem q1605 : (Jvm.Cond.fieldLinkNest "LinkedTongue$Machine" (690 : Nat) "LinkedTongue$Member" "isStatic" "Z" "LinkedTongue") ∈ lw_tbl := lw_at lw_m6 104 rfl
theorem q1609 : (Jvm.Cond.fieldLinkNest "LinkedTongue$Machine" (758 : Nat) "LinkedTongue$Member" "name" "I" "LinkedTongue") ∈ lw_tbl := lw_at lw_m6 108 rfl
theorem q1612 : (Jvm.Cond.fieldLinkNest "LinkedTongue$Machine" (770 : Nat) "LinkedTongue$Member" "parameters" "[I" "LinkedTongue") ∈ lw_tbl := lw_at lw_m6 111 rfl
theorem q1615 : (Jvm.Cond.fieldLinkNest "LinkedTongue$Machine" (779 : Nat) "LinkedTongue$Member" "variable" "Z" "LinkedTongue") ∈ lw_tbl := lw_at lw_m6 114 rfl
theorem q1616 : (Jvm.Cond.fieldLinkNest "LinkedTongue$Machine" (746 : Nat) "LinkedTongue$Member" "field" "LLinkedTongue$Member;" "LinkedTongue") ∈ lw_tbl := lw_at lw_m6 115 rfl
theorem q1617 : (Jvm.Cond.fieldLinkNest "LinkedTongue$Machine" (783 : Nat) "LinkedTongue$Member" "sets" "Z" "LinkedTongue") ∈ lw_tbl := lw_at lw_m6 116 rfl
theorem q1618 : (Jvm.Cond.fieldLinkNest "LinkedTongue$Machine" (767 : Nat) "LinkedTongue$Member" "isKnown" "Z" "LinkedTongue") ∈ lw_tbl := lw_at lw_m6 117 rfl
theorem q1803 : (Jvm.Cond.fieldLinkNest "LinkedTongue$Machine" (658 : Nat) "LinkedTongue$Code" "parameters" "I" "LinkedTongue") ∈ lw_tbl := lw_at lw_m7 62 rfl
theorem q1806 : (Jvm.Cond.fieldLinkNest "LinkedTongue$Machine" (652 : Nat) "LinkedTongue$Code" "variables" "I" "LinkedTongue") ∈ lw_tbl := lw_at lw_m7 65 rfl
theorem q1817 : (Jvm.Cond.fieldLinkNest "LinkedTongue$Machine" (378 : Nat) "LinkedTongue$Code" "rows" "[I" "LinkedTongue") ∈ lw_tbl := lw_at lw_m7 76 rfl
theorem q1846 : (Jvm.Cond.fieldLinkNest "LinkedTongue$Machine" (218 : Nat) "LinkedTongue$Scope" "code" "LLinkedTongue$Code;" "LinkedTongue") ∈ lw_tbl := lw_at lw_m7 105 rfl
theorem q2479 : (Jvm.Cond.instanceMethod ({ cls := "LinkedTongue$Machine", name := "accept", desc := "(Ljava/util/ArrayList;)Z" } : Jvm.MethodName)) ∈ lw_all := lw_g (lw_at lw_m10 18 rfl) rfl
theorem q2480 : (Jvm.Cond.selects "LinkedTongue$Machine" ({ cls := "LinkedTongue$Machine", name := "accept", desc := "(Ljava/util/ArrayList;)Z" } : Jvm.MethodName) ({ cls := "LinkedTongue$Machine", name := "accept", desc := "(Ljava/util/ArrayList;)Z" } : Jvm.MethodName)) ∈ lw_all := lw_g (lw_at lw_m10 19 rfl) rfl
theorem q2481 : (Jvm.Cond.code ({ cls := "LinkedTongue$Machine", name := "accept", desc := "(Ljava/util/ArrayList;)Z" } : Jvm.MethodName) prog_22_method_3_code (6 : Nat) (Option.some Jvm.ClassFile.FieldType.boolean)) ∈ lw_all := lw_g (lw_at lw_m10 20 rfl) rfl
theorem q2482 : (Jvm.Cond.classLink "LinkedTongue$Machine" (203 : Nat) "LinkedTongue$Emitter") ∈ lw_all := lw_g (lw_at lw_m10 21 rfl) rfl
theorem q2484 : (Jvm.Cond.methodLink "LinkedTongue$Machine" (205 : Nat) ({ cls := "LinkedTongue$Emitter", name := "<init>", desc := "(Ljava/util/ArrayList;Ljava/util/ArrayList;I)V" } : Jvm.MethodName)) ∈ lw_all := lw_g (lw_at lw_m10 23 rfl) rfl
theorem q2492 : (Jvm.Cond.fieldLinkNest "LinkedTongue$Machine" (214 : Nat) "LinkedTongue$Emitter" "instructions" "I" "LinkedTongue") ∈ lw_tbl := lw_at lw_m10 31 rfl
theorem q2502 : (Jvm.Cond.classLink "LinkedTongue$Machine" (208 : Nat) "LinkedTongue$Scope") ∈ lw_all := lw_g (lw_at lw_m10 41 rfl) rfl
theorem q2503 : (Jvm.Cond.methodLink "LinkedTongue$Machine" (210 : Nat) ({ cls := "LinkedTongue$Emitter", name := "function", desc := "(LLinkedTongue$Scope;)V" } : Jvm.MethodName)) ∈ lw_all := lw_g (lw_at lw_m10 42 rfl) rfl
theorem q2632 : (Jvm.Cond.fieldLinkNest "LinkedTongue$Machine" (524 : Nat) "LinkedTongue$Site" "kind" "I" "LinkedTongue") ∈ lw_tbl := lw_at lw_m10 171 rfl
theorem q2635 : (Jvm.Cond.fieldLinkNest "LinkedTongue$Machine" (530 : Nat) "LinkedTongue$Site" "name" "I" "LinkedTongue") ∈ lw_tbl := lw_at lw_m10 174 rfl
theorem q2638 : (Jvm.Cond.fieldLinkNest "LinkedTongue$Machine" (527 : Nat) "LinkedTongue$Site" "operands" "I" "LinkedTongue") ∈ lw_tbl := lw_at lw_m10 177 rfl
theorem q2724 : (Jvm.Cond.methodLink "LinkedTongue$Machine" (215 : Nat) ({ cls := "java/util/ArrayList", name := "remove", desc := "(I)Ljava/lang/Object;" } : Jvm.MethodName)) ∈ lw_all := lw_g (lw_at lw_m11 23 rfl) rfl
theorem q2733 : (Jvm.Cond.methodLink "LinkedTongue$Machine" (222 : Nat) ({ cls := "java/util/ArrayList", name := "add", desc := "(Ljava/lang/Object;)Z" } : Jvm.MethodName)) ∈ lw_all := lw_g (lw_at lw_m11 32 rfl) rfl
theorem q2734 : (Jvm.Cond.methodLink "LinkedTongue$Machine" (229 : Nat) ({ cls := "java/util/Arrays", name := "copyOf", desc := "([II)[I" } : Jvm.MethodName)) ∈ lw_all := lw_g (lw_at lw_m11 33 rfl) rfl
theorem q2735 : (Jvm.Cond.methodLink "LinkedTongue$Machine" (243 : Nat) ({ cls := "LinkedTongue$Texts", name := "add", desc := "([BII)I" } : Jvm.MethodName)) ∈ lw_all := lw_g (lw_at lw_m11 34 rfl) rfl
theorem q2791 : (Jvm.Cond.instanceMethod ({ cls := "LinkedTongue$Machine", name := "start", desc := "(II)Z" } : Jvm.MethodName)) ∈ lw_all := lw_g (lw_at lw_m11 90 rfl) rfl
theorem q2792 : (Jvm.Cond.selects "LinkedTongue$Machine" ({ cls := "LinkedTongue$Machine", name := "start", desc := "(II)Z" } : Jvm.MethodName) ({ cls := "LinkedTongue$Machine", name := "start", desc := "(II)Z" } : Jvm.MethodName)) ∈ lw_all := lw_g (lw_at lw_m11 91 rfl) rfl
theorem q2793 : (Jvm.Cond.code ({ cls := "LinkedTongue$Machine", name := "start", desc := "(II)Z" } : Jvm.MethodName) prog_22_method_4_code (3 : Nat) (Option.some Jvm.ClassFile.FieldType.boolean)) ∈ lw_all := lw_g (lw_at lw_m11 92 rfl) rfl
theorem q2794 : (Jvm.Cond.methodLink "LinkedTongue$Machine" (252 : Nat) ({ cls := "LinkedTongue$Heap", name := "noteCall", desc := "()V" } : Jvm.MethodName)) ∈ lw_all := lw_g (lw_at lw_m11 93 rfl) rfl
theorem q2798 : (Jvm.Cond.classLink "LinkedTongue$Machine" (255 : Nat) "LinkedTongue$Code") ∈ lw_all := lw_g (lw_at lw_m11 97 rfl) rfl
theorem q2799 : (Jvm.Cond.methodLink "LinkedTongue$Machine" (257 : Nat) ({ cls := "LinkedTongue$Task", name := "begin", desc := "(LLinkedTongue$Code;)V" } : Jvm.MethodName)) ∈ lw_all := lw_g (lw_at lw_m11 98 rfl) rfl
theorem q2809 : (Jvm.Cond.fieldLinkNest "LinkedTongue$Machine" (414 : Nat) "LinkedTongue$Variables" "around" "LLinkedTongue$Variables;" "LinkedTongue") ∈ lw_tbl := lw_at lw_m11 108 rfl
theorem q2811 : (Jvm.Cond.fieldLinkNest "LinkedTongue$Machine" (427 : Nat) "LinkedTongue$Variables" "words" "[J" "LinkedTongue") ∈ lw_tbl := lw_at lw_m11 110 rfl
theorem q2813 : (Jvm.Cond.fieldLinkNest "LinkedTongue$Machine" (426 : Nat) "LinkedTongue$Variables" "tags" "[B" "LinkedTongue") ∈ lw_tbl := lw_at lw_m11 112 rfl
theorem q2862 : (Jvm.Cond.instanceMethod ({ cls := "LinkedTongue$Machine", name := "objectOf", desc := "(BJ)LLinkedTongue$Obj;" } : Jvm.MethodName)) ∈ lw_all := lw_g (lw_at lw_m11 161 rfl) rfl
theorem q2863 : (Jvm.Cond.selects "LinkedTongue$Machine" ({ cls := "LinkedTongue$Machine", name := "objectOf", desc := "(BJ)LLinkedTongue$Obj;" } : Jvm.MethodName) ({ cls := "LinkedTongue$Machine", name := "objectOf", desc := "(BJ)LLinkedTongue$Obj;" } : Jvm.MethodName)) ∈ lw_all := lw_g (lw_at lw_m11 162 rfl) rfl
theorem q2864 : (Jvm.Cond.code ({ cls := "LinkedTongue$Machine", name := "objectOf", desc := "(BJ)LLinkedTongue$Obj;" } : Jvm.MethodName) prog_22_method_5_code (4 : Nat) (Option.some (Jvm.ClassFile.FieldType.object "LinkedTongue$Obj"))) ∈ lw_all := lw_g (lw_at lw_m11 163 rfl) rfl
theorem q2865 : (Jvm.Cond.classLink "LinkedTongue$Machine" (264 : Nat) "LinkedTongue$Obj") ∈ lw_all := lw_g (lw_at lw_m11 164 rfl) rfl
theorem q2925 : (Jvm.Cond.instanceMethod ({ cls := "LinkedTongue$Machine", name := "step", desc := "(LLinkedTongue$Task;)Z" } : Jvm.MethodName)) ∈ lw_all := lw_g (lw_at lw_m11 224 rfl) rfl
theorem q2926 : (Jvm.Cond.selects "LinkedTongue$Machine" ({ cls := "LinkedTongue$Machine", name := "step", desc := "(LLinkedTongue$Task;)Z" } : Jvm.MethodName) ({ cls := "LinkedTongue$Machine", name := "step", desc := "(LLinkedTongue$Task;)Z" } : Jvm.MethodName)) ∈ lw_all := lw_g (lw_at lw_m11 225 rfl) rfl
theorem q2927 : (Jvm.Cond.codeWith ({ cls := "LinkedTongue$Machine", name := "step", desc := "(LLinkedTongue$Task;)Z" } : Jvm.MethodName) prog_22_method_15_code (6 : Nat) (Option.some Jvm.ClassFile.FieldType.boolean) [((38 : Nat), (67 : Nat), (70 : Nat), (9 : Nat))]) ∈ lw_all := lw_g (lw_at lw_m11 226 rfl) rfl
theorem q2928 : (Jvm.Cond.methodLink "LinkedTongue$Machine" (381 : Nat) ({ cls := "LinkedTongue$Machine", name := "instruct", desc := "(III)V" } : Jvm.MethodName)) ∈ lw_all := lw_g (lw_at lw_m11 227 rfl) rfl
theorem q2929 : (Jvm.Cond.privateMethod ({ cls := "LinkedTongue$Machine", name := "instruct", desc := "(III)V" } : Jvm.MethodName)) ∈ lw_tbl := lw_at lw_m11 228 rfl
theorem q2930 : (Jvm.Cond.instanceMethod ({ cls := "LinkedTongue$Machine", name := "instruct", desc := "(III)V" } : Jvm.MethodName)) ∈ lw_all := lw_g (lw_at lw_m11 229 rfl) rfl
theorem q2931 : (Jvm.Cond.code ({ cls := "LinkedTongue$Machine", name := "instruct", desc := "(III)V" } : Jvm.MethodName) prog_22_method_21_code (8 : Nat) (Option.none : Option Jvm.ClassFile.FieldType)) ∈ lw_all := lw_g (lw_at lw_m11 230 rfl) rfl
theorem q2932 : (Jvm.Cond.methodLink "LinkedTongue$Machine" (420 : Nat) ({ cls := "LinkedTongue$Machine", name := "constant", desc := "(II)V" } : Jvm.MethodName)) ∈ lw_all := lw_g (lw_at lw_m11 231 rfl) rfl
theorem q2933 : (Jvm.Cond.privateMethod ({ cls := "LinkedTongue$Machine", name := "constant", desc := "(II)V" } : Jvm.MethodName)) ∈ lw_tbl := lw_at lw_m11 232 rfl
theorem q2934 : (Jvm.Cond.instanceMethod ({ cls := "LinkedTongue$Machine", name := "constant", desc := "(II)V" } : Jvm.MethodName)) ∈ lw_all := lw_g (lw_at lw_m11 233 rfl) rfl
theorem q2935 : (Jvm.Cond.code ({ cls := "LinkedTongue$Machine", name := "constant", desc := "(II)V" } : Jvm.MethodName) prog_22_method_19_code (3 : Nat) (Option.none : Option Jvm.ClassFile.FieldType)) ∈ lw_all := lw_g (lw_at lw_m11 234 rfl) rfl
theorem q2936 : (Jvm.Cond.methodLink "LinkedTongue$Machine" (407 : Nat) ({ cls := "LinkedTongue$Machine", name := "pushed", desc := "(BJ)V" } : Jvm.MethodName)) ∈ lw_all := lw_g (lw_at lw_m11 235 rfl) rfl
theorem q2937 : (Jvm.Cond.privateMethod ({ cls := "LinkedTongue$Machine", name := "pushed", desc := "(BJ)V" } : Jvm.MethodName)) ∈ lw_tbl := lw_at lw_m11 236 rfl
theorem q2938 : (Jvm.Cond.instanceMethod ({ cls := "LinkedTongue$Machine", name := "pushed", desc := "(BJ)V" } : Jvm.MethodName)) ∈ lw_all := lw_g (lw_at lw_m11 237 rfl) rfl
theorem q2939 : (Jvm.Cond.code ({ cls := "LinkedTongue$Machine", name := "pushed", desc := "(BJ)V" } : Jvm.MethodName) prog_22_method_18_code (4 : Nat) (Option.none : Option Jvm.ClassFile.FieldType)) ∈ lw_all := lw_g (lw_at lw_m11 238 rfl) rfl
theorem q2940 : (Jvm.Cond.methodLink "LinkedTongue$Machine" (398 : Nat) ({ cls := "LinkedTongue$Machine", name := "room", desc := "()V" } : Jvm.MethodName)) ∈ lw_all := lw_g (lw_at lw_m11 239 rfl) rfl
theorem q2941 : (Jvm.Cond.privateMethod ({ cls := "LinkedTongue$Machine", name := "room", desc := "()V" } : Jvm.MethodName)) ∈ lw_tbl := lw_at lw_m12 0 rfl
theorem q2942 : (Jvm.Cond.instanceMethod ({ cls := "LinkedTongue$Machine", name := "room", desc := "()V" } : Jvm.MethodName)) ∈ lw_all := lw_g (lw_at lw_m12 1 rfl) rfl
theorem q2943 : (Jvm.Cond.code ({ cls := "LinkedTongue$Machine", name := "room", desc := "()V" } : Jvm.MethodName) prog_22_method_16_code (1 : Nat) (Option.none : Option Jvm.ClassFile.FieldType)) ∈ lw_all := lw_g (lw_at lw_m12 2 rfl) rfl
theorem q2944 : (Jvm.Cond.methodLink "LinkedTongue$Machine" (394 : Nat) ({ cls := "LinkedTongue$Signal", name := "of", desc := "(I)LLinkedTongue$Signal;" } : Jvm.MethodName)) ∈ lw_all := lw_g (lw_at lw_m12 3 rfl) rfl
theorem q2948 : (Jvm.Cond.methodLink "LinkedTongue$Machine" (401 : Nat) ({ cls := "LinkedTongue$Task", name := "push", desc := "(BJ)V" } : Jvm.MethodName)) ∈ lw_all := lw_g (lw_at lw_m12 7 rfl) rfl
theorem q2952 : (Jvm.Cond.methodLink "LinkedTongue$Machine" (404 : Nat) ({ cls := "LinkedTongue$Machine", name := "go", desc := "()V" } : Jvm.MethodName)) ∈ lw_all := lw_g (lw_at lw_m12 11 rfl) rfl
theorem q2953 : (Jvm.Cond.privateMethod ({ cls := "LinkedTongue$Machine", name := "go", desc := "()V" } : Jvm.MethodName)) ∈ lw_tbl := lw_at lw_m12 12 rfl
theorem q2954 : (Jvm.Cond.instanceMethod ({ cls := "LinkedTongue$Machine", name := "go", desc := "()V" } : Jvm.MethodName)) ∈ lw_all := lw_g (lw_at lw_m12 13 rfl) rfl
theorem q2955 : (Jvm.Cond.code ({ cls := "LinkedTongue$Machine", name := "go", desc := "()V" } : Jvm.MethodName) prog_22_method_17_code (1 : Nat) (Option.none : Option Jvm.ClassFile.FieldType)) ∈ lw_all := lw_g (lw_at lw_m12 14 rfl) rfl
theorem q2956 : (Jvm.Cond.methodLink "LinkedTongue$Machine" (423 : Nat) ({ cls := "LinkedTongue$Machine", name := "around", desc := "(I)LLinkedTongue$Variables;" } : Jvm.MethodName)) ∈ lw_all := lw_g (lw_at lw_m12 15 rfl) rfl
theorem q2957 : (Jvm.Cond.privateMethod ({ cls := "LinkedTongue$Machine", name := "around", desc := "(I)LLinkedTongue$Variables;" } : Jvm.MethodName)) ∈ lw_tbl := lw_at lw_m12 16 rfl
theorem q2958 : (Jvm.Cond.instanceMethod ({ cls := "LinkedTongue$Machine", name := "around", desc := "(I)LLinkedTongue$Variables;" } : Jvm.MethodName)) ∈ lw_all := lw_g (lw_at lw_m12 17 rfl) rfl
theorem q2959 : (Jvm.Cond.code ({ cls := "LinkedTongue$Machine", name := "around", desc := "(I)LLinkedTongue$Variables;" } : Jvm.MethodName) prog_22_method_20_code (4 : Nat) (Option.some (Jvm.ClassFile.FieldType.object "LinkedTongue$Variables"))) ∈ lw_all := lw_g (lw_at lw_m12 18 rfl) rfl
theorem q2960 : (Jvm.Cond.methodLink "LinkedTongue$Machine" (428 : Nat) ({ cls := "LinkedTongue$Machine", name := "storeGlobal", desc := "(IBJ)V" } : Jvm.MethodName)) ∈ lw_all := lw_g (lw_at lw_m12 19 rfl) rfl
theorem q2961 : (Jvm.Cond.privateMethod ({ cls := "LinkedTongue$Machine", name := "storeGlobal", desc := "(IBJ)V" } : Jvm.MethodName)) ∈ lw_tbl := lw_at lw_m12 20 rfl
theorem q2962 : (Jvm.Cond.instanceMethod ({ cls := "LinkedTongue$Machine", name := "storeGlobal", desc := "(IBJ)V" } : Jvm.MethodName)) ∈ lw_all := lw_g (lw_at lw_m12 21 rfl) rfl
theorem q2963 : (Jvm.Cond.code ({ cls := "LinkedTongue$Machine", name := "storeGlobal", desc := "(IBJ)V" } : Jvm.MethodName) prog_22_method_23_code (6 : Nat) (Option.none : Option Jvm.ClassFile.FieldType)) ∈ lw_all := lw_g (lw_at lw_m12 22 rfl) rfl
theorem q2964 : (Jvm.Cond.methodLink "LinkedTongue$Machine" (486 : Nat) ({ cls := "java/util/Arrays", name := "copyOf", desc := "([JI)[J" } : Jvm.MethodName)) ∈ lw_all := lw_g (lw_at lw_m12 23 rfl) rfl
theorem q2972 : (Jvm.Cond.methodLink "LinkedTongue$Machine" (299 : Nat) ({ cls := "java/util/Arrays", name := "copyOf", desc := "([BI)[B" } : Jvm.MethodName)) ∈ lw_all := lw_g (lw_at lw_m12 31 rfl) rfl
theorem q2973 : (Jvm.Cond.methodLink "LinkedTongue$Machine" (489 : Nat) ({ cls := "java/util/Arrays", name := "copyOf", desc := "([ZI)[Z" } : Jvm.MethodName)) ∈ lw_all := lw_g (lw_at lw_m12 32 rfl) rfl
theorem q2981 : (Jvm.Cond.methodLink "LinkedTongue$Machine" (431 : Nat) ({ cls := "LinkedTongue$Machine", name := "isNot", desc := "(I)Z" } : Jvm.MethodName)) ∈ lw_all := lw_g (lw_at lw_m12 40 rfl) rfl
theorem q2982 : (Jvm.Cond.privateMethod ({ cls := "LinkedTongue$Machine", name := "isNot", desc := "(I)Z" } : Jvm.MethodName)) ∈ lw_tbl := lw_at lw_m12 41 rfl
theorem q2983 : (Jvm.Cond.instanceMethod ({ cls := "LinkedTongue$Machine", name := "isNot", desc := "(I)Z" } : Jvm.MethodName)) ∈ lw_all := lw_g (lw_at lw_m12 42 rfl) rfl
theorem q2984 : (Jvm.Cond.code ({ cls := "LinkedTongue$Machine", name := "isNot", desc := "(I)Z" } : Jvm.MethodName) prog_22_method_8_code (2 : Nat) (Option.some Jvm.ClassFile.FieldType.boolean)) ∈ lw_all := lw_g (lw_at lw_m12 43 rfl) rfl
theorem q2985 : (Jvm.Cond.methodLink "LinkedTongue$Machine" (434 : Nat) ({ cls := "LinkedTongue$Machine", name := "jump", desc := "(III)V" } : Jvm.MethodName)) ∈ lw_all := lw_g (lw_at lw_m12 44 rfl) rfl
theorem q2986 : (Jvm.Cond.privateMethod ({ cls := "LinkedTongue$Machine", name := "jump", desc := "(III)V" } : Jvm.MethodName)) ∈ lw_tbl := lw_at lw_m12 45 rfl
theorem q2987 : (Jvm.Cond.instanceMethod ({ cls := "LinkedTongue$Machine", name := "jump", desc := "(III)V" } : Jvm.MethodName)) ∈ lw_all := lw_g (lw_at lw_m12 46 rfl) rfl
theorem q2988 : (Jvm.Cond.code ({ cls := "LinkedTongue$Machine", name := "jump", desc := "(III)V" } : Jvm.MethodName) prog_22_method_22_code (6 : Nat) (Option.none : Option Jvm.ClassFile.FieldType)) ∈ lw_all := lw_g (lw_at lw_m12 47 rfl) rfl
theorem q2989 : (Jvm.Cond.methodLink "LinkedTongue$Machine" (437 : Nat) ({ cls := "LinkedTongue$Heap", name := "want", desc := "(II)V" } : Jvm.MethodName)) ∈ lw_all := lw_g (lw_at lw_m12 48 rfl) rfl
theorem q2999 : (Jvm.Cond.classLink "LinkedTongue$Machine" (440 : Nat) "LinkedTongue$Fun") ∈ lw_all := lw_g (lw_at lw_m12 58 rfl) rfl
theorem q3001 : (Jvm.Cond.classLink "LinkedTongue$Machine" (445 : Nat) "LinkedTongue$Shape") ∈ lw_all := lw_g (lw_at lw_m12 60 rfl) rfl
theorem q3002 : (Jvm.Cond.methodLink "LinkedTongue$Machine" (447 : Nat) ({ cls := "LinkedTongue$Fun", name := "<init>", desc := "(ILLinkedTongue$Shape;LLinkedTongue$Code;LLinkedTongue$Variables;)V" } : Jvm.MethodName)) ∈ lw_all := lw_g (lw_at lw_m12 61 rfl) rfl
theorem q3014 : (Jvm.Cond.fieldLinkNest "LinkedTongue$Machine" (549 : Nat) "LinkedTongue$Fun" "code" "LLinkedTongue$Code;" "LinkedTongue") ∈ lw_tbl := lw_at lw_m12 73 rfl
theorem q3016 : (Jvm.Cond.fieldLinkNest "LinkedTongue$Machine" (654 : Nat) "LinkedTongue$Fun" "around" "LLinkedTongue$Variables;" "LinkedTongue") ∈ lw_tbl := lw_at lw_m12 75 rfl
theorem q3022 : (Jvm.Cond.fieldLinkNest "LinkedTongue$Machine" (548 : Nat) "LinkedTongue$Obj" "shape" "LLinkedTongue$Shape;" "LinkedTongue") ∈ lw_tbl := lw_at lw_m12 81 rfl
theorem q3033 : (Jvm.Cond.fieldLink "LinkedTongue$Machine" (454 : Nat) "LinkedTongue$Fun" "number" "I") ∈ lw_all := lw_g (lw_at lw_m12 92 rfl) rfl
theorem q3035 : (Jvm.Cond.fieldLink "LinkedTongue$Machine" (460 : Nat) "LinkedTongue$Obj" "number" "I") ∈ lw_all := lw_g (lw_at lw_m12 94 rfl) rfl
theorem q3036 : (Jvm.Cond.fieldLink "LinkedTongue$Machine" (499 : Nat) "LinkedTongue$Row" "number" "I") ∈ lw_all := lw_g (lw_at lw_m12 95 rfl) rfl
theorem q3039 : (Jvm.Cond.fieldLink "LinkedTongue$Machine" (809 : Nat) "LinkedTongue$Instance" "number" "I") ∈ lw_all := lw_g (lw_at lw_m12 98 rfl) rfl
theorem q3045 : (Jvm.Cond.fieldLink "LinkedTongue$Machine" (640 : Nat) "LinkedTongue$Obj" "words" "[J") ∈ lw_all := lw_g (lw_at lw_m12 104 rfl) rfl
theorem q3046 : (Jvm.Cond.fieldLink "LinkedTongue$Machine" (679 : Nat) "LinkedTongue$Row" "words" "[J") ∈ lw_all := lw_g (lw_at lw_m12 105 rfl) rfl
theorem q3048 : (Jvm.Cond.fieldLink "LinkedTongue$Machine" (709 : Nat) "LinkedTongue$Thing" "words" "[J") ∈ lw_all := lw_g (lw_at lw_m12 107 rfl) rfl
theorem q3053 : (Jvm.Cond.fieldLink "LinkedTongue$Machine" (639 : Nat) "LinkedTongue$Obj" "tags" "[B") ∈ lw_all := lw_g (lw_at lw_m12 112 rfl) rfl
theorem q3054 : (Jvm.Cond.fieldLink "LinkedTongue$Machine" (678 : Nat) "LinkedTongue$Row" "tags" "[B") ∈ lw_all := lw_g (lw_at lw_m12 113 rfl) rfl
theorem q3056 : (Jvm.Cond.fieldLink "LinkedTongue$Machine" (703 : Nat) "LinkedTongue$Thing" "tags" "[B") ∈ lw_all := lw_g (lw_at lw_m12 115 rfl) rfl
theorem q3061 : (Jvm.Cond.fieldLink "LinkedTongue$Machine" (644 : Nat) "LinkedTongue$Obj" "size" "I") ∈ lw_all := lw_g (lw_at lw_m12 120 rfl) rfl
theorem q3062 : (Jvm.Cond.fieldLink "LinkedTongue$Machine" (677 : Nat) "LinkedTongue$Row" "size" "I") ∈ lw_all := lw_g (lw_at lw_m12 121 rfl) rfl
theorem q3085 : (Jvm.Cond.methodLink "LinkedTongue$Machine" (450 : Nat) ({ cls := "LinkedTongue$Heap", name := "keep", desc := "(LLinkedTongue$Thing;)LLinkedTongue$Thing;" } : Jvm.MethodName)) ∈ lw_all := lw_g (lw_at lw_m12 144 rfl) rfl
theorem q3089 : (Jvm.Cond.methodLink "LinkedTongue$Machine" (455 : Nat) ({ cls := "LinkedTongue$Machine", name := "list", desc := "(I)V" } : Jvm.MethodName)) ∈ lw_all := lw_g (lw_at lw_m12 148 rfl) rfl
theorem q3090 : (Jvm.Cond.privateMethod ({ cls := "LinkedTongue$Machine", name := "list", desc := "(I)V" } : Jvm.MethodName)) ∈ lw_tbl := lw_at lw_m12 149 rfl
theorem q3091 : (Jvm.Cond.instanceMethod ({ cls := "LinkedTongue$Machine", name := "list", desc := "(I)V" } : Jvm.MethodName)) ∈ lw_all := lw_g (lw_at lw_m12 150 rfl) rfl
theorem q3092 : (Jvm.Cond.code ({ cls := "LinkedTongue$Machine", name := "list", desc := "(I)V" } : Jvm.MethodName) prog_22_method_24_code (4 : Nat) (Option.none : Option Jvm.ClassFile.FieldType)) ∈ lw_all := lw_g (lw_at lw_m12 151 rfl) rfl
theorem q3093 : (Jvm.Cond.classLink "LinkedTongue$Machine" (492 : Nat) "LinkedTongue$Row") ∈ lw_all := lw_g (lw_at lw_m12 152 rfl) rfl
theorem q3095 : (Jvm.Cond.methodLink "LinkedTongue$Machine" (494 : Nat) ({ cls := "LinkedTongue$Row", name := "<init>", desc := "(II)V" } : Jvm.MethodName)) ∈ lw_all := lw_g (lw_at lw_m12 154 rfl) rfl
theorem q3104 : (Jvm.Cond.methodLink "LinkedTongue$Machine" (497 : Nat) ({ cls := "LinkedTongue$Row", name := "add", desc := "(BJ)V" } : Jvm.MethodName)) ∈ lw_all := lw_g (lw_at lw_m12 163 rfl) rfl
theorem q3113 : (Jvm.Cond.methodLink "LinkedTongue$Machine" (457 : Nat) ({ cls := "LinkedTongue$Obj", name := "<init>", desc := "(ILLinkedTongue$Shape;)V" } : Jvm.MethodName)) ∈ lw_all := lw_g (lw_at lw_m12 172 rfl) rfl
theorem q3123 : (Jvm.Cond.methodLink "LinkedTongue$Machine" (461 : Nat) ({ cls := "LinkedTongue$Machine", name := "invoke", desc := "(LLinkedTongue$Site;)V" } : Jvm.MethodName)) ∈ lw_all := lw_g (lw_at lw_m12 182 rfl) rfl
theorem q3124 : (Jvm.Cond.privateMethod ({ cls := "LinkedTongue$Machine", name := "invoke", desc := "(LLinkedTongue$Site;)V" } : Jvm.MethodName)) ∈ lw_tbl := lw_at lw_m12 183 rfl
theorem q3125 : (Jvm.Cond.instanceMethod ({ cls := "LinkedTongue$Machine", name := "invoke", desc := "(LLinkedTongue$Site;)V" } : Jvm.MethodName)) ∈ lw_all := lw_g (lw_at lw_m12 184 rfl) rfl
theorem q3126 : (Jvm.Cond.code ({ cls := "LinkedTongue$Machine", name := "invoke", desc := "(LLinkedTongue$Site;)V" } : Jvm.MethodName) prog_22_method_32_code (4 : Nat) (Option.none : Option Jvm.ClassFile.FieldType)) ∈ lw_all := lw_g (lw_at lw_m12 185 rfl) rfl
theorem q3127 : (Jvm.Cond.methodLink "LinkedTongue$Machine" (568 : Nat) ({ cls := "LinkedTongue$Machine", name := "operandsOf", desc := "(LLinkedTongue$Site;)I" } : Jvm.MethodName)) ∈ lw_all := lw_g (lw_at lw_m12 186 rfl) rfl
theorem q3128 : (Jvm.Cond.static ({ cls := "LinkedTongue$Machine", name := "operandsOf", desc := "(LLinkedTongue$Site;)I" } : Jvm.MethodName)) ∈ lw_all := lw_g (lw_at lw_m12 187 rfl) rfl
theorem q3129 : (Jvm.Cond.code ({ cls := "LinkedTongue$Machine", name := "operandsOf", desc := "(LLinkedTongue$Site;)I" } : Jvm.MethodName) prog_22_method_29_code (1 : Nat) (Option.some Jvm.ClassFile.FieldType.int)) ∈ lw_all := lw_g (lw_at lw_m12 188 rfl) rfl
theorem q3130 : (Jvm.Cond.methodLink "LinkedTongue$Machine" (572 : Nat) ({ cls := "LinkedTongue$Machine", name := "ask", desc := "(LLinkedTongue$Site;I)V" } : Jvm.MethodName)) ∈ lw_all := lw_g (lw_at lw_m12 189 rfl) rfl
theorem q3131 : (Jvm.Cond.privateMethod ({ cls := "LinkedTongue$Machine", name := "ask", desc := "(LLinkedTongue$Site;I)V" } : Jvm.MethodName)) ∈ lw_tbl := lw_at lw_m12 190 rfl
theorem q3132 : (Jvm.Cond.instanceMethod ({ cls := "LinkedTongue$Machine", name := "ask", desc := "(LLinkedTongue$Site;I)V" } : Jvm.MethodName)) ∈ lw_all := lw_g (lw_at lw_m12 191 rfl) rfl
theorem q3133 : (Jvm.Cond.code ({ cls := "LinkedTongue$Machine", name := "ask", desc := "(LLinkedTongue$Site;I)V" } : Jvm.MethodName) prog_22_method_30_code (7 : Nat) (Option.none : Option Jvm.ClassFile.FieldType)) ∈ lw_all := lw_g (lw_at lw_m12 192 rfl) rfl
theorem q3134 : (Jvm.Cond.methodLink "LinkedTongue$Machine" (541 : Nat) ({ cls := "LinkedTongue$Machine", name := "objectOf", desc := "(BJ)LLinkedTongue$Obj;" } : Jvm.MethodName)) ∈ lw_all := lw_g (lw_at lw_m12 193 rfl) rfl
theorem q3135 : (Jvm.Cond.methodLink "LinkedTongue$Machine" (550 : Nat) ({ cls := "LinkedTongue$Machine", name := "elementName", desc := "(I)I" } : Jvm.MethodName)) ∈ lw_all := lw_g (lw_at lw_m12 194 rfl) rfl
theorem q3136 : (Jvm.Cond.privateMethod ({ cls := "LinkedTongue$Machine", name := "elementName", desc := "(I)I" } : Jvm.MethodName)) ∈ lw_tbl := lw_at lw_m12 195 rfl
theorem q3137 : (Jvm.Cond.instanceMethod ({ cls := "LinkedTongue$Machine", name := "elementName", desc := "(I)I" } : Jvm.MethodName)) ∈ lw_all := lw_g (lw_at lw_m12 196 rfl) rfl
theorem q3138 : (Jvm.Cond.code ({ cls := "LinkedTongue$Machine", name := "elementName", desc := "(I)I" } : Jvm.MethodName) prog_22_method_31_code (4 : Nat) (Option.some Jvm.ClassFile.FieldType.int)) ∈ lw_all := lw_g (lw_at lw_m12 197 rfl) rfl
theorem q3139 : (Jvm.Cond.methodLink "LinkedTongue$Machine" (565 : Nat) ({ cls := "LinkedTongue$Words", name := "take", desc := "([BII)I" } : Jvm.MethodName)) ∈ lw_all := lw_g (lw_at lw_m12 198 rfl) rfl
theorem q3140 : (Jvm.Cond.methodLink "LinkedTongue$Machine" (362 : Nat) ({ cls := "LinkedTongue$Heap", name := "full", desc := "()Ljava/lang/RuntimeException;" } : Jvm.MethodName)) ∈ lw_all := lw_g (lw_at lw_m12 199 rfl) rfl
theorem q3141 : (Jvm.Cond.classLink "LinkedTongue$Machine" (277 : Nat) "LinkedTongue$HostType") ∈ lw_all := lw_g (lw_at lw_m12 200 rfl) rfl
theorem q3142 : (Jvm.Cond.classLink "LinkedTongue$Machine" (270 : Nat) "LinkedTongue$Instance") ∈ lw_all := lw_g (lw_at lw_m12 201 rfl) rfl
theorem q3143 : (Jvm.Cond.methodLink "LinkedTongue$Machine" (561 : Nat) ({ cls := "LinkedTongue$Machine", name := "classOf", desc := "(BJ)I" } : Jvm.MethodName)) ∈ lw_all := lw_g (lw_at lw_m12 202 rfl) rfl
theorem q3144 : (Jvm.Cond.privateMethod ({ cls := "LinkedTongue$Machine", name := "classOf", desc := "(BJ)I" } : Jvm.MethodName)) ∈ lw_tbl := lw_at lw_m12 203 rfl
theorem q3145 : (Jvm.Cond.instanceMethod ({ cls := "LinkedTongue$Machine", name := "classOf", desc := "(BJ)I" } : Jvm.MethodName)) ∈ lw_all := lw_g (lw_at lw_m12 204 rfl) rfl
theorem q3146 : (Jvm.Cond.code ({ cls := "LinkedTongue$Machine", name := "classOf", desc := "(BJ)I" } : Jvm.MethodName) prog_22_method_7_code (4 : Nat) (Option.some Jvm.ClassFile.FieldType.int)) ∈ lw_all := lw_g (lw_at lw_m12 205 rfl) rfl
theorem q3147 : (Jvm.Cond.methodLink "LinkedTongue$Machine" (266 : Nat) ({ cls := "LinkedTongue$Machine", name := "isInt", desc := "(J)Z" } : Jvm.MethodName)) ∈ lw_all := lw_g (lw_at lw_m12 206 rfl) rfl
theorem q3148 : (Jvm.Cond.static ({ cls := "LinkedTongue$Machine", name := "isInt", desc := "(J)Z" } : Jvm.MethodName)) ∈ lw_all := lw_g (lw_at lw_m12 207 rfl) rfl
theorem q3149 : (Jvm.Cond.code ({ cls := "LinkedTongue$Machine", name := "isInt", desc := "(J)Z" } : Jvm.MethodName) prog_22_method_6_code (2 : Nat) (Option.some Jvm.ClassFile.FieldType.boolean)) ∈ lw_all := lw_g (lw_at lw_m12 208 rfl) rfl
theorem q3150 : (Jvm.Cond.methodLink "LinkedTongue$Machine" (576 : Nat) ({ cls := "LinkedTongue$Site", name := "hit", desc := "(LLinkedTongue$Found;LLinkedTongue$Spare;)LLinkedTongue$Entry;" } : Jvm.MethodName)) ∈ lw_all := lw_g (lw_at lw_m12 209 rfl) rfl
theorem q3164 : (Jvm.Cond.methodLink "LinkedTongue$Machine" (580 : Nat) ({ cls := "LinkedTongue$Entry", name := "tellTo", desc := "(LLinkedTongue$Found;)V" } : Jvm.MethodName)) ∈ lw_all := lw_g (lw_at lw_m12 223 rfl) rfl
theorem q3168 : (Jvm.Cond.methodLink "LinkedTongue$Machine" (586 : Nat) ({ cls := "LinkedTongue$Lookup", name := "look", desc := "(LLinkedTongue$Site;LLinkedTongue$Found;)V" } : Jvm.MethodName)) ∈ lw_all := lw_g (lw_at lw_m12 227 rfl) rfl
theorem q3329 : (Jvm.Cond.methodLink "LinkedTongue$Machine" (593 : Nat) ({ cls := "LinkedTongue$Site", name := "link", desc := "(LLinkedTongue$Found;ILLinkedTongue$Spare;)V" } : Jvm.MethodName)) ∈ lw_all := lw_g (lw_at lw_m13 148 rfl) rfl
theorem q3396 : (Jvm.Cond.methodLink "LinkedTongue$Machine" (597 : Nat) ({ cls := "LinkedTongue$Machine", name := "perform", desc := "(LLinkedTongue$Site;I)V" } : Jvm.MethodName)) ∈ lw_all := lw_g (lw_at lw_m13 215 rfl) rfl
theorem q3397 : (Jvm.Cond.privateMethod ({ cls := "LinkedTongue$Machine", name := "perform", desc := "(LLinkedTongue$Site;I)V" } : Jvm.MethodName)) ∈ lw_tbl := lw_at lw_m13 216 rfl
theorem q3398 : (Jvm.Cond.instanceMethod ({ cls := "LinkedTongue$Machine", name := "perform", desc := "(LLinkedTongue$Site;I)V" } : Jvm.MethodName)) ∈ lw_all := lw_g (lw_at lw_m13 217 rfl) rfl
theorem q3399 : (Jvm.Cond.code ({ cls := "LinkedTongue$Machine", name := "perform", desc := "(LLinkedTongue$Site;I)V" } : Jvm.MethodName) prog_22_method_33_code (5 : Nat) (Option.none : Option Jvm.ClassFile.FieldType)) ∈ lw_all := lw_g (lw_at lw_m13 218 rfl) rfl
theorem q3400 : (Jvm.Cond.methodLink "LinkedTongue$Machine" (603 : Nat) ({ cls := "LinkedTongue$Machine", name := "property", desc := "(LLinkedTongue$Site;I)V" } : Jvm.MethodName)) ∈ lw_all := lw_g (lw_at lw_m13 219 rfl) rfl
theorem q3401 : (Jvm.Cond.privateMethod ({ cls := "LinkedTongue$Machine", name := "property", desc := "(LLinkedTongue$Site;I)V" } : Jvm.MethodName)) ∈ lw_tbl := lw_at lw_m13 220 rfl
theorem q3402 : (Jvm.Cond.instanceMethod ({ cls := "LinkedTongue$Machine", name := "property", desc := "(LLinkedTongue$Site;I)V" } : Jvm.MethodName)) ∈ lw_all := lw_g (lw_at lw_m13 221 rfl) rfl
theorem q3403 : (Jvm.Cond.code ({ cls := "LinkedTongue$Machine", name := "property", desc := "(LLinkedTongue$Site;I)V" } : Jvm.MethodName) prog_22_method_34_code (8 : Nat) (Option.none : Option Jvm.ClassFile.FieldType)) ∈ lw_all := lw_g (lw_at lw_m13 222 rfl) rfl
theorem q3404 : (Jvm.Cond.methodLink "LinkedTongue$Machine" (507 : Nat) ({ cls := "LinkedTongue$Machine", name := "answer", desc := "(IBJ)V" } : Jvm.MethodName)) ∈ lw_all := lw_g (lw_at lw_m13 223 rfl) rfl
theorem q3405 : (Jvm.Cond.privateMethod ({ cls := "LinkedTongue$Machine", name := "answer", desc := "(IBJ)V" } : Jvm.MethodName)) ∈ lw_tbl := lw_at lw_m13 224 rfl
theorem q3406 : (Jvm.Cond.instanceMethod ({ cls := "LinkedTongue$Machine", name := "answer", desc := "(IBJ)V" } : Jvm.MethodName)) ∈ lw_all := lw_g (lw_at lw_m13 225 rfl) rfl
theorem q3407 : (Jvm.Cond.code ({ cls := "LinkedTongue$Machine", name := "answer", desc := "(IBJ)V" } : Jvm.MethodName) prog_22_method_26_code (5 : Nat) (Option.none : Option Jvm.ClassFile.FieldType)) ∈ lw_all := lw_g (lw_at lw_m13 226 rfl) rfl
theorem q3408 : (Jvm.Cond.methodLink "LinkedTongue$Machine" (609 : Nat) ({ cls := "LinkedTongue$Machine", name := "enter", desc := "(LLinkedTongue$Fun;BJIIILLinkedTongue$Obj;)V" } : Jvm.MethodName)) ∈ lw_all := lw_g (lw_at lw_m13 227 rfl) rfl
theorem q3409 : (Jvm.Cond.privateMethod ({ cls := "LinkedTongue$Machine", name := "enter", desc := "(LLinkedTongue$Fun;BJIIILLinkedTongue$Obj;)V" } : Jvm.MethodName)) ∈ lw_tbl := lw_at lw_m13 228 rfl
theorem q3410 : (Jvm.Cond.instanceMethod ({ cls := "LinkedTongue$Machine", name := "enter", desc := "(LLinkedTongue$Fun;BJIIILLinkedTongue$Obj;)V" } : Jvm.MethodName)) ∈ lw_all := lw_g (lw_at lw_m13 229 rfl) rfl
theorem q3411 : (Jvm.Cond.code ({ cls := "LinkedTongue$Machine", name := "enter", desc := "(LLinkedTongue$Fun;BJIIILLinkedTongue$Obj;)V" } : Jvm.MethodName) prog_22_method_36_code (12 : Nat) (Option.none : Option Jvm.ClassFile.FieldType)) ∈ lw_all := lw_g (lw_at lw_m13 230 rfl) rfl
theorem q3412 : (Jvm.Cond.classLink "LinkedTongue$Machine" (415 : Nat) "LinkedTongue$Variables") ∈ lw_all := lw_g (lw_at lw_m13 231 rfl) rfl
theorem q3413 : (Jvm.Cond.methodLink "LinkedTongue$Machine" (655 : Nat) ({ cls := "LinkedTongue$Variables", name := "<init>", desc := "(LLinkedTongue$Variables;I)V" } : Jvm.MethodName)) ∈ lw_all := lw_g (lw_at lw_m13 232 rfl) rfl
theorem q3414 : (Jvm.Cond.methodLink "LinkedTongue$Machine" (661 : Nat) ({ cls := "LinkedTongue$Task", name := "call", desc := "(LLinkedTongue$Code;LLinkedTongue$Variables;BJLLinkedTongue$Obj;)V" } : Jvm.MethodName)) ∈ lw_all := lw_g (lw_at lw_m13 233 rfl) rfl
theorem q3415 : (Jvm.Cond.methodLink "LinkedTongue$Machine" (606 : Nat) ({ cls := "LinkedTongue$Machine", name := "write", desc := "(II)V" } : Jvm.MethodName)) ∈ lw_all := lw_g (lw_at lw_m13 234 rfl) rfl
theorem q3416 : (Jvm.Cond.privateMethod ({ cls := "LinkedTongue$Machine", name := "write", desc := "(II)V" } : Jvm.MethodName)) ∈ lw_tbl := lw_at lw_m13 235 rfl
theorem q3417 : (Jvm.Cond.instanceMethod ({ cls := "LinkedTongue$Machine", name := "write", desc := "(II)V" } : Jvm.MethodName)) ∈ lw_all := lw_g (lw_at lw_m13 236 rfl) rfl
theorem q3418 : (Jvm.Cond.code ({ cls := "LinkedTongue$Machine", name := "write", desc := "(II)V" } : Jvm.MethodName) prog_22_method_35_code (4 : Nat) (Option.none : Option Jvm.ClassFile.FieldType)) ∈ lw_all := lw_g (lw_at lw_m13 237 rfl) rfl
theorem q3419 : (Jvm.Cond.methodLink "LinkedTongue$Machine" (641 : Nat) ({ cls := "LinkedTongue$Obj", name := "set", desc := "(IBJ)V" } : Jvm.MethodName)) ∈ lw_all := lw_g (lw_at lw_m13 238 rfl) rfl
theorem q3426 : (Jvm.Cond.methodLink "LinkedTongue$Machine" (648 : Nat) ({ cls := "LinkedTongue$Heap", name := "addProperty", desc := "(LLinkedTongue$Obj;LLinkedTongue$Shape;BJ)V" } : Jvm.MethodName)) ∈ lw_all := lw_g (lw_at lw_m14 5 rfl) rfl
theorem q3439 : (Jvm.Cond.methodLink "LinkedTongue$Machine" (613 : Nat) ({ cls := "LinkedTongue$Machine", name := "make", desc := "(LLinkedTongue$Site;I)V" } : Jvm.MethodName)) ∈ lw_all := lw_g (lw_at lw_m14 18 rfl) rfl
theorem q3440 : (Jvm.Cond.privateMethod ({ cls := "LinkedTongue$Machine", name := "make", desc := "(LLinkedTongue$Site;I)V" } : Jvm.MethodName)) ∈ lw_tbl := lw_at lw_m14 19 rfl
theorem q3441 : (Jvm.Cond.instanceMethod ({ cls := "LinkedTongue$Machine", name := "make", desc := "(LLinkedTongue$Site;I)V" } : Jvm.MethodName)) ∈ lw_all := lw_g (lw_at lw_m14 20 rfl) rfl
theorem q3442 : (Jvm.Cond.code ({ cls := "LinkedTongue$Machine", name := "make", desc := "(LLinkedTongue$Site;I)V" } : Jvm.MethodName) prog_22_method_37_code (8 : Nat) (Option.none : Option Jvm.ClassFile.FieldType)) ∈ lw_all := lw_g (lw_at lw_m14 21 rfl) rfl
theorem q3443 : (Jvm.Cond.methodLink "LinkedTongue$Machine" (665 : Nat) ({ cls := "LinkedTongue$Words", name := "find", desc := "([BII)I" } : Jvm.MethodName)) ∈ lw_all := lw_g (lw_at lw_m14 22 rfl) rfl
theorem q3444 : (Jvm.Cond.methodLink "LinkedTongue$Machine" (668 : Nat) ({ cls := "LinkedTongue$Heap", name := "holder", desc := "(LLinkedTongue$Obj;I)LLinkedTongue$Obj;" } : Jvm.MethodName)) ∈ lw_all := lw_g (lw_at lw_m14 23 rfl) rfl
theorem q3448 : (Jvm.Cond.methodLink "LinkedTongue$Machine" (671 : Nat) ({ cls := "LinkedTongue$Shape", name := "find", desc := "(I)I" } : Jvm.MethodName)) ∈ lw_all := lw_g (lw_at lw_m14 27 rfl) rfl
theorem q3449 : (Jvm.Cond.methodLink "LinkedTongue$Machine" (673 : Nat) ({ cls := "LinkedTongue$Heap", name := "rootOf", desc := "(LLinkedTongue$Obj;)LLinkedTongue$Shape;" } : Jvm.MethodName)) ∈ lw_all := lw_g (lw_at lw_m14 28 rfl) rfl
theorem q3454 : (Jvm.Cond.methodLink "LinkedTongue$Machine" (615 : Nat) ({ cls := "LinkedTongue$Machine", name := "field", desc := "(I)V" } : Jvm.MethodName)) ∈ lw_all := lw_g (lw_at lw_m14 33 rfl) rfl
theorem q3455 : (Jvm.Cond.privateMethod ({ cls := "LinkedTongue$Machine", name := "field", desc := "(I)V" } : Jvm.MethodName)) ∈ lw_tbl := lw_at lw_m14 34 rfl
theorem q3456 : (Jvm.Cond.instanceMethod ({ cls := "LinkedTongue$Machine", name := "field", desc := "(I)V" } : Jvm.MethodName)) ∈ lw_all := lw_g (lw_at lw_m14 35 rfl) rfl
theorem q3457 : (Jvm.Cond.code ({ cls := "LinkedTongue$Machine", name := "field", desc := "(I)V" } : Jvm.MethodName) prog_22_method_46_code (4 : Nat) (Option.none : Option Jvm.ClassFile.FieldType)) ∈ lw_all := lw_g (lw_at lw_m14 36 rfl) rfl
theorem q3458 : (Jvm.Cond.methodLink "LinkedTongue$Machine" (714 : Nat) ({ cls := "LinkedTongue$Machine", name := "instanceAt", desc := "(I)LLinkedTongue$Thing;" } : Jvm.MethodName)) ∈ lw_all := lw_g (lw_at lw_m14 37 rfl) rfl
theorem q3459 : (Jvm.Cond.privateMethod ({ cls := "LinkedTongue$Machine", name := "instanceAt", desc := "(I)LLinkedTongue$Thing;" } : Jvm.MethodName)) ∈ lw_tbl := lw_at lw_m14 38 rfl
theorem q3460 : (Jvm.Cond.instanceMethod ({ cls := "LinkedTongue$Machine", name := "instanceAt", desc := "(I)LLinkedTongue$Thing;" } : Jvm.MethodName)) ∈ lw_all := lw_g (lw_at lw_m14 39 rfl) rfl
theorem q3461 : (Jvm.Cond.code ({ cls := "LinkedTongue$Machine", name := "instanceAt", desc := "(I)LLinkedTongue$Thing;" } : Jvm.MethodName) prog_22_method_41_code (2 : Nat) (Option.some (Jvm.ClassFile.FieldType.object "LinkedTongue$Thing"))) ∈ lw_all := lw_g (lw_at lw_m14 40 rfl) rfl
theorem q3462 : (Jvm.Cond.classLink "LinkedTongue$Machine" (688 : Nat) "LinkedTongue$Thing") ∈ lw_all := lw_g (lw_at lw_m14 41 rfl) rfl
theorem q3463 : (Jvm.Cond.methodLink "LinkedTongue$Machine" (718 : Nat) ({ cls := "LinkedTongue$Machine", name := "fieldTag", desc := "(LLinkedTongue$Member;LLinkedTongue$Thing;)B" } : Jvm.MethodName)) ∈ lw_all := lw_g (lw_at lw_m14 42 rfl) rfl
theorem q3464 : (Jvm.Cond.privateMethod ({ cls := "LinkedTongue$Machine", name := "fieldTag", desc := "(LLinkedTongue$Member;LLinkedTongue$Thing;)B" } : Jvm.MethodName)) ∈ lw_tbl := lw_at lw_m14 43 rfl
theorem q3465 : (Jvm.Cond.instanceMethod ({ cls := "LinkedTongue$Machine", name := "fieldTag", desc := "(LLinkedTongue$Member;LLinkedTongue$Thing;)B" } : Jvm.MethodName)) ∈ lw_all := lw_g (lw_at lw_m14 44 rfl) rfl
theorem q3466 : (Jvm.Cond.code ({ cls := "LinkedTongue$Machine", name := "fieldTag", desc := "(LLinkedTongue$Member;LLinkedTongue$Thing;)B" } : Jvm.MethodName) prog_22_method_42_code (3 : Nat) (Option.some Jvm.ClassFile.FieldType.byte)) ∈ lw_all := lw_g (lw_at lw_m14 45 rfl) rfl
theorem q3467 : (Jvm.Cond.methodLink "LinkedTongue$Machine" (704 : Nat) ({ cls := "LinkedTongue$Machine", name := "placeOf", desc := "(LLinkedTongue$Member;LLinkedTongue$Thing;)I" } : Jvm.MethodName)) ∈ lw_all := lw_g (lw_at lw_m14 46 rfl) rfl
theorem q3468 : (Jvm.Cond.static ({ cls := "LinkedTongue$Machine", name := "placeOf", desc := "(LLinkedTongue$Member;LLinkedTongue$Thing;)I" } : Jvm.MethodName)) ∈ lw_all := lw_g (lw_at lw_m14 47 rfl) rfl
theorem q3469 : (Jvm.Cond.code ({ cls := "LinkedTongue$Machine", name := "placeOf", desc := "(LLinkedTongue$Member;LLinkedTongue$Thing;)I" } : Jvm.MethodName) prog_22_method_44_code (2 : Nat) (Option.some Jvm.ClassFile.FieldType.int)) ∈ lw_all := lw_g (lw_at lw_m14 48 rfl) rfl
theorem q3470 : (Jvm.Cond.methodLink "LinkedTongue$Machine" (710 : Nat) ({ cls := "LinkedTongue$HostType", name := "place", desc := "(LLinkedTongue$Member;)I" } : Jvm.MethodName)) ∈ lw_all := lw_g (lw_at lw_m14 49 rfl) rfl
theorem q3483 : (Jvm.Cond.methodLink "LinkedTongue$Machine" (722 : Nat) ({ cls := "LinkedTongue$Machine", name := "fieldWord", desc := "(LLinkedTongue$Member;LLinkedTongue$Thing;)J" } : Jvm.MethodName)) ∈ lw_all := lw_g (lw_at lw_m14 62 rfl) rfl
theorem q3484 : (Jvm.Cond.privateMethod ({ cls := "LinkedTongue$Machine", name := "fieldWord", desc := "(LLinkedTongue$Member;LLinkedTongue$Thing;)J" } : Jvm.MethodName)) ∈ lw_tbl := lw_at lw_m14 63 rfl
theorem q3485 : (Jvm.Cond.instanceMethod ({ cls := "LinkedTongue$Machine", name := "fieldWord", desc := "(LLinkedTongue$Member;LLinkedTongue$Thing;)J" } : Jvm.MethodName)) ∈ lw_all := lw_g (lw_at lw_m14 64 rfl) rfl
theorem q3486 : (Jvm.Cond.code ({ cls := "LinkedTongue$Machine", name := "fieldWord", desc := "(LLinkedTongue$Member;LLinkedTongue$Thing;)J" } : Jvm.MethodName) prog_22_method_43_code (3 : Nat) (Option.some Jvm.ClassFile.FieldType.long)) ∈ lw_all := lw_g (lw_at lw_m14 65 rfl) rfl
theorem q3487 : (Jvm.Cond.methodLink "LinkedTongue$Machine" (618 : Nat) ({ cls := "LinkedTongue$Machine", name := "fieldWrite", desc := "(II)V" } : Jvm.MethodName)) ∈ lw_all := lw_g (lw_at lw_m14 66 rfl) rfl
theorem q3488 : (Jvm.Cond.privateMethod ({ cls := "LinkedTongue$Machine", name := "fieldWrite", desc := "(II)V" } : Jvm.MethodName)) ∈ lw_tbl := lw_at lw_m14 67 rfl
theorem q3489 : (Jvm.Cond.instanceMethod ({ cls := "LinkedTongue$Machine", name := "fieldWrite", desc := "(II)V" } : Jvm.MethodName)) ∈ lw_all := lw_g (lw_at lw_m14 68 rfl) rfl
theorem q3490 : (Jvm.Cond.code ({ cls := "LinkedTongue$Machine", name := "fieldWrite", desc := "(II)V" } : Jvm.MethodName) prog_22_method_47_code (4 : Nat) (Option.none : Option Jvm.ClassFile.FieldType)) ∈ lw_all := lw_g (lw_at lw_m14 69 rfl) rfl
theorem q3491 : (Jvm.Cond.methodLink "LinkedTongue$Machine" (728 : Nat) ({ cls := "LinkedTongue$Host", name := "goes", desc := "(IIZ)Z" } : Jvm.MethodName)) ∈ lw_all := lw_g (lw_at lw_m14 70 rfl) rfl
theorem q3492 : (Jvm.Cond.methodLink "LinkedTongue$Machine" (732 : Nat) ({ cls := "LinkedTongue$Machine", name := "setField", desc := "(LLinkedTongue$Member;LLinkedTongue$Thing;BJ)V" } : Jvm.MethodName)) ∈ lw_all := lw_g (lw_at lw_m14 71 rfl) rfl
theorem q3493 : (Jvm.Cond.privateMethod ({ cls := "LinkedTongue$Machine", name := "setField", desc := "(LLinkedTongue$Member;LLinkedTongue$Thing;BJ)V" } : Jvm.MethodName)) ∈ lw_tbl := lw_at lw_m14 72 rfl
theorem q3494 : (Jvm.Cond.instanceMethod ({ cls := "LinkedTongue$Machine", name := "setField", desc := "(LLinkedTongue$Member;LLinkedTongue$Thing;BJ)V" } : Jvm.MethodName)) ∈ lw_all := lw_g (lw_at lw_m14 73 rfl) rfl
theorem q3495 : (Jvm.Cond.code ({ cls := "LinkedTongue$Machine", name := "setField", desc := "(LLinkedTongue$Member;LLinkedTongue$Thing;BJ)V" } : Jvm.MethodName) prog_22_method_45_code (6 : Nat) (Option.none : Option Jvm.ClassFile.FieldType)) ∈ lw_all := lw_g (lw_at lw_m14 74 rfl) rfl
theorem q3496 : (Jvm.Cond.methodLink "LinkedTongue$Machine" (713 : Nat) ({ cls := "LinkedTongue$Thing", name := "set", desc := "(IBJ)V" } : Jvm.MethodName)) ∈ lw_all := lw_g (lw_at lw_m14 75 rfl) rfl
theorem q3497 : (Jvm.Cond.methodLink "LinkedTongue$Machine" (625 : Nat) ({ cls := "LinkedTongue$Machine", name := "does", desc := "(LLinkedTongue$Member;IIZ)V" } : Jvm.MethodName)) ∈ lw_all := lw_g (lw_at lw_m14 76 rfl) rfl
theorem q3498 : (Jvm.Cond.privateMethod ({ cls := "LinkedTongue$Machine", name := "does", desc := "(LLinkedTongue$Member;IIZ)V" } : Jvm.MethodName)) ∈ lw_tbl := lw_at lw_m14 77 rfl
theorem q3499 : (Jvm.Cond.instanceMethod ({ cls := "LinkedTongue$Machine", name := "does", desc := "(LLinkedTongue$Member;IIZ)V" } : Jvm.MethodName)) ∈ lw_all := lw_g (lw_at lw_m14 78 rfl) rfl
theorem q3500 : (Jvm.Cond.code ({ cls := "LinkedTongue$Machine", name := "does", desc := "(LLinkedTongue$Member;IIZ)V" } : Jvm.MethodName) prog_22_method_48_code (8 : Nat) (Option.none : Option Jvm.ClassFile.FieldType)) ∈ lw_all := lw_g (lw_at lw_m14 79 rfl) rfl
theorem q3501 : (Jvm.Cond.constant "LinkedTongue$Machine" (736 : Nat) (100000 : Int32)) ∈ lw_all := lw_g (lw_at lw_m14 80 rfl) rfl
theorem q3502 : (Jvm.Cond.methodLink "LinkedTongue$Machine" (738 : Nat) ({ cls := "LinkedTongue$Machine", name := "construct", desc := "(LLinkedTongue$Member;II)V" } : Jvm.MethodName)) ∈ lw_all := lw_g (lw_at lw_m14 81 rfl) rfl
theorem q3503 : (Jvm.Cond.privateMethod ({ cls := "LinkedTongue$Machine", name := "construct", desc := "(LLinkedTongue$Member;II)V" } : Jvm.MethodName)) ∈ lw_tbl := lw_at lw_m14 82 rfl
theorem q3504 : (Jvm.Cond.instanceMethod ({ cls := "LinkedTongue$Machine", name := "construct", desc := "(LLinkedTongue$Member;II)V" } : Jvm.MethodName)) ∈ lw_all := lw_g (lw_at lw_m14 83 rfl) rfl
theorem q3505 : (Jvm.Cond.code ({ cls := "LinkedTongue$Machine", name := "construct", desc := "(LLinkedTongue$Member;II)V" } : Jvm.MethodName) prog_22_method_56_code (11 : Nat) (Option.none : Option Jvm.ClassFile.FieldType)) ∈ lw_all := lw_g (lw_at lw_m14 84 rfl) rfl
theorem q3506 : (Jvm.Cond.methodLink "LinkedTongue$Machine" (792 : Nat) ({ cls := "LinkedTongue$HostType", name := "layout", desc := "()[LLinkedTongue$Member;" } : Jvm.MethodName)) ∈ lw_all := lw_g (lw_at lw_m14 85 rfl) rfl
theorem q3508 : (Jvm.Cond.methodLink "LinkedTongue$Machine" (796 : Nat) ({ cls := "LinkedTongue$Instance", name := "<init>", desc := "(ILLinkedTongue$HostType;[LLinkedTongue$Member;)V" } : Jvm.MethodName)) ∈ lw_all := lw_g (lw_at lw_m14 87 rfl) rfl
theorem q3517 : (Jvm.Cond.fieldLinkNest "LinkedTongue$Machine" (272 : Nat) "LinkedTongue$Instance" "type" "LLinkedTongue$HostType;" "LinkedTongue") ∈ lw_tbl := lw_at lw_m14 96 rfl
theorem q3526 : (Jvm.Cond.methodLink "LinkedTongue$Machine" (799 : Nat) ({ cls := "java/lang/Math", name := "min", desc := "(II)I" } : Jvm.MethodName)) ∈ lw_all := lw_g (lw_at lw_m14 105 rfl) rfl
theorem q3527 : (Jvm.Cond.methodLink "LinkedTongue$Machine" (802 : Nat) ({ cls := "LinkedTongue$Machine", name := "isMarked", desc := "(I)Z" } : Jvm.MethodName)) ∈ lw_all := lw_g (lw_at lw_m14 106 rfl) rfl
theorem q3528 : (Jvm.Cond.privateMethod ({ cls := "LinkedTongue$Machine", name := "isMarked", desc := "(I)Z" } : Jvm.MethodName)) ∈ lw_tbl := lw_at lw_m14 107 rfl
theorem q3529 : (Jvm.Cond.instanceMethod ({ cls := "LinkedTongue$Machine", name := "isMarked", desc := "(I)Z" } : Jvm.MethodName)) ∈ lw_all := lw_g (lw_at lw_m14 108 rfl) rfl
theorem q3530 : (Jvm.Cond.code ({ cls := "LinkedTongue$Machine", name := "isMarked", desc := "(I)Z" } : Jvm.MethodName) prog_22_method_57_code (2 : Nat) (Option.some Jvm.ClassFile.FieldType.boolean)) ∈ lw_all := lw_g (lw_at lw_m14 109 rfl) rfl
theorem q3531 : (Jvm.Cond.methodLink "LinkedTongue$Machine" (805 : Nat) ({ cls := "LinkedTongue$Machine", name := "mark", desc := "(I)V" } : Jvm.MethodName)) ∈ lw_all := lw_g (lw_at lw_m14 110 rfl) rfl
theorem q3532 : (Jvm.Cond.privateMethod ({ cls := "LinkedTongue$Machine", name := "mark", desc := "(I)V" } : Jvm.MethodName)) ∈ lw_tbl := lw_at lw_m14 111 rfl
theorem q3533 : (Jvm.Cond.instanceMethod ({ cls := "LinkedTongue$Machine", name := "mark", desc := "(I)V" } : Jvm.MethodName)) ∈ lw_all := lw_g (lw_at lw_m14 112 rfl) rfl
theorem q3534 : (Jvm.Cond.code ({ cls := "LinkedTongue$Machine", name := "mark", desc := "(I)V" } : Jvm.MethodName) prog_22_method_58_code (2 : Nat) (Option.none : Option Jvm.ClassFile.FieldType)) ∈ lw_all := lw_g (lw_at lw_m14 113 rfl) rfl
theorem q3535 : (Jvm.Cond.methodLink "LinkedTongue$Machine" (808 : Nat) ({ cls := "LinkedTongue$Instance", name := "set", desc := "(IBJ)V" } : Jvm.MethodName)) ∈ lw_all := lw_g (lw_at lw_m14 114 rfl) rfl
theorem q3538 : (Jvm.Cond.methodLink "LinkedTongue$Machine" (742 : Nat) ({ cls := "LinkedTongue$Machine", name := "know", desc := "(LLinkedTongue$Member;)V" } : Jvm.MethodName)) ∈ lw_all := lw_g (lw_at lw_m14 117 rfl) rfl
theorem q3539 : (Jvm.Cond.privateMethod ({ cls := "LinkedTongue$Machine", name := "know", desc := "(LLinkedTongue$Member;)V" } : Jvm.MethodName)) ∈ lw_tbl := lw_at lw_m14 118 rfl
theorem q3540 : (Jvm.Cond.instanceMethod ({ cls := "LinkedTongue$Machine", name := "know", desc := "(LLinkedTongue$Member;)V" } : Jvm.MethodName)) ∈ lw_all := lw_g (lw_at lw_m14 119 rfl) rfl
theorem q3541 : (Jvm.Cond.code ({ cls := "LinkedTongue$Machine", name := "know", desc := "(LLinkedTongue$Member;)V" } : Jvm.MethodName) prog_22_method_52_code (2 : Nat) (Option.none : Option Jvm.ClassFile.FieldType)) ∈ lw_all := lw_g (lw_at lw_m14 120 rfl) rfl
theorem q3542 : (Jvm.Cond.stringRef "LinkedTongue$Machine" (772 : Nat) "get") ∈ lw_tbl := lw_at lw_m14 121 rfl
theorem q3543 : (Jvm.Cond.methodLink "LinkedTongue$Machine" (773 : Nat) ({ cls := "LinkedTongue$Machine", name := "told", desc := "(LLinkedTongue$Member;Ljava/lang/String;I)LLinkedTongue$Member;" } : Jvm.MethodName)) ∈ lw_all := lw_g (lw_at lw_m14 122 rfl) rfl
theorem q3544 : (Jvm.Cond.privateMethod ({ cls := "LinkedTongue$Machine", name := "told", desc := "(LLinkedTongue$Member;Ljava/lang/String;I)LLinkedTongue$Member;" } : Jvm.MethodName)) ∈ lw_tbl := lw_at lw_m14 123 rfl
theorem q3545 : (Jvm.Cond.instanceMethod ({ cls := "LinkedTongue$Machine", name := "told", desc := "(LLinkedTongue$Member;Ljava/lang/String;I)LLinkedTongue$Member;" } : Jvm.MethodName)) ∈ lw_all := lw_g (lw_at lw_m14 124 rfl) rfl
theorem q3546 : (Jvm.Cond.code ({ cls := "LinkedTongue$Machine", name := "told", desc := "(LLinkedTongue$Member;Ljava/lang/String;I)LLinkedTongue$Member;" } : Jvm.MethodName) prog_22_method_51_code (7 : Nat) (Option.some (Jvm.ClassFile.FieldType.object "LinkedTongue$Member"))) ∈ lw_all := lw_g (lw_at lw_m14 125 rfl) rfl
theorem q3547 : (Jvm.Cond.methodLink "LinkedTongue$Machine" (759 : Nat) ({ cls := "LinkedTongue$Machine", name := "begins", desc := "(ILjava/lang/String;)Z" } : Jvm.MethodName)) ∈ lw_all := lw_g (lw_at lw_m14 126 rfl) rfl
theorem q3548 : (Jvm.Cond.privateMethod ({ cls := "LinkedTongue$Machine", name := "begins", desc := "(ILjava/lang/String;)Z" } : Jvm.MethodName)) ∈ lw_tbl := lw_at lw_m14 127 rfl
theorem q3549 : (Jvm.Cond.instanceMethod ({ cls := "LinkedTongue$Machine", name := "begins", desc := "(ILjava/lang/String;)Z" } : Jvm.MethodName)) ∈ lw_all := lw_g (lw_at lw_m14 128 rfl) rfl
theorem q3550 : (Jvm.Cond.code ({ cls := "LinkedTongue$Machine", name := "begins", desc := "(ILjava/lang/String;)Z" } : Jvm.MethodName) prog_22_method_50_code (6 : Nat) (Option.some Jvm.ClassFile.FieldType.boolean)) ∈ lw_all := lw_g (lw_at lw_m14 129 rfl) rfl
theorem q3551 : (Jvm.Cond.methodLink "LinkedTongue$Machine" (302 : Nat) ({ cls := "java/lang/String", name := "length", desc := "()I" } : Jvm.MethodName)) ∈ lw_all := lw_g (lw_at lw_m14 130 rfl) rfl
theorem q3552 : (Jvm.Cond.methodLink "LinkedTongue$Machine" (328 : Nat) ({ cls := "LinkedTongue$Words", name := "byteAt", desc := "(II)I" } : Jvm.MethodName)) ∈ lw_all := lw_g (lw_at lw_m14 131 rfl) rfl
theorem q3553 : (Jvm.Cond.methodLink "LinkedTongue$Machine" (305 : Nat) ({ cls := "java/lang/String", name := "charAt", desc := "(I)C" } : Jvm.MethodName)) ∈ lw_all := lw_g (lw_at lw_m14 132 rfl) rfl
theorem q3554 : (Jvm.Cond.methodLink "LinkedTongue$Machine" (763 : Nat) ({ cls := "LinkedTongue$HostType", name := "nearest", desc := "(I)LLinkedTongue$Member;" } : Jvm.MethodName)) ∈ lw_all := lw_g (lw_at lw_m14 133 rfl) rfl
theorem q3559 : (Jvm.Cond.stringRef "LinkedTongue$Machine" (777 : Nat) "is") ∈ lw_tbl := lw_at lw_m14 138 rfl
theorem q3560 : (Jvm.Cond.stringRef "LinkedTongue$Machine" (782 : Nat) "set") ∈ lw_tbl := lw_at lw_m14 139 rfl
theorem q3561 : (Jvm.Cond.methodLink "LinkedTongue$Machine" (748 : Nat) ({ cls := "LinkedTongue$Machine", name := "access", desc := "(LLinkedTongue$Member;I)V" } : Jvm.MethodName)) ∈ lw_all := lw_g (lw_at lw_m14 140 rfl) rfl
theorem q3562 : (Jvm.Cond.privateMethod ({ cls := "LinkedTongue$Machine", name := "access", desc := "(LLinkedTongue$Member;I)V" } : Jvm.MethodName)) ∈ lw_tbl := lw_at lw_m14 141 rfl
theorem q3563 : (Jvm.Cond.instanceMethod ({ cls := "LinkedTongue$Machine", name := "access", desc := "(LLinkedTongue$Member;I)V" } : Jvm.MethodName)) ∈ lw_all := lw_g (lw_at lw_m14 142 rfl) rfl
theorem q3564 : (Jvm.Cond.code ({ cls := "LinkedTongue$Machine", name := "access", desc := "(LLinkedTongue$Member;I)V" } : Jvm.MethodName) prog_22_method_53_code (4 : Nat) (Option.none : Option Jvm.ClassFile.FieldType)) ∈ lw_all := lw_g (lw_at lw_m14 143 rfl) rfl
theorem q3565 : (Jvm.Cond.methodLink "LinkedTongue$Machine" (752 : Nat) ({ cls := "LinkedTongue$Machine", name := "result", desc := "(LLinkedTongue$Member;II)V" } : Jvm.MethodName)) ∈ lw_all := lw_g (lw_at lw_m14 144 rfl) rfl
theorem q3566 : (Jvm.Cond.privateMethod ({ cls := "LinkedTongue$Machine", name := "result", desc := "(LLinkedTongue$Member;II)V" } : Jvm.MethodName)) ∈ lw_tbl := lw_at lw_m14 145 rfl
theorem q3567 : (Jvm.Cond.instanceMethod ({ cls := "LinkedTongue$Machine", name := "result", desc := "(LLinkedTongue$Member;II)V" } : Jvm.MethodName)) ∈ lw_all := lw_g (lw_at lw_m14 146 rfl) rfl
theorem q3568 : (Jvm.Cond.code ({ cls := "LinkedTongue$Machine", name := "result", desc := "(LLinkedTongue$Member;II)V" } : Jvm.MethodName) prog_22_method_54_code (7 : Nat) (Option.none : Option Jvm.ClassFile.FieldType)) ∈ lw_all := lw_g (lw_at lw_m14 147 rfl) rfl
theorem q3569 : (Jvm.Cond.methodLink "LinkedTongue$Machine" (352 : Nat) ({ cls := "LinkedTongue$Machine", name := "putWord", desc := "(I)V" } : Jvm.MethodName)) ∈ lw_all := lw_g (lw_at lw_m14 148 rfl) rfl
theorem q3570 : (Jvm.Cond.privateMethod ({ cls := "LinkedTongue$Machine", name := "putWord", desc := "(I)V" } : Jvm.MethodName)) ∈ lw_tbl := lw_at lw_m14 149 rfl
theorem q3571 : (Jvm.Cond.instanceMethod ({ cls := "LinkedTongue$Machine", name := "putWord", desc := "(I)V" } : Jvm.MethodName)) ∈ lw_all := lw_g (lw_at lw_m14 150 rfl) rfl
theorem q3572 : (Jvm.Cond.code ({ cls := "LinkedTongue$Machine", name := "putWord", desc := "(I)V" } : Jvm.MethodName) prog_22_method_12_code (3 : Nat) (Option.none : Option Jvm.ClassFile.FieldType)) ∈ lw_all := lw_g (lw_at lw_m14 151 rfl) rfl
theorem q3573 : (Jvm.Cond.methodLink "LinkedTongue$Machine" (309 : Nat) ({ cls := "LinkedTongue$Machine", name := "put", desc := "(I)V" } : Jvm.MethodName)) ∈ lw_all := lw_g (lw_at lw_m14 152 rfl) rfl
theorem q3574 : (Jvm.Cond.privateMethod ({ cls := "LinkedTongue$Machine", name := "put", desc := "(I)V" } : Jvm.MethodName)) ∈ lw_tbl := lw_at lw_m14 153 rfl
theorem q3575 : (Jvm.Cond.instanceMethod ({ cls := "LinkedTongue$Machine", name := "put", desc := "(I)V" } : Jvm.MethodName)) ∈ lw_all := lw_g (lw_at lw_m14 154 rfl) rfl
theorem q3576 : (Jvm.Cond.code ({ cls := "LinkedTongue$Machine", name := "put", desc := "(I)V" } : Jvm.MethodName) prog_22_method_9_code (2 : Nat) (Option.none : Option Jvm.ClassFile.FieldType)) ∈ lw_all := lw_g (lw_at lw_m14 155 rfl) rfl
theorem q3577 : (Jvm.Cond.constant "LinkedTongue$Machine" (294 : Nat) (200100 : Int32)) ∈ lw_all := lw_g (lw_at lw_m14 156 rfl) rfl
theorem q3578 : (Jvm.Cond.methodLinkNest "LinkedTongue$Machine" (295 : Nat) ({ cls := "LinkedTongue", name := "larger", desc := "(II)I" } : Jvm.MethodName) "LinkedTongue") ∈ lw_tbl := lw_at lw_m14 157 rfl
theorem q3579 : (Jvm.Cond.methodLink "LinkedTongue$Machine" (521 : Nat) ({ cls := "LinkedTongue$Machine", name := "makeText", desc := "()I" } : Jvm.MethodName)) ∈ lw_all := lw_g (lw_at lw_m14 158 rfl) rfl
theorem q3580 : (Jvm.Cond.privateMethod ({ cls := "LinkedTongue$Machine", name := "makeText", desc := "()I" } : Jvm.MethodName)) ∈ lw_tbl := lw_at lw_m14 159 rfl
theorem q3581 : (Jvm.Cond.instanceMethod ({ cls := "LinkedTongue$Machine", name := "makeText", desc := "()I" } : Jvm.MethodName)) ∈ lw_all := lw_g (lw_at lw_m14 160 rfl) rfl
theorem q3582 : (Jvm.Cond.code ({ cls := "LinkedTongue$Machine", name := "makeText", desc := "()I" } : Jvm.MethodName) prog_22_method_14_code (1 : Nat) (Option.some Jvm.ClassFile.FieldType.int)) ∈ lw_all := lw_g (lw_at lw_m14 161 rfl) rfl
theorem q3583 : (Jvm.Cond.methodLink "LinkedTongue$Machine" (358 : Nat) ({ cls := "LinkedTongue$Texts", name := "hasRoom", desc := "(I)Z" } : Jvm.MethodName)) ∈ lw_all := lw_g (lw_at lw_m14 162 rfl) rfl
theorem q3588 : (Jvm.Cond.methodLink "LinkedTongue$Machine" (366 : Nat) ({ cls := "LinkedTongue$Texts", name := "make", desc := "([BII)I" } : Jvm.MethodName)) ∈ lw_all := lw_g (lw_at lw_m14 167 rfl) rfl
theorem q3593 : (Jvm.Cond.methodLink "LinkedTongue$Machine" (786 : Nat) ({ cls := "LinkedTongue$Machine", name := "some", desc := "(IIII)V" } : Jvm.MethodName)) ∈ lw_all := lw_g (lw_at lw_m14 172 rfl) rfl
theorem q3594 : (Jvm.Cond.privateMethod ({ cls := "LinkedTongue$Machine", name := "some", desc := "(IIII)V" } : Jvm.MethodName)) ∈ lw_tbl := lw_at lw_m14 173 rfl
theorem q3595 : (Jvm.Cond.instanceMethod ({ cls := "LinkedTongue$Machine", name := "some", desc := "(IIII)V" } : Jvm.MethodName)) ∈ lw_all := lw_g (lw_at lw_m14 174 rfl) rfl
theorem q3596 : (Jvm.Cond.code ({ cls := "LinkedTongue$Machine", name := "some", desc := "(IIII)V" } : Jvm.MethodName) prog_22_method_55_code (7 : Nat) (Option.none : Option Jvm.ClassFile.FieldType)) ∈ lw_all := lw_g (lw_at lw_m14 175 rfl) rfl
theorem q3597 : (Jvm.Cond.methodLink "LinkedTongue$Machine" (789 : Nat) ({ cls := "LinkedTongue$Host", name := "isUnder", desc := "(II)Z" } : Jvm.MethodName)) ∈ lw_all := lw_g (lw_at lw_m14 176 rfl) rfl
theorem q3598 : (Jvm.Cond.methodLink "LinkedTongue$Machine" (755 : Nat) ({ cls := "LinkedTongue$Machine", name := "note", desc := "(I)V" } : Jvm.MethodName)) ∈ lw_all := lw_g (lw_at lw_m14 177 rfl) rfl
theorem q3599 : (Jvm.Cond.privateMethod ({ cls := "LinkedTongue$Machine", name := "note", desc := "(I)V" } : Jvm.MethodName)) ∈ lw_tbl := lw_at lw_m14 178 rfl
theorem q3600 : (Jvm.Cond.instanceMethod ({ cls := "LinkedTongue$Machine", name := "note", desc := "(I)V" } : Jvm.MethodName)) ∈ lw_all := lw_g (lw_at lw_m14 179 rfl) rfl
theorem q3601 : (Jvm.Cond.code ({ cls := "LinkedTongue$Machine", name := "note", desc := "(I)V" } : Jvm.MethodName) prog_22_method_49_code (2 : Nat) (Option.none : Option Jvm.ClassFile.FieldType)) ∈ lw_all := lw_g (lw_at lw_m14 180 rfl) rfl
theorem q3602 : (Jvm.Cond.methodLink "LinkedTongue$Machine" (629 : Nat) ({ cls := "LinkedTongue$Machine", name := "row", desc := "(I)V" } : Jvm.MethodName)) ∈ lw_all := lw_g (lw_at lw_m14 181 rfl) rfl
theorem q3603 : (Jvm.Cond.privateMethod ({ cls := "LinkedTongue$Machine", name := "row", desc := "(I)V" } : Jvm.MethodName)) ∈ lw_tbl := lw_at lw_m14 182 rfl
theorem q3604 : (Jvm.Cond.instanceMethod ({ cls := "LinkedTongue$Machine", name := "row", desc := "(I)V" } : Jvm.MethodName)) ∈ lw_all := lw_g (lw_at lw_m14 183 rfl) rfl
theorem q3605 : (Jvm.Cond.code ({ cls := "LinkedTongue$Machine", name := "row", desc := "(I)V" } : Jvm.MethodName) prog_22_method_39_code (8 : Nat) (Option.none : Option Jvm.ClassFile.FieldType)) ∈ lw_all := lw_g (lw_at lw_m14 184 rfl) rfl
theorem q3606 : (Jvm.Cond.methodLink "LinkedTongue$Machine" (680 : Nat) ({ cls := "LinkedTongue$Machine", name := "indexAt", desc := "(II)I" } : Jvm.MethodName)) ∈ lw_all := lw_g (lw_at lw_m14 185 rfl) rfl
theorem q3607 : (Jvm.Cond.privateMethod ({ cls := "LinkedTongue$Machine", name := "indexAt", desc := "(II)I" } : Jvm.MethodName)) ∈ lw_tbl := lw_at lw_m14 186 rfl
theorem q3608 : (Jvm.Cond.instanceMethod ({ cls := "LinkedTongue$Machine", name := "indexAt", desc := "(II)I" } : Jvm.MethodName)) ∈ lw_all := lw_g (lw_at lw_m14 187 rfl) rfl
theorem q3609 : (Jvm.Cond.code ({ cls := "LinkedTongue$Machine", name := "indexAt", desc := "(II)I" } : Jvm.MethodName) prog_22_method_38_code (3 : Nat) (Option.some Jvm.ClassFile.FieldType.int)) ∈ lw_all := lw_g (lw_at lw_m14 188 rfl) rfl
theorem q3610 : (Jvm.Cond.methodLink "LinkedTongue$Machine" (683 : Nat) ({ cls := "LinkedTongue$Machine", name := "part", desc := "(IIII)V" } : Jvm.MethodName)) ∈ lw_all := lw_g (lw_at lw_m14 189 rfl) rfl
theorem q3611 : (Jvm.Cond.privateMethod ({ cls := "LinkedTongue$Machine", name := "part", desc := "(IIII)V" } : Jvm.MethodName)) ∈ lw_tbl := lw_at lw_m14 190 rfl
theorem q3612 : (Jvm.Cond.instanceMethod ({ cls := "LinkedTongue$Machine", name := "part", desc := "(IIII)V" } : Jvm.MethodName)) ∈ lw_all := lw_g (lw_at lw_m14 191 rfl) rfl
theorem q3613 : (Jvm.Cond.code ({ cls := "LinkedTongue$Machine", name := "part", desc := "(IIII)V" } : Jvm.MethodName) prog_22_method_40_code (6 : Nat) (Option.none : Option Jvm.ClassFile.FieldType)) ∈ lw_all := lw_g (lw_at lw_m14 192 rfl) rfl
theorem q3614 : (Jvm.Cond.methodLink "LinkedTongue$Machine" (687 : Nat) ({ cls := "LinkedTongue$Row", name := "set", desc := "(IBJ)V" } : Jvm.MethodName)) ∈ lw_all := lw_g (lw_at lw_m14 193 rfl) rfl
theorem q3617 : (Jvm.Cond.methodLink "LinkedTongue$Machine" (465 : Nat) ({ cls := "LinkedTongue$Machine", name := "builtin", desc := "(I)V" } : Jvm.MethodName)) ∈ lw_all := lw_g (lw_at lw_m14 196 rfl) rfl
theorem q3618 : (Jvm.Cond.privateMethod ({ cls := "LinkedTongue$Machine", name := "builtin", desc := "(I)V" } : Jvm.MethodName)) ∈ lw_tbl := lw_at lw_m14 197 rfl
theorem q3619 : (Jvm.Cond.instanceMethod ({ cls := "LinkedTongue$Machine", name := "builtin", desc := "(I)V" } : Jvm.MethodName)) ∈ lw_all := lw_g (lw_at lw_m14 198 rfl) rfl
theorem q3620 : (Jvm.Cond.code ({ cls := "LinkedTongue$Machine", name := "builtin", desc := "(I)V" } : Jvm.MethodName) prog_22_method_59_code (10 : Nat) (Option.none : Option Jvm.ClassFile.FieldType)) ∈ lw_all := lw_g (lw_at lw_m14 199 rfl) rfl
theorem q3621 : (Jvm.Cond.methodLink "LinkedTongue$Machine" (810 : Nat) ({ cls := "LinkedTongue$Machine", name := "print", desc := "(IBJ)V" } : Jvm.MethodName)) ∈ lw_all := lw_g (lw_at lw_m14 200 rfl) rfl
theorem q3622 : (Jvm.Cond.privateMethod ({ cls := "LinkedTongue$Machine", name := "print", desc := "(IBJ)V" } : Jvm.MethodName)) ∈ lw_tbl := lw_at lw_m14 201 rfl
theorem q3623 : (Jvm.Cond.instanceMethod ({ cls := "LinkedTongue$Machine", name := "print", desc := "(IBJ)V" } : Jvm.MethodName)) ∈ lw_all := lw_g (lw_at lw_m14 202 rfl) rfl
theorem q3624 : (Jvm.Cond.code ({ cls := "LinkedTongue$Machine", name := "print", desc := "(IBJ)V" } : Jvm.MethodName) prog_22_method_60_code (6 : Nat) (Option.none : Option Jvm.ClassFile.FieldType)) ∈ lw_all := lw_g (lw_at lw_m14 203 rfl) rfl
theorem q3625 : (Jvm.Cond.methodLink "LinkedTongue$Machine" (518 : Nat) ({ cls := "LinkedTongue$Machine", name := "putValue", desc := "(BJ)V" } : Jvm.MethodName)) ∈ lw_all := lw_g (lw_at lw_m14 204 rfl) rfl
theorem q3626 : (Jvm.Cond.privateMethod ({ cls := "LinkedTongue$Machine", name := "putValue", desc := "(BJ)V" } : Jvm.MethodName)) ∈ lw_tbl := lw_at lw_m14 205 rfl
theorem q3627 : (Jvm.Cond.instanceMethod ({ cls := "LinkedTongue$Machine", name := "putValue", desc := "(BJ)V" } : Jvm.MethodName)) ∈ lw_all := lw_g (lw_at lw_m14 206 rfl) rfl
theorem q3628 : (Jvm.Cond.code ({ cls := "LinkedTongue$Machine", name := "putValue", desc := "(BJ)V" } : Jvm.MethodName) prog_22_method_13_code (6 : Nat) (Option.none : Option Jvm.ClassFile.FieldType)) ∈ lw_all := lw_g (lw_at lw_m14 207 rfl) rfl
theorem q3629 : (Jvm.Cond.methodLink "LinkedTongue$Machine" (331 : Nat) ({ cls := "LinkedTongue$Machine", name := "put", desc := "(Ljava/lang/String;)V" } : Jvm.MethodName)) ∈ lw_all := lw_g (lw_at lw_m14 208 rfl) rfl
theorem q3630 : (Jvm.Cond.privateMethod ({ cls := "LinkedTongue$Machine", name := "put", desc := "(Ljava/lang/String;)V" } : Jvm.MethodName)) ∈ lw_tbl := lw_at lw_m14 209 rfl
theorem q3631 : (Jvm.Cond.instanceMethod ({ cls := "LinkedTongue$Machine", name := "put", desc := "(Ljava/lang/String;)V" } : Jvm.MethodName)) ∈ lw_all := lw_g (lw_at lw_m14 210 rfl) rfl
theorem q3632 : (Jvm.Cond.code ({ cls := "LinkedTongue$Machine", name := "put", desc := "(Ljava/lang/String;)V" } : Jvm.MethodName) prog_22_method_10_code (3 : Nat) (Option.none : Option Jvm.ClassFile.FieldType)) ∈ lw_all := lw_g (lw_at lw_m14 211 rfl) rfl
theorem q3633 : (Jvm.Cond.stringRef "LinkedTongue$Machine" (334 : Nat) "false") ∈ lw_tbl := lw_at lw_m14 212 rfl
theorem q3634 : (Jvm.Cond.stringRef "LinkedTongue$Machine" (336 : Nat) "true") ∈ lw_tbl := lw_at lw_m14 213 rfl
theorem q3635 : (Jvm.Cond.methodLink "LinkedTongue$Machine" (338 : Nat) ({ cls := "LinkedTongue$Machine", name := "putNumber", desc := "(J)V" } : Jvm.MethodName)) ∈ lw_all := lw_g (lw_at lw_m14 214 rfl) rfl
theorem q3636 : (Jvm.Cond.privateMethod ({ cls := "LinkedTongue$Machine", name := "putNumber", desc := "(J)V" } : Jvm.MethodName)) ∈ lw_tbl := lw_at lw_m14 215 rfl
theorem q3637 : (Jvm.Cond.instanceMethod ({ cls := "LinkedTongue$Machine", name := "putNumber", desc := "(J)V" } : Jvm.MethodName)) ∈ lw_all := lw_g (lw_at lw_m14 216 rfl) rfl
theorem q3638 : (Jvm.Cond.code ({ cls := "LinkedTongue$Machine", name := "putNumber", desc := "(J)V" } : Jvm.MethodName) prog_22_method_11_code (5 : Nat) (Option.none : Option Jvm.ClassFile.FieldType)) ∈ lw_all := lw_g (lw_at lw_m14 217 rfl) rfl
theorem q3639 : (Jvm.Cond.constantLong "LinkedTongue$Machine" (312 : Nat) (9 : Int64)) ∈ lw_all := lw_g (lw_at lw_m14 218 rfl) rfl
theorem q3640 : (Jvm.Cond.constantLong "LinkedTongue$Machine" (314 : Nat) (-9 : Int64)) ∈ lw_all := lw_g (lw_at lw_m14 219 rfl) rfl
theorem q3641 : (Jvm.Cond.constantLong "LinkedTongue$Machine" (316 : Nat) (10 : Int64)) ∈ lw_all := lw_g (lw_at lw_m14 220 rfl) rfl
theorem q3642 : (Jvm.Cond.methodLink "LinkedTongue$Machine" (318 : Nat) ({ cls := "java/lang/Math", name := "abs", desc := "(J)J" } : Jvm.MethodName)) ∈ lw_all := lw_g (lw_at lw_m14 221 rfl) rfl
theorem q3645 : (Jvm.Cond.stringRef "LinkedTongue$Machine" (345 : Nat) "{}") ∈ lw_tbl := lw_at lw_m14 224 rfl
theorem q3646 : (Jvm.Cond.stringRef "LinkedTongue$Machine" (347 : Nat) "[]") ∈ lw_tbl := lw_at lw_m14 225 rfl
theorem q3647 : (Jvm.Cond.methodLink "LinkedTongue$Machine" (815 : Nat) ({ cls := "LinkedTongue$Obj", name := "tag", desc := "()B" } : Jvm.MethodName)) ∈ lw_all := lw_g (lw_at lw_m14 226 rfl) rfl
theorem q3648 : (Jvm.Cond.methodLink "LinkedTongue$Machine" (819 : Nat) ({ cls := "LinkedTongue$Machine", name := "turn", desc := "(LLinkedTongue$Obj;I)V" } : Jvm.MethodName)) ∈ lw_all := lw_g (lw_at lw_m14 227 rfl) rfl
theorem q3649 : (Jvm.Cond.privateMethod ({ cls := "LinkedTongue$Machine", name := "turn", desc := "(LLinkedTongue$Obj;I)V" } : Jvm.MethodName)) ∈ lw_tbl := lw_at lw_m14 228 rfl
theorem q3650 : (Jvm.Cond.instanceMethod ({ cls := "LinkedTongue$Machine", name := "turn", desc := "(LLinkedTongue$Obj;I)V" } : Jvm.MethodName)) ∈ lw_all := lw_g (lw_at lw_m14 229 rfl) rfl
theorem q3651 : (Jvm.Cond.code ({ cls := "LinkedTongue$Machine", name := "turn", desc := "(LLinkedTongue$Obj;I)V" } : Jvm.MethodName) prog_22_method_61_code (5 : Nat) (Option.none : Option Jvm.ClassFile.FieldType)) ∈ lw_all := lw_g (lw_at lw_m14 230 rfl) rfl
theorem q3652 : (Jvm.Cond.methodLink "LinkedTongue$Machine" (831 : Nat) ({ cls := "LinkedTongue$Heap", name := "isAbove", desc := "(LLinkedTongue$Obj;LLinkedTongue$Obj;)Z" } : Jvm.MethodName)) ∈ lw_all := lw_g (lw_at lw_m14 231 rfl) rfl
theorem q3655 : (Jvm.Cond.methodLink "LinkedTongue$Machine" (835 : Nat) ({ cls := "LinkedTongue$Heap", name := "turn", desc := "(LLinkedTongue$Obj;LLinkedTongue$Obj;)V" } : Jvm.MethodName)) ∈ lw_all := lw_g (lw_at lw_m14 234 rfl) rfl
theorem q3670 : (Jvm.Cond.methodLink "LinkedTongue$Machine" (823 : Nat) ({ cls := "LinkedTongue$Machine", name := "property", desc := "(LLinkedTongue$Obj;IZ)V" } : Jvm.MethodName)) ∈ lw_all := lw_g (lw_at lw_m15 9 rfl) rfl
theorem q3671 : (Jvm.Cond.privateMethod ({ cls := "LinkedTongue$Machine", name := "property", desc := "(LLinkedTongue$Obj;IZ)V" } : Jvm.MethodName)) ∈ lw_tbl := lw_at lw_m15 10 rfl
theorem q3672 : (Jvm.Cond.instanceMethod ({ cls := "LinkedTongue$Machine", name := "property", desc := "(LLinkedTongue$Obj;IZ)V" } : Jvm.MethodName)) ∈ lw_all := lw_g (lw_at lw_m15 11 rfl) rfl
theorem q3673 : (Jvm.Cond.code ({ cls := "LinkedTongue$Machine", name := "property", desc := "(LLinkedTongue$Obj;IZ)V" } : Jvm.MethodName) prog_22_method_62_code (7 : Nat) (Option.none : Option Jvm.ClassFile.FieldType)) ∈ lw_all := lw_g (lw_at lw_m15 12 rfl) rfl
theorem q3674 : (Jvm.Cond.methodLink "LinkedTongue$Machine" (838 : Nat) ({ cls := "LinkedTongue$Heap", name := "drop", desc := "(LLinkedTongue$Obj;I)Z" } : Jvm.MethodName)) ∈ lw_all := lw_g (lw_at lw_m15 13 rfl) rfl
theorem q3679 : (Jvm.Cond.stringRef "LinkedTongue$Machine" (826 : Nat) "long") ∈ lw_tbl := lw_at lw_m15 18 rfl
theorem q3680 : (Jvm.Cond.methodLink "LinkedTongue$Machine" (828 : Nat) ({ cls := "LinkedTongue$Host", name := "find", desc := "([BII)LLinkedTongue$HostType;" } : Jvm.MethodName)) ∈ lw_all := lw_g (lw_at lw_m15 19 rfl) rfl
theorem q3681 : (Jvm.Cond.methodLink "LinkedTongue$Machine" (468 : Nat) ({ cls := "LinkedTongue$Task", name := "comeBack", desc := "(BJ)V" } : Jvm.MethodName)) ∈ lw_all := lw_g (lw_at lw_m15 20 rfl) rfl
theorem q3687 : (Jvm.Cond.methodLink "LinkedTongue$Machine" (388 : Nat) ({ cls := "LinkedTongue$Task", name := "raise", desc := "(BJ)V" } : Jvm.MethodName)) ∈ lw_all := lw_g (lw_at lw_m15 26 rfl) rfl
theorem q3691 : (Jvm.Cond.methodLink "LinkedTongue$Machine" (471 : Nat) ({ cls := "LinkedTongue$Task", name := "addTry", desc := "(I)V" } : Jvm.MethodName)) ∈ lw_all := lw_g (lw_at lw_m15 30 rfl) rfl
theorem q3696 : (Jvm.Cond.methodLink "LinkedTongue$Machine" (483 : Nat) ({ cls := "LinkedTongue$Machine", name := "operate", desc := "(III)V" } : Jvm.MethodName)) ∈ lw_all := lw_g (lw_at lw_m15 35 rfl) rfl
theorem q3697 : (Jvm.Cond.privateMethod ({ cls := "LinkedTongue$Machine", name := "operate", desc := "(III)V" } : Jvm.MethodName)) ∈ lw_tbl := lw_at lw_m15 36 rfl
theorem q3698 : (Jvm.Cond.instanceMethod ({ cls := "LinkedTongue$Machine", name := "operate", desc := "(III)V" } : Jvm.MethodName)) ∈ lw_all := lw_g (lw_at lw_m15 37 rfl) rfl
theorem q3699 : (Jvm.Cond.code ({ cls := "LinkedTongue$Machine", name := "operate", desc := "(III)V" } : Jvm.MethodName) prog_22_method_27_code (12 : Nat) (Option.none : Option Jvm.ClassFile.FieldType)) ∈ lw_all := lw_g (lw_at lw_m15 38 rfl) rfl
theorem q3700 : (Jvm.Cond.methodLink "LinkedTongue$Machine" (503 : Nat) ({ cls := "LinkedTongue$Machine", name := "isSame", desc := "(II)Z" } : Jvm.MethodName)) ∈ lw_all := lw_g (lw_at lw_m15 39 rfl) rfl
theorem q3701 : (Jvm.Cond.privateMethod ({ cls := "LinkedTongue$Machine", name := "isSame", desc := "(II)Z" } : Jvm.MethodName)) ∈ lw_tbl := lw_at lw_m15 40 rfl
theorem q3702 : (Jvm.Cond.instanceMethod ({ cls := "LinkedTongue$Machine", name := "isSame", desc := "(II)Z" } : Jvm.MethodName)) ∈ lw_all := lw_g (lw_at lw_m15 41 rfl) rfl
theorem q3703 : (Jvm.Cond.code ({ cls := "LinkedTongue$Machine", name := "isSame", desc := "(II)Z" } : Jvm.MethodName) prog_22_method_25_code (4 : Nat) (Option.some Jvm.ClassFile.FieldType.boolean)) ∈ lw_all := lw_g (lw_at lw_m15 42 rfl) rfl
theorem q3704 : (Jvm.Cond.methodLink "LinkedTongue$Machine" (500 : Nat) ({ cls := "LinkedTongue$Texts", name := "compare", desc := "(II)I" } : Jvm.MethodName)) ∈ lw_all := lw_g (lw_at lw_m15 43 rfl) rfl
theorem q3709 : (Jvm.Cond.methodLink "LinkedTongue$Machine" (510 : Nat) ({ cls := "java/lang/Long", name := "compare", desc := "(JJ)I" } : Jvm.MethodName)) ∈ lw_all := lw_g (lw_at lw_m15 48 rfl) rfl
theorem q3712 : (Jvm.Cond.methodLink "LinkedTongue$Machine" (515 : Nat) ({ cls := "LinkedTongue$Machine", name := "join", desc := "(II)V" } : Jvm.MethodName)) ∈ lw_all := lw_g (lw_at lw_m15 51 rfl) rfl
theorem q3713 : (Jvm.Cond.privateMethod ({ cls := "LinkedTongue$Machine", name := "join", desc := "(II)V" } : Jvm.MethodName)) ∈ lw_tbl := lw_at lw_m15 52 rfl
theorem q3714 : (Jvm.Cond.instanceMethod ({ cls := "LinkedTongue$Machine", name := "join", desc := "(II)V" } : Jvm.MethodName)) ∈ lw_all := lw_g (lw_at lw_m15 53 rfl) rfl
theorem q3715 : (Jvm.Cond.code ({ cls := "LinkedTongue$Machine", name := "join", desc := "(II)V" } : Jvm.MethodName) prog_22_method_28_code (5 : Nat) (Option.none : Option Jvm.ClassFile.FieldType)) ∈ lw_all := lw_g (lw_at lw_m15 54 rfl) rfl
theorem q5517 : (Jvm.Cond.castable "LinkedTongue$Machine" "java/lang/Object") ∈ lw_tbl := lw_at lw_m22 176 rfl
theorem q314 : (Jvm.Cond.initialized "LinkedTongue$Signal") ∈ lw_all := lw_g (lw_at lw_m1 13 rfl) rfl
theorem q419 : (Jvm.Cond.selects "LinkedTongue$Signal" ({ cls := "java/lang/Throwable", name := "fillInStackTrace", desc := "()Ljava/lang/Throwable;" } : Jvm.MethodName) ({ cls := "java/lang/Throwable", name := "fillInStackTrace", desc := "()Ljava/lang/Throwable;" } : Jvm.MethodName)) ∈ lw_all := lw_g (lw_at lw_m1 118 rfl) rfl
theorem q647 : (Jvm.Cond.instantiable "LinkedTongue$Signal" (7 : Nat)) ∈ lw_all := lw_g (lw_at lw_m2 106 rfl) rfl
theorem q648 : (Jvm.Cond.castable "LinkedTongue$Signal" "LinkedTongue$Signal") ∈ lw_tbl := lw_at lw_m2 107 rfl
theorem q649 : (Jvm.Cond.selects "LinkedTongue$Signal" ({ cls := "java/lang/Throwable", name := "fillInStackTrace", desc := "(I)Ljava/lang/Throwable;" } : Jvm.MethodName) ({ cls := "java/lang/Throwable", name := "fillInStackTrace", desc := "(I)Ljava/lang/Throwable;" } : Jvm.MethodName)) ∈ lw_all := lw_g (lw_at lw_m2 108 rfl) rfl
theorem q650 : (Jvm.Cond.lays "LinkedTongue$Signal" "java/lang/Throwable" "cause" "Ljava/lang/Throwable;") ∈ lw_all := lw_g (lw_at lw_m2 109 rfl) rfl
theorem q651 : (Jvm.Cond.lays "LinkedTongue$Signal" "java/lang/Throwable" "stackTrace" "[Ljava/lang/StackTraceElement;") ∈ lw_all := lw_g (lw_at lw_m2 110 rfl) rfl
theorem q652 : (Jvm.Cond.lays "LinkedTongue$Signal" "java/lang/Throwable" "suppressedExceptions" "Ljava/util/List;") ∈ lw_all := lw_g (lw_at lw_m2 111 rfl) rfl
theorem q653 : (Jvm.Cond.lays "LinkedTongue$Signal" "java/lang/Throwable" "detailMessage" "Ljava/lang/String;") ∈ lw_all := lw_g (lw_at lw_m2 112 rfl) rfl
theorem q654 : (Jvm.Cond.lays "LinkedTongue$Signal" "java/lang/Throwable" "backtrace" "Ljava/lang/Object;") ∈ lw_all := lw_g (lw_at lw_m2 113 rfl) rfl
theorem q656 : (Jvm.Cond.instanceMethod ({ cls := "LinkedTongue$Signal", name := "<init>", desc := "()V" } : Jvm.MethodName)) ∈ lw_all := lw_g (lw_at lw_m2 115 rfl) rfl
theorem q657 : (Jvm.Cond.code ({ cls := "LinkedTongue$Signal", name := "<init>", desc := "()V" } : Jvm.MethodName) prog_34_method_1_code (1 : Nat) (Option.none : Option Jvm.ClassFile.FieldType)) ∈ lw_all := lw_g (lw_at lw_m2 116 rfl) rfl
theorem q658 : (Jvm.Cond.methodLink "LinkedTongue$Signal" (1 : Nat) ({ cls := "java/lang/RuntimeException", name := "<init>", desc := "(Ljava/lang/String;Ljava/lang/Throwable;ZZ)V" } : Jvm.MethodName)) ∈ lw_all := lw_g (lw_at lw_m2 117 rfl) rfl
theorem q659 : (Jvm.Cond.fieldLink "LinkedTongue$Signal" (7 : Nat) "LinkedTongue$Signal" "error" "I") ∈ lw_all := lw_g (lw_at lw_m2 118 rfl) rfl
theorem q661 : (Jvm.Cond.lays "LinkedTongue$Signal" "LinkedTongue$Signal" "error" "I") ∈ lw_all := lw_g (lw_at lw_m2 120 rfl) rfl
theorem q662 : (Jvm.Cond.soleField "LinkedTongue$Signal" "error") ∈ lw_all := lw_g (lw_at lw_m2 121 rfl) rfl
theorem q663 : (Jvm.Cond.lays "LinkedTongue$Signal" "java/lang/Throwable" "depth" "I") ∈ lw_all := lw_g (lw_at lw_m2 122 rfl) rfl
theorem q664 : (Jvm.Cond.superclass "LinkedTongue$Signal" "java/lang/RuntimeException") ∈ lw_all := lw_g (lw_at lw_m2 123 rfl) rfl
theorem q1092 : (Jvm.Cond.selects "LinkedTongue$Signal" ({ cls := "java/lang/Object", name := "getClass", desc := "()Ljava/lang/Class;" } : Jvm.MethodName) ({ cls := "java/lang/Object", name := "getClass", desc := "()Ljava/lang/Class;" } : Jvm.MethodName)) ∈ lw_all := lw_g (lw_at lw_m4 71 rfl) rfl
theorem q2945 : (Jvm.Cond.instanceMethod ({ cls := "LinkedTongue$Signal", name := "of", desc := "(I)LLinkedTongue$Signal;" } : Jvm.MethodName)) ∈ lw_all := lw_g (lw_at lw_m12 4 rfl) rfl
theorem q2946 : (Jvm.Cond.selects "LinkedTongue$Signal" ({ cls := "LinkedTongue$Signal", name := "of", desc := "(I)LLinkedTongue$Signal;" } : Jvm.MethodName) ({ cls := "LinkedTongue$Signal", name := "of", desc := "(I)LLinkedTongue$Signal;" } : Jvm.MethodName)) ∈ lw_all := lw_g (lw_at lw_m12 5 rfl) rfl
theorem q2947 : (Jvm.Cond.code ({ cls := "LinkedTongue$Signal", name := "of", desc := "(I)LLinkedTongue$Signal;" } : Jvm.MethodName) prog_34_method_2_code (2 : Nat) (Option.some (Jvm.ClassFile.FieldType.object "LinkedTongue$Signal"))) ∈ lw_all := lw_g (lw_at lw_m12 6 rfl) rfl
theorem q5518 : (Jvm.Cond.castable "LinkedTongue$Signal" "java/lang/Object") ∈ lw_tbl := lw_at lw_m22 177 rfl
theorem q315 : (Jvm.Cond.initialized "LinkedTongue$Texts") ∈ lw_all := lw_g (lw_at lw_m1 14 rfl) rfl
theorem q670 : (Jvm.Cond.instantiable "LinkedTongue$Texts" (7 : Nat)) ∈ lw_all := lw_g (lw_at lw_m2 129 rfl) rfl
theorem q672 : (Jvm.Cond.instanceMethod ({ cls := "LinkedTongue$Texts", name := "<init>", desc := "()V" } : Jvm.MethodName)) ∈ lw_all := lw_g (lw_at lw_m2 131 rfl) rfl
theorem q673 : (Jvm.Cond.code ({ cls := "LinkedTongue$Texts", name := "<init>", desc := "()V" } : Jvm.MethodName) prog_39_method_1_code (1 : Nat) (Option.none : Option Jvm.ClassFile.FieldType)) ∈ lw_all := lw_g (lw_at lw_m2 132 rfl) rfl
theorem q674 : (Jvm.Cond.methodLink "LinkedTongue$Texts" (1 : Nat) ({ cls := "java/lang/Object", name := "<init>", desc := "()V" } : Jvm.MethodName)) ∈ lw_all := lw_g (lw_at lw_m2 133 rfl) rfl
theorem q675 : (Jvm.Cond.fieldLink "LinkedTongue$Texts" (7 : Nat) "LinkedTongue$Texts" "bytes" "[B") ∈ lw_all := lw_g (lw_at lw_m2 134 rfl) rfl
theorem q678 : (Jvm.Cond.fieldLink "LinkedTongue$Texts" (13 : Nat) "LinkedTongue$Texts" "from" "[I") ∈ lw_all := lw_g (lw_at lw_m2 137 rfl) rfl
theorem q681 : (Jvm.Cond.fieldLink "LinkedTongue$Texts" (17 : Nat) "LinkedTongue$Texts" "size" "[I") ∈ lw_all := lw_g (lw_at lw_m2 140 rfl) rfl
theorem q684 : (Jvm.Cond.fieldLink "LinkedTongue$Texts" (20 : Nat) "LinkedTongue$Texts" "many" "I") ∈ lw_all := lw_g (lw_at lw_m2 143 rfl) rfl
theorem q685 : (Jvm.Cond.fieldLink "LinkedTongue$Texts" (36 : Nat) "LinkedTongue$Texts" "used" "I") ∈ lw_all := lw_g (lw_at lw_m2 144 rfl) rfl
theorem q686 : (Jvm.Cond.fieldLink "LinkedTongue$Texts" (43 : Nat) "LinkedTongue$Texts" "made" "I") ∈ lw_all := lw_g (lw_at lw_m2 145 rfl) rfl
theorem q687 : (Jvm.Cond.fieldLink "LinkedTongue$Texts" (46 : Nat) "LinkedTongue$Texts" "bytesMade" "I") ∈ lw_all := lw_g (lw_at lw_m2 146 rfl) rfl
theorem q688 : (Jvm.Cond.lays "LinkedTongue$Texts" "LinkedTongue$Texts" "bytes" "[B") ∈ lw_all := lw_g (lw_at lw_m2 147 rfl) rfl
theorem q689 : (Jvm.Cond.soleField "LinkedTongue$Texts" "bytes") ∈ lw_all := lw_g (lw_at lw_m2 148 rfl) rfl
theorem q690 : (Jvm.Cond.lays "LinkedTongue$Texts" "LinkedTongue$Texts" "from" "[I") ∈ lw_all := lw_g (lw_at lw_m2 149 rfl) rfl
theorem q691 : (Jvm.Cond.soleField "LinkedTongue$Texts" "from") ∈ lw_all := lw_g (lw_at lw_m2 150 rfl) rfl
theorem q692 : (Jvm.Cond.lays "LinkedTongue$Texts" "LinkedTongue$Texts" "size" "[I") ∈ lw_all := lw_g (lw_at lw_m2 151 rfl) rfl
theorem q693 : (Jvm.Cond.soleField "LinkedTongue$Texts" "size") ∈ lw_all := lw_g (lw_at lw_m2 152 rfl) rfl
theorem q694 : (Jvm.Cond.lays "LinkedTongue$Texts" "LinkedTongue$Texts" "many" "I") ∈ lw_all := lw_g (lw_at lw_m2 153 rfl) rfl
theorem q695 : (Jvm.Cond.soleField "LinkedTongue$Texts" "many") ∈ lw_all := lw_g (lw_at lw_m2 154 rfl) rfl
theorem q696 : (Jvm.Cond.lays "LinkedTongue$Texts" "LinkedTongue$Texts" "used" "I") ∈ lw_all := lw_g (lw_at lw_m2 155 rfl) rfl
theorem q697 : (Jvm.Cond.soleField "LinkedTongue$Texts" "used") ∈ lw_all := lw_g (lw_at lw_m2 156 rfl) rfl
theorem q698 : (Jvm.Cond.lays "LinkedTongue$Texts" "LinkedTongue$Texts" "made" "I") ∈ lw_all := lw_g (lw_at lw_m2 157 rfl) rfl
theorem q699 : (Jvm.Cond.soleField "LinkedTongue$Texts" "made") ∈ lw_all := lw_g (lw_at lw_m2 158 rfl) rfl
theorem q700 : (Jvm.Cond.lays "LinkedTongue$Texts" "LinkedTongue$Texts" "bytesMade" "I") ∈ lw_all := lw_g (lw_at lw_m2 159 rfl) rfl
theorem q701 : (Jvm.Cond.soleField "LinkedTongue$Texts" "bytesMade") ∈ lw_all := lw_g (lw_at lw_m2 160 rfl) rfl
theorem q702 : (Jvm.Cond.superclass "LinkedTongue$Texts" "java/lang/Object") ∈ lw_all := lw_g (lw_at lw_m2 161 rfl) rfl
theorem q978 : (Jvm.Cond.instanceMethod ({ cls := "LinkedTongue$Texts", name := "clear", desc := "()V" } : Jvm.MethodName)) ∈ lw_all := lw_g (lw_at lw_m3 197 rfl) rfl
theorem q979 : (Jvm.Cond.selects "LinkedTongue$Texts" ({ cls := "LinkedTongue$Texts", name := "clear", desc := "()V" } : Jvm.MethodName) ({ cls := "LinkedTongue$Texts", name := "clear", desc := "()V" } : Jvm.MethodName)) ∈ lw_all := lw_g (lw_at lw_m3 198 rfl) rfl
theorem q980 : (Jvm.Cond.code ({ cls := "LinkedTongue$Texts", name := "clear", desc := "()V" } : Jvm.MethodName) prog_39_method_3_code (1 : Nat) (Option.none : Option Jvm.ClassFile.FieldType)) ∈ lw_all := lw_g (lw_at lw_m3 199 rfl) rfl
theorem q1097 : (Jvm.Cond.selects "LinkedTongue$Texts" ({ cls := "java/lang/Object", name := "getClass", desc := "()Ljava/lang/Class;" } : Jvm.MethodName) ({ cls := "java/lang/Object", name := "getClass", desc := "()Ljava/lang/Class;" } : Jvm.MethodName)) ∈ lw_all := lw_g (lw_at lw_m4 76 rfl) rfl
theorem q2736 : (Jvm.Cond.instanceMethod ({ cls := "LinkedTongue$Texts", name := "add", desc := "([BII)I" } : Jvm.MethodName)) ∈ lw_all := lw_g (lw_at lw_m11 35 rfl) rfl
theorem q2737 : (Jvm.Cond.selects "LinkedTongue$Texts" ({ cls := "LinkedTongue$Texts", name := "add", desc := "([BII)I" } : Jvm.MethodName) ({ cls := "LinkedTongue$Texts", name := "add", desc := "([BII)I" } : Jvm.MethodName)) ∈ lw_all := lw_g (lw_at lw_m11 36 rfl) rfl
theorem q2738 : (Jvm.Cond.code ({ cls := "LinkedTongue$Texts", name := "add", desc := "([BII)I" } : Jvm.MethodName) prog_39_method_2_code (5 : Nat) (Option.some Jvm.ClassFile.FieldType.int)) ∈ lw_all := lw_g (lw_at lw_m11 37 rfl) rfl
theorem q2739 : (Jvm.Cond.methodLinkNest "LinkedTongue$Texts" (24 : Nat) ({ cls := "LinkedTongue", name := "larger", desc := "(II)I" } : Jvm.MethodName) "LinkedTongue") ∈ lw_tbl := lw_at lw_m11 38 rfl
theorem q2740 : (Jvm.Cond.methodLink "LinkedTongue$Texts" (30 : Nat) ({ cls := "java/util/Arrays", name := "copyOf", desc := "([II)[I" } : Jvm.MethodName)) ∈ lw_all := lw_g (lw_at lw_m11 39 rfl) rfl
theorem q2741 : (Jvm.Cond.constant "LinkedTongue$Texts" (39 : Nat) (265600 : Int32)) ∈ lw_all := lw_g (lw_at lw_m11 40 rfl) rfl
theorem q2742 : (Jvm.Cond.methodLink "LinkedTongue$Texts" (40 : Nat) ({ cls := "java/util/Arrays", name := "copyOf", desc := "([BI)[B" } : Jvm.MethodName)) ∈ lw_all := lw_g (lw_at lw_m11 41 rfl) rfl
theorem q3584 : (Jvm.Cond.instanceMethod ({ cls := "LinkedTongue$Texts", name := "hasRoom", desc := "(I)Z" } : Jvm.MethodName)) ∈ lw_all := lw_g (lw_at lw_m14 163 rfl) rfl
theorem q3585 : (Jvm.Cond.selects "LinkedTongue$Texts" ({ cls := "LinkedTongue$Texts", name := "hasRoom", desc := "(I)Z" } : Jvm.MethodName) ({ cls := "LinkedTongue$Texts", name := "hasRoom", desc := "(I)Z" } : Jvm.MethodName)) ∈ lw_all := lw_g (lw_at lw_m14 164 rfl) rfl
theorem q3586 : (Jvm.Cond.code ({ cls := "LinkedTongue$Texts", name := "hasRoom", desc := "(I)Z" } : Jvm.MethodName) prog_39_method_4_code (2 : Nat) (Option.some Jvm.ClassFile.FieldType.boolean)) ∈ lw_all := lw_g (lw_at lw_m14 165 rfl) rfl
theorem q3587 : (Jvm.Cond.constant "LinkedTongue$Texts" (49 : Nat) (200000 : Int32)) ∈ lw_all := lw_g (lw_at lw_m14 166 rfl) rfl
theorem q3589 : (Jvm.Cond.instanceMethod ({ cls := "LinkedTongue$Texts", name := "make", desc := "([BII)I" } : Jvm.MethodName)) ∈ lw_all := lw_g (lw_at lw_m14 168 rfl) rfl
theorem q3590 : (Jvm.Cond.selects "LinkedTongue$Texts" ({ cls := "LinkedTongue$Texts", name := "make", desc := "([BII)I" } : Jvm.MethodName) ({ cls := "LinkedTongue$Texts", name := "make", desc := "([BII)I" } : Jvm.MethodName)) ∈ lw_all := lw_g (lw_at lw_m14 169 rfl) rfl
theorem q3591 : (Jvm.Cond.code ({ cls := "LinkedTongue$Texts", name := "make", desc := "([BII)I" } : Jvm.MethodName) prog_39_method_5_code (4 : Nat) (Option.some Jvm.ClassFile.FieldType.int)) ∈ lw_all := lw_g (lw_at lw_m14 170 rfl) rfl
theorem q3592 : (Jvm.Cond.methodLink "LinkedTongue$Texts" (50 : Nat) ({ cls := "LinkedTongue$Texts", name := "add", desc := "([BII)I" } : Jvm.MethodName)) ∈ lw_all := lw_g (lw_at lw_m14 171 rfl) rfl
theorem q3705 : (Jvm.Cond.instanceMethod ({ cls := "LinkedTongue$Texts", name := "compare", desc := "(II)I" } : Jvm.MethodName)) ∈ lw_all := lw_g (lw_at lw_m15 44 rfl) rfl
theorem q3706 : (Jvm.Cond.selects "LinkedTongue$Texts" ({ cls := "LinkedTongue$Texts", name := "compare", desc := "(II)I" } : Jvm.MethodName) ({ cls := "LinkedTongue$Texts", name := "compare", desc := "(II)I" } : Jvm.MethodName)) ∈ lw_all := lw_g (lw_at lw_m15 45 rfl) rfl
theorem q3707 : (Jvm.Cond.code ({ cls := "LinkedTongue$Texts", name := "compare", desc := "(II)I" } : Jvm.MethodName) prog_39_method_6_code (6 : Nat) (Option.some Jvm.ClassFile.FieldType.int)) ∈ lw_all := lw_g (lw_at lw_m15 46 rfl) rfl
theorem q3708 : (Jvm.Cond.methodLink "LinkedTongue$Texts" (54 : Nat) ({ cls := "java/lang/Math", name := "min", desc := "(II)I" } : Jvm.MethodName)) ∈ lw_all := lw_g (lw_at lw_m15 47 rfl) rfl
theorem q5519 : (Jvm.Cond.castable "LinkedTongue$Texts" "java/lang/Object") ∈ lw_tbl := lw_at lw_m22 178 rfl
theorem q316 : (Jvm.Cond.initialized "LinkedTongue$Heap") ∈ lw_all := lw_g (lw_at lw_m1 15 rfl) rfl
theorem q704 : (Jvm.Cond.instantiable "LinkedTongue$Heap" (8 : Nat)) ∈ lw_all := lw_g (lw_at lw_m2 163 rfl) rfl
theorem q706 : (Jvm.Cond.instanceMethod ({ cls := "LinkedTongue$Heap", name := "<init>", desc := "(LLinkedTongue$Signal;)V" } : Jvm.MethodName)) ∈ lw_all := lw_g (lw_at lw_m2 165 rfl) rfl
theorem q707 : (Jvm.Cond.code ({ cls := "LinkedTongue$Heap", name := "<init>", desc := "(LLinkedTongue$Signal;)V" } : Jvm.MethodName) prog_16_method_1_code (2 : Nat) (Option.none : Option Jvm.ClassFile.FieldType)) ∈ lw_all := lw_g (lw_at lw_m2 166 rfl) rfl
theorem q708 : (Jvm.Cond.methodLink "LinkedTongue$Heap" (3 : Nat) ({ cls := "java/lang/Object", name := "<init>", desc := "()V" } : Jvm.MethodName)) ∈ lw_all := lw_g (lw_at lw_m2 167 rfl) rfl
theorem q709 : (Jvm.Cond.classLink "LinkedTongue$Heap" (9 : Nat) "java/util/ArrayList") ∈ lw_all := lw_g (lw_at lw_m2 168 rfl) rfl
theorem q710 : (Jvm.Cond.methodLink "LinkedTongue$Heap" (11 : Nat) ({ cls := "java/util/ArrayList", name := "<init>", desc := "()V" } : Jvm.MethodName)) ∈ lw_all := lw_g (lw_at lw_m2 169 rfl) rfl
theorem q711 : (Jvm.Cond.fieldLink "LinkedTongue$Heap" (21 : Nat) "LinkedTongue$Heap" "signal" "LLinkedTongue$Signal;") ∈ lw_all := lw_g (lw_at lw_m2 170 rfl) rfl
theorem q712 : (Jvm.Cond.fieldLink "LinkedTongue$Heap" (12 : Nat) "LinkedTongue$Heap" "things" "Ljava/util/ArrayList;") ∈ lw_all := lw_g (lw_at lw_m2 171 rfl) rfl
theorem q715 : (Jvm.Cond.fieldLink "LinkedTongue$Heap" (18 : Nat) "LinkedTongue$Heap" "shapes" "Ljava/util/ArrayList;") ∈ lw_all := lw_g (lw_at lw_m2 174 rfl) rfl
theorem q718 : (Jvm.Cond.fieldLink "LinkedTongue$Heap" (37 : Nat) "LinkedTongue$Heap" "calls" "I") ∈ lw_all := lw_g (lw_at lw_m2 177 rfl) rfl
theorem q720 : (Jvm.Cond.fieldLink "LinkedTongue$Heap" (41 : Nat) "LinkedTongue$Heap" "ticks" "I") ∈ lw_all := lw_g (lw_at lw_m2 179 rfl) rfl
theorem q722 : (Jvm.Cond.fieldLink "LinkedTongue$Heap" (50 : Nat) "LinkedTongue$Heap" "made" "I") ∈ lw_all := lw_g (lw_at lw_m2 181 rfl) rfl
theorem q724 : (Jvm.Cond.fieldLink "LinkedTongue$Heap" (53 : Nat) "LinkedTongue$Heap" "room" "I") ∈ lw_all := lw_g (lw_at lw_m2 183 rfl) rfl
theorem q726 : (Jvm.Cond.fieldLink "LinkedTongue$Heap" (61 : Nat) "LinkedTongue$Heap" "shapesMade" "I") ∈ lw_all := lw_g (lw_at lw_m2 185 rfl) rfl
theorem q727 : (Jvm.Cond.laysFinal "LinkedTongue$Heap" "LinkedTongue$Heap" "signal" "LLinkedTongue$Signal;") ∈ lw_all := lw_g (lw_at lw_m2 186 rfl) rfl
theorem q728 : (Jvm.Cond.soleField "LinkedTongue$Heap" "signal") ∈ lw_all := lw_g (lw_at lw_m2 187 rfl) rfl
theorem q729 : (Jvm.Cond.laysFinal "LinkedTongue$Heap" "LinkedTongue$Heap" "things" "Ljava/util/ArrayList;") ∈ lw_all := lw_g (lw_at lw_m2 188 rfl) rfl
theorem q730 : (Jvm.Cond.soleField "LinkedTongue$Heap" "things") ∈ lw_all := lw_g (lw_at lw_m2 189 rfl) rfl
theorem q731 : (Jvm.Cond.laysFinal "LinkedTongue$Heap" "LinkedTongue$Heap" "shapes" "Ljava/util/ArrayList;") ∈ lw_all := lw_g (lw_at lw_m2 190 rfl) rfl
theorem q732 : (Jvm.Cond.soleField "LinkedTongue$Heap" "shapes") ∈ lw_all := lw_g (lw_at lw_m2 191 rfl) rfl
theorem q733 : (Jvm.Cond.lays "LinkedTongue$Heap" "LinkedTongue$Heap" "calls" "I") ∈ lw_all := lw_g (lw_at lw_m2 192 rfl) rfl
theorem q734 : (Jvm.Cond.soleField "LinkedTongue$Heap" "calls") ∈ lw_all := lw_g (lw_at lw_m2 193 rfl) rfl
theorem q735 : (Jvm.Cond.lays "LinkedTongue$Heap" "LinkedTongue$Heap" "ticks" "I") ∈ lw_all := lw_g (lw_at lw_m2 194 rfl) rfl
theorem q736 : (Jvm.Cond.soleField "LinkedTongue$Heap" "ticks") ∈ lw_all := lw_g (lw_at lw_m2 195 rfl) rfl
theorem q737 : (Jvm.Cond.lays "LinkedTongue$Heap" "LinkedTongue$Heap" "made" "I") ∈ lw_all := lw_g (lw_at lw_m2 196 rfl) rfl
theorem q738 : (Jvm.Cond.soleField "LinkedTongue$Heap" "made") ∈ lw_all := lw_g (lw_at lw_m2 197 rfl) rfl
theorem q739 : (Jvm.Cond.lays "LinkedTongue$Heap" "LinkedTongue$Heap" "room" "I") ∈ lw_all := lw_g (lw_at lw_m2 198 rfl) rfl
theorem q740 : (Jvm.Cond.soleField "LinkedTongue$Heap" "room") ∈ lw_all := lw_g (lw_at lw_m2 199 rfl) rfl
theorem q741 : (Jvm.Cond.lays "LinkedTongue$Heap" "LinkedTongue$Heap" "shapesMade" "I") ∈ lw_all := lw_g (lw_at lw_m2 200 rfl) rfl
theorem q742 : (Jvm.Cond.soleField "LinkedTongue$Heap" "shapesMade") ∈ lw_all := lw_g (lw_at lw_m2 201 rfl) rfl
theorem q743 : (Jvm.Cond.superclass "LinkedTongue$Heap" "java/lang/Object") ∈ lw_all := lw_g (lw_at lw_m2 202 rfl) rfl
theorem q982 : (Jvm.Cond.instanceMethod ({ cls := "LinkedTongue$Heap", name := "clear", desc := "()V" } : Jvm.MethodName)) ∈ lw_all := lw_g (lw_at lw_m3 201 rfl) rfl
theorem q983 : (Jvm.Cond.selects "LinkedTongue$Heap" ({ cls := "LinkedTongue$Heap", name := "clear", desc := "()V" } : Jvm.MethodName) ({ cls := "LinkedTongue$Heap", name := "clear", desc := "()V" } : Jvm.MethodName)) ∈ lw_all := lw_g (lw_at lw_m3 202 rfl) rfl
theorem q984 : (Jvm.Cond.code ({ cls := "LinkedTongue$Heap", name := "clear", desc := "()V" } : Jvm.MethodName) prog_16_method_2_code (1 : Nat) (Option.none : Option Jvm.ClassFile.FieldType)) ∈ lw_all := lw_g (lw_at lw_m3 203 rfl) rfl
theorem q985 : (Jvm.Cond.methodLink "LinkedTongue$Heap" (25 : Nat) ({ cls := "java/util/ArrayList", name := "clear", desc := "()V" } : Jvm.MethodName)) ∈ lw_all := lw_g (lw_at lw_m3 204 rfl) rfl
theorem q989 : (Jvm.Cond.classLink "LinkedTongue$Heap" (28 : Nat) "LinkedTongue$Shape") ∈ lw_all := lw_g (lw_at lw_m3 208 rfl) rfl
theorem q991 : (Jvm.Cond.methodLink "LinkedTongue$Heap" (30 : Nat) ({ cls := "LinkedTongue$Shape", name := "<init>", desc := "(ILLinkedTongue$Obj;LLinkedTongue$Shape;I)V" } : Jvm.MethodName)) ∈ lw_all := lw_g (lw_at lw_m3 210 rfl) rfl
theorem q1001 : (Jvm.Cond.fieldLinkNest "LinkedTongue$Heap" (89 : Nat) "LinkedTongue$Shape" "prototype" "LLinkedTongue$Obj;" "LinkedTongue") ∈ lw_tbl := lw_at lw_m3 220 rfl
theorem q1007 : (Jvm.Cond.fieldLinkNest "LinkedTongue$Heap" (99 : Nat) "LinkedTongue$Shape" "size" "I" "LinkedTongue") ∈ lw_tbl := lw_at lw_m3 226 rfl
theorem q1010 : (Jvm.Cond.fieldLinkNest "LinkedTongue$Heap" (93 : Nat) "LinkedTongue$Shape" "child" "LLinkedTongue$Shape;" "LinkedTongue") ∈ lw_tbl := lw_at lw_m3 229 rfl
theorem q1012 : (Jvm.Cond.fieldLinkNest "LinkedTongue$Heap" (96 : Nat) "LinkedTongue$Shape" "sibling" "LLinkedTongue$Shape;" "LinkedTongue") ∈ lw_tbl := lw_at lw_m3 231 rfl
theorem q1028 : (Jvm.Cond.methodLink "LinkedTongue$Heap" (33 : Nat) ({ cls := "java/util/ArrayList", name := "add", desc := "(Ljava/lang/Object;)Z" } : Jvm.MethodName)) ∈ lw_all := lw_g (lw_at lw_m4 7 rfl) rfl
theorem q1075 : (Jvm.Cond.selects "LinkedTongue$Heap" ({ cls := "java/lang/Object", name := "getClass", desc := "()Ljava/lang/Class;" } : Jvm.MethodName) ({ cls := "java/lang/Object", name := "getClass", desc := "()Ljava/lang/Class;" } : Jvm.MethodName)) ∈ lw_all := lw_g (lw_at lw_m4 54 rfl) rfl
theorem q2795 : (Jvm.Cond.instanceMethod ({ cls := "LinkedTongue$Heap", name := "noteCall", desc := "()V" } : Jvm.MethodName)) ∈ lw_all := lw_g (lw_at lw_m11 94 rfl) rfl
theorem q2796 : (Jvm.Cond.selects "LinkedTongue$Heap" ({ cls := "LinkedTongue$Heap", name := "noteCall", desc := "()V" } : Jvm.MethodName) ({ cls := "LinkedTongue$Heap", name := "noteCall", desc := "()V" } : Jvm.MethodName)) ∈ lw_all := lw_g (lw_at lw_m11 95 rfl) rfl
theorem q2797 : (Jvm.Cond.code ({ cls := "LinkedTongue$Heap", name := "noteCall", desc := "()V" } : Jvm.MethodName) prog_16_method_7_code (1 : Nat) (Option.none : Option Jvm.ClassFile.FieldType)) ∈ lw_all := lw_g (lw_at lw_m11 96 rfl) rfl
theorem q2990 : (Jvm.Cond.instanceMethod ({ cls := "LinkedTongue$Heap", name := "want", desc := "(II)V" } : Jvm.MethodName)) ∈ lw_all := lw_g (lw_at lw_m12 49 rfl) rfl
theorem q2991 : (Jvm.Cond.selects "LinkedTongue$Heap" ({ cls := "LinkedTongue$Heap", name := "want", desc := "(II)V" } : Jvm.MethodName) ({ cls := "LinkedTongue$Heap", name := "want", desc := "(II)V" } : Jvm.MethodName)) ∈ lw_all := lw_g (lw_at lw_m12 50 rfl) rfl
theorem q2992 : (Jvm.Cond.code ({ cls := "LinkedTongue$Heap", name := "want", desc := "(II)V" } : Jvm.MethodName) prog_16_method_4_code (3 : Nat) (Option.none : Option Jvm.ClassFile.FieldType)) ∈ lw_all := lw_g (lw_at lw_m12 51 rfl) rfl
theorem q2993 : (Jvm.Cond.constant "LinkedTongue$Heap" (56 : Nat) (60000 : Int32)) ∈ lw_all := lw_g (lw_at lw_m12 52 rfl) rfl
theorem q2994 : (Jvm.Cond.methodLink "LinkedTongue$Heap" (57 : Nat) ({ cls := "LinkedTongue$Heap", name := "full", desc := "()Ljava/lang/RuntimeException;" } : Jvm.MethodName)) ∈ lw_all := lw_g (lw_at lw_m12 53 rfl) rfl
theorem q2995 : (Jvm.Cond.instanceMethod ({ cls := "LinkedTongue$Heap", name := "full", desc := "()Ljava/lang/RuntimeException;" } : Jvm.MethodName)) ∈ lw_all := lw_g (lw_at lw_m12 54 rfl) rfl
theorem q2996 : (Jvm.Cond.selects "LinkedTongue$Heap" ({ cls := "LinkedTongue$Heap", name := "full", desc := "()Ljava/lang/RuntimeException;" } : Jvm.MethodName) ({ cls := "LinkedTongue$Heap", name := "full", desc := "()Ljava/lang/RuntimeException;" } : Jvm.MethodName)) ∈ lw_all := lw_g (lw_at lw_m12 55 rfl) rfl
theorem q2997 : (Jvm.Cond.code ({ cls := "LinkedTongue$Heap", name := "full", desc := "()Ljava/lang/RuntimeException;" } : Jvm.MethodName) prog_16_method_3_code (1 : Nat) (Option.some (Jvm.ClassFile.FieldType.object "java/lang/RuntimeException"))) ∈ lw_all := lw_g (lw_at lw_m12 56 rfl) rfl
theorem q2998 : (Jvm.Cond.methodLink "LinkedTongue$Heap" (44 : Nat) ({ cls := "LinkedTongue$Signal", name := "of", desc := "(I)LLinkedTongue$Signal;" } : Jvm.MethodName)) ∈ lw_all := lw_g (lw_at lw_m12 57 rfl) rfl
theorem q3020 : (Jvm.Cond.fieldLinkNest "LinkedTongue$Heap" (120 : Nat) "LinkedTongue$Obj" "shape" "LLinkedTongue$Shape;" "LinkedTongue") ∈ lw_tbl := lw_at lw_m12 79 rfl
theorem q3023 : (Jvm.Cond.fieldLinkNest "LinkedTongue$Heap" (68 : Nat) "LinkedTongue$Obj" "root" "LLinkedTongue$Shape;" "LinkedTongue") ∈ lw_tbl := lw_at lw_m12 82 rfl
theorem q3025 : (Jvm.Cond.fieldLinkNest "LinkedTongue$Heap" (82 : Nat) "LinkedTongue$Obj" "epoch" "I" "LinkedTongue") ∈ lw_tbl := lw_at lw_m12 84 rfl
theorem q3028 : (Jvm.Cond.fieldLinkNest "LinkedTongue$Heap" (113 : Nat) "LinkedTongue$Obj" "changedAt" "I" "LinkedTongue") ∈ lw_tbl := lw_at lw_m12 87 rfl
theorem q3042 : (Jvm.Cond.fieldLink "LinkedTongue$Heap" (146 : Nat) "LinkedTongue$Obj" "words" "[J") ∈ lw_all := lw_g (lw_at lw_m12 101 rfl) rfl
theorem q3050 : (Jvm.Cond.fieldLink "LinkedTongue$Heap" (142 : Nat) "LinkedTongue$Obj" "tags" "[B") ∈ lw_all := lw_g (lw_at lw_m12 109 rfl) rfl
theorem q3058 : (Jvm.Cond.fieldLink "LinkedTongue$Heap" (141 : Nat) "LinkedTongue$Obj" "size" "I") ∈ lw_all := lw_g (lw_at lw_m12 117 rfl) rfl
theorem q3086 : (Jvm.Cond.instanceMethod ({ cls := "LinkedTongue$Heap", name := "keep", desc := "(LLinkedTongue$Thing;)LLinkedTongue$Thing;" } : Jvm.MethodName)) ∈ lw_all := lw_g (lw_at lw_m12 145 rfl) rfl
theorem q3087 : (Jvm.Cond.selects "LinkedTongue$Heap" ({ cls := "LinkedTongue$Heap", name := "keep", desc := "(LLinkedTongue$Thing;)LLinkedTongue$Thing;" } : Jvm.MethodName) ({ cls := "LinkedTongue$Heap", name := "keep", desc := "(LLinkedTongue$Thing;)LLinkedTongue$Thing;" } : Jvm.MethodName)) ∈ lw_all := lw_g (lw_at lw_m12 146 rfl) rfl
theorem q3088 : (Jvm.Cond.code ({ cls := "LinkedTongue$Heap", name := "keep", desc := "(LLinkedTongue$Thing;)LLinkedTongue$Thing;" } : Jvm.MethodName) prog_16_method_6_code (2 : Nat) (Option.some (Jvm.ClassFile.FieldType.object "LinkedTongue$Thing"))) ∈ lw_all := lw_g (lw_at lw_m12 147 rfl) rfl
theorem q3182 : (Jvm.Cond.instanceMethod ({ cls := "LinkedTongue$Heap", name := "after", desc := "(LLinkedTongue$Shape;I)LLinkedTongue$Shape;" } : Jvm.MethodName)) ∈ lw_all := lw_g (lw_at lw_m13 1 rfl) rfl
theorem q3183 : (Jvm.Cond.selects "LinkedTongue$Heap" ({ cls := "LinkedTongue$Heap", name := "after", desc := "(LLinkedTongue$Shape;I)LLinkedTongue$Shape;" } : Jvm.MethodName) ({ cls := "LinkedTongue$Heap", name := "after", desc := "(LLinkedTongue$Shape;I)LLinkedTongue$Shape;" } : Jvm.MethodName)) ∈ lw_all := lw_g (lw_at lw_m13 2 rfl) rfl
theorem q3184 : (Jvm.Cond.code ({ cls := "LinkedTongue$Heap", name := "after", desc := "(LLinkedTongue$Shape;I)LLinkedTongue$Shape;" } : Jvm.MethodName) prog_16_method_9_code (4 : Nat) (Option.some (Jvm.ClassFile.FieldType.object "LinkedTongue$Shape"))) ∈ lw_all := lw_g (lw_at lw_m13 3 rfl) rfl
theorem q3185 : (Jvm.Cond.methodLink "LinkedTongue$Heap" (85 : Nat) ({ cls := "LinkedTongue$Shape", name := "known", desc := "(I)LLinkedTongue$Shape;" } : Jvm.MethodName)) ∈ lw_all := lw_g (lw_at lw_m13 4 rfl) rfl
theorem q3189 : (Jvm.Cond.methodLink "LinkedTongue$Heap" (74 : Nat) ({ cls := "LinkedTongue$Heap", name := "wantShapes", desc := "(I)V" } : Jvm.MethodName)) ∈ lw_all := lw_g (lw_at lw_m13 8 rfl) rfl
theorem q3190 : (Jvm.Cond.instanceMethod ({ cls := "LinkedTongue$Heap", name := "wantShapes", desc := "(I)V" } : Jvm.MethodName)) ∈ lw_all := lw_g (lw_at lw_m13 9 rfl) rfl
theorem q3191 : (Jvm.Cond.selects "LinkedTongue$Heap" ({ cls := "LinkedTongue$Heap", name := "wantShapes", desc := "(I)V" } : Jvm.MethodName) ({ cls := "LinkedTongue$Heap", name := "wantShapes", desc := "(I)V" } : Jvm.MethodName)) ∈ lw_all := lw_g (lw_at lw_m13 10 rfl) rfl
theorem q3192 : (Jvm.Cond.code ({ cls := "LinkedTongue$Heap", name := "wantShapes", desc := "(I)V" } : Jvm.MethodName) prog_16_method_5_code (2 : Nat) (Option.none : Option Jvm.ClassFile.FieldType)) ∈ lw_all := lw_g (lw_at lw_m13 11 rfl) rfl
theorem q3193 : (Jvm.Cond.methodLink "LinkedTongue$Heap" (78 : Nat) ({ cls := "java/util/ArrayList", name := "size", desc := "()I" } : Jvm.MethodName)) ∈ lw_all := lw_g (lw_at lw_m13 12 rfl) rfl
theorem q3427 : (Jvm.Cond.instanceMethod ({ cls := "LinkedTongue$Heap", name := "addProperty", desc := "(LLinkedTongue$Obj;LLinkedTongue$Shape;BJ)V" } : Jvm.MethodName)) ∈ lw_all := lw_g (lw_at lw_m14 6 rfl) rfl
theorem q3428 : (Jvm.Cond.selects "LinkedTongue$Heap" ({ cls := "LinkedTongue$Heap", name := "addProperty", desc := "(LLinkedTongue$Obj;LLinkedTongue$Shape;BJ)V" } : Jvm.MethodName) ({ cls := "LinkedTongue$Heap", name := "addProperty", desc := "(LLinkedTongue$Obj;LLinkedTongue$Shape;BJ)V" } : Jvm.MethodName)) ∈ lw_all := lw_g (lw_at lw_m14 7 rfl) rfl
theorem q3429 : (Jvm.Cond.code ({ cls := "LinkedTongue$Heap", name := "addProperty", desc := "(LLinkedTongue$Obj;LLinkedTongue$Shape;BJ)V" } : Jvm.MethodName) prog_16_method_13_code (6 : Nat) (Option.none : Option Jvm.ClassFile.FieldType)) ∈ lw_all := lw_g (lw_at lw_m14 8 rfl) rfl
theorem q3430 : (Jvm.Cond.methodLink "LinkedTongue$Heap" (116 : Nat) ({ cls := "LinkedTongue$Heap", name := "want", desc := "(II)V" } : Jvm.MethodName)) ∈ lw_all := lw_g (lw_at lw_m14 9 rfl) rfl
theorem q3431 : (Jvm.Cond.methodLink "LinkedTongue$Heap" (123 : Nat) ({ cls := "LinkedTongue$Obj", name := "add", desc := "(BJ)V" } : Jvm.MethodName)) ∈ lw_all := lw_g (lw_at lw_m14 10 rfl) rfl
theorem q3435 : (Jvm.Cond.methodLink "LinkedTongue$Heap" (126 : Nat) ({ cls := "LinkedTongue$Heap", name := "grew", desc := "(LLinkedTongue$Obj;)V" } : Jvm.MethodName)) ∈ lw_all := lw_g (lw_at lw_m14 14 rfl) rfl
theorem q3436 : (Jvm.Cond.privateMethod ({ cls := "LinkedTongue$Heap", name := "grew", desc := "(LLinkedTongue$Obj;)V" } : Jvm.MethodName)) ∈ lw_tbl := lw_at lw_m14 15 rfl
theorem q3437 : (Jvm.Cond.instanceMethod ({ cls := "LinkedTongue$Heap", name := "grew", desc := "(LLinkedTongue$Obj;)V" } : Jvm.MethodName)) ∈ lw_all := lw_g (lw_at lw_m14 16 rfl) rfl
theorem q3438 : (Jvm.Cond.code ({ cls := "LinkedTongue$Heap", name := "grew", desc := "(LLinkedTongue$Obj;)V" } : Jvm.MethodName) prog_16_method_12_code (2 : Nat) (Option.none : Option Jvm.ClassFile.FieldType)) ∈ lw_all := lw_g (lw_at lw_m14 17 rfl) rfl
theorem q3445 : (Jvm.Cond.static ({ cls := "LinkedTongue$Heap", name := "holder", desc := "(LLinkedTongue$Obj;I)LLinkedTongue$Obj;" } : Jvm.MethodName)) ∈ lw_all := lw_g (lw_at lw_m14 24 rfl) rfl
theorem q3446 : (Jvm.Cond.code ({ cls := "LinkedTongue$Heap", name := "holder", desc := "(LLinkedTongue$Obj;I)LLinkedTongue$Obj;" } : Jvm.MethodName) prog_16_method_17_code (3 : Nat) (Option.some (Jvm.ClassFile.FieldType.object "LinkedTongue$Obj"))) ∈ lw_all := lw_g (lw_at lw_m14 25 rfl) rfl
theorem q3447 : (Jvm.Cond.methodLink "LinkedTongue$Heap" (130 : Nat) ({ cls := "LinkedTongue$Shape", name := "find", desc := "(I)I" } : Jvm.MethodName)) ∈ lw_all := lw_g (lw_at lw_m14 26 rfl) rfl
theorem q3450 : (Jvm.Cond.instanceMethod ({ cls := "LinkedTongue$Heap", name := "rootOf", desc := "(LLinkedTongue$Obj;)LLinkedTongue$Shape;" } : Jvm.MethodName)) ∈ lw_all := lw_g (lw_at lw_m14 29 rfl) rfl
theorem q3451 : (Jvm.Cond.selects "LinkedTongue$Heap" ({ cls := "LinkedTongue$Heap", name := "rootOf", desc := "(LLinkedTongue$Obj;)LLinkedTongue$Shape;" } : Jvm.MethodName) ({ cls := "LinkedTongue$Heap", name := "rootOf", desc := "(LLinkedTongue$Obj;)LLinkedTongue$Shape;" } : Jvm.MethodName)) ∈ lw_all := lw_g (lw_at lw_m14 30 rfl) rfl
theorem q3452 : (Jvm.Cond.code ({ cls := "LinkedTongue$Heap", name := "rootOf", desc := "(LLinkedTongue$Obj;)LLinkedTongue$Shape;" } : Jvm.MethodName) prog_16_method_8_code (2 : Nat) (Option.some (Jvm.ClassFile.FieldType.object "LinkedTongue$Shape"))) ∈ lw_all := lw_g (lw_at lw_m14 31 rfl) rfl
theorem q3453 : (Jvm.Cond.methodLink "LinkedTongue$Heap" (64 : Nat) ({ cls := "java/util/ArrayList", name := "get", desc := "(I)Ljava/lang/Object;" } : Jvm.MethodName)) ∈ lw_all := lw_g (lw_at lw_m14 32 rfl) rfl
theorem q3653 : (Jvm.Cond.static ({ cls := "LinkedTongue$Heap", name := "isAbove", desc := "(LLinkedTongue$Obj;LLinkedTongue$Obj;)Z" } : Jvm.MethodName)) ∈ lw_all := lw_g (lw_at lw_m14 232 rfl) rfl
theorem q3654 : (Jvm.Cond.code ({ cls := "LinkedTongue$Heap", name := "isAbove", desc := "(LLinkedTongue$Obj;LLinkedTongue$Obj;)Z" } : Jvm.MethodName) prog_16_method_16_code (3 : Nat) (Option.some Jvm.ClassFile.FieldType.boolean)) ∈ lw_all := lw_g (lw_at lw_m14 233 rfl) rfl
theorem q3656 : (Jvm.Cond.instanceMethod ({ cls := "LinkedTongue$Heap", name := "turn", desc := "(LLinkedTongue$Obj;LLinkedTongue$Obj;)V" } : Jvm.MethodName)) ∈ lw_all := lw_g (lw_at lw_m14 235 rfl) rfl
theorem q3657 : (Jvm.Cond.selects "LinkedTongue$Heap" ({ cls := "LinkedTongue$Heap", name := "turn", desc := "(LLinkedTongue$Obj;LLinkedTongue$Obj;)V" } : Jvm.MethodName) ({ cls := "LinkedTongue$Heap", name := "turn", desc := "(LLinkedTongue$Obj;LLinkedTongue$Obj;)V" } : Jvm.MethodName)) ∈ lw_all := lw_g (lw_at lw_m14 236 rfl) rfl
theorem q3658 : (Jvm.Cond.code ({ cls := "LinkedTongue$Heap", name := "turn", desc := "(LLinkedTongue$Obj;LLinkedTongue$Obj;)V" } : Jvm.MethodName) prog_16_method_15_code (3 : Nat) (Option.none : Option Jvm.ClassFile.FieldType)) ∈ lw_all := lw_g (lw_at lw_m14 237 rfl) rfl
theorem q3659 : (Jvm.Cond.methodLink "LinkedTongue$Heap" (133 : Nat) ({ cls := "LinkedTongue$Heap", name := "wanting", desc := "(LLinkedTongue$Obj;LLinkedTongue$Shape;I)I" } : Jvm.MethodName)) ∈ lw_all := lw_g (lw_at lw_m14 238 rfl) rfl
theorem q3660 : (Jvm.Cond.privateMethod ({ cls := "LinkedTongue$Heap", name := "wanting", desc := "(LLinkedTongue$Obj;LLinkedTongue$Shape;I)I" } : Jvm.MethodName)) ∈ lw_tbl := lw_at lw_m14 239 rfl
theorem q3661 : (Jvm.Cond.instanceMethod ({ cls := "LinkedTongue$Heap", name := "wanting", desc := "(LLinkedTongue$Obj;LLinkedTongue$Shape;I)I" } : Jvm.MethodName)) ∈ lw_all := lw_g (lw_at lw_m15 0 rfl) rfl
theorem q3662 : (Jvm.Cond.code ({ cls := "LinkedTongue$Heap", name := "wanting", desc := "(LLinkedTongue$Obj;LLinkedTongue$Shape;I)I" } : Jvm.MethodName) prog_16_method_10_code (8 : Nat) (Option.some Jvm.ClassFile.FieldType.int)) ∈ lw_all := lw_g (lw_at lw_m15 1 rfl) rfl
theorem q3663 : (Jvm.Cond.methodLink "LinkedTongue$Heap" (101 : Nat) ({ cls := "LinkedTongue$Shape", name := "nameAt", desc := "(I)I" } : Jvm.MethodName)) ∈ lw_all := lw_g (lw_at lw_m15 2 rfl) rfl
theorem q3664 : (Jvm.Cond.methodLink "LinkedTongue$Heap" (137 : Nat) ({ cls := "LinkedTongue$Heap", name := "rebuilt", desc := "(LLinkedTongue$Obj;LLinkedTongue$Shape;I)LLinkedTongue$Shape;" } : Jvm.MethodName)) ∈ lw_all := lw_g (lw_at lw_m15 3 rfl) rfl
theorem q3665 : (Jvm.Cond.privateMethod ({ cls := "LinkedTongue$Heap", name := "rebuilt", desc := "(LLinkedTongue$Obj;LLinkedTongue$Shape;I)LLinkedTongue$Shape;" } : Jvm.MethodName)) ∈ lw_tbl := lw_at lw_m15 4 rfl
theorem q3666 : (Jvm.Cond.instanceMethod ({ cls := "LinkedTongue$Heap", name := "rebuilt", desc := "(LLinkedTongue$Obj;LLinkedTongue$Shape;I)LLinkedTongue$Shape;" } : Jvm.MethodName)) ∈ lw_all := lw_g (lw_at lw_m15 5 rfl) rfl
theorem q3667 : (Jvm.Cond.code ({ cls := "LinkedTongue$Heap", name := "rebuilt", desc := "(LLinkedTongue$Obj;LLinkedTongue$Shape;I)LLinkedTongue$Shape;" } : Jvm.MethodName) prog_16_method_11_code (6 : Nat) (Option.some (Jvm.ClassFile.FieldType.object "LinkedTongue$Shape"))) ∈ lw_all := lw_g (lw_at lw_m15 6 rfl) rfl
theorem q3668 : (Jvm.Cond.methodLink "LinkedTongue$Heap" (105 : Nat) ({ cls := "LinkedTongue$Heap", name := "rootOf", desc := "(LLinkedTongue$Obj;)LLinkedTongue$Shape;" } : Jvm.MethodName)) ∈ lw_all := lw_g (lw_at lw_m15 7 rfl) rfl
theorem q3669 : (Jvm.Cond.methodLink "LinkedTongue$Heap" (109 : Nat) ({ cls := "LinkedTongue$Heap", name := "after", desc := "(LLinkedTongue$Shape;I)LLinkedTongue$Shape;" } : Jvm.MethodName)) ∈ lw_all := lw_g (lw_at lw_m15 8 rfl) rfl
theorem q3675 : (Jvm.Cond.instanceMethod ({ cls := "LinkedTongue$Heap", name := "drop", desc := "(LLinkedTongue$Obj;I)Z" } : Jvm.MethodName)) ∈ lw_all := lw_g (lw_at lw_m15 14 rfl) rfl
theorem q3676 : (Jvm.Cond.selects "LinkedTongue$Heap" ({ cls := "LinkedTongue$Heap", name := "drop", desc := "(LLinkedTongue$Obj;I)Z" } : Jvm.MethodName) ({ cls := "LinkedTongue$Heap", name := "drop", desc := "(LLinkedTongue$Obj;I)Z" } : Jvm.MethodName)) ∈ lw_all := lw_g (lw_at lw_m15 15 rfl) rfl
theorem q3677 : (Jvm.Cond.code ({ cls := "LinkedTongue$Heap", name := "drop", desc := "(LLinkedTongue$Obj;I)Z" } : Jvm.MethodName) prog_16_method_14_code (5 : Nat) (Option.some Jvm.ClassFile.FieldType.boolean)) ∈ lw_all := lw_g (lw_at lw_m15 16 rfl) rfl
theorem q3678 : (Jvm.Cond.methodLink "LinkedTongue$Heap" (150 : Nat) ({ cls := "LinkedTongue$Obj", name := "set", desc := "(IBJ)V" } : Jvm.MethodName)) ∈ lw_all := lw_g (lw_at lw_m15 17 rfl) rfl
theorem q5520 : (Jvm.Cond.castable "LinkedTongue$Heap" "java/lang/Object") ∈ lw_tbl := lw_at lw_m22 179 rfl
theorem q1317 : (Jvm.Cond.sameMethod "[B" "java/lang/Object" "clone" "()Ljava/lang/Object;") ∈ lw_all := lw_g (lw_at lw_m5 56 rfl) rfl
theorem q1320 : (Jvm.Cond.selects "[B" ({ cls := "[B", name := "clone", desc := "()Ljava/lang/Object;" } : Jvm.MethodName) ({ cls := "java/lang/Object", name := "clone", desc := "()Ljava/lang/Object;" } : Jvm.MethodName)) ∈ lw_all := lw_g (lw_at lw_m5 59 rfl) rfl
theorem q1321 : (Jvm.Cond.castable "[B" "java/lang/Cloneable") ∈ lw_tbl := lw_at lw_m5 60 rfl
theorem q5570 : (Jvm.Cond.castable "[B" "java/lang/Object") ∈ lw_tbl := lw_at lw_m22 229 rfl
theorem q1474 : (Jvm.Cond.sameMethod "[I" "java/lang/Object" "clone" "()Ljava/lang/Object;") ∈ lw_all := lw_g (lw_at lw_m5 213 rfl) rfl
theorem q1475 : (Jvm.Cond.selects "[I" ({ cls := "[I", name := "clone", desc := "()Ljava/lang/Object;" } : Jvm.MethodName) ({ cls := "java/lang/Object", name := "clone", desc := "()Ljava/lang/Object;" } : Jvm.MethodName)) ∈ lw_all := lw_g (lw_at lw_m5 214 rfl) rfl
theorem q1476 : (Jvm.Cond.castable "[I" "java/lang/Cloneable") ∈ lw_tbl := lw_at lw_m5 215 rfl
theorem q5572 : (Jvm.Cond.castable "[I" "java/lang/Object") ∈ lw_tbl := lw_at lw_m22 231 rfl
theorem q2968 : (Jvm.Cond.sameMethod "[J" "java/lang/Object" "clone" "()Ljava/lang/Object;") ∈ lw_all := lw_g (lw_at lw_m12 27 rfl) rfl
theorem q2969 : (Jvm.Cond.selects "[J" ({ cls := "[J", name := "clone", desc := "()Ljava/lang/Object;" } : Jvm.MethodName) ({ cls := "java/lang/Object", name := "clone", desc := "()Ljava/lang/Object;" } : Jvm.MethodName)) ∈ lw_all := lw_g (lw_at lw_m12 28 rfl) rfl
theorem q2970 : (Jvm.Cond.castable "[J" "java/lang/Cloneable") ∈ lw_tbl := lw_at lw_m12 29 rfl
theorem q5578 : (Jvm.Cond.castable "[J" "java/lang/Object") ∈ lw_tbl := lw_at lw_m22 237 rfl
theorem q5582 : (Jvm.Cond.castable "[LLinkedTongueModel$Part;" "java/lang/Object") ∈ lw_tbl := lw_at lw_m23 1 rfl
theorem q5579 : (Jvm.Cond.castable "[LLinkedTongue$Choice;" "java/lang/Object") ∈ lw_tbl := lw_at lw_m22 238 rfl
theorem q5575 : (Jvm.Cond.castable "[LLinkedTongue$Code;" "java/lang/Object") ∈ lw_tbl := lw_at lw_m22 234 rfl
theorem q5581 : (Jvm.Cond.castable "[LLinkedTongue$Member;" "java/lang/Object") ∈ lw_tbl := lw_at lw_m23 0 rfl
theorem q5577 : (Jvm.Cond.castable "[LLinkedTongue$Obj;" "java/lang/Object") ∈ lw_tbl := lw_at lw_m22 236 rfl
theorem q5574 : (Jvm.Cond.castable "[LLinkedTongue$Task;" "java/lang/Object") ∈ lw_tbl := lw_at lw_m22 233 rfl
theorem q5576 : (Jvm.Cond.castable "[LLinkedTongue$Variables;" "java/lang/Object") ∈ lw_tbl := lw_at lw_m22 235 rfl
theorem q5508 : (Jvm.Cond.sameMethod "[Ljava/lang/Object;" "java/lang/Object" "getClass" "()Ljava/lang/Class;") ∈ lw_all := lw_g (lw_at lw_m22 167 rfl) rfl
theorem q5509 : (Jvm.Cond.selects "[Ljava/lang/Object;" ({ cls := "java/lang/Object", name := "getClass", desc := "()Ljava/lang/Class;" } : Jvm.MethodName) ({ cls := "java/lang/Object", name := "getClass", desc := "()Ljava/lang/Class;" } : Jvm.MethodName)) ∈ lw_all := lw_g (lw_at lw_m22 168 rfl) rfl
theorem q5580 : (Jvm.Cond.castable "[Ljava/lang/Object;" "java/lang/Object") ∈ lw_tbl := lw_at lw_m22 239 rfl
theorem q5571 : (Jvm.Cond.castable "[Ljava/lang/String;" "java/lang/Object") ∈ lw_tbl := lw_at lw_m22 230 rfl
theorem q2977 : (Jvm.Cond.sameMethod "[Z" "java/lang/Object" "clone" "()Ljava/lang/Object;") ∈ lw_all := lw_g (lw_at lw_m12 36 rfl) rfl
theorem q2978 : (Jvm.Cond.selects "[Z" ({ cls := "[Z", name := "clone", desc := "()Ljava/lang/Object;" } : Jvm.MethodName) ({ cls := "java/lang/Object", name := "clone", desc := "()Ljava/lang/Object;" } : Jvm.MethodName)) ∈ lw_all := lw_g (lw_at lw_m12 37 rfl) rfl
theorem q2979 : (Jvm.Cond.castable "[Z" "java/lang/Cloneable") ∈ lw_tbl := lw_at lw_m12 38 rfl
theorem q5573 : (Jvm.Cond.castable "[Z" "java/lang/Object") ∈ lw_tbl := lw_at lw_m22 232 rfl
theorem q325 : (Jvm.Cond.initialized "java/lang/System") ∈ lw_all := lw_g (lw_at lw_m1 24 rfl) rfl
theorem q1129 : (Jvm.Cond.static ({ cls := "java/lang/System", name := "arraycopy", desc := "(Ljava/lang/Object;ILjava/lang/Object;II)V" } : Jvm.MethodName)) ∈ lw_all := lw_g (lw_at lw_m4 108 rfl) rfl
theorem q1130 : (Jvm.Cond.native ({ cls := "java/lang/System", name := "arraycopy", desc := "(Ljava/lang/Object;ILjava/lang/Object;II)V" } : Jvm.MethodName)) ∈ lw_all := lw_g (lw_at lw_m4 109 rfl) rfl
theorem q461 : (Jvm.Cond.arrayClass Jvm.ClassFile.FieldType.byte) ∈ lw_all := lw_g (lw_at lw_m1 160 rfl) rfl
theorem q517 : (Jvm.Cond.arrayOver (Jvm.ClassFile.FieldType.object "java/lang/String")) ∈ lw_tbl := lw_at lw_m1 216 rfl
theorem q601 : (Jvm.Cond.arrayClass Jvm.ClassFile.FieldType.int) ∈ lw_all := lw_g (lw_at lw_m2 60 rfl) rfl
theorem q639 : (Jvm.Cond.arrayClass Jvm.ClassFile.FieldType.boolean) ∈ lw_all := lw_g (lw_at lw_m2 98 rfl) rfl
theorem q834 : (Jvm.Cond.arrayOver (Jvm.ClassFile.FieldType.object "LinkedTongue$Task")) ∈ lw_tbl := lw_at lw_m3 53 rfl
theorem q841 : (Jvm.Cond.arrayOver (Jvm.ClassFile.FieldType.object "LinkedTongue$Code")) ∈ lw_tbl := lw_at lw_m3 60 rfl
theorem q843 : (Jvm.Cond.arrayOver (Jvm.ClassFile.FieldType.object "LinkedTongue$Variables")) ∈ lw_tbl := lw_at lw_m3 62 rfl
theorem q845 : (Jvm.Cond.arrayOver (Jvm.ClassFile.FieldType.object "LinkedTongue$Obj")) ∈ lw_tbl := lw_at lw_m3 64 rfl
theorem q915 : (Jvm.Cond.arrayClass Jvm.ClassFile.FieldType.long) ∈ lw_all := lw_g (lw_at lw_m3 134 rfl) rfl
theorem q933 : (Jvm.Cond.arrayOver (Jvm.ClassFile.FieldType.object "LinkedTongue$Choice")) ∈ lw_tbl := lw_at lw_m3 152 rfl
theorem q1123 : (Jvm.Cond.arrayOver (Jvm.ClassFile.FieldType.object "java/lang/Object")) ∈ lw_tbl := lw_at lw_m4 102 rfl
theorem q3482 : (Jvm.Cond.arrayOver (Jvm.ClassFile.FieldType.object "LinkedTongue$Member")) ∈ lw_tbl := lw_at lw_m14 61 rfl
theorem q3916 : (Jvm.Cond.arrayOver (Jvm.ClassFile.FieldType.object "LinkedTongueModel$Part")) ∈ lw_tbl := lw_at lw_m16 15 rfl
