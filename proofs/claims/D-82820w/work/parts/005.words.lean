set_option maxRecDepth 100000
theorem q1529 : (Jvm.Cond.laysFinal "LinkedTongue$HostType" "LinkedTongue$HostType" "isInterface" "Z") ∈ lw_all := lw_g (lw_at lw_m6 28 rfl) rfl
theorem q1530 : (Jvm.Cond.soleField "LinkedTongue$HostType" "isInterface") ∈ lw_all := lw_g (lw_at lw_m6 29 rfl) rfl
theorem q1531 : (Jvm.Cond.lays "LinkedTongue$HostType" "LinkedTongue$HostType" "above" "LLinkedTongue$HostType;") ∈ lw_all := lw_g (lw_at lw_m6 30 rfl) rfl
theorem q1532 : (Jvm.Cond.soleField "LinkedTongue$HostType" "above") ∈ lw_all := lw_g (lw_at lw_m6 31 rfl) rfl
theorem q1533 : (Jvm.Cond.laysFinal "LinkedTongue$HostType" "LinkedTongue$HostType" "supers" "Ljava/util/ArrayList;") ∈ lw_all := lw_g (lw_at lw_m6 32 rfl) rfl
theorem q1534 : (Jvm.Cond.soleField "LinkedTongue$HostType" "supers") ∈ lw_all := lw_g (lw_at lw_m6 33 rfl) rfl
theorem q1535 : (Jvm.Cond.laysFinal "LinkedTongue$HostType" "LinkedTongue$HostType" "members" "Ljava/util/ArrayList;") ∈ lw_all := lw_g (lw_at lw_m6 34 rfl) rfl
theorem q1536 : (Jvm.Cond.soleField "LinkedTongue$HostType" "members") ∈ lw_all := lw_g (lw_at lw_m6 35 rfl) rfl
theorem q1537 : (Jvm.Cond.lays "LinkedTongue$HostType" "LinkedTongue$HostType" "layout" "[LLinkedTongue$Member;") ∈ lw_all := lw_g (lw_at lw_m6 36 rfl) rfl
theorem q1538 : (Jvm.Cond.soleField "LinkedTongue$HostType" "layout") ∈ lw_all := lw_g (lw_at lw_m6 37 rfl) rfl
theorem q1539 : (Jvm.Cond.laysFinal "LinkedTongue$HostType" "LinkedTongue$HostType" "over" "[Z") ∈ lw_all := lw_g (lw_at lw_m6 38 rfl) rfl
theorem q1540 : (Jvm.Cond.soleField "LinkedTongue$HostType" "over") ∈ lw_all := lw_g (lw_at lw_m6 39 rfl) rfl
theorem q1541 : (Jvm.Cond.lays "LinkedTongue$HostType" "LinkedTongue$HostType" "words" "[J") ∈ lw_all := lw_g (lw_at lw_m6 40 rfl) rfl
theorem q1542 : (Jvm.Cond.soleField "LinkedTongue$HostType" "words") ∈ lw_all := lw_g (lw_at lw_m6 41 rfl) rfl
theorem q1543 : (Jvm.Cond.lays "LinkedTongue$HostType" "LinkedTongue$HostType" "tags" "[B") ∈ lw_all := lw_g (lw_at lw_m6 42 rfl) rfl
theorem q1544 : (Jvm.Cond.soleField "LinkedTongue$HostType" "tags") ∈ lw_all := lw_g (lw_at lw_m6 43 rfl) rfl
theorem q1545 : (Jvm.Cond.superclass "LinkedTongue$HostType" "java/lang/Object") ∈ lw_all := lw_g (lw_at lw_m6 44 rfl) rfl
theorem q1555 : (Jvm.Cond.instanceMethod ({ cls := "LinkedTongue$HostType", name := "rise", desc := "(LLinkedTongue$HostType;)V" } : Jvm.MethodName)) ∈ lw_all := lw_g (lw_at lw_m6 54 rfl) rfl
theorem q1556 : (Jvm.Cond.selects "LinkedTongue$HostType" ({ cls := "LinkedTongue$HostType", name := "rise", desc := "(LLinkedTongue$HostType;)V" } : Jvm.MethodName) ({ cls := "LinkedTongue$HostType", name := "rise", desc := "(LLinkedTongue$HostType;)V" } : Jvm.MethodName)) ∈ lw_all := lw_g (lw_at lw_m6 55 rfl) rfl
theorem q1557 : (Jvm.Cond.code ({ cls := "LinkedTongue$HostType", name := "rise", desc := "(LLinkedTongue$HostType;)V" } : Jvm.MethodName) prog_18_method_2_code (3 : Nat) (Option.none : Option Jvm.ClassFile.FieldType)) ∈ lw_all := lw_g (lw_at lw_m6 56 rfl) rfl
theorem q1558 : (Jvm.Cond.methodLink "LinkedTongue$HostType" (39 : Nat) ({ cls := "java/util/ArrayList", name := "add", desc := "(Ljava/lang/Object;)Z" } : Jvm.MethodName)) ∈ lw_all := lw_g (lw_at lw_m6 57 rfl) rfl
theorem q1570 : (Jvm.Cond.instanceMethod ({ cls := "LinkedTongue$HostType", name := "field", desc := "(I)LLinkedTongue$Member;" } : Jvm.MethodName)) ∈ lw_all := lw_g (lw_at lw_m6 69 rfl) rfl
theorem q1571 : (Jvm.Cond.selects "LinkedTongue$HostType" ({ cls := "LinkedTongue$HostType", name := "field", desc := "(I)LLinkedTongue$Member;" } : Jvm.MethodName) ({ cls := "LinkedTongue$HostType", name := "field", desc := "(I)LLinkedTongue$Member;" } : Jvm.MethodName)) ∈ lw_all := lw_g (lw_at lw_m6 70 rfl) rfl
theorem q1572 : (Jvm.Cond.code ({ cls := "LinkedTongue$HostType", name := "field", desc := "(I)LLinkedTongue$Member;" } : Jvm.MethodName) prog_18_method_4_code (4 : Nat) (Option.some (Jvm.ClassFile.FieldType.object "LinkedTongue$Member"))) ∈ lw_all := lw_g (lw_at lw_m6 71 rfl) rfl
theorem q1573 : (Jvm.Cond.methodLink "LinkedTongue$HostType" (47 : Nat) ({ cls := "java/util/ArrayList", name := "size", desc := "()I" } : Jvm.MethodName)) ∈ lw_all := lw_g (lw_at lw_m6 72 rfl) rfl
theorem q1574 : (Jvm.Cond.methodLink "LinkedTongue$HostType" (51 : Nat) ({ cls := "java/util/ArrayList", name := "get", desc := "(I)Ljava/lang/Object;" } : Jvm.MethodName)) ∈ lw_all := lw_g (lw_at lw_m6 73 rfl) rfl
theorem q1575 : (Jvm.Cond.classLink "LinkedTongue$HostType" (55 : Nat) "LinkedTongue$Member") ∈ lw_all := lw_g (lw_at lw_m6 74 rfl) rfl
theorem q1591 : (Jvm.Cond.fieldLinkNest "LinkedTongue$HostType" (57 : Nat) "LinkedTongue$Member" "kind" "I" "LinkedTongue") ∈ lw_tbl := lw_at lw_m6 90 rfl
theorem q1596 : (Jvm.Cond.fieldLinkNest "LinkedTongue$HostType" (86 : Nat) "LinkedTongue$Member" "type" "I" "LinkedTongue") ∈ lw_tbl := lw_at lw_m6 95 rfl
theorem q1602 : (Jvm.Cond.fieldLinkNest "LinkedTongue$HostType" (72 : Nat) "LinkedTongue$Member" "isStatic" "Z" "LinkedTongue") ∈ lw_tbl := lw_at lw_m6 101 rfl
theorem q1607 : (Jvm.Cond.fieldLinkNest "LinkedTongue$HostType" (60 : Nat) "LinkedTongue$Member" "name" "I" "LinkedTongue") ∈ lw_tbl := lw_at lw_m6 106 rfl
theorem q1652 : (Jvm.Cond.instanceMethod ({ cls := "LinkedTongue$HostType", name := "settle", desc := "()V" } : Jvm.MethodName)) ∈ lw_all := lw_g (lw_at lw_m6 151 rfl) rfl
theorem q1653 : (Jvm.Cond.selects "LinkedTongue$HostType" ({ cls := "LinkedTongue$HostType", name := "settle", desc := "()V" } : Jvm.MethodName) ({ cls := "LinkedTongue$HostType", name := "settle", desc := "()V" } : Jvm.MethodName)) ∈ lw_all := lw_g (lw_at lw_m6 152 rfl) rfl
theorem q1654 : (Jvm.Cond.code ({ cls := "LinkedTongue$HostType", name := "settle", desc := "()V" } : Jvm.MethodName) prog_18_method_9_code (2 : Nat) (Option.none : Option Jvm.ClassFile.FieldType)) ∈ lw_all := lw_g (lw_at lw_m6 153 rfl) rfl
theorem q1655 : (Jvm.Cond.methodLinkNest "LinkedTongue$HostType" (89 : Nat) ({ cls := "LinkedTongue", name := "tagOf", desc := "(I)B" } : Jvm.MethodName) "LinkedTongue") ∈ lw_tbl := lw_at lw_m6 154 rfl
theorem q1667 : (Jvm.Cond.instanceMethod ({ cls := "LinkedTongue$HostType", name := "tell", desc := "(I)I" } : Jvm.MethodName)) ∈ lw_all := lw_g (lw_at lw_m6 166 rfl) rfl
theorem q1668 : (Jvm.Cond.selects "LinkedTongue$HostType" ({ cls := "LinkedTongue$HostType", name := "tell", desc := "(I)I" } : Jvm.MethodName) ({ cls := "LinkedTongue$HostType", name := "tell", desc := "(I)I" } : Jvm.MethodName)) ∈ lw_all := lw_g (lw_at lw_m6 167 rfl) rfl
theorem q1669 : (Jvm.Cond.code ({ cls := "LinkedTongue$HostType", name := "tell", desc := "(I)I" } : Jvm.MethodName) prog_18_method_10_code (2 : Nat) (Option.some Jvm.ClassFile.FieldType.int)) ∈ lw_all := lw_g (lw_at lw_m6 168 rfl) rfl
theorem q1692 : (Jvm.Cond.instanceMethod ({ cls := "LinkedTongue$HostType", name := "isBelow", desc := "(LLinkedTongue$HostType;)Z" } : Jvm.MethodName)) ∈ lw_all := lw_g (lw_at lw_m6 191 rfl) rfl
theorem q1693 : (Jvm.Cond.selects "LinkedTongue$HostType" ({ cls := "LinkedTongue$HostType", name := "isBelow", desc := "(LLinkedTongue$HostType;)Z" } : Jvm.MethodName) ({ cls := "LinkedTongue$HostType", name := "isBelow", desc := "(LLinkedTongue$HostType;)Z" } : Jvm.MethodName)) ∈ lw_all := lw_g (lw_at lw_m6 192 rfl) rfl
theorem q1694 : (Jvm.Cond.code ({ cls := "LinkedTongue$HostType", name := "isBelow", desc := "(LLinkedTongue$HostType;)Z" } : Jvm.MethodName) prog_18_method_3_code (2 : Nat) (Option.some Jvm.ClassFile.FieldType.boolean)) ∈ lw_all := lw_g (lw_at lw_m6 193 rfl) rfl
theorem q3471 : (Jvm.Cond.instanceMethod ({ cls := "LinkedTongue$HostType", name := "place", desc := "(LLinkedTongue$Member;)I" } : Jvm.MethodName)) ∈ lw_all := lw_g (lw_at lw_m14 50 rfl) rfl
theorem q3472 : (Jvm.Cond.selects "LinkedTongue$HostType" ({ cls := "LinkedTongue$HostType", name := "place", desc := "(LLinkedTongue$Member;)I" } : Jvm.MethodName) ({ cls := "LinkedTongue$HostType", name := "place", desc := "(LLinkedTongue$Member;)I" } : Jvm.MethodName)) ∈ lw_all := lw_g (lw_at lw_m14 51 rfl) rfl
theorem q3473 : (Jvm.Cond.code ({ cls := "LinkedTongue$HostType", name := "place", desc := "(LLinkedTongue$Member;)I" } : Jvm.MethodName) prog_18_method_8_code (4 : Nat) (Option.some Jvm.ClassFile.FieldType.int)) ∈ lw_all := lw_g (lw_at lw_m14 52 rfl) rfl
theorem q3474 : (Jvm.Cond.methodLink "LinkedTongue$HostType" (75 : Nat) ({ cls := "LinkedTongue$HostType", name := "layout", desc := "()[LLinkedTongue$Member;" } : Jvm.MethodName)) ∈ lw_all := lw_g (lw_at lw_m14 53 rfl) rfl
theorem q3475 : (Jvm.Cond.instanceMethod ({ cls := "LinkedTongue$HostType", name := "layout", desc := "()[LLinkedTongue$Member;" } : Jvm.MethodName)) ∈ lw_all := lw_g (lw_at lw_m14 54 rfl) rfl
theorem q3476 : (Jvm.Cond.selects "LinkedTongue$HostType" ({ cls := "LinkedTongue$HostType", name := "layout", desc := "()[LLinkedTongue$Member;" } : Jvm.MethodName) ({ cls := "LinkedTongue$HostType", name := "layout", desc := "()[LLinkedTongue$Member;" } : Jvm.MethodName)) ∈ lw_all := lw_g (lw_at lw_m14 55 rfl) rfl
theorem q3477 : (Jvm.Cond.code ({ cls := "LinkedTongue$HostType", name := "layout", desc := "()[LLinkedTongue$Member;" } : Jvm.MethodName) prog_18_method_6_code (7 : Nat) (Option.some (Jvm.ClassFile.FieldType.array (Jvm.ClassFile.FieldType.object "LinkedTongue$Member")))) ∈ lw_all := lw_g (lw_at lw_m14 56 rfl) rfl
theorem q3478 : (Jvm.Cond.methodLink "LinkedTongue$HostType" (69 : Nat) ({ cls := "LinkedTongue$HostType", name := "ownFields", desc := "()I" } : Jvm.MethodName)) ∈ lw_all := lw_g (lw_at lw_m14 57 rfl) rfl
theorem q3479 : (Jvm.Cond.privateMethod ({ cls := "LinkedTongue$HostType", name := "ownFields", desc := "()I" } : Jvm.MethodName)) ∈ lw_tbl := lw_at lw_m14 58 rfl
theorem q3480 : (Jvm.Cond.instanceMethod ({ cls := "LinkedTongue$HostType", name := "ownFields", desc := "()I" } : Jvm.MethodName)) ∈ lw_all := lw_g (lw_at lw_m14 59 rfl) rfl
theorem q3481 : (Jvm.Cond.code ({ cls := "LinkedTongue$HostType", name := "ownFields", desc := "()I" } : Jvm.MethodName) prog_18_method_7_code (3 : Nat) (Option.some Jvm.ClassFile.FieldType.int)) ∈ lw_all := lw_g (lw_at lw_m14 60 rfl) rfl
theorem q3555 : (Jvm.Cond.instanceMethod ({ cls := "LinkedTongue$HostType", name := "nearest", desc := "(I)LLinkedTongue$Member;" } : Jvm.MethodName)) ∈ lw_all := lw_g (lw_at lw_m14 134 rfl) rfl
theorem q3556 : (Jvm.Cond.selects "LinkedTongue$HostType" ({ cls := "LinkedTongue$HostType", name := "nearest", desc := "(I)LLinkedTongue$Member;" } : Jvm.MethodName) ({ cls := "LinkedTongue$HostType", name := "nearest", desc := "(I)LLinkedTongue$Member;" } : Jvm.MethodName)) ∈ lw_all := lw_g (lw_at lw_m14 135 rfl) rfl
theorem q3557 : (Jvm.Cond.code ({ cls := "LinkedTongue$HostType", name := "nearest", desc := "(I)LLinkedTongue$Member;" } : Jvm.MethodName) prog_18_method_5_code (4 : Nat) (Option.some (Jvm.ClassFile.FieldType.object "LinkedTongue$Member"))) ∈ lw_all := lw_g (lw_at lw_m14 136 rfl) rfl
theorem q3558 : (Jvm.Cond.methodLink "LinkedTongue$HostType" (61 : Nat) ({ cls := "LinkedTongue$HostType", name := "field", desc := "(I)LLinkedTongue$Member;" } : Jvm.MethodName)) ∈ lw_all := lw_g (lw_at lw_m14 137 rfl) rfl
theorem q5474 : (Jvm.Cond.castable "LinkedTongue$HostType" "LinkedTongue$HostType") ∈ lw_tbl := lw_at lw_m22 133 rfl
theorem q5530 : (Jvm.Cond.castable "LinkedTongue$HostType" "java/lang/Object") ∈ lw_tbl := lw_at lw_m22 189 rfl
theorem q306 : (Jvm.Cond.initialized "LinkedTongue$Fault") ∈ lw_all := lw_g (lw_at lw_m1 5 rfl) rfl
theorem q387 : (Jvm.Cond.instantiable "LinkedTongue$Fault" (7 : Nat)) ∈ lw_all := lw_g (lw_at lw_m1 86 rfl) rfl
theorem q388 : (Jvm.Cond.castable "LinkedTongue$Fault" "LinkedTongue$Fault") ∈ lw_tbl := lw_at lw_m1 87 rfl
theorem q395 : (Jvm.Cond.selects "LinkedTongue$Fault" ({ cls := "java/lang/Throwable", name := "fillInStackTrace", desc := "(I)Ljava/lang/Throwable;" } : Jvm.MethodName) ({ cls := "java/lang/Throwable", name := "fillInStackTrace", desc := "(I)Ljava/lang/Throwable;" } : Jvm.MethodName)) ∈ lw_all := lw_g (lw_at lw_m1 94 rfl) rfl
theorem q396 : (Jvm.Cond.selects "LinkedTongue$Fault" ({ cls := "java/lang/Throwable", name := "fillInStackTrace", desc := "()Ljava/lang/Throwable;" } : Jvm.MethodName) ({ cls := "java/lang/Throwable", name := "fillInStackTrace", desc := "()Ljava/lang/Throwable;" } : Jvm.MethodName)) ∈ lw_all := lw_g (lw_at lw_m1 95 rfl) rfl
theorem q397 : (Jvm.Cond.lays "LinkedTongue$Fault" "java/lang/Throwable" "cause" "Ljava/lang/Throwable;") ∈ lw_all := lw_g (lw_at lw_m1 96 rfl) rfl
theorem q399 : (Jvm.Cond.lays "LinkedTongue$Fault" "java/lang/Throwable" "stackTrace" "[Ljava/lang/StackTraceElement;") ∈ lw_all := lw_g (lw_at lw_m1 98 rfl) rfl
theorem q401 : (Jvm.Cond.lays "LinkedTongue$Fault" "java/lang/Throwable" "suppressedExceptions" "Ljava/util/List;") ∈ lw_all := lw_g (lw_at lw_m1 100 rfl) rfl
theorem q403 : (Jvm.Cond.lays "LinkedTongue$Fault" "java/lang/Throwable" "detailMessage" "Ljava/lang/String;") ∈ lw_all := lw_g (lw_at lw_m1 102 rfl) rfl
theorem q405 : (Jvm.Cond.lays "LinkedTongue$Fault" "java/lang/Throwable" "backtrace" "Ljava/lang/Object;") ∈ lw_all := lw_g (lw_at lw_m1 104 rfl) rfl
theorem q433 : (Jvm.Cond.instanceMethod ({ cls := "LinkedTongue$Fault", name := "<init>", desc := "()V" } : Jvm.MethodName)) ∈ lw_all := lw_g (lw_at lw_m1 132 rfl) rfl
theorem q434 : (Jvm.Cond.code ({ cls := "LinkedTongue$Fault", name := "<init>", desc := "()V" } : Jvm.MethodName) prog_11_method_1_code (1 : Nat) (Option.none : Option Jvm.ClassFile.FieldType)) ∈ lw_all := lw_g (lw_at lw_m1 133 rfl) rfl
theorem q435 : (Jvm.Cond.methodLink "LinkedTongue$Fault" (1 : Nat) ({ cls := "java/lang/RuntimeException", name := "<init>", desc := "(Ljava/lang/String;Ljava/lang/Throwable;ZZ)V" } : Jvm.MethodName)) ∈ lw_all := lw_g (lw_at lw_m1 134 rfl) rfl
theorem q451 : (Jvm.Cond.lays "LinkedTongue$Fault" "LinkedTongue$Fault" "told" "I") ∈ lw_all := lw_g (lw_at lw_m1 150 rfl) rfl
theorem q452 : (Jvm.Cond.soleField "LinkedTongue$Fault" "told") ∈ lw_all := lw_g (lw_at lw_m1 151 rfl) rfl
theorem q457 : (Jvm.Cond.lays "LinkedTongue$Fault" "java/lang/Throwable" "depth" "I") ∈ lw_all := lw_g (lw_at lw_m1 156 rfl) rfl
theorem q460 : (Jvm.Cond.superclass "LinkedTongue$Fault" "java/lang/RuntimeException") ∈ lw_all := lw_g (lw_at lw_m1 159 rfl) rfl
theorem q1070 : (Jvm.Cond.selects "LinkedTongue$Fault" ({ cls := "java/lang/Object", name := "getClass", desc := "()Ljava/lang/Class;" } : Jvm.MethodName) ({ cls := "java/lang/Object", name := "getClass", desc := "()Ljava/lang/Class;" } : Jvm.MethodName)) ∈ lw_all := lw_g (lw_at lw_m4 49 rfl) rfl
theorem q5512 : (Jvm.Cond.castable "LinkedTongue$Fault" "java/lang/Object") ∈ lw_tbl := lw_at lw_m22 171 rfl
theorem q336 : (Jvm.Cond.initialized "LinkedTongue$Member") ∈ lw_all := lw_g (lw_at lw_m1 35 rfl) rfl
theorem q1082 : (Jvm.Cond.selects "LinkedTongue$Member" ({ cls := "java/lang/Object", name := "getClass", desc := "()Ljava/lang/Class;" } : Jvm.MethodName) ({ cls := "java/lang/Object", name := "getClass", desc := "()Ljava/lang/Class;" } : Jvm.MethodName)) ∈ lw_all := lw_g (lw_at lw_m4 61 rfl) rfl
theorem q1497 : (Jvm.Cond.fieldLinkNest "LinkedTongue$Member" (39 : Nat) "LinkedTongue$HostType" "number" "I" "LinkedTongue") ∈ lw_tbl := lw_at lw_m5 236 rfl
theorem q1582 : (Jvm.Cond.instantiable "LinkedTongue$Member" (11 : Nat)) ∈ lw_all := lw_g (lw_at lw_m6 81 rfl) rfl
theorem q1584 : (Jvm.Cond.instanceMethod ({ cls := "LinkedTongue$Member", name := "<init>", desc := "(IIILLinkedTongue$HostType;ZI[IZ)V" } : Jvm.MethodName)) ∈ lw_all := lw_g (lw_at lw_m6 83 rfl) rfl
theorem q1585 : (Jvm.Cond.code ({ cls := "LinkedTongue$Member", name := "<init>", desc := "(IIILLinkedTongue$HostType;ZI[IZ)V" } : Jvm.MethodName) prog_23_method_1_code (9 : Nat) (Option.none : Option Jvm.ClassFile.FieldType)) ∈ lw_all := lw_g (lw_at lw_m6 84 rfl) rfl
theorem q1586 : (Jvm.Cond.methodLink "LinkedTongue$Member" (3 : Nat) ({ cls := "java/lang/Object", name := "<init>", desc := "()V" } : Jvm.MethodName)) ∈ lw_all := lw_g (lw_at lw_m6 85 rfl) rfl
theorem q1587 : (Jvm.Cond.fieldLink "LinkedTongue$Member" (9 : Nat) "LinkedTongue$Member" "number" "I") ∈ lw_all := lw_g (lw_at lw_m6 86 rfl) rfl
theorem q1590 : (Jvm.Cond.fieldLink "LinkedTongue$Member" (15 : Nat) "LinkedTongue$Member" "kind" "I") ∈ lw_all := lw_g (lw_at lw_m6 89 rfl) rfl
theorem q1594 : (Jvm.Cond.fieldLink "LinkedTongue$Member" (18 : Nat) "LinkedTongue$Member" "type" "I") ∈ lw_all := lw_g (lw_at lw_m6 93 rfl) rfl
theorem q1599 : (Jvm.Cond.fieldLink "LinkedTongue$Member" (21 : Nat) "LinkedTongue$Member" "owner" "LLinkedTongue$HostType;") ∈ lw_all := lw_g (lw_at lw_m6 98 rfl) rfl
theorem q1601 : (Jvm.Cond.fieldLink "LinkedTongue$Member" (25 : Nat) "LinkedTongue$Member" "isStatic" "Z") ∈ lw_all := lw_g (lw_at lw_m6 100 rfl) rfl
theorem q1606 : (Jvm.Cond.fieldLink "LinkedTongue$Member" (29 : Nat) "LinkedTongue$Member" "name" "I") ∈ lw_all := lw_g (lw_at lw_m6 105 rfl) rfl
theorem q1610 : (Jvm.Cond.fieldLink "LinkedTongue$Member" (32 : Nat) "LinkedTongue$Member" "parameters" "[I") ∈ lw_all := lw_g (lw_at lw_m6 109 rfl) rfl
theorem q1613 : (Jvm.Cond.fieldLink "LinkedTongue$Member" (36 : Nat) "LinkedTongue$Member" "variable" "Z") ∈ lw_all := lw_g (lw_at lw_m6 112 rfl) rfl
theorem q1619 : (Jvm.Cond.laysFinal "LinkedTongue$Member" "LinkedTongue$Member" "number" "I") ∈ lw_all := lw_g (lw_at lw_m6 118 rfl) rfl
theorem q1620 : (Jvm.Cond.soleField "LinkedTongue$Member" "number") ∈ lw_all := lw_g (lw_at lw_m6 119 rfl) rfl
theorem q1621 : (Jvm.Cond.laysFinal "LinkedTongue$Member" "LinkedTongue$Member" "kind" "I") ∈ lw_all := lw_g (lw_at lw_m6 120 rfl) rfl
theorem q1622 : (Jvm.Cond.soleField "LinkedTongue$Member" "kind") ∈ lw_all := lw_g (lw_at lw_m6 121 rfl) rfl
theorem q1623 : (Jvm.Cond.laysFinal "LinkedTongue$Member" "LinkedTongue$Member" "type" "I") ∈ lw_all := lw_g (lw_at lw_m6 122 rfl) rfl
theorem q1624 : (Jvm.Cond.soleField "LinkedTongue$Member" "type") ∈ lw_all := lw_g (lw_at lw_m6 123 rfl) rfl
theorem q1625 : (Jvm.Cond.laysFinal "LinkedTongue$Member" "LinkedTongue$Member" "owner" "LLinkedTongue$HostType;") ∈ lw_all := lw_g (lw_at lw_m6 124 rfl) rfl
theorem q1626 : (Jvm.Cond.soleField "LinkedTongue$Member" "owner") ∈ lw_all := lw_g (lw_at lw_m6 125 rfl) rfl
theorem q1627 : (Jvm.Cond.laysFinal "LinkedTongue$Member" "LinkedTongue$Member" "isStatic" "Z") ∈ lw_all := lw_g (lw_at lw_m6 126 rfl) rfl
theorem q1628 : (Jvm.Cond.soleField "LinkedTongue$Member" "isStatic") ∈ lw_all := lw_g (lw_at lw_m6 127 rfl) rfl
theorem q1629 : (Jvm.Cond.laysFinal "LinkedTongue$Member" "LinkedTongue$Member" "name" "I") ∈ lw_all := lw_g (lw_at lw_m6 128 rfl) rfl
theorem q1630 : (Jvm.Cond.soleField "LinkedTongue$Member" "name") ∈ lw_all := lw_g (lw_at lw_m6 129 rfl) rfl
theorem q1631 : (Jvm.Cond.laysFinal "LinkedTongue$Member" "LinkedTongue$Member" "parameters" "[I") ∈ lw_all := lw_g (lw_at lw_m6 130 rfl) rfl
theorem q1632 : (Jvm.Cond.soleField "LinkedTongue$Member" "parameters") ∈ lw_all := lw_g (lw_at lw_m6 131 rfl) rfl
theorem q1633 : (Jvm.Cond.laysFinal "LinkedTongue$Member" "LinkedTongue$Member" "variable" "Z") ∈ lw_all := lw_g (lw_at lw_m6 132 rfl) rfl
theorem q1634 : (Jvm.Cond.soleField "LinkedTongue$Member" "variable") ∈ lw_all := lw_g (lw_at lw_m6 133 rfl) rfl
theorem q1635 : (Jvm.Cond.lays "LinkedTongue$Member" "LinkedTongue$Member" "field" "LLinkedTongue$Member;") ∈ lw_all := lw_g (lw_at lw_m6 134 rfl) rfl
theorem q1636 : (Jvm.Cond.soleField "LinkedTongue$Member" "field") ∈ lw_all := lw_g (lw_at lw_m6 135 rfl) rfl
theorem q1637 : (Jvm.Cond.lays "LinkedTongue$Member" "LinkedTongue$Member" "sets" "Z") ∈ lw_all := lw_g (lw_at lw_m6 136 rfl) rfl
theorem q1638 : (Jvm.Cond.soleField "LinkedTongue$Member" "sets") ∈ lw_all := lw_g (lw_at lw_m6 137 rfl) rfl
theorem q1639 : (Jvm.Cond.lays "LinkedTongue$Member" "LinkedTongue$Member" "isKnown" "Z") ∈ lw_all := lw_g (lw_at lw_m6 138 rfl) rfl
theorem q1640 : (Jvm.Cond.soleField "LinkedTongue$Member" "isKnown") ∈ lw_all := lw_g (lw_at lw_m6 139 rfl) rfl
theorem q1641 : (Jvm.Cond.superclass "LinkedTongue$Member" "java/lang/Object") ∈ lw_all := lw_g (lw_at lw_m6 140 rfl) rfl
theorem q1647 : (Jvm.Cond.instanceMethod ({ cls := "LinkedTongue$Member", name := "hasTypes", desc := "([II)Z" } : Jvm.MethodName)) ∈ lw_all := lw_g (lw_at lw_m6 146 rfl) rfl
theorem q1648 : (Jvm.Cond.selects "LinkedTongue$Member" ({ cls := "LinkedTongue$Member", name := "hasTypes", desc := "([II)Z" } : Jvm.MethodName) ({ cls := "LinkedTongue$Member", name := "hasTypes", desc := "([II)Z" } : Jvm.MethodName)) ∈ lw_all := lw_g (lw_at lw_m6 147 rfl) rfl
theorem q1649 : (Jvm.Cond.code ({ cls := "LinkedTongue$Member", name := "hasTypes", desc := "([II)Z" } : Jvm.MethodName) prog_23_method_2_code (5 : Nat) (Option.some Jvm.ClassFile.FieldType.boolean)) ∈ lw_all := lw_g (lw_at lw_m6 148 rfl) rfl
theorem q1676 : (Jvm.Cond.instanceMethod ({ cls := "LinkedTongue$Member", name := "tell", desc := "(I)I" } : Jvm.MethodName)) ∈ lw_all := lw_g (lw_at lw_m6 175 rfl) rfl
theorem q1677 : (Jvm.Cond.selects "LinkedTongue$Member" ({ cls := "LinkedTongue$Member", name := "tell", desc := "(I)I" } : Jvm.MethodName) ({ cls := "LinkedTongue$Member", name := "tell", desc := "(I)I" } : Jvm.MethodName)) ∈ lw_all := lw_g (lw_at lw_m6 176 rfl) rfl
theorem q1678 : (Jvm.Cond.code ({ cls := "LinkedTongue$Member", name := "tell", desc := "(I)I" } : Jvm.MethodName) prog_23_method_3_code (2 : Nat) (Option.some Jvm.ClassFile.FieldType.int)) ∈ lw_all := lw_g (lw_at lw_m6 177 rfl) rfl
theorem q5475 : (Jvm.Cond.castable "LinkedTongue$Member" "LinkedTongue$Member") ∈ lw_tbl := lw_at lw_m22 134 rfl
theorem q5531 : (Jvm.Cond.castable "LinkedTongue$Member" "java/lang/Object") ∈ lw_tbl := lw_at lw_m22 190 rfl
theorem q337 : (Jvm.Cond.initialized "LinkedTongue$Parser") ∈ lw_all := lw_g (lw_at lw_m1 36 rfl) rfl
theorem q470 : (Jvm.Cond.fieldLinkNest "LinkedTongue$Parser" (148 : Nat) "LinkedTongue$Scanner" "text" "[B" "LinkedTongue") ∈ lw_tbl := lw_at lw_m1 169 rfl
theorem q473 : (Jvm.Cond.fieldLinkNest "LinkedTongue$Parser" (128 : Nat) "LinkedTongue$Scanner" "kind" "I" "LinkedTongue") ∈ lw_tbl := lw_at lw_m1 172 rfl
theorem q477 : (Jvm.Cond.fieldLinkNest "LinkedTongue$Parser" (152 : Nat) "LinkedTongue$Scanner" "from" "I" "LinkedTongue") ∈ lw_tbl := lw_at lw_m1 176 rfl
theorem q480 : (Jvm.Cond.fieldLinkNest "LinkedTongue$Parser" (155 : Nat) "LinkedTongue$Scanner" "to" "I" "LinkedTongue") ∈ lw_tbl := lw_at lw_m1 179 rfl
theorem q483 : (Jvm.Cond.fieldLinkNest "LinkedTongue$Parser" (347 : Nat) "LinkedTongue$Scanner" "number" "J" "LinkedTongue") ∈ lw_tbl := lw_at lw_m1 182 rfl
theorem q485 : (Jvm.Cond.fieldLinkNest "LinkedTongue$Parser" (351 : Nat) "LinkedTongue$Scanner" "held" "[B" "LinkedTongue") ∈ lw_tbl := lw_at lw_m1 184 rfl
theorem q487 : (Jvm.Cond.fieldLinkNest "LinkedTongue$Parser" (354 : Nat) "LinkedTongue$Scanner" "heldSize" "I" "LinkedTongue") ∈ lw_tbl := lw_at lw_m1 186 rfl
theorem q1086 : (Jvm.Cond.selects "LinkedTongue$Parser" ({ cls := "java/lang/Object", name := "getClass", desc := "()Ljava/lang/Class;" } : Jvm.MethodName) ({ cls := "java/lang/Object", name := "getClass", desc := "()Ljava/lang/Class;" } : Jvm.MethodName)) ∈ lw_all := lw_g (lw_at lw_m4 65 rfl) rfl
theorem q1700 : (Jvm.Cond.instantiable "LinkedTongue$Parser" (11 : Nat)) ∈ lw_all := lw_g (lw_at lw_m6 199 rfl) rfl
theorem q1702 : (Jvm.Cond.instanceMethod ({ cls := "LinkedTongue$Parser", name := "<init>", desc := "(LLinkedTongue$Scanner;LLinkedTongue$Words;LLinkedTongue$Words;II)V" } : Jvm.MethodName)) ∈ lw_all := lw_g (lw_at lw_m6 201 rfl) rfl
theorem q1703 : (Jvm.Cond.code ({ cls := "LinkedTongue$Parser", name := "<init>", desc := "(LLinkedTongue$Scanner;LLinkedTongue$Words;LLinkedTongue$Words;II)V" } : Jvm.MethodName) prog_28_method_1_code (6 : Nat) (Option.none : Option Jvm.ClassFile.FieldType)) ∈ lw_all := lw_g (lw_at lw_m6 202 rfl) rfl
theorem q1704 : (Jvm.Cond.methodLink "LinkedTongue$Parser" (3 : Nat) ({ cls := "java/lang/Object", name := "<init>", desc := "()V" } : Jvm.MethodName)) ∈ lw_all := lw_g (lw_at lw_m6 203 rfl) rfl
theorem q1705 : (Jvm.Cond.classLink "LinkedTongue$Parser" (9 : Nat) "java/lang/String") ∈ lw_all := lw_g (lw_at lw_m6 204 rfl) rfl
theorem q1706 : (Jvm.Cond.stringRef "LinkedTongue$Parser" (11 : Nat) "var") ∈ lw_tbl := lw_at lw_m6 205 rfl
theorem q1707 : (Jvm.Cond.stringRef "LinkedTongue$Parser" (13 : Nat) "fun") ∈ lw_tbl := lw_at lw_m6 206 rfl
theorem q1708 : (Jvm.Cond.stringRef "LinkedTongue$Parser" (15 : Nat) "if") ∈ lw_tbl := lw_at lw_m6 207 rfl
theorem q1709 : (Jvm.Cond.stringRef "LinkedTongue$Parser" (17 : Nat) "else") ∈ lw_tbl := lw_at lw_m6 208 rfl
theorem q1710 : (Jvm.Cond.stringRef "LinkedTongue$Parser" (19 : Nat) "while") ∈ lw_tbl := lw_at lw_m6 209 rfl
theorem q1711 : (Jvm.Cond.stringRef "LinkedTongue$Parser" (21 : Nat) "return") ∈ lw_tbl := lw_at lw_m6 210 rfl
theorem q1712 : (Jvm.Cond.stringRef "LinkedTongue$Parser" (23 : Nat) "throw") ∈ lw_tbl := lw_at lw_m6 211 rfl
theorem q1713 : (Jvm.Cond.stringRef "LinkedTongue$Parser" (25 : Nat) "try") ∈ lw_tbl := lw_at lw_m6 212 rfl
theorem q1714 : (Jvm.Cond.stringRef "LinkedTongue$Parser" (27 : Nat) "catch") ∈ lw_tbl := lw_at lw_m6 213 rfl
theorem q1715 : (Jvm.Cond.stringRef "LinkedTongue$Parser" (29 : Nat) "new") ∈ lw_tbl := lw_at lw_m6 214 rfl
theorem q1716 : (Jvm.Cond.stringRef "LinkedTongue$Parser" (31 : Nat) "this") ∈ lw_tbl := lw_at lw_m6 215 rfl
theorem q1717 : (Jvm.Cond.stringRef "LinkedTongue$Parser" (33 : Nat) "null") ∈ lw_tbl := lw_at lw_m6 216 rfl
theorem q1718 : (Jvm.Cond.stringRef "LinkedTongue$Parser" (35 : Nat) "true") ∈ lw_tbl := lw_at lw_m6 217 rfl
theorem q1719 : (Jvm.Cond.stringRef "LinkedTongue$Parser" (37 : Nat) "false") ∈ lw_tbl := lw_at lw_m6 218 rfl
theorem q1720 : (Jvm.Cond.stringRef "LinkedTongue$Parser" (45 : Nat) "print") ∈ lw_tbl := lw_at lw_m6 219 rfl
theorem q1721 : (Jvm.Cond.stringRef "LinkedTongue$Parser" (47 : Nat) "make") ∈ lw_tbl := lw_at lw_m6 220 rfl
theorem q1722 : (Jvm.Cond.stringRef "LinkedTongue$Parser" (49 : Nat) "proto") ∈ lw_tbl := lw_at lw_m6 221 rfl
theorem q1723 : (Jvm.Cond.stringRef "LinkedTongue$Parser" (51 : Nat) "turn") ∈ lw_tbl := lw_at lw_m6 222 rfl
theorem q1724 : (Jvm.Cond.stringRef "LinkedTongue$Parser" (53 : Nat) "drop") ∈ lw_tbl := lw_at lw_m6 223 rfl
theorem q1725 : (Jvm.Cond.stringRef "LinkedTongue$Parser" (55 : Nat) "has") ∈ lw_tbl := lw_at lw_m6 224 rfl
theorem q1726 : (Jvm.Cond.stringRef "LinkedTongue$Parser" (57 : Nat) "kind") ∈ lw_tbl := lw_at lw_m6 225 rfl
theorem q1727 : (Jvm.Cond.stringRef "LinkedTongue$Parser" (59 : Nat) "host") ∈ lw_tbl := lw_at lw_m6 226 rfl
theorem q1728 : (Jvm.Cond.classLink "LinkedTongue$Parser" (64 : Nat) "java/util/ArrayList") ∈ lw_all := lw_g (lw_at lw_m6 227 rfl) rfl
theorem q1729 : (Jvm.Cond.methodLink "LinkedTongue$Parser" (66 : Nat) ({ cls := "java/util/ArrayList", name := "<init>", desc := "()V" } : Jvm.MethodName)) ∈ lw_all := lw_g (lw_at lw_m6 228 rfl) rfl
theorem q1730 : (Jvm.Cond.fieldLink "LinkedTongue$Parser" (39 : Nat) "LinkedTongue$Parser" "keywords" "[Ljava/lang/String;") ∈ lw_all := lw_g (lw_at lw_m6 229 rfl) rfl
theorem q1731 : (Jvm.Cond.fieldLink "LinkedTongue$Parser" (61 : Nat) "LinkedTongue$Parser" "builtins" "[Ljava/lang/String;") ∈ lw_all := lw_g (lw_at lw_m6 230 rfl) rfl
theorem q1732 : (Jvm.Cond.fieldLink "LinkedTongue$Parser" (74 : Nat) "LinkedTongue$Parser" "s" "LLinkedTongue$Scanner;") ∈ lw_all := lw_g (lw_at lw_m6 231 rfl) rfl
theorem q1733 : (Jvm.Cond.fieldLink "LinkedTongue$Parser" (78 : Nat) "LinkedTongue$Parser" "names" "LLinkedTongue$Words;") ∈ lw_all := lw_g (lw_at lw_m6 232 rfl) rfl
theorem q1734 : (Jvm.Cond.fieldLink "LinkedTongue$Parser" (82 : Nat) "LinkedTongue$Parser" "literals" "LLinkedTongue$Words;") ∈ lw_all := lw_g (lw_at lw_m6 233 rfl) rfl
theorem q1735 : (Jvm.Cond.fieldLink "LinkedTongue$Parser" (85 : Nat) "LinkedTongue$Parser" "unit" "I") ∈ lw_all := lw_g (lw_at lw_m6 234 rfl) rfl
theorem q1736 : (Jvm.Cond.fieldLink "LinkedTongue$Parser" (89 : Nat) "LinkedTongue$Parser" "firstFunction" "I") ∈ lw_all := lw_g (lw_at lw_m6 235 rfl) rfl
theorem q1737 : (Jvm.Cond.fieldLink "LinkedTongue$Parser" (67 : Nat) "LinkedTongue$Parser" "scopes" "Ljava/util/ArrayList;") ∈ lw_all := lw_g (lw_at lw_m6 236 rfl) rfl
theorem q1738 : (Jvm.Cond.fieldLink "LinkedTongue$Parser" (71 : Nat) "LinkedTongue$Parser" "nothing" "Ljava/util/ArrayList;") ∈ lw_all := lw_g (lw_at lw_m6 237 rfl) rfl
theorem q1739 : (Jvm.Cond.fieldLink "LinkedTongue$Parser" (108 : Nat) "LinkedTongue$Parser" "scope" "LLinkedTongue$Scope;") ∈ lw_all := lw_g (lw_at lw_m6 238 rfl) rfl
theorem q1740 : (Jvm.Cond.fieldLink "LinkedTongue$Parser" (186 : Nat) "LinkedTongue$Parser" "depth" "I") ∈ lw_all := lw_g (lw_at lw_m6 239 rfl) rfl
theorem q1741 : (Jvm.Cond.laysFinal "LinkedTongue$Parser" "LinkedTongue$Parser" "keywords" "[Ljava/lang/String;") ∈ lw_all := lw_g (lw_at lw_m7 0 rfl) rfl
theorem q1742 : (Jvm.Cond.soleField "LinkedTongue$Parser" "keywords") ∈ lw_all := lw_g (lw_at lw_m7 1 rfl) rfl
theorem q1743 : (Jvm.Cond.laysFinal "LinkedTongue$Parser" "LinkedTongue$Parser" "builtins" "[Ljava/lang/String;") ∈ lw_all := lw_g (lw_at lw_m7 2 rfl) rfl
theorem q1744 : (Jvm.Cond.soleField "LinkedTongue$Parser" "builtins") ∈ lw_all := lw_g (lw_at lw_m7 3 rfl) rfl
theorem q1745 : (Jvm.Cond.laysFinal "LinkedTongue$Parser" "LinkedTongue$Parser" "s" "LLinkedTongue$Scanner;") ∈ lw_all := lw_g (lw_at lw_m7 4 rfl) rfl
theorem q1746 : (Jvm.Cond.soleField "LinkedTongue$Parser" "s") ∈ lw_all := lw_g (lw_at lw_m7 5 rfl) rfl
theorem q1747 : (Jvm.Cond.laysFinal "LinkedTongue$Parser" "LinkedTongue$Parser" "names" "LLinkedTongue$Words;") ∈ lw_all := lw_g (lw_at lw_m7 6 rfl) rfl
theorem q1748 : (Jvm.Cond.soleField "LinkedTongue$Parser" "names") ∈ lw_all := lw_g (lw_at lw_m7 7 rfl) rfl
theorem q1749 : (Jvm.Cond.laysFinal "LinkedTongue$Parser" "LinkedTongue$Parser" "literals" "LLinkedTongue$Words;") ∈ lw_all := lw_g (lw_at lw_m7 8 rfl) rfl
theorem q1750 : (Jvm.Cond.soleField "LinkedTongue$Parser" "literals") ∈ lw_all := lw_g (lw_at lw_m7 9 rfl) rfl
theorem q1751 : (Jvm.Cond.laysFinal "LinkedTongue$Parser" "LinkedTongue$Parser" "unit" "I") ∈ lw_all := lw_g (lw_at lw_m7 10 rfl) rfl
theorem q1752 : (Jvm.Cond.soleField "LinkedTongue$Parser" "unit") ∈ lw_all := lw_g (lw_at lw_m7 11 rfl) rfl
theorem q1753 : (Jvm.Cond.laysFinal "LinkedTongue$Parser" "LinkedTongue$Parser" "firstFunction" "I") ∈ lw_all := lw_g (lw_at lw_m7 12 rfl) rfl
theorem q1754 : (Jvm.Cond.soleField "LinkedTongue$Parser" "firstFunction") ∈ lw_all := lw_g (lw_at lw_m7 13 rfl) rfl
theorem q1755 : (Jvm.Cond.laysFinal "LinkedTongue$Parser" "LinkedTongue$Parser" "scopes" "Ljava/util/ArrayList;") ∈ lw_all := lw_g (lw_at lw_m7 14 rfl) rfl
theorem q1756 : (Jvm.Cond.soleField "LinkedTongue$Parser" "scopes") ∈ lw_all := lw_g (lw_at lw_m7 15 rfl) rfl
theorem q1757 : (Jvm.Cond.laysFinal "LinkedTongue$Parser" "LinkedTongue$Parser" "nothing" "Ljava/util/ArrayList;") ∈ lw_all := lw_g (lw_at lw_m7 16 rfl) rfl
theorem q1758 : (Jvm.Cond.soleField "LinkedTongue$Parser" "nothing") ∈ lw_all := lw_g (lw_at lw_m7 17 rfl) rfl
theorem q1759 : (Jvm.Cond.lays "LinkedTongue$Parser" "LinkedTongue$Parser" "scope" "LLinkedTongue$Scope;") ∈ lw_all := lw_g (lw_at lw_m7 18 rfl) rfl
theorem q1760 : (Jvm.Cond.soleField "LinkedTongue$Parser" "scope") ∈ lw_all := lw_g (lw_at lw_m7 19 rfl) rfl
theorem q1761 : (Jvm.Cond.lays "LinkedTongue$Parser" "LinkedTongue$Parser" "depth" "I") ∈ lw_all := lw_g (lw_at lw_m7 20 rfl) rfl
theorem q1762 : (Jvm.Cond.soleField "LinkedTongue$Parser" "depth") ∈ lw_all := lw_g (lw_at lw_m7 21 rfl) rfl
theorem q1763 : (Jvm.Cond.superclass "LinkedTongue$Parser" "java/lang/Object") ∈ lw_all := lw_g (lw_at lw_m7 22 rfl) rfl
theorem q1765 : (Jvm.Cond.instanceMethod ({ cls := "LinkedTongue$Parser", name := "parse", desc := "()Ljava/util/ArrayList;" } : Jvm.MethodName)) ∈ lw_all := lw_g (lw_at lw_m7 24 rfl) rfl
theorem q1766 : (Jvm.Cond.selects "LinkedTongue$Parser" ({ cls := "LinkedTongue$Parser", name := "parse", desc := "()Ljava/util/ArrayList;" } : Jvm.MethodName) ({ cls := "LinkedTongue$Parser", name := "parse", desc := "()Ljava/util/ArrayList;" } : Jvm.MethodName)) ∈ lw_all := lw_g (lw_at lw_m7 25 rfl) rfl
theorem q1767 : (Jvm.Cond.code ({ cls := "LinkedTongue$Parser", name := "parse", desc := "()Ljava/util/ArrayList;" } : Jvm.MethodName) prog_28_method_3_code (2 : Nat) (Option.some (Jvm.ClassFile.FieldType.object "java/util/ArrayList"))) ∈ lw_all := lw_g (lw_at lw_m7 26 rfl) rfl
theorem q1768 : (Jvm.Cond.methodLink "LinkedTongue$Parser" (124 : Nat) ({ cls := "LinkedTongue$Parser", name := "open", desc := "(Z)LLinkedTongue$Scope;" } : Jvm.MethodName)) ∈ lw_all := lw_g (lw_at lw_m7 27 rfl) rfl
theorem q1769 : (Jvm.Cond.privateMethod ({ cls := "LinkedTongue$Parser", name := "open", desc := "(Z)LLinkedTongue$Scope;" } : Jvm.MethodName)) ∈ lw_tbl := lw_at lw_m7 28 rfl
theorem q1770 : (Jvm.Cond.instanceMethod ({ cls := "LinkedTongue$Parser", name := "open", desc := "(Z)LLinkedTongue$Scope;" } : Jvm.MethodName)) ∈ lw_all := lw_g (lw_at lw_m7 29 rfl) rfl
theorem q1771 : (Jvm.Cond.code ({ cls := "LinkedTongue$Parser", name := "open", desc := "(Z)LLinkedTongue$Scope;" } : Jvm.MethodName) prog_28_method_2_code (3 : Nat) (Option.some (Jvm.ClassFile.FieldType.object "LinkedTongue$Scope"))) ∈ lw_all := lw_g (lw_at lw_m7 30 rfl) rfl
theorem q1772 : (Jvm.Cond.methodLink "LinkedTongue$Parser" (92 : Nat) ({ cls := "java/util/ArrayList", name := "size", desc := "()I" } : Jvm.MethodName)) ∈ lw_all := lw_g (lw_at lw_m7 31 rfl) rfl
theorem q1773 : (Jvm.Cond.methodLink "LinkedTongue$Parser" (96 : Nat) ({ cls := "LinkedTongue$Parser", name := "mayStart", desc := "()Z" } : Jvm.MethodName)) ∈ lw_all := lw_g (lw_at lw_m7 32 rfl) rfl
theorem q1774 : (Jvm.Cond.privateMethod ({ cls := "LinkedTongue$Parser", name := "mayStart", desc := "()Z" } : Jvm.MethodName)) ∈ lw_tbl := lw_at lw_m7 33 rfl
theorem q1775 : (Jvm.Cond.instanceMethod ({ cls := "LinkedTongue$Parser", name := "mayStart", desc := "()Z" } : Jvm.MethodName)) ∈ lw_all := lw_g (lw_at lw_m7 34 rfl) rfl
theorem q1776 : (Jvm.Cond.code ({ cls := "LinkedTongue$Parser", name := "mayStart", desc := "()Z" } : Jvm.MethodName) prog_28_method_25_code (2 : Nat) (Option.some Jvm.ClassFile.FieldType.boolean)) ∈ lw_all := lw_g (lw_at lw_m7 35 rfl) rfl
theorem q1777 : (Jvm.Cond.methodLink "LinkedTongue$Parser" (316 : Nat) ({ cls := "LinkedTongue$Parser", name := "mayBegin", desc := "()Z" } : Jvm.MethodName)) ∈ lw_all := lw_g (lw_at lw_m7 36 rfl) rfl
theorem q1778 : (Jvm.Cond.privateMethod ({ cls := "LinkedTongue$Parser", name := "mayBegin", desc := "()Z" } : Jvm.MethodName)) ∈ lw_tbl := lw_at lw_m7 37 rfl
theorem q1779 : (Jvm.Cond.instanceMethod ({ cls := "LinkedTongue$Parser", name := "mayBegin", desc := "()Z" } : Jvm.MethodName)) ∈ lw_all := lw_g (lw_at lw_m7 38 rfl) rfl
theorem q1780 : (Jvm.Cond.code ({ cls := "LinkedTongue$Parser", name := "mayBegin", desc := "()Z" } : Jvm.MethodName) prog_28_method_26_code (3 : Nat) (Option.some Jvm.ClassFile.FieldType.boolean)) ∈ lw_all := lw_g (lw_at lw_m7 39 rfl) rfl
theorem q1781 : (Jvm.Cond.methodLink "LinkedTongue$Parser" (141 : Nat) ({ cls := "LinkedTongue$Parser", name := "among", desc := "([Ljava/lang/String;LLinkedTongue$Scanner;)I" } : Jvm.MethodName)) ∈ lw_all := lw_g (lw_at lw_m7 40 rfl) rfl
theorem q1782 : (Jvm.Cond.static ({ cls := "LinkedTongue$Parser", name := "among", desc := "([Ljava/lang/String;LLinkedTongue$Scanner;)I" } : Jvm.MethodName)) ∈ lw_all := lw_g (lw_at lw_m7 41 rfl) rfl
theorem q1783 : (Jvm.Cond.code ({ cls := "LinkedTongue$Parser", name := "among", desc := "([Ljava/lang/String;LLinkedTongue$Scanner;)I" } : Jvm.MethodName) prog_28_method_4_code (3 : Nat) (Option.some Jvm.ClassFile.FieldType.int)) ∈ lw_all := lw_g (lw_at lw_m7 42 rfl) rfl
theorem q1784 : (Jvm.Cond.methodLink "LinkedTongue$Parser" (137 : Nat) ({ cls := "LinkedTongue$Scanner", name := "is", desc := "(Ljava/lang/String;)Z" } : Jvm.MethodName)) ∈ lw_all := lw_g (lw_at lw_m7 43 rfl) rfl
theorem q1785 : (Jvm.Cond.methodLink "LinkedTongue$Parser" (100 : Nat) ({ cls := "LinkedTongue$Scanner", name := "fail", desc := "(I)V" } : Jvm.MethodName)) ∈ lw_all := lw_g (lw_at lw_m7 44 rfl) rfl
theorem q1786 : (Jvm.Cond.classLink "LinkedTongue$Parser" (106 : Nat) "LinkedTongue$Scope") ∈ lw_all := lw_g (lw_at lw_m7 45 rfl) rfl
theorem q1788 : (Jvm.Cond.classLink "LinkedTongue$Parser" (112 : Nat) "LinkedTongue$Code") ∈ lw_all := lw_g (lw_at lw_m7 47 rfl) rfl
theorem q1790 : (Jvm.Cond.methodLink "LinkedTongue$Parser" (114 : Nat) ({ cls := "LinkedTongue$Code", name := "<init>", desc := "(II)V" } : Jvm.MethodName)) ∈ lw_all := lw_g (lw_at lw_m7 49 rfl) rfl
theorem q1802 : (Jvm.Cond.fieldLinkNest "LinkedTongue$Parser" (272 : Nat) "LinkedTongue$Code" "parameters" "I" "LinkedTongue") ∈ lw_tbl := lw_at lw_m7 61 rfl
theorem q1835 : (Jvm.Cond.methodLink "LinkedTongue$Parser" (117 : Nat) ({ cls := "LinkedTongue$Scope", name := "<init>", desc := "(LLinkedTongue$Scope;LLinkedTongue$Code;Z)V" } : Jvm.MethodName)) ∈ lw_all := lw_g (lw_at lw_m7 94 rfl) rfl
theorem q1843 : (Jvm.Cond.fieldLinkNest "LinkedTongue$Parser" (213 : Nat) "LinkedTongue$Scope" "outer" "LLinkedTongue$Scope;" "LinkedTongue") ∈ lw_tbl := lw_at lw_m7 102 rfl
theorem q1847 : (Jvm.Cond.fieldLinkNest "LinkedTongue$Parser" (209 : Nat) "LinkedTongue$Scope" "code" "LLinkedTongue$Code;" "LinkedTongue") ∈ lw_tbl := lw_at lw_m7 106 rfl
theorem q1850 : (Jvm.Cond.fieldLinkNest "LinkedTongue$Parser" (170 : Nat) "LinkedTongue$Scope" "isUnit" "Z" "LinkedTongue") ∈ lw_tbl := lw_at lw_m7 109 rfl
theorem q1852 : (Jvm.Cond.fieldLinkNest "LinkedTongue$Parser" (180 : Nat) "LinkedTongue$Scope" "names" "[I" "LinkedTongue") ∈ lw_tbl := lw_at lw_m7 111 rfl
theorem q1855 : (Jvm.Cond.fieldLinkNest "LinkedTongue$Parser" (178 : Nat) "LinkedTongue$Scope" "size" "I" "LinkedTongue") ∈ lw_tbl := lw_at lw_m7 114 rfl
theorem q1858 : (Jvm.Cond.fieldLinkNest "LinkedTongue$Parser" (130 : Nat) "LinkedTongue$Scope" "body" "Ljava/util/ArrayList;" "LinkedTongue") ∈ lw_tbl := lw_at lw_m7 117 rfl
theorem q1872 : (Jvm.Cond.methodLink "LinkedTongue$Parser" (120 : Nat) ({ cls := "java/util/ArrayList", name := "add", desc := "(Ljava/lang/Object;)Z" } : Jvm.MethodName)) ∈ lw_all := lw_g (lw_at lw_m7 131 rfl) rfl
theorem q1873 : (Jvm.Cond.methodLink "LinkedTongue$Parser" (133 : Nat) ({ cls := "LinkedTongue$Parser", name := "statement", desc := "()LLinkedTongue$Node;" } : Jvm.MethodName)) ∈ lw_all := lw_g (lw_at lw_m7 132 rfl) rfl
theorem q1874 : (Jvm.Cond.privateMethod ({ cls := "LinkedTongue$Parser", name := "statement", desc := "()LLinkedTongue$Node;" } : Jvm.MethodName)) ∈ lw_tbl := lw_at lw_m7 133 rfl
theorem q1875 : (Jvm.Cond.instanceMethod ({ cls := "LinkedTongue$Parser", name := "statement", desc := "()LLinkedTongue$Node;" } : Jvm.MethodName)) ∈ lw_all := lw_g (lw_at lw_m7 134 rfl) rfl
theorem q1876 : (Jvm.Cond.code ({ cls := "LinkedTongue$Parser", name := "statement", desc := "()LLinkedTongue$Node;" } : Jvm.MethodName) prog_28_method_13_code (4 : Nat) (Option.some (Jvm.ClassFile.FieldType.object "LinkedTongue$Node"))) ∈ lw_all := lw_g (lw_at lw_m7 135 rfl) rfl
theorem q1877 : (Jvm.Cond.methodLink "LinkedTongue$Parser" (203 : Nat) ({ cls := "LinkedTongue$Parser", name := "takes", desc := "(Ljava/lang/String;)Z" } : Jvm.MethodName)) ∈ lw_all := lw_g (lw_at lw_m7 136 rfl) rfl
theorem q1878 : (Jvm.Cond.privateMethod ({ cls := "LinkedTongue$Parser", name := "takes", desc := "(Ljava/lang/String;)Z" } : Jvm.MethodName)) ∈ lw_tbl := lw_at lw_m7 137 rfl
theorem q1879 : (Jvm.Cond.instanceMethod ({ cls := "LinkedTongue$Parser", name := "takes", desc := "(Ljava/lang/String;)Z" } : Jvm.MethodName)) ∈ lw_all := lw_g (lw_at lw_m7 138 rfl) rfl
theorem q1880 : (Jvm.Cond.code ({ cls := "LinkedTongue$Parser", name := "takes", desc := "(Ljava/lang/String;)Z" } : Jvm.MethodName) prog_28_method_9_code (3 : Nat) (Option.some Jvm.ClassFile.FieldType.boolean)) ∈ lw_all := lw_g (lw_at lw_m7 139 rfl) rfl
theorem q1881 : (Jvm.Cond.methodLink "LinkedTongue$Parser" (167 : Nat) ({ cls := "LinkedTongue$Scanner", name := "next", desc := "()V" } : Jvm.MethodName)) ∈ lw_all := lw_g (lw_at lw_m7 140 rfl) rfl
theorem q1882 : (Jvm.Cond.methodLink "LinkedTongue$Parser" (206 : Nat) ({ cls := "LinkedTongue$Parser", name := "variable", desc := "()LLinkedTongue$Node;" } : Jvm.MethodName)) ∈ lw_all := lw_g (lw_at lw_m7 141 rfl) rfl
theorem q1883 : (Jvm.Cond.privateMethod ({ cls := "LinkedTongue$Parser", name := "variable", desc := "()LLinkedTongue$Node;" } : Jvm.MethodName)) ∈ lw_tbl := lw_at lw_m7 142 rfl
theorem q1884 : (Jvm.Cond.instanceMethod ({ cls := "LinkedTongue$Parser", name := "variable", desc := "()LLinkedTongue$Node;" } : Jvm.MethodName)) ∈ lw_all := lw_g (lw_at lw_m7 143 rfl) rfl
theorem q1885 : (Jvm.Cond.code ({ cls := "LinkedTongue$Parser", name := "variable", desc := "()LLinkedTongue$Node;" } : Jvm.MethodName) prog_28_method_14_code (3 : Nat) (Option.some (Jvm.ClassFile.FieldType.object "LinkedTongue$Node"))) ∈ lw_all := lw_g (lw_at lw_m7 144 rfl) rfl
theorem q1886 : (Jvm.Cond.methodLink "LinkedTongue$Parser" (216 : Nat) ({ cls := "LinkedTongue$Parser", name := "declare", desc := "()I" } : Jvm.MethodName)) ∈ lw_all := lw_g (lw_at lw_m7 145 rfl) rfl
theorem q1887 : (Jvm.Cond.privateMethod ({ cls := "LinkedTongue$Parser", name := "declare", desc := "()I" } : Jvm.MethodName)) ∈ lw_tbl := lw_at lw_m7 146 rfl
theorem q1888 : (Jvm.Cond.instanceMethod ({ cls := "LinkedTongue$Parser", name := "declare", desc := "()I" } : Jvm.MethodName)) ∈ lw_all := lw_g (lw_at lw_m7 147 rfl) rfl
theorem q1889 : (Jvm.Cond.code ({ cls := "LinkedTongue$Parser", name := "declare", desc := "()I" } : Jvm.MethodName) prog_28_method_8_code (2 : Nat) (Option.some Jvm.ClassFile.FieldType.int)) ∈ lw_all := lw_g (lw_at lw_m7 148 rfl) rfl
theorem q1890 : (Jvm.Cond.methodLink "LinkedTongue$Parser" (164 : Nat) ({ cls := "LinkedTongue$Parser", name := "name", desc := "()I" } : Jvm.MethodName)) ∈ lw_all := lw_g (lw_at lw_m7 149 rfl) rfl
theorem q1891 : (Jvm.Cond.privateMethod ({ cls := "LinkedTongue$Parser", name := "name", desc := "()I" } : Jvm.MethodName)) ∈ lw_tbl := lw_at lw_m7 150 rfl
theorem q1892 : (Jvm.Cond.instanceMethod ({ cls := "LinkedTongue$Parser", name := "name", desc := "()I" } : Jvm.MethodName)) ∈ lw_all := lw_g (lw_at lw_m7 151 rfl) rfl
theorem q1893 : (Jvm.Cond.code ({ cls := "LinkedTongue$Parser", name := "name", desc := "()I" } : Jvm.MethodName) prog_28_method_6_code (2 : Nat) (Option.some Jvm.ClassFile.FieldType.int)) ∈ lw_all := lw_g (lw_at lw_m7 152 rfl) rfl
theorem q1894 : (Jvm.Cond.methodLink "LinkedTongue$Parser" (145 : Nat) ({ cls := "LinkedTongue$Parser", name := "isName", desc := "()Z" } : Jvm.MethodName)) ∈ lw_all := lw_g (lw_at lw_m7 153 rfl) rfl
theorem q1895 : (Jvm.Cond.privateMethod ({ cls := "LinkedTongue$Parser", name := "isName", desc := "()Z" } : Jvm.MethodName)) ∈ lw_tbl := lw_at lw_m7 154 rfl
theorem q1896 : (Jvm.Cond.instanceMethod ({ cls := "LinkedTongue$Parser", name := "isName", desc := "()Z" } : Jvm.MethodName)) ∈ lw_all := lw_g (lw_at lw_m7 155 rfl) rfl
theorem q1897 : (Jvm.Cond.code ({ cls := "LinkedTongue$Parser", name := "isName", desc := "()Z" } : Jvm.MethodName) prog_28_method_5_code (1 : Nat) (Option.some Jvm.ClassFile.FieldType.boolean)) ∈ lw_all := lw_g (lw_at lw_m7 156 rfl) rfl
theorem q1898 : (Jvm.Cond.methodLink "LinkedTongue$Parser" (158 : Nat) ({ cls := "LinkedTongue$Words", name := "take", desc := "([BII)I" } : Jvm.MethodName)) ∈ lw_all := lw_g (lw_at lw_m7 157 rfl) rfl
theorem q1899 : (Jvm.Cond.methodLink "LinkedTongue$Parser" (174 : Nat) ({ cls := "LinkedTongue$Scope", name := "find", desc := "(I)I" } : Jvm.MethodName)) ∈ lw_all := lw_g (lw_at lw_m7 158 rfl) rfl
theorem q1903 : (Jvm.Cond.classLink "LinkedTongue$Parser" (194 : Nat) "LinkedTongue$Block") ∈ lw_all := lw_g (lw_at lw_m7 162 rfl) rfl
theorem q1905 : (Jvm.Cond.methodLinkNest "LinkedTongue$Parser" (196 : Nat) ({ cls := "LinkedTongue$Block", name := "<init>", desc := "()V" } : Jvm.MethodName) "LinkedTongue") ∈ lw_tbl := lw_at lw_m7 164 rfl
theorem q1915 : (Jvm.Cond.fieldLinkNest "LinkedTongue$Parser" (197 : Nat) "LinkedTongue$Block" "statements" "Ljava/util/ArrayList;" "LinkedTongue") ∈ lw_tbl := lw_at lw_m7 174 rfl
theorem q1919 : (Jvm.Cond.methodLink "LinkedTongue$Parser" (189 : Nat) ({ cls := "LinkedTongue$Scanner", name := "take", desc := "(I)V" } : Jvm.MethodName)) ∈ lw_all := lw_g (lw_at lw_m7 178 rfl) rfl
theorem q1920 : (Jvm.Cond.methodLink "LinkedTongue$Parser" (253 : Nat) ({ cls := "LinkedTongue$Parser", name := "expression", desc := "()LLinkedTongue$Node;" } : Jvm.MethodName)) ∈ lw_all := lw_g (lw_at lw_m7 179 rfl) rfl
theorem q1921 : (Jvm.Cond.privateMethod ({ cls := "LinkedTongue$Parser", name := "expression", desc := "()LLinkedTongue$Node;" } : Jvm.MethodName)) ∈ lw_tbl := lw_at lw_m7 180 rfl
theorem q1922 : (Jvm.Cond.instanceMethod ({ cls := "LinkedTongue$Parser", name := "expression", desc := "()LLinkedTongue$Node;" } : Jvm.MethodName)) ∈ lw_all := lw_g (lw_at lw_m7 181 rfl) rfl
theorem q1923 : (Jvm.Cond.code ({ cls := "LinkedTongue$Parser", name := "expression", desc := "()LLinkedTongue$Node;" } : Jvm.MethodName) prog_28_method_19_code (4 : Nat) (Option.some (Jvm.ClassFile.FieldType.object "LinkedTongue$Node"))) ∈ lw_all := lw_g (lw_at lw_m7 182 rfl) rfl
theorem q1924 : (Jvm.Cond.methodLink "LinkedTongue$Parser" (275 : Nat) ({ cls := "LinkedTongue$Parser", name := "chain", desc := "(I)LLinkedTongue$Node;" } : Jvm.MethodName)) ∈ lw_all := lw_g (lw_at lw_m7 183 rfl) rfl
theorem q1925 : (Jvm.Cond.privateMethod ({ cls := "LinkedTongue$Parser", name := "chain", desc := "(I)LLinkedTongue$Node;" } : Jvm.MethodName)) ∈ lw_tbl := lw_at lw_m7 184 rfl
theorem q1926 : (Jvm.Cond.instanceMethod ({ cls := "LinkedTongue$Parser", name := "chain", desc := "(I)LLinkedTongue$Node;" } : Jvm.MethodName)) ∈ lw_all := lw_g (lw_at lw_m7 185 rfl) rfl
theorem q1927 : (Jvm.Cond.code ({ cls := "LinkedTongue$Parser", name := "chain", desc := "(I)LLinkedTongue$Node;" } : Jvm.MethodName) prog_28_method_21_code (5 : Nat) (Option.some (Jvm.ClassFile.FieldType.object "LinkedTongue$Node"))) ∈ lw_all := lw_g (lw_at lw_m7 186 rfl) rfl
theorem q1928 : (Jvm.Cond.methodLink "LinkedTongue$Parser" (295 : Nat) ({ cls := "LinkedTongue$Parser", name := "front", desc := "()LLinkedTongue$Node;" } : Jvm.MethodName)) ∈ lw_all := lw_g (lw_at lw_m7 187 rfl) rfl
theorem q1929 : (Jvm.Cond.privateMethod ({ cls := "LinkedTongue$Parser", name := "front", desc := "()LLinkedTongue$Node;" } : Jvm.MethodName)) ∈ lw_tbl := lw_at lw_m7 188 rfl
theorem q1930 : (Jvm.Cond.instanceMethod ({ cls := "LinkedTongue$Parser", name := "front", desc := "()LLinkedTongue$Node;" } : Jvm.MethodName)) ∈ lw_all := lw_g (lw_at lw_m7 189 rfl) rfl
theorem q1931 : (Jvm.Cond.code ({ cls := "LinkedTongue$Parser", name := "front", desc := "()LLinkedTongue$Node;" } : Jvm.MethodName) prog_28_method_22_code (3 : Nat) (Option.some (Jvm.ClassFile.FieldType.object "LinkedTongue$Node"))) ∈ lw_all := lw_g (lw_at lw_m7 190 rfl) rfl
theorem q1932 : (Jvm.Cond.methodLink "LinkedTongue$Parser" (309 : Nat) ({ cls := "LinkedTongue$Parser", name := "behind", desc := "()LLinkedTongue$Node;" } : Jvm.MethodName)) ∈ lw_all := lw_g (lw_at lw_m7 191 rfl) rfl
theorem q1933 : (Jvm.Cond.privateMethod ({ cls := "LinkedTongue$Parser", name := "behind", desc := "()LLinkedTongue$Node;" } : Jvm.MethodName)) ∈ lw_tbl := lw_at lw_m7 192 rfl
theorem q1934 : (Jvm.Cond.instanceMethod ({ cls := "LinkedTongue$Parser", name := "behind", desc := "()LLinkedTongue$Node;" } : Jvm.MethodName)) ∈ lw_all := lw_g (lw_at lw_m7 193 rfl) rfl
theorem q1935 : (Jvm.Cond.code ({ cls := "LinkedTongue$Parser", name := "behind", desc := "()LLinkedTongue$Node;" } : Jvm.MethodName) prog_28_method_29_code (5 : Nat) (Option.some (Jvm.ClassFile.FieldType.object "LinkedTongue$Node"))) ∈ lw_all := lw_g (lw_at lw_m7 194 rfl) rfl
theorem q1936 : (Jvm.Cond.methodLink "LinkedTongue$Parser" (329 : Nat) ({ cls := "LinkedTongue$Parser", name := "first", desc := "(Z)LLinkedTongue$Node;" } : Jvm.MethodName)) ∈ lw_all := lw_g (lw_at lw_m7 195 rfl) rfl
theorem q1937 : (Jvm.Cond.privateMethod ({ cls := "LinkedTongue$Parser", name := "first", desc := "(Z)LLinkedTongue$Node;" } : Jvm.MethodName)) ∈ lw_tbl := lw_at lw_m7 196 rfl
theorem q1938 : (Jvm.Cond.instanceMethod ({ cls := "LinkedTongue$Parser", name := "first", desc := "(Z)LLinkedTongue$Node;" } : Jvm.MethodName)) ∈ lw_all := lw_g (lw_at lw_m7 197 rfl) rfl
theorem q1939 : (Jvm.Cond.code ({ cls := "LinkedTongue$Parser", name := "first", desc := "(Z)LLinkedTongue$Node;" } : Jvm.MethodName) prog_28_method_30_code (3 : Nat) (Option.some (Jvm.ClassFile.FieldType.object "LinkedTongue$Node"))) ∈ lw_all := lw_g (lw_at lw_m7 198 rfl) rfl
theorem q1940 : (Jvm.Cond.classLink "LinkedTongue$Parser" (250 : Nat) "LinkedTongue$Constant") ∈ lw_all := lw_g (lw_at lw_m7 199 rfl) rfl
theorem q1942 : (Jvm.Cond.methodLink "LinkedTongue$Parser" (252 : Nat) ({ cls := "LinkedTongue$Constant", name := "<init>", desc := "(II)V" } : Jvm.MethodName)) ∈ lw_all := lw_g (lw_at lw_m7 201 rfl) rfl
theorem q1953 : (Jvm.Cond.classLink "LinkedTongue$Parser" (357 : Nat) "LinkedTongue$Group") ∈ lw_all := lw_g (lw_at lw_m7 212 rfl) rfl
theorem q1955 : (Jvm.Cond.methodLink "LinkedTongue$Parser" (237 : Nat) ({ cls := "LinkedTongue$Parser", name := "condition", desc := "()LLinkedTongue$Node;" } : Jvm.MethodName)) ∈ lw_all := lw_g (lw_at lw_m7 214 rfl) rfl
theorem q1956 : (Jvm.Cond.privateMethod ({ cls := "LinkedTongue$Parser", name := "condition", desc := "()LLinkedTongue$Node;" } : Jvm.MethodName)) ∈ lw_tbl := lw_at lw_m7 215 rfl
theorem q1957 : (Jvm.Cond.instanceMethod ({ cls := "LinkedTongue$Parser", name := "condition", desc := "()LLinkedTongue$Node;" } : Jvm.MethodName)) ∈ lw_all := lw_g (lw_at lw_m7 216 rfl) rfl
theorem q1958 : (Jvm.Cond.code ({ cls := "LinkedTongue$Parser", name := "condition", desc := "()LLinkedTongue$Node;" } : Jvm.MethodName) prog_28_method_15_code (2 : Nat) (Option.some (Jvm.ClassFile.FieldType.object "LinkedTongue$Node"))) ∈ lw_all := lw_g (lw_at lw_m7 217 rfl) rfl
theorem q1959 : (Jvm.Cond.methodLink "LinkedTongue$Parser" (191 : Nat) ({ cls := "LinkedTongue$Parser", name := "enter", desc := "(I)V" } : Jvm.MethodName)) ∈ lw_all := lw_g (lw_at lw_m7 218 rfl) rfl
theorem q1960 : (Jvm.Cond.privateMethod ({ cls := "LinkedTongue$Parser", name := "enter", desc := "(I)V" } : Jvm.MethodName)) ∈ lw_tbl := lw_at lw_m7 219 rfl
theorem q1961 : (Jvm.Cond.instanceMethod ({ cls := "LinkedTongue$Parser", name := "enter", desc := "(I)V" } : Jvm.MethodName)) ∈ lw_all := lw_g (lw_at lw_m7 220 rfl) rfl
theorem q1962 : (Jvm.Cond.code ({ cls := "LinkedTongue$Parser", name := "enter", desc := "(I)V" } : Jvm.MethodName) prog_28_method_10_code (2 : Nat) (Option.none : Option Jvm.ClassFile.FieldType)) ∈ lw_all := lw_g (lw_at lw_m7 221 rfl) rfl
theorem q1963 : (Jvm.Cond.methodLink "LinkedTongue$Parser" (183 : Nat) ({ cls := "LinkedTongue$Scanner", name := "demand", desc := "(I)V" } : Jvm.MethodName)) ∈ lw_all := lw_g (lw_at lw_m7 222 rfl) rfl
theorem q1964 : (Jvm.Cond.methodLink "LinkedTongue$Parser" (200 : Nat) ({ cls := "LinkedTongue$Parser", name := "leave", desc := "(I)V" } : Jvm.MethodName)) ∈ lw_all := lw_g (lw_at lw_m7 223 rfl) rfl
theorem q1965 : (Jvm.Cond.privateMethod ({ cls := "LinkedTongue$Parser", name := "leave", desc := "(I)V" } : Jvm.MethodName)) ∈ lw_tbl := lw_at lw_m7 224 rfl
theorem q1966 : (Jvm.Cond.instanceMethod ({ cls := "LinkedTongue$Parser", name := "leave", desc := "(I)V" } : Jvm.MethodName)) ∈ lw_all := lw_g (lw_at lw_m7 225 rfl) rfl
theorem q1967 : (Jvm.Cond.code ({ cls := "LinkedTongue$Parser", name := "leave", desc := "(I)V" } : Jvm.MethodName) prog_28_method_11_code (2 : Nat) (Option.none : Option Jvm.ClassFile.FieldType)) ∈ lw_all := lw_g (lw_at lw_m7 226 rfl) rfl
theorem q1968 : (Jvm.Cond.methodLink "LinkedTongue$Parser" (359 : Nat) ({ cls := "LinkedTongue$Group", name := "<init>", desc := "(LLinkedTongue$Node;)V" } : Jvm.MethodName)) ∈ lw_all := lw_g (lw_at lw_m7 227 rfl) rfl
theorem q1976 : (Jvm.Cond.classLink "LinkedTongue$Parser" (360 : Nat) "LinkedTongue$Operation") ∈ lw_all := lw_g (lw_at lw_m7 235 rfl) rfl
theorem q1978 : (Jvm.Cond.methodLink "LinkedTongue$Parser" (362 : Nat) ({ cls := "LinkedTongue$Operation", name := "<init>", desc := "(IILjava/util/ArrayList;)V" } : Jvm.MethodName)) ∈ lw_all := lw_g (lw_at lw_m7 237 rfl) rfl
theorem q1985 : (Jvm.Cond.fieldLinkNest "LinkedTongue$Parser" (363 : Nat) "LinkedTongue$Operation" "operands" "Ljava/util/ArrayList;" "LinkedTongue") ∈ lw_tbl := lw_at lw_m8 4 rfl
theorem q1993 : (Jvm.Cond.constant "LinkedTongue$Parser" (367 : Nat) (2147483647 : Int32)) ∈ lw_all := lw_g (lw_at lw_m8 12 rfl) rfl
theorem q1994 : (Jvm.Cond.methodLink "LinkedTongue$Parser" (322 : Nat) ({ cls := "LinkedTongue$Parser", name := "operands", desc := "(Ljava/util/ArrayList;II)V" } : Jvm.MethodName)) ∈ lw_all := lw_g (lw_at lw_m8 13 rfl) rfl
theorem q1995 : (Jvm.Cond.privateMethod ({ cls := "LinkedTongue$Parser", name := "operands", desc := "(Ljava/util/ArrayList;II)V" } : Jvm.MethodName)) ∈ lw_tbl := lw_at lw_m8 14 rfl
theorem q1996 : (Jvm.Cond.instanceMethod ({ cls := "LinkedTongue$Parser", name := "operands", desc := "(Ljava/util/ArrayList;II)V" } : Jvm.MethodName)) ∈ lw_all := lw_g (lw_at lw_m8 15 rfl) rfl
theorem q1997 : (Jvm.Cond.code ({ cls := "LinkedTongue$Parser", name := "operands", desc := "(Ljava/util/ArrayList;II)V" } : Jvm.MethodName) prog_28_method_23_code (5 : Nat) (Option.none : Option Jvm.ClassFile.FieldType)) ∈ lw_all := lw_g (lw_at lw_m8 16 rfl) rfl
theorem q1998 : (Jvm.Cond.methodLink "LinkedTongue$Parser" (319 : Nat) ({ cls := "LinkedTongue$Parser", name := "isOpening", desc := "()Z" } : Jvm.MethodName)) ∈ lw_all := lw_g (lw_at lw_m8 17 rfl) rfl
theorem q1999 : (Jvm.Cond.privateMethod ({ cls := "LinkedTongue$Parser", name := "isOpening", desc := "()Z" } : Jvm.MethodName)) ∈ lw_tbl := lw_at lw_m8 18 rfl
theorem q2000 : (Jvm.Cond.instanceMethod ({ cls := "LinkedTongue$Parser", name := "isOpening", desc := "()Z" } : Jvm.MethodName)) ∈ lw_all := lw_g (lw_at lw_m8 19 rfl) rfl
theorem q2001 : (Jvm.Cond.code ({ cls := "LinkedTongue$Parser", name := "isOpening", desc := "()Z" } : Jvm.MethodName) prog_28_method_24_code (1 : Nat) (Option.some Jvm.ClassFile.FieldType.boolean)) ∈ lw_all := lw_g (lw_at lw_m8 20 rfl) rfl
theorem q2002 : (Jvm.Cond.methodLink "LinkedTongue$Parser" (368 : Nat) ({ cls := "LinkedTongue$Parser", name := "object", desc := "()LLinkedTongue$Node;" } : Jvm.MethodName)) ∈ lw_all := lw_g (lw_at lw_m8 21 rfl) rfl
theorem q2003 : (Jvm.Cond.privateMethod ({ cls := "LinkedTongue$Parser", name := "object", desc := "()LLinkedTongue$Node;" } : Jvm.MethodName)) ∈ lw_tbl := lw_at lw_m8 22 rfl
theorem q2004 : (Jvm.Cond.instanceMethod ({ cls := "LinkedTongue$Parser", name := "object", desc := "()LLinkedTongue$Node;" } : Jvm.MethodName)) ∈ lw_all := lw_g (lw_at lw_m8 23 rfl) rfl
theorem q2005 : (Jvm.Cond.code ({ cls := "LinkedTongue$Parser", name := "object", desc := "()LLinkedTongue$Node;" } : Jvm.MethodName) prog_28_method_31_code (3 : Nat) (Option.some (Jvm.ClassFile.FieldType.object "LinkedTongue$Node"))) ∈ lw_all := lw_g (lw_at lw_m8 24 rfl) rfl
theorem q2006 : (Jvm.Cond.classLink "LinkedTongue$Parser" (374 : Nat) "LinkedTongue$ObjectNode") ∈ lw_all := lw_g (lw_at lw_m8 25 rfl) rfl
theorem q2008 : (Jvm.Cond.methodLinkNest "LinkedTongue$Parser" (376 : Nat) ({ cls := "LinkedTongue$ObjectNode", name := "<init>", desc := "()V" } : Jvm.MethodName) "LinkedTongue") ∈ lw_tbl := lw_at lw_m8 27 rfl
theorem q2021 : (Jvm.Cond.methodLink "LinkedTongue$Parser" (344 : Nat) ({ cls := "LinkedTongue$Parser", name := "takeName", desc := "()I" } : Jvm.MethodName)) ∈ lw_all := lw_g (lw_at lw_m8 40 rfl) rfl
theorem q2022 : (Jvm.Cond.privateMethod ({ cls := "LinkedTongue$Parser", name := "takeName", desc := "()I" } : Jvm.MethodName)) ∈ lw_tbl := lw_at lw_m8 41 rfl
theorem q2023 : (Jvm.Cond.instanceMethod ({ cls := "LinkedTongue$Parser", name := "takeName", desc := "()I" } : Jvm.MethodName)) ∈ lw_all := lw_g (lw_at lw_m8 42 rfl) rfl
theorem q2024 : (Jvm.Cond.code ({ cls := "LinkedTongue$Parser", name := "takeName", desc := "()I" } : Jvm.MethodName) prog_28_method_7_code (2 : Nat) (Option.some Jvm.ClassFile.FieldType.int)) ∈ lw_all := lw_g (lw_at lw_m8 43 rfl) rfl
theorem q2025 : (Jvm.Cond.methodLink "LinkedTongue$Parser" (377 : Nat) ({ cls := "LinkedTongue$ObjectNode", name := "add", desc := "(ILLinkedTongue$Node;)V" } : Jvm.MethodName)) ∈ lw_all := lw_g (lw_at lw_m8 44 rfl) rfl
theorem q2032 : (Jvm.Cond.methodLink "LinkedTongue$Parser" (371 : Nat) ({ cls := "LinkedTongue$Parser", name := "word", desc := "(Z)LLinkedTongue$Node;" } : Jvm.MethodName)) ∈ lw_all := lw_g (lw_at lw_m8 51 rfl) rfl
theorem q2033 : (Jvm.Cond.privateMethod ({ cls := "LinkedTongue$Parser", name := "word", desc := "(Z)LLinkedTongue$Node;" } : Jvm.MethodName)) ∈ lw_tbl := lw_at lw_m8 52 rfl
theorem q2034 : (Jvm.Cond.instanceMethod ({ cls := "LinkedTongue$Parser", name := "word", desc := "(Z)LLinkedTongue$Node;" } : Jvm.MethodName)) ∈ lw_all := lw_g (lw_at lw_m8 53 rfl) rfl
theorem q2035 : (Jvm.Cond.code ({ cls := "LinkedTongue$Parser", name := "word", desc := "(Z)LLinkedTongue$Node;" } : Jvm.MethodName) prog_28_method_32_code (4 : Nat) (Option.some (Jvm.ClassFile.FieldType.object "LinkedTongue$Node"))) ∈ lw_all := lw_g (lw_at lw_m8 54 rfl) rfl
theorem q2036 : (Jvm.Cond.classLink "LinkedTongue$Parser" (279 : Nat) "LinkedTongue$Variable") ∈ lw_all := lw_g (lw_at lw_m8 55 rfl) rfl
theorem q2038 : (Jvm.Cond.methodLink "LinkedTongue$Parser" (378 : Nat) ({ cls := "LinkedTongue$Variable", name := "<init>", desc := "(I)V" } : Jvm.MethodName)) ∈ lw_all := lw_g (lw_at lw_m8 57 rfl) rfl
theorem q2047 : (Jvm.Cond.classLink "LinkedTongue$Parser" (380 : Nat) "LinkedTongue$This") ∈ lw_all := lw_g (lw_at lw_m8 66 rfl) rfl
theorem q2049 : (Jvm.Cond.methodLinkNest "LinkedTongue$Parser" (382 : Nat) ({ cls := "LinkedTongue$This", name := "<init>", desc := "()V" } : Jvm.MethodName) "LinkedTongue") ∈ lw_tbl := lw_at lw_m8 68 rfl
theorem q2054 : (Jvm.Cond.methodLink "LinkedTongue$Parser" (219 : Nat) ({ cls := "LinkedTongue$Parser", name := "function", desc := "()V" } : Jvm.MethodName)) ∈ lw_all := lw_g (lw_at lw_m8 73 rfl) rfl
theorem q2055 : (Jvm.Cond.privateMethod ({ cls := "LinkedTongue$Parser", name := "function", desc := "()V" } : Jvm.MethodName)) ∈ lw_tbl := lw_at lw_m8 74 rfl
theorem q2056 : (Jvm.Cond.instanceMethod ({ cls := "LinkedTongue$Parser", name := "function", desc := "()V" } : Jvm.MethodName)) ∈ lw_all := lw_g (lw_at lw_m8 75 rfl) rfl
theorem q2057 : (Jvm.Cond.code ({ cls := "LinkedTongue$Parser", name := "function", desc := "()V" } : Jvm.MethodName) prog_28_method_18_code (3 : Nat) (Option.none : Option Jvm.ClassFile.FieldType)) ∈ lw_all := lw_g (lw_at lw_m8 76 rfl) rfl
theorem q2058 : (Jvm.Cond.methodLink "LinkedTongue$Parser" (270 : Nat) ({ cls := "LinkedTongue$Words", name := "find", desc := "([BII)I" } : Jvm.MethodName)) ∈ lw_all := lw_g (lw_at lw_m8 77 rfl) rfl
theorem q2059 : (Jvm.Cond.methodLink "LinkedTongue$Parser" (240 : Nat) ({ cls := "LinkedTongue$Parser", name := "block", desc := "()LLinkedTongue$Block;" } : Jvm.MethodName)) ∈ lw_all := lw_g (lw_at lw_m8 78 rfl) rfl
theorem q2060 : (Jvm.Cond.privateMethod ({ cls := "LinkedTongue$Parser", name := "block", desc := "()LLinkedTongue$Block;" } : Jvm.MethodName)) ∈ lw_tbl := lw_at lw_m8 79 rfl
theorem q2061 : (Jvm.Cond.instanceMethod ({ cls := "LinkedTongue$Parser", name := "block", desc := "()LLinkedTongue$Block;" } : Jvm.MethodName)) ∈ lw_all := lw_g (lw_at lw_m8 80 rfl) rfl
theorem q2062 : (Jvm.Cond.code ({ cls := "LinkedTongue$Parser", name := "block", desc := "()LLinkedTongue$Block;" } : Jvm.MethodName) prog_28_method_12_code (2 : Nat) (Option.some (Jvm.ClassFile.FieldType.object "LinkedTongue$Block"))) ∈ lw_all := lw_g (lw_at lw_m8 81 rfl) rfl
theorem q2063 : (Jvm.Cond.classLink "LinkedTongue$Parser" (224 : Nat) "LinkedTongue$Function") ∈ lw_all := lw_g (lw_at lw_m8 82 rfl) rfl
theorem q2065 : (Jvm.Cond.methodLink "LinkedTongue$Parser" (226 : Nat) ({ cls := "LinkedTongue$Function", name := "<init>", desc := "(LLinkedTongue$Code;)V" } : Jvm.MethodName)) ∈ lw_all := lw_g (lw_at lw_m8 84 rfl) rfl
theorem q2073 : (Jvm.Cond.methodLink "LinkedTongue$Parser" (383 : Nat) ({ cls := "LinkedTongue$Parser", name := "maker", desc := "()LLinkedTongue$Node;" } : Jvm.MethodName)) ∈ lw_all := lw_g (lw_at lw_m8 92 rfl) rfl
theorem q2074 : (Jvm.Cond.privateMethod ({ cls := "LinkedTongue$Parser", name := "maker", desc := "()LLinkedTongue$Node;" } : Jvm.MethodName)) ∈ lw_tbl := lw_at lw_m8 93 rfl
theorem q2075 : (Jvm.Cond.instanceMethod ({ cls := "LinkedTongue$Parser", name := "maker", desc := "()LLinkedTongue$Node;" } : Jvm.MethodName)) ∈ lw_all := lw_g (lw_at lw_m8 94 rfl) rfl
theorem q2076 : (Jvm.Cond.code ({ cls := "LinkedTongue$Parser", name := "maker", desc := "()LLinkedTongue$Node;" } : Jvm.MethodName) prog_28_method_33_code (3 : Nat) (Option.some (Jvm.ClassFile.FieldType.object "LinkedTongue$Node"))) ∈ lw_all := lw_g (lw_at lw_m8 95 rfl) rfl
theorem q2077 : (Jvm.Cond.classLink "LinkedTongue$Parser" (281 : Nat) "LinkedTongue$Behind") ∈ lw_all := lw_g (lw_at lw_m8 96 rfl) rfl
theorem q2079 : (Jvm.Cond.methodLink "LinkedTongue$Parser" (333 : Nat) ({ cls := "LinkedTongue$Behind", name := "<init>", desc := "(LLinkedTongue$Node;)V" } : Jvm.MethodName)) ∈ lw_all := lw_g (lw_at lw_m8 98 rfl) rfl
theorem q2311 : (Jvm.Cond.fieldLinkNest "LinkedTongue$Parser" (386 : Nat) "LinkedTongue$Behind" "first" "LLinkedTongue$Node;" "LinkedTongue") ∈ lw_tbl := lw_at lw_m9 90 rfl
theorem q2313 : (Jvm.Cond.fieldLinkNest "LinkedTongue$Parser" (334 : Nat) "LinkedTongue$Behind" "parts" "Ljava/util/ArrayList;" "LinkedTongue") ∈ lw_tbl := lw_at lw_m9 92 rfl
theorem q2319 : (Jvm.Cond.methodLink "LinkedTongue$Parser" (337 : Nat) ({ cls := "LinkedTongue$Parser", name := "index", desc := "()LLinkedTongue$Part;" } : Jvm.MethodName)) ∈ lw_all := lw_g (lw_at lw_m9 98 rfl) rfl
theorem q2320 : (Jvm.Cond.privateMethod ({ cls := "LinkedTongue$Parser", name := "index", desc := "()LLinkedTongue$Part;" } : Jvm.MethodName)) ∈ lw_tbl := lw_at lw_m9 99 rfl
theorem q2321 : (Jvm.Cond.instanceMethod ({ cls := "LinkedTongue$Parser", name := "index", desc := "()LLinkedTongue$Part;" } : Jvm.MethodName)) ∈ lw_all := lw_g (lw_at lw_m9 100 rfl) rfl
theorem q2322 : (Jvm.Cond.code ({ cls := "LinkedTongue$Parser", name := "index", desc := "()LLinkedTongue$Part;" } : Jvm.MethodName) prog_28_method_28_code (2 : Nat) (Option.some (Jvm.ClassFile.FieldType.object "LinkedTongue$Part"))) ∈ lw_all := lw_g (lw_at lw_m9 101 rfl) rfl
theorem q2323 : (Jvm.Cond.classLink "LinkedTongue$Parser" (288 : Nat) "LinkedTongue$Part") ∈ lw_all := lw_g (lw_at lw_m9 102 rfl) rfl
theorem q2325 : (Jvm.Cond.methodLink "LinkedTongue$Parser" (326 : Nat) ({ cls := "LinkedTongue$Part", name := "<init>", desc := "(IILjava/util/ArrayList;)V" } : Jvm.MethodName)) ∈ lw_all := lw_g (lw_at lw_m9 104 rfl) rfl
theorem q2331 : (Jvm.Cond.fieldLinkNest "LinkedTongue$Parser" (287 : Nat) "LinkedTongue$Part" "kind" "I" "LinkedTongue") ∈ lw_tbl := lw_at lw_m9 110 rfl
theorem q2342 : (Jvm.Cond.methodLink "LinkedTongue$Parser" (340 : Nat) ({ cls := "LinkedTongue$Parser", name := "call", desc := "()Ljava/util/ArrayList;" } : Jvm.MethodName)) ∈ lw_all := lw_g (lw_at lw_m9 121 rfl) rfl
theorem q2343 : (Jvm.Cond.privateMethod ({ cls := "LinkedTongue$Parser", name := "call", desc := "()Ljava/util/ArrayList;" } : Jvm.MethodName)) ∈ lw_tbl := lw_at lw_m9 122 rfl
theorem q2344 : (Jvm.Cond.instanceMethod ({ cls := "LinkedTongue$Parser", name := "call", desc := "()Ljava/util/ArrayList;" } : Jvm.MethodName)) ∈ lw_all := lw_g (lw_at lw_m9 123 rfl) rfl
theorem q2345 : (Jvm.Cond.code ({ cls := "LinkedTongue$Parser", name := "call", desc := "()Ljava/util/ArrayList;" } : Jvm.MethodName) prog_28_method_27_code (2 : Nat) (Option.some (Jvm.ClassFile.FieldType.object "java/util/ArrayList"))) ∈ lw_all := lw_g (lw_at lw_m9 124 rfl) rfl
theorem q2346 : (Jvm.Cond.classLink "LinkedTongue$Parser" (312 : Nat) "LinkedTongue$Unary") ∈ lw_all := lw_g (lw_at lw_m9 125 rfl) rfl
theorem q2348 : (Jvm.Cond.methodLink "LinkedTongue$Parser" (314 : Nat) ({ cls := "LinkedTongue$Unary", name := "<init>", desc := "(ILLinkedTongue$Node;)V" } : Jvm.MethodName)) ∈ lw_all := lw_g (lw_at lw_m9 127 rfl) rfl
theorem q2359 : (Jvm.Cond.methodLink "LinkedTongue$Parser" (298 : Nat) ({ cls := "LinkedTongue$Parser", name := "operator", desc := "(I)I" } : Jvm.MethodName)) ∈ lw_all := lw_g (lw_at lw_m9 138 rfl) rfl
theorem q2360 : (Jvm.Cond.privateMethod ({ cls := "LinkedTongue$Parser", name := "operator", desc := "(I)I" } : Jvm.MethodName)) ∈ lw_tbl := lw_at lw_m9 139 rfl
theorem q2361 : (Jvm.Cond.instanceMethod ({ cls := "LinkedTongue$Parser", name := "operator", desc := "(I)I" } : Jvm.MethodName)) ∈ lw_all := lw_g (lw_at lw_m9 140 rfl) rfl
theorem q2362 : (Jvm.Cond.code ({ cls := "LinkedTongue$Parser", name := "operator", desc := "(I)I" } : Jvm.MethodName) prog_28_method_20_code (2 : Nat) (Option.some Jvm.ClassFile.FieldType.int)) ∈ lw_all := lw_g (lw_at lw_m9 141 rfl) rfl
theorem q2363 : (Jvm.Cond.classLink "LinkedTongue$Parser" (301 : Nat) "LinkedTongue$Chain") ∈ lw_all := lw_g (lw_at lw_m9 142 rfl) rfl
theorem q2365 : (Jvm.Cond.methodLink "LinkedTongue$Parser" (303 : Nat) ({ cls := "LinkedTongue$Chain", name := "<init>", desc := "(LLinkedTongue$Node;)V" } : Jvm.MethodName)) ∈ lw_all := lw_g (lw_at lw_m9 144 rfl) rfl
theorem q2381 : (Jvm.Cond.methodLink "LinkedTongue$Parser" (306 : Nat) ({ cls := "LinkedTongue$Chain", name := "add", desc := "(ILLinkedTongue$Node;)V" } : Jvm.MethodName)) ∈ lw_all := lw_g (lw_at lw_m9 160 rfl) rfl
theorem q2388 : (Jvm.Cond.methodLink "LinkedTongue$Parser" (283 : Nat) ({ cls := "LinkedTongue$Behind", name := "last", desc := "()LLinkedTongue$Part;" } : Jvm.MethodName)) ∈ lw_all := lw_g (lw_at lw_m9 167 rfl) rfl
theorem q2395 : (Jvm.Cond.classLink "LinkedTongue$Parser" (290 : Nat) "LinkedTongue$Assign") ∈ lw_all := lw_g (lw_at lw_m9 174 rfl) rfl
theorem q2397 : (Jvm.Cond.methodLink "LinkedTongue$Parser" (292 : Nat) ({ cls := "LinkedTongue$Assign", name := "<init>", desc := "(LLinkedTongue$Node;LLinkedTongue$Node;)V" } : Jvm.MethodName)) ∈ lw_all := lw_g (lw_at lw_m9 176 rfl) rfl
theorem q2408 : (Jvm.Cond.classLink "LinkedTongue$Parser" (222 : Nat) "LinkedTongue$Simple") ∈ lw_all := lw_g (lw_at lw_m9 187 rfl) rfl
theorem q2410 : (Jvm.Cond.methodLink "LinkedTongue$Parser" (229 : Nat) ({ cls := "LinkedTongue$Simple", name := "<init>", desc := "(LLinkedTongue$Node;II)V" } : Jvm.MethodName)) ∈ lw_all := lw_g (lw_at lw_m9 189 rfl) rfl
theorem q2424 : (Jvm.Cond.methodLink "LinkedTongue$Parser" (232 : Nat) ({ cls := "LinkedTongue$Parser", name := "choice", desc := "()LLinkedTongue$Node;" } : Jvm.MethodName)) ∈ lw_all := lw_g (lw_at lw_m9 203 rfl) rfl
theorem q2425 : (Jvm.Cond.privateMethod ({ cls := "LinkedTongue$Parser", name := "choice", desc := "()LLinkedTongue$Node;" } : Jvm.MethodName)) ∈ lw_tbl := lw_at lw_m9 204 rfl
theorem q2426 : (Jvm.Cond.instanceMethod ({ cls := "LinkedTongue$Parser", name := "choice", desc := "()LLinkedTongue$Node;" } : Jvm.MethodName)) ∈ lw_all := lw_g (lw_at lw_m9 205 rfl) rfl
theorem q2427 : (Jvm.Cond.code ({ cls := "LinkedTongue$Parser", name := "choice", desc := "()LLinkedTongue$Node;" } : Jvm.MethodName) prog_28_method_16_code (3 : Nat) (Option.some (Jvm.ClassFile.FieldType.object "LinkedTongue$Node"))) ∈ lw_all := lw_g (lw_at lw_m9 206 rfl) rfl
theorem q2428 : (Jvm.Cond.classLink "LinkedTongue$Parser" (256 : Nat) "LinkedTongue$If") ∈ lw_all := lw_g (lw_at lw_m9 207 rfl) rfl
theorem q2430 : (Jvm.Cond.methodLinkNest "LinkedTongue$Parser" (258 : Nat) ({ cls := "LinkedTongue$If", name := "<init>", desc := "()V" } : Jvm.MethodName) "LinkedTongue") ∈ lw_tbl := lw_at lw_m9 209 rfl
theorem q2437 : (Jvm.Cond.fieldLinkNest "LinkedTongue$Parser" (259 : Nat) "LinkedTongue$If" "conditions" "Ljava/util/ArrayList;" "LinkedTongue") ∈ lw_tbl := lw_at lw_m9 216 rfl
theorem q2439 : (Jvm.Cond.fieldLinkNest "LinkedTongue$Parser" (262 : Nat) "LinkedTongue$If" "blocks" "Ljava/util/ArrayList;" "LinkedTongue") ∈ lw_tbl := lw_at lw_m9 218 rfl
theorem q2445 : (Jvm.Cond.classLink "LinkedTongue$Parser" (235 : Nat) "LinkedTongue$While") ∈ lw_all := lw_g (lw_at lw_m9 224 rfl) rfl
theorem q2447 : (Jvm.Cond.methodLink "LinkedTongue$Parser" (244 : Nat) ({ cls := "LinkedTongue$While", name := "<init>", desc := "(LLinkedTongue$Node;LLinkedTongue$Block;)V" } : Jvm.MethodName)) ∈ lw_all := lw_g (lw_at lw_m9 226 rfl) rfl
theorem q2458 : (Jvm.Cond.methodLink "LinkedTongue$Parser" (247 : Nat) ({ cls := "LinkedTongue$Parser", name := "trial", desc := "()LLinkedTongue$Node;" } : Jvm.MethodName)) ∈ lw_all := lw_g (lw_at lw_m9 237 rfl) rfl
theorem q2459 : (Jvm.Cond.privateMethod ({ cls := "LinkedTongue$Parser", name := "trial", desc := "()LLinkedTongue$Node;" } : Jvm.MethodName)) ∈ lw_tbl := lw_at lw_m9 238 rfl
theorem q2460 : (Jvm.Cond.instanceMethod ({ cls := "LinkedTongue$Parser", name := "trial", desc := "()LLinkedTongue$Node;" } : Jvm.MethodName)) ∈ lw_all := lw_g (lw_at lw_m9 239 rfl) rfl
theorem q2461 : (Jvm.Cond.code ({ cls := "LinkedTongue$Parser", name := "trial", desc := "()LLinkedTongue$Node;" } : Jvm.MethodName) prog_28_method_17_code (3 : Nat) (Option.some (Jvm.ClassFile.FieldType.object "LinkedTongue$Node"))) ∈ lw_all := lw_g (lw_at lw_m10 0 rfl) rfl
theorem q2462 : (Jvm.Cond.classLink "LinkedTongue$Parser" (265 : Nat) "LinkedTongue$Try") ∈ lw_all := lw_g (lw_at lw_m10 1 rfl) rfl
theorem q2464 : (Jvm.Cond.methodLink "LinkedTongue$Parser" (267 : Nat) ({ cls := "LinkedTongue$Try", name := "<init>", desc := "(LLinkedTongue$Block;ILLinkedTongue$Block;)V" } : Jvm.MethodName)) ∈ lw_all := lw_g (lw_at lw_m10 3 rfl) rfl
theorem q5532 : (Jvm.Cond.castable "LinkedTongue$Parser" "java/lang/Object") ∈ lw_tbl := lw_at lw_m22 191 rfl
theorem q338 : (Jvm.Cond.initialized "LinkedTongue$Scope") ∈ lw_all := lw_g (lw_at lw_m1 37 rfl) rfl
theorem q1090 : (Jvm.Cond.selects "LinkedTongue$Scope" ({ cls := "java/lang/Object", name := "getClass", desc := "()Ljava/lang/Class;" } : Jvm.MethodName) ({ cls := "java/lang/Object", name := "getClass", desc := "()Ljava/lang/Class;" } : Jvm.MethodName)) ∈ lw_all := lw_g (lw_at lw_m4 69 rfl) rfl
theorem q1787 : (Jvm.Cond.instantiable "LinkedTongue$Scope" (6 : Nat)) ∈ lw_all := lw_g (lw_at lw_m7 46 rfl) rfl
theorem q1836 : (Jvm.Cond.instanceMethod ({ cls := "LinkedTongue$Scope", name := "<init>", desc := "(LLinkedTongue$Scope;LLinkedTongue$Code;Z)V" } : Jvm.MethodName)) ∈ lw_all := lw_g (lw_at lw_m7 95 rfl) rfl
theorem q1837 : (Jvm.Cond.code ({ cls := "LinkedTongue$Scope", name := "<init>", desc := "(LLinkedTongue$Scope;LLinkedTongue$Code;Z)V" } : Jvm.MethodName) prog_32_method_1_code (4 : Nat) (Option.none : Option Jvm.ClassFile.FieldType)) ∈ lw_all := lw_g (lw_at lw_m7 96 rfl) rfl
theorem q1838 : (Jvm.Cond.methodLink "LinkedTongue$Scope" (3 : Nat) ({ cls := "java/lang/Object", name := "<init>", desc := "()V" } : Jvm.MethodName)) ∈ lw_all := lw_g (lw_at lw_m7 97 rfl) rfl
theorem q1839 : (Jvm.Cond.classLink "LinkedTongue$Scope" (15 : Nat) "java/util/ArrayList") ∈ lw_all := lw_g (lw_at lw_m7 98 rfl) rfl
theorem q1840 : (Jvm.Cond.methodLink "LinkedTongue$Scope" (17 : Nat) ({ cls := "java/util/ArrayList", name := "<init>", desc := "()V" } : Jvm.MethodName)) ∈ lw_all := lw_g (lw_at lw_m7 99 rfl) rfl
theorem q1841 : (Jvm.Cond.fieldLink "LinkedTongue$Scope" (22 : Nat) "LinkedTongue$Scope" "outer" "LLinkedTongue$Scope;") ∈ lw_all := lw_g (lw_at lw_m7 100 rfl) rfl
theorem q1844 : (Jvm.Cond.fieldLink "LinkedTongue$Scope" (26 : Nat) "LinkedTongue$Scope" "code" "LLinkedTongue$Code;") ∈ lw_all := lw_g (lw_at lw_m7 103 rfl) rfl
theorem q1848 : (Jvm.Cond.fieldLink "LinkedTongue$Scope" (30 : Nat) "LinkedTongue$Scope" "isUnit" "Z") ∈ lw_all := lw_g (lw_at lw_m7 107 rfl) rfl
theorem q1851 : (Jvm.Cond.fieldLink "LinkedTongue$Scope" (11 : Nat) "LinkedTongue$Scope" "names" "[I") ∈ lw_all := lw_g (lw_at lw_m7 110 rfl) rfl
theorem q1853 : (Jvm.Cond.fieldLink "LinkedTongue$Scope" (34 : Nat) "LinkedTongue$Scope" "size" "I") ∈ lw_all := lw_g (lw_at lw_m7 112 rfl) rfl
theorem q1856 : (Jvm.Cond.fieldLink "LinkedTongue$Scope" (18 : Nat) "LinkedTongue$Scope" "body" "Ljava/util/ArrayList;") ∈ lw_all := lw_g (lw_at lw_m7 115 rfl) rfl
theorem q1859 : (Jvm.Cond.laysFinal "LinkedTongue$Scope" "LinkedTongue$Scope" "outer" "LLinkedTongue$Scope;") ∈ lw_all := lw_g (lw_at lw_m7 118 rfl) rfl
theorem q1860 : (Jvm.Cond.soleField "LinkedTongue$Scope" "outer") ∈ lw_all := lw_g (lw_at lw_m7 119 rfl) rfl
theorem q1861 : (Jvm.Cond.laysFinal "LinkedTongue$Scope" "LinkedTongue$Scope" "code" "LLinkedTongue$Code;") ∈ lw_all := lw_g (lw_at lw_m7 120 rfl) rfl
theorem q1862 : (Jvm.Cond.soleField "LinkedTongue$Scope" "code") ∈ lw_all := lw_g (lw_at lw_m7 121 rfl) rfl
theorem q1863 : (Jvm.Cond.laysFinal "LinkedTongue$Scope" "LinkedTongue$Scope" "isUnit" "Z") ∈ lw_all := lw_g (lw_at lw_m7 122 rfl) rfl
theorem q1864 : (Jvm.Cond.soleField "LinkedTongue$Scope" "isUnit") ∈ lw_all := lw_g (lw_at lw_m7 123 rfl) rfl
theorem q1865 : (Jvm.Cond.laysFinal "LinkedTongue$Scope" "LinkedTongue$Scope" "names" "[I") ∈ lw_all := lw_g (lw_at lw_m7 124 rfl) rfl
theorem q1866 : (Jvm.Cond.soleField "LinkedTongue$Scope" "names") ∈ lw_all := lw_g (lw_at lw_m7 125 rfl) rfl
theorem q1867 : (Jvm.Cond.lays "LinkedTongue$Scope" "LinkedTongue$Scope" "size" "I") ∈ lw_all := lw_g (lw_at lw_m7 126 rfl) rfl
theorem q1868 : (Jvm.Cond.soleField "LinkedTongue$Scope" "size") ∈ lw_all := lw_g (lw_at lw_m7 127 rfl) rfl
theorem q1869 : (Jvm.Cond.laysFinal "LinkedTongue$Scope" "LinkedTongue$Scope" "body" "Ljava/util/ArrayList;") ∈ lw_all := lw_g (lw_at lw_m7 128 rfl) rfl
theorem q1870 : (Jvm.Cond.soleField "LinkedTongue$Scope" "body") ∈ lw_all := lw_g (lw_at lw_m7 129 rfl) rfl
theorem q1871 : (Jvm.Cond.superclass "LinkedTongue$Scope" "java/lang/Object") ∈ lw_all := lw_g (lw_at lw_m7 130 rfl) rfl
theorem q1900 : (Jvm.Cond.instanceMethod ({ cls := "LinkedTongue$Scope", name := "find", desc := "(I)I" } : Jvm.MethodName)) ∈ lw_all := lw_g (lw_at lw_m7 159 rfl) rfl
theorem q1901 : (Jvm.Cond.selects "LinkedTongue$Scope" ({ cls := "LinkedTongue$Scope", name := "find", desc := "(I)I" } : Jvm.MethodName) ({ cls := "LinkedTongue$Scope", name := "find", desc := "(I)I" } : Jvm.MethodName)) ∈ lw_all := lw_g (lw_at lw_m7 160 rfl) rfl
theorem q1902 : (Jvm.Cond.code ({ cls := "LinkedTongue$Scope", name := "find", desc := "(I)I" } : Jvm.MethodName) prog_32_method_2_code (3 : Nat) (Option.some Jvm.ClassFile.FieldType.int)) ∈ lw_all := lw_g (lw_at lw_m7 161 rfl) rfl
theorem q5479 : (Jvm.Cond.castable "LinkedTongue$Scope" "LinkedTongue$Scope") ∈ lw_tbl := lw_at lw_m22 138 rfl
theorem q5533 : (Jvm.Cond.castable "LinkedTongue$Scope" "java/lang/Object") ∈ lw_tbl := lw_at lw_m22 192 rfl
theorem q339 : (Jvm.Cond.initialized "LinkedTongue$Code") ∈ lw_all := lw_g (lw_at lw_m1 38 rfl) rfl
theorem q1066 : (Jvm.Cond.selects "LinkedTongue$Code" ({ cls := "java/lang/Object", name := "getClass", desc := "()Ljava/lang/Class;" } : Jvm.MethodName) ({ cls := "java/lang/Object", name := "getClass", desc := "()Ljava/lang/Class;" } : Jvm.MethodName)) ∈ lw_all := lw_g (lw_at lw_m4 45 rfl) rfl
theorem q1789 : (Jvm.Cond.instantiable "LinkedTongue$Code" (8 : Nat)) ∈ lw_all := lw_g (lw_at lw_m7 48 rfl) rfl
theorem q1791 : (Jvm.Cond.instanceMethod ({ cls := "LinkedTongue$Code", name := "<init>", desc := "(II)V" } : Jvm.MethodName)) ∈ lw_all := lw_g (lw_at lw_m7 50 rfl) rfl
theorem q1792 : (Jvm.Cond.code ({ cls := "LinkedTongue$Code", name := "<init>", desc := "(II)V" } : Jvm.MethodName) prog_7_method_1_code (3 : Nat) (Option.none : Option Jvm.ClassFile.FieldType)) ∈ lw_all := lw_g (lw_at lw_m7 51 rfl) rfl
theorem q1793 : (Jvm.Cond.methodLink "LinkedTongue$Code" (3 : Nat) ({ cls := "java/lang/Object", name := "<init>", desc := "()V" } : Jvm.MethodName)) ∈ lw_all := lw_g (lw_at lw_m7 52 rfl) rfl
theorem q1794 : (Jvm.Cond.fieldLink "LinkedTongue$Code" (15 : Nat) "LinkedTongue$Code" "number" "I") ∈ lw_all := lw_g (lw_at lw_m7 53 rfl) rfl
theorem q1800 : (Jvm.Cond.fieldLink "LinkedTongue$Code" (19 : Nat) "LinkedTongue$Code" "unit" "I") ∈ lw_all := lw_g (lw_at lw_m7 59 rfl) rfl
theorem q1801 : (Jvm.Cond.fieldLink "LinkedTongue$Code" (31 : Nat) "LinkedTongue$Code" "parameters" "I") ∈ lw_all := lw_g (lw_at lw_m7 60 rfl) rfl
theorem q1805 : (Jvm.Cond.fieldLink "LinkedTongue$Code" (34 : Nat) "LinkedTongue$Code" "variables" "I") ∈ lw_all := lw_g (lw_at lw_m7 64 rfl) rfl
theorem q1807 : (Jvm.Cond.fieldLink "LinkedTongue$Code" (22 : Nat) "LinkedTongue$Code" "size" "I") ∈ lw_all := lw_g (lw_at lw_m7 66 rfl) rfl
theorem q1811 : (Jvm.Cond.fieldLink "LinkedTongue$Code" (37 : Nat) "LinkedTongue$Code" "firstSite" "I") ∈ lw_all := lw_g (lw_at lw_m7 70 rfl) rfl
theorem q1813 : (Jvm.Cond.fieldLink "LinkedTongue$Code" (40 : Nat) "LinkedTongue$Code" "sites" "I") ∈ lw_all := lw_g (lw_at lw_m7 72 rfl) rfl
theorem q1814 : (Jvm.Cond.fieldLink "LinkedTongue$Code" (9 : Nat) "LinkedTongue$Code" "rows" "[I") ∈ lw_all := lw_g (lw_at lw_m7 73 rfl) rfl
theorem q1818 : (Jvm.Cond.laysFinal "LinkedTongue$Code" "LinkedTongue$Code" "number" "I") ∈ lw_all := lw_g (lw_at lw_m7 77 rfl) rfl
theorem q1819 : (Jvm.Cond.soleField "LinkedTongue$Code" "number") ∈ lw_all := lw_g (lw_at lw_m7 78 rfl) rfl
theorem q1820 : (Jvm.Cond.laysFinal "LinkedTongue$Code" "LinkedTongue$Code" "unit" "I") ∈ lw_all := lw_g (lw_at lw_m7 79 rfl) rfl
theorem q1821 : (Jvm.Cond.soleField "LinkedTongue$Code" "unit") ∈ lw_all := lw_g (lw_at lw_m7 80 rfl) rfl
theorem q1822 : (Jvm.Cond.lays "LinkedTongue$Code" "LinkedTongue$Code" "parameters" "I") ∈ lw_all := lw_g (lw_at lw_m7 81 rfl) rfl
theorem q1823 : (Jvm.Cond.soleField "LinkedTongue$Code" "parameters") ∈ lw_all := lw_g (lw_at lw_m7 82 rfl) rfl
theorem q1824 : (Jvm.Cond.lays "LinkedTongue$Code" "LinkedTongue$Code" "variables" "I") ∈ lw_all := lw_g (lw_at lw_m7 83 rfl) rfl
theorem q1825 : (Jvm.Cond.soleField "LinkedTongue$Code" "variables") ∈ lw_all := lw_g (lw_at lw_m7 84 rfl) rfl
theorem q1826 : (Jvm.Cond.lays "LinkedTongue$Code" "LinkedTongue$Code" "size" "I") ∈ lw_all := lw_g (lw_at lw_m7 85 rfl) rfl
theorem q1827 : (Jvm.Cond.soleField "LinkedTongue$Code" "size") ∈ lw_all := lw_g (lw_at lw_m7 86 rfl) rfl
theorem q1828 : (Jvm.Cond.lays "LinkedTongue$Code" "LinkedTongue$Code" "firstSite" "I") ∈ lw_all := lw_g (lw_at lw_m7 87 rfl) rfl
theorem q1829 : (Jvm.Cond.soleField "LinkedTongue$Code" "firstSite") ∈ lw_all := lw_g (lw_at lw_m7 88 rfl) rfl
theorem q1830 : (Jvm.Cond.lays "LinkedTongue$Code" "LinkedTongue$Code" "sites" "I") ∈ lw_all := lw_g (lw_at lw_m7 89 rfl) rfl
theorem q1831 : (Jvm.Cond.soleField "LinkedTongue$Code" "sites") ∈ lw_all := lw_g (lw_at lw_m7 90 rfl) rfl
theorem q1832 : (Jvm.Cond.lays "LinkedTongue$Code" "LinkedTongue$Code" "rows" "[I") ∈ lw_all := lw_g (lw_at lw_m7 91 rfl) rfl
theorem q1833 : (Jvm.Cond.soleField "LinkedTongue$Code" "rows") ∈ lw_all := lw_g (lw_at lw_m7 92 rfl) rfl
theorem q1834 : (Jvm.Cond.superclass "LinkedTongue$Code" "java/lang/Object") ∈ lw_all := lw_g (lw_at lw_m7 93 rfl) rfl
theorem q2541 : (Jvm.Cond.instanceMethod ({ cls := "LinkedTongue$Code", name := "add", desc := "(III)V" } : Jvm.MethodName)) ∈ lw_all := lw_g (lw_at lw_m10 80 rfl) rfl
theorem q2542 : (Jvm.Cond.selects "LinkedTongue$Code" ({ cls := "LinkedTongue$Code", name := "add", desc := "(III)V" } : Jvm.MethodName) ({ cls := "LinkedTongue$Code", name := "add", desc := "(III)V" } : Jvm.MethodName)) ∈ lw_all := lw_g (lw_at lw_m10 81 rfl) rfl
theorem q2543 : (Jvm.Cond.code ({ cls := "LinkedTongue$Code", name := "add", desc := "(III)V" } : Jvm.MethodName) prog_7_method_2_code (4 : Nat) (Option.none : Option Jvm.ClassFile.FieldType)) ∈ lw_all := lw_g (lw_at lw_m10 82 rfl) rfl
theorem q2544 : (Jvm.Cond.methodLink "LinkedTongue$Code" (25 : Nat) ({ cls := "java/util/Arrays", name := "copyOf", desc := "([II)[I" } : Jvm.MethodName)) ∈ lw_all := lw_g (lw_at lw_m10 83 rfl) rfl
theorem q2750 : (Jvm.Cond.instanceMethod ({ cls := "LinkedTongue$Code", name := "tell", desc := "(I)I" } : Jvm.MethodName)) ∈ lw_all := lw_g (lw_at lw_m11 49 rfl) rfl
theorem q2751 : (Jvm.Cond.selects "LinkedTongue$Code" ({ cls := "LinkedTongue$Code", name := "tell", desc := "(I)I" } : Jvm.MethodName) ({ cls := "LinkedTongue$Code", name := "tell", desc := "(I)I" } : Jvm.MethodName)) ∈ lw_all := lw_g (lw_at lw_m11 50 rfl) rfl
theorem q2752 : (Jvm.Cond.code ({ cls := "LinkedTongue$Code", name := "tell", desc := "(I)I" } : Jvm.MethodName) prog_7_method_3_code (2 : Nat) (Option.some Jvm.ClassFile.FieldType.int)) ∈ lw_all := lw_g (lw_at lw_m11 51 rfl) rfl
theorem q5497 : (Jvm.Cond.castable "LinkedTongue$Code" "LinkedTongue$Code") ∈ lw_tbl := lw_at lw_m22 156 rfl
theorem q5534 : (Jvm.Cond.castable "LinkedTongue$Code" "java/lang/Object") ∈ lw_tbl := lw_at lw_m22 193 rfl
theorem q340 : (Jvm.Cond.initialized "LinkedTongue$Node") ∈ lw_all := lw_g (lw_at lw_m1 39 rfl) rfl
theorem q1909 : (Jvm.Cond.instanceMethod ({ cls := "LinkedTongue$Node", name := "<init>", desc := "()V" } : Jvm.MethodName)) ∈ lw_all := lw_g (lw_at lw_m7 168 rfl) rfl
theorem q1910 : (Jvm.Cond.code ({ cls := "LinkedTongue$Node", name := "<init>", desc := "()V" } : Jvm.MethodName) prog_24_method_1_code (1 : Nat) (Option.none : Option Jvm.ClassFile.FieldType)) ∈ lw_all := lw_g (lw_at lw_m7 169 rfl) rfl
theorem q1911 : (Jvm.Cond.methodLink "LinkedTongue$Node" (1 : Nat) ({ cls := "java/lang/Object", name := "<init>", desc := "()V" } : Jvm.MethodName)) ∈ lw_all := lw_g (lw_at lw_m7 170 rfl) rfl
theorem q2511 : (Jvm.Cond.declares ({ cls := "LinkedTongue$Node", name := "emit", desc := "(LLinkedTongue$Emitter;)V" } : Jvm.MethodName)) ∈ lw_tbl := lw_at lw_m10 50 rfl
theorem q2512 : (Jvm.Cond.sameMethod "LinkedTongue$Node" "LinkedTongue$Node" "emit" "(LLinkedTongue$Emitter;)V") ∈ lw_all := lw_g (lw_at lw_m10 51 rfl) rfl
theorem q341 : (Jvm.Cond.initialized "LinkedTongue$Block") ∈ lw_all := lw_g (lw_at lw_m1 40 rfl) rfl
theorem q1063 : (Jvm.Cond.selects "LinkedTongue$Block" ({ cls := "java/lang/Object", name := "getClass", desc := "()Ljava/lang/Class;" } : Jvm.MethodName) ({ cls := "java/lang/Object", name := "getClass", desc := "()Ljava/lang/Class;" } : Jvm.MethodName)) ∈ lw_all := lw_g (lw_at lw_m4 42 rfl) rfl
theorem q1904 : (Jvm.Cond.instantiable "LinkedTongue$Block" (1 : Nat)) ∈ lw_all := lw_g (lw_at lw_m7 163 rfl) rfl
theorem q1906 : (Jvm.Cond.instanceMethod ({ cls := "LinkedTongue$Block", name := "<init>", desc := "()V" } : Jvm.MethodName)) ∈ lw_all := lw_g (lw_at lw_m7 165 rfl) rfl
theorem q1907 : (Jvm.Cond.code ({ cls := "LinkedTongue$Block", name := "<init>", desc := "()V" } : Jvm.MethodName) prog_4_method_1_code (1 : Nat) (Option.none : Option Jvm.ClassFile.FieldType)) ∈ lw_all := lw_g (lw_at lw_m7 166 rfl) rfl
theorem q1908 : (Jvm.Cond.methodLinkNest "LinkedTongue$Block" (1 : Nat) ({ cls := "LinkedTongue$Node", name := "<init>", desc := "()V" } : Jvm.MethodName) "LinkedTongue") ∈ lw_tbl := lw_at lw_m7 167 rfl
theorem q1912 : (Jvm.Cond.classLink "LinkedTongue$Block" (7 : Nat) "java/util/ArrayList") ∈ lw_all := lw_g (lw_at lw_m7 171 rfl) rfl
theorem q1913 : (Jvm.Cond.methodLink "LinkedTongue$Block" (9 : Nat) ({ cls := "java/util/ArrayList", name := "<init>", desc := "()V" } : Jvm.MethodName)) ∈ lw_all := lw_g (lw_at lw_m7 172 rfl) rfl
theorem q1914 : (Jvm.Cond.fieldLink "LinkedTongue$Block" (10 : Nat) "LinkedTongue$Block" "statements" "Ljava/util/ArrayList;") ∈ lw_all := lw_g (lw_at lw_m7 173 rfl) rfl
theorem q1916 : (Jvm.Cond.laysFinal "LinkedTongue$Block" "LinkedTongue$Block" "statements" "Ljava/util/ArrayList;") ∈ lw_all := lw_g (lw_at lw_m7 175 rfl) rfl
theorem q1917 : (Jvm.Cond.soleField "LinkedTongue$Block" "statements") ∈ lw_all := lw_g (lw_at lw_m7 176 rfl) rfl
theorem q1918 : (Jvm.Cond.superclass "LinkedTongue$Block" "LinkedTongue$Node") ∈ lw_all := lw_g (lw_at lw_m7 177 rfl) rfl
theorem q2525 : (Jvm.Cond.instanceMethod ({ cls := "LinkedTongue$Block", name := "emit", desc := "(LLinkedTongue$Emitter;)V" } : Jvm.MethodName)) ∈ lw_all := lw_g (lw_at lw_m10 64 rfl) rfl
theorem q2526 : (Jvm.Cond.code ({ cls := "LinkedTongue$Block", name := "emit", desc := "(LLinkedTongue$Emitter;)V" } : Jvm.MethodName) prog_4_method_2_code (3 : Nat) (Option.none : Option Jvm.ClassFile.FieldType)) ∈ lw_all := lw_g (lw_at lw_m10 65 rfl) rfl
theorem q2527 : (Jvm.Cond.methodLink "LinkedTongue$Block" (16 : Nat) ({ cls := "java/util/ArrayList", name := "size", desc := "()I" } : Jvm.MethodName)) ∈ lw_all := lw_g (lw_at lw_m10 66 rfl) rfl
theorem q2528 : (Jvm.Cond.methodLink "LinkedTongue$Block" (20 : Nat) ({ cls := "java/util/ArrayList", name := "get", desc := "(I)Ljava/lang/Object;" } : Jvm.MethodName)) ∈ lw_all := lw_g (lw_at lw_m10 67 rfl) rfl
theorem q2529 : (Jvm.Cond.classLink "LinkedTongue$Block" (2 : Nat) "LinkedTongue$Node") ∈ lw_all := lw_g (lw_at lw_m10 68 rfl) rfl
theorem q2530 : (Jvm.Cond.methodLink "LinkedTongue$Block" (24 : Nat) ({ cls := "LinkedTongue$Node", name := "emit", desc := "(LLinkedTongue$Emitter;)V" } : Jvm.MethodName)) ∈ lw_all := lw_g (lw_at lw_m10 69 rfl) rfl
theorem q2710 : (Jvm.Cond.selects "LinkedTongue$Block" ({ cls := "LinkedTongue$Node", name := "emit", desc := "(LLinkedTongue$Emitter;)V" } : Jvm.MethodName) ({ cls := "LinkedTongue$Block", name := "emit", desc := "(LLinkedTongue$Emitter;)V" } : Jvm.MethodName)) ∈ lw_all := lw_g (lw_at lw_m11 9 rfl) rfl
theorem q5463 : (Jvm.Cond.selects "LinkedTongue$Block" ({ cls := "LinkedTongue$Block", name := "emit", desc := "(LLinkedTongue$Emitter;)V" } : Jvm.MethodName) ({ cls := "LinkedTongue$Block", name := "emit", desc := "(LLinkedTongue$Emitter;)V" } : Jvm.MethodName)) ∈ lw_all := lw_g (lw_at lw_m22 122 rfl) rfl
theorem q5482 : (Jvm.Cond.castable "LinkedTongue$Block" "LinkedTongue$Node") ∈ lw_tbl := lw_at lw_m22 141 rfl
theorem q5496 : (Jvm.Cond.castable "LinkedTongue$Block" "LinkedTongue$Block") ∈ lw_tbl := lw_at lw_m22 155 rfl
theorem q5535 : (Jvm.Cond.castable "LinkedTongue$Block" "java/lang/Object") ∈ lw_tbl := lw_at lw_m22 194 rfl
theorem q342 : (Jvm.Cond.initialized "LinkedTongue$Constant") ∈ lw_all := lw_g (lw_at lw_m1 41 rfl) rfl
theorem q1067 : (Jvm.Cond.selects "LinkedTongue$Constant" ({ cls := "java/lang/Object", name := "getClass", desc := "()Ljava/lang/Class;" } : Jvm.MethodName) ({ cls := "java/lang/Object", name := "getClass", desc := "()Ljava/lang/Class;" } : Jvm.MethodName)) ∈ lw_all := lw_g (lw_at lw_m4 46 rfl) rfl
theorem q1941 : (Jvm.Cond.instantiable "LinkedTongue$Constant" (2 : Nat)) ∈ lw_all := lw_g (lw_at lw_m7 200 rfl) rfl
theorem q1943 : (Jvm.Cond.instanceMethod ({ cls := "LinkedTongue$Constant", name := "<init>", desc := "(II)V" } : Jvm.MethodName)) ∈ lw_all := lw_g (lw_at lw_m7 202 rfl) rfl
theorem q1944 : (Jvm.Cond.code ({ cls := "LinkedTongue$Constant", name := "<init>", desc := "(II)V" } : Jvm.MethodName) prog_8_method_1_code (3 : Nat) (Option.none : Option Jvm.ClassFile.FieldType)) ∈ lw_all := lw_g (lw_at lw_m7 203 rfl) rfl
theorem q1945 : (Jvm.Cond.methodLinkNest "LinkedTongue$Constant" (3 : Nat) ({ cls := "LinkedTongue$Node", name := "<init>", desc := "()V" } : Jvm.MethodName) "LinkedTongue") ∈ lw_tbl := lw_at lw_m7 204 rfl
theorem q1946 : (Jvm.Cond.fieldLink "LinkedTongue$Constant" (9 : Nat) "LinkedTongue$Constant" "kind" "I") ∈ lw_all := lw_g (lw_at lw_m7 205 rfl) rfl
theorem q1947 : (Jvm.Cond.fieldLink "LinkedTongue$Constant" (15 : Nat) "LinkedTongue$Constant" "value" "I") ∈ lw_all := lw_g (lw_at lw_m7 206 rfl) rfl
theorem q1948 : (Jvm.Cond.laysFinal "LinkedTongue$Constant" "LinkedTongue$Constant" "kind" "I") ∈ lw_all := lw_g (lw_at lw_m7 207 rfl) rfl
theorem q1949 : (Jvm.Cond.soleField "LinkedTongue$Constant" "kind") ∈ lw_all := lw_g (lw_at lw_m7 208 rfl) rfl
theorem q1950 : (Jvm.Cond.laysFinal "LinkedTongue$Constant" "LinkedTongue$Constant" "value" "I") ∈ lw_all := lw_g (lw_at lw_m7 209 rfl) rfl
theorem q1951 : (Jvm.Cond.soleField "LinkedTongue$Constant" "value") ∈ lw_all := lw_g (lw_at lw_m7 210 rfl) rfl
theorem q1952 : (Jvm.Cond.superclass "LinkedTongue$Constant" "LinkedTongue$Node") ∈ lw_all := lw_g (lw_at lw_m7 211 rfl) rfl
theorem q2534 : (Jvm.Cond.instanceMethod ({ cls := "LinkedTongue$Constant", name := "emit", desc := "(LLinkedTongue$Emitter;)V" } : Jvm.MethodName)) ∈ lw_all := lw_g (lw_at lw_m10 73 rfl) rfl
theorem q2535 : (Jvm.Cond.code ({ cls := "LinkedTongue$Constant", name := "emit", desc := "(LLinkedTongue$Emitter;)V" } : Jvm.MethodName) prog_8_method_2_code (2 : Nat) (Option.none : Option Jvm.ClassFile.FieldType)) ∈ lw_all := lw_g (lw_at lw_m10 74 rfl) rfl
theorem q2536 : (Jvm.Cond.methodLink "LinkedTongue$Constant" (18 : Nat) ({ cls := "LinkedTongue$Emitter", name := "add", desc := "(III)V" } : Jvm.MethodName)) ∈ lw_all := lw_g (lw_at lw_m10 75 rfl) rfl
theorem q2712 : (Jvm.Cond.selects "LinkedTongue$Constant" ({ cls := "LinkedTongue$Node", name := "emit", desc := "(LLinkedTongue$Emitter;)V" } : Jvm.MethodName) ({ cls := "LinkedTongue$Constant", name := "emit", desc := "(LLinkedTongue$Emitter;)V" } : Jvm.MethodName)) ∈ lw_all := lw_g (lw_at lw_m11 11 rfl) rfl
theorem q5484 : (Jvm.Cond.castable "LinkedTongue$Constant" "LinkedTongue$Node") ∈ lw_tbl := lw_at lw_m22 143 rfl
theorem q5536 : (Jvm.Cond.castable "LinkedTongue$Constant" "java/lang/Object") ∈ lw_tbl := lw_at lw_m22 195 rfl
theorem q343 : (Jvm.Cond.initialized "LinkedTongue$Group") ∈ lw_all := lw_g (lw_at lw_m1 42 rfl) rfl
theorem q1074 : (Jvm.Cond.selects "LinkedTongue$Group" ({ cls := "java/lang/Object", name := "getClass", desc := "()Ljava/lang/Class;" } : Jvm.MethodName) ({ cls := "java/lang/Object", name := "getClass", desc := "()Ljava/lang/Class;" } : Jvm.MethodName)) ∈ lw_all := lw_g (lw_at lw_m4 53 rfl) rfl
theorem q1954 : (Jvm.Cond.instantiable "LinkedTongue$Group" (1 : Nat)) ∈ lw_all := lw_g (lw_at lw_m7 213 rfl) rfl
theorem q1969 : (Jvm.Cond.instanceMethod ({ cls := "LinkedTongue$Group", name := "<init>", desc := "(LLinkedTongue$Node;)V" } : Jvm.MethodName)) ∈ lw_all := lw_g (lw_at lw_m7 228 rfl) rfl
theorem q1970 : (Jvm.Cond.code ({ cls := "LinkedTongue$Group", name := "<init>", desc := "(LLinkedTongue$Node;)V" } : Jvm.MethodName) prog_15_method_1_code (2 : Nat) (Option.none : Option Jvm.ClassFile.FieldType)) ∈ lw_all := lw_g (lw_at lw_m7 229 rfl) rfl
theorem q1971 : (Jvm.Cond.methodLinkNest "LinkedTongue$Group" (1 : Nat) ({ cls := "LinkedTongue$Node", name := "<init>", desc := "()V" } : Jvm.MethodName) "LinkedTongue") ∈ lw_tbl := lw_at lw_m7 230 rfl
theorem q1972 : (Jvm.Cond.fieldLink "LinkedTongue$Group" (7 : Nat) "LinkedTongue$Group" "inner" "LLinkedTongue$Node;") ∈ lw_all := lw_g (lw_at lw_m7 231 rfl) rfl
theorem q1973 : (Jvm.Cond.laysFinal "LinkedTongue$Group" "LinkedTongue$Group" "inner" "LLinkedTongue$Node;") ∈ lw_all := lw_g (lw_at lw_m7 232 rfl) rfl
theorem q1974 : (Jvm.Cond.soleField "LinkedTongue$Group" "inner") ∈ lw_all := lw_g (lw_at lw_m7 233 rfl) rfl
theorem q1975 : (Jvm.Cond.superclass "LinkedTongue$Group" "LinkedTongue$Node") ∈ lw_all := lw_g (lw_at lw_m7 234 rfl) rfl
theorem q2548 : (Jvm.Cond.instanceMethod ({ cls := "LinkedTongue$Group", name := "emit", desc := "(LLinkedTongue$Emitter;)V" } : Jvm.MethodName)) ∈ lw_all := lw_g (lw_at lw_m10 87 rfl) rfl
theorem q2549 : (Jvm.Cond.code ({ cls := "LinkedTongue$Group", name := "emit", desc := "(LLinkedTongue$Emitter;)V" } : Jvm.MethodName) prog_15_method_2_code (2 : Nat) (Option.none : Option Jvm.ClassFile.FieldType)) ∈ lw_all := lw_g (lw_at lw_m10 88 rfl) rfl
theorem q2550 : (Jvm.Cond.methodLink "LinkedTongue$Group" (13 : Nat) ({ cls := "LinkedTongue$Node", name := "emit", desc := "(LLinkedTongue$Emitter;)V" } : Jvm.MethodName)) ∈ lw_all := lw_g (lw_at lw_m10 89 rfl) rfl
theorem q2714 : (Jvm.Cond.selects "LinkedTongue$Group" ({ cls := "LinkedTongue$Node", name := "emit", desc := "(LLinkedTongue$Emitter;)V" } : Jvm.MethodName) ({ cls := "LinkedTongue$Group", name := "emit", desc := "(LLinkedTongue$Emitter;)V" } : Jvm.MethodName)) ∈ lw_all := lw_g (lw_at lw_m11 13 rfl) rfl
theorem q5486 : (Jvm.Cond.castable "LinkedTongue$Group" "LinkedTongue$Node") ∈ lw_tbl := lw_at lw_m22 145 rfl
theorem q5537 : (Jvm.Cond.castable "LinkedTongue$Group" "java/lang/Object") ∈ lw_tbl := lw_at lw_m22 196 rfl
theorem q344 : (Jvm.Cond.initialized "LinkedTongue$Operation") ∈ lw_all := lw_g (lw_at lw_m1 43 rfl) rfl
theorem q1085 : (Jvm.Cond.selects "LinkedTongue$Operation" ({ cls := "java/lang/Object", name := "getClass", desc := "()Ljava/lang/Class;" } : Jvm.MethodName) ({ cls := "java/lang/Object", name := "getClass", desc := "()Ljava/lang/Class;" } : Jvm.MethodName)) ∈ lw_all := lw_g (lw_at lw_m4 64 rfl) rfl
theorem q1977 : (Jvm.Cond.instantiable "LinkedTongue$Operation" (3 : Nat)) ∈ lw_all := lw_g (lw_at lw_m7 236 rfl) rfl
theorem q1979 : (Jvm.Cond.instanceMethod ({ cls := "LinkedTongue$Operation", name := "<init>", desc := "(IILjava/util/ArrayList;)V" } : Jvm.MethodName)) ∈ lw_all := lw_g (lw_at lw_m7 238 rfl) rfl
theorem q1980 : (Jvm.Cond.code ({ cls := "LinkedTongue$Operation", name := "<init>", desc := "(IILjava/util/ArrayList;)V" } : Jvm.MethodName) prog_27_method_1_code (4 : Nat) (Option.none : Option Jvm.ClassFile.FieldType)) ∈ lw_all := lw_g (lw_at lw_m7 239 rfl) rfl
theorem q1981 : (Jvm.Cond.methodLinkNest "LinkedTongue$Operation" (3 : Nat) ({ cls := "LinkedTongue$Node", name := "<init>", desc := "()V" } : Jvm.MethodName) "LinkedTongue") ∈ lw_tbl := lw_at lw_m8 0 rfl
theorem q1982 : (Jvm.Cond.fieldLink "LinkedTongue$Operation" (9 : Nat) "LinkedTongue$Operation" "op" "I") ∈ lw_all := lw_g (lw_at lw_m8 1 rfl) rfl
theorem q1983 : (Jvm.Cond.fieldLink "LinkedTongue$Operation" (15 : Nat) "LinkedTongue$Operation" "a" "I") ∈ lw_all := lw_g (lw_at lw_m8 2 rfl) rfl
theorem q1984 : (Jvm.Cond.fieldLink "LinkedTongue$Operation" (18 : Nat) "LinkedTongue$Operation" "operands" "Ljava/util/ArrayList;") ∈ lw_all := lw_g (lw_at lw_m8 3 rfl) rfl
theorem q1986 : (Jvm.Cond.laysFinal "LinkedTongue$Operation" "LinkedTongue$Operation" "op" "I") ∈ lw_all := lw_g (lw_at lw_m8 5 rfl) rfl
theorem q1987 : (Jvm.Cond.soleField "LinkedTongue$Operation" "op") ∈ lw_all := lw_g (lw_at lw_m8 6 rfl) rfl
theorem q1988 : (Jvm.Cond.laysFinal "LinkedTongue$Operation" "LinkedTongue$Operation" "a" "I") ∈ lw_all := lw_g (lw_at lw_m8 7 rfl) rfl
theorem q1989 : (Jvm.Cond.soleField "LinkedTongue$Operation" "a") ∈ lw_all := lw_g (lw_at lw_m8 8 rfl) rfl
theorem q1990 : (Jvm.Cond.laysFinal "LinkedTongue$Operation" "LinkedTongue$Operation" "operands" "Ljava/util/ArrayList;") ∈ lw_all := lw_g (lw_at lw_m8 9 rfl) rfl
theorem q1991 : (Jvm.Cond.soleField "LinkedTongue$Operation" "operands") ∈ lw_all := lw_g (lw_at lw_m8 10 rfl) rfl
theorem q1992 : (Jvm.Cond.superclass "LinkedTongue$Operation" "LinkedTongue$Node") ∈ lw_all := lw_g (lw_at lw_m8 11 rfl) rfl
theorem q2563 : (Jvm.Cond.instanceMethod ({ cls := "LinkedTongue$Operation", name := "emit", desc := "(LLinkedTongue$Emitter;)V" } : Jvm.MethodName)) ∈ lw_all := lw_g (lw_at lw_m10 102 rfl) rfl
theorem q2564 : (Jvm.Cond.code ({ cls := "LinkedTongue$Operation", name := "emit", desc := "(LLinkedTongue$Emitter;)V" } : Jvm.MethodName) prog_27_method_2_code (3 : Nat) (Option.none : Option Jvm.ClassFile.FieldType)) ∈ lw_all := lw_g (lw_at lw_m10 103 rfl) rfl
theorem q2565 : (Jvm.Cond.methodLink "LinkedTongue$Operation" (22 : Nat) ({ cls := "java/util/ArrayList", name := "size", desc := "()I" } : Jvm.MethodName)) ∈ lw_all := lw_g (lw_at lw_m10 104 rfl) rfl
theorem q2566 : (Jvm.Cond.methodLink "LinkedTongue$Operation" (28 : Nat) ({ cls := "java/util/ArrayList", name := "get", desc := "(I)Ljava/lang/Object;" } : Jvm.MethodName)) ∈ lw_all := lw_g (lw_at lw_m10 105 rfl) rfl
theorem q2567 : (Jvm.Cond.classLink "LinkedTongue$Operation" (4 : Nat) "LinkedTongue$Node") ∈ lw_all := lw_g (lw_at lw_m10 106 rfl) rfl
theorem q2568 : (Jvm.Cond.methodLink "LinkedTongue$Operation" (32 : Nat) ({ cls := "LinkedTongue$Node", name := "emit", desc := "(LLinkedTongue$Emitter;)V" } : Jvm.MethodName)) ∈ lw_all := lw_g (lw_at lw_m10 107 rfl) rfl
theorem q2614 : (Jvm.Cond.methodLink "LinkedTongue$Operation" (36 : Nat) ({ cls := "LinkedTongue$Emitter", name := "site", desc := "(III)V" } : Jvm.MethodName)) ∈ lw_all := lw_g (lw_at lw_m10 153 rfl) rfl
theorem q2678 : (Jvm.Cond.methodLink "LinkedTongue$Operation" (42 : Nat) ({ cls := "LinkedTongue$Emitter", name := "add", desc := "(III)V" } : Jvm.MethodName)) ∈ lw_all := lw_g (lw_at lw_m10 217 rfl) rfl
theorem q2717 : (Jvm.Cond.selects "LinkedTongue$Operation" ({ cls := "LinkedTongue$Node", name := "emit", desc := "(LLinkedTongue$Emitter;)V" } : Jvm.MethodName) ({ cls := "LinkedTongue$Operation", name := "emit", desc := "(LLinkedTongue$Emitter;)V" } : Jvm.MethodName)) ∈ lw_all := lw_g (lw_at lw_m11 16 rfl) rfl
theorem q5489 : (Jvm.Cond.castable "LinkedTongue$Operation" "LinkedTongue$Node") ∈ lw_tbl := lw_at lw_m22 148 rfl
theorem q5538 : (Jvm.Cond.castable "LinkedTongue$Operation" "java/lang/Object") ∈ lw_tbl := lw_at lw_m22 197 rfl
theorem q345 : (Jvm.Cond.initialized "LinkedTongue$ObjectNode") ∈ lw_all := lw_g (lw_at lw_m1 44 rfl) rfl
theorem q1084 : (Jvm.Cond.selects "LinkedTongue$ObjectNode" ({ cls := "java/lang/Object", name := "getClass", desc := "()Ljava/lang/Class;" } : Jvm.MethodName) ({ cls := "java/lang/Object", name := "getClass", desc := "()Ljava/lang/Class;" } : Jvm.MethodName)) ∈ lw_all := lw_g (lw_at lw_m4 63 rfl) rfl
theorem q2007 : (Jvm.Cond.instantiable "LinkedTongue$ObjectNode" (2 : Nat)) ∈ lw_all := lw_g (lw_at lw_m8 26 rfl) rfl
theorem q2009 : (Jvm.Cond.instanceMethod ({ cls := "LinkedTongue$ObjectNode", name := "<init>", desc := "()V" } : Jvm.MethodName)) ∈ lw_all := lw_g (lw_at lw_m8 28 rfl) rfl
theorem q2010 : (Jvm.Cond.code ({ cls := "LinkedTongue$ObjectNode", name := "<init>", desc := "()V" } : Jvm.MethodName) prog_26_method_1_code (1 : Nat) (Option.none : Option Jvm.ClassFile.FieldType)) ∈ lw_all := lw_g (lw_at lw_m8 29 rfl) rfl
theorem q2011 : (Jvm.Cond.methodLinkNest "LinkedTongue$ObjectNode" (3 : Nat) ({ cls := "LinkedTongue$Node", name := "<init>", desc := "()V" } : Jvm.MethodName) "LinkedTongue") ∈ lw_tbl := lw_at lw_m8 30 rfl
theorem q2012 : (Jvm.Cond.classLink "LinkedTongue$ObjectNode" (9 : Nat) "java/util/ArrayList") ∈ lw_all := lw_g (lw_at lw_m8 31 rfl) rfl
theorem q2013 : (Jvm.Cond.methodLink "LinkedTongue$ObjectNode" (11 : Nat) ({ cls := "java/util/ArrayList", name := "<init>", desc := "()V" } : Jvm.MethodName)) ∈ lw_all := lw_g (lw_at lw_m8 32 rfl) rfl
theorem q2014 : (Jvm.Cond.fieldLink "LinkedTongue$ObjectNode" (12 : Nat) "LinkedTongue$ObjectNode" "values" "Ljava/util/ArrayList;") ∈ lw_all := lw_g (lw_at lw_m8 33 rfl) rfl
theorem q2015 : (Jvm.Cond.fieldLink "LinkedTongue$ObjectNode" (18 : Nat) "LinkedTongue$ObjectNode" "names" "[I") ∈ lw_all := lw_g (lw_at lw_m8 34 rfl) rfl
theorem q2016 : (Jvm.Cond.laysFinal "LinkedTongue$ObjectNode" "LinkedTongue$ObjectNode" "values" "Ljava/util/ArrayList;") ∈ lw_all := lw_g (lw_at lw_m8 35 rfl) rfl
theorem q2017 : (Jvm.Cond.soleField "LinkedTongue$ObjectNode" "values") ∈ lw_all := lw_g (lw_at lw_m8 36 rfl) rfl
theorem q2018 : (Jvm.Cond.lays "LinkedTongue$ObjectNode" "LinkedTongue$ObjectNode" "names" "[I") ∈ lw_all := lw_g (lw_at lw_m8 37 rfl) rfl
theorem q2019 : (Jvm.Cond.soleField "LinkedTongue$ObjectNode" "names") ∈ lw_all := lw_g (lw_at lw_m8 38 rfl) rfl
theorem q2020 : (Jvm.Cond.superclass "LinkedTongue$ObjectNode" "LinkedTongue$Node") ∈ lw_all := lw_g (lw_at lw_m8 39 rfl) rfl
theorem q2026 : (Jvm.Cond.instanceMethod ({ cls := "LinkedTongue$ObjectNode", name := "add", desc := "(ILLinkedTongue$Node;)V" } : Jvm.MethodName)) ∈ lw_all := lw_g (lw_at lw_m8 45 rfl) rfl
theorem q2027 : (Jvm.Cond.selects "LinkedTongue$ObjectNode" ({ cls := "LinkedTongue$ObjectNode", name := "add", desc := "(ILLinkedTongue$Node;)V" } : Jvm.MethodName) ({ cls := "LinkedTongue$ObjectNode", name := "add", desc := "(ILLinkedTongue$Node;)V" } : Jvm.MethodName)) ∈ lw_all := lw_g (lw_at lw_m8 46 rfl) rfl
theorem q2028 : (Jvm.Cond.code ({ cls := "LinkedTongue$ObjectNode", name := "add", desc := "(ILLinkedTongue$Node;)V" } : Jvm.MethodName) prog_26_method_2_code (3 : Nat) (Option.none : Option Jvm.ClassFile.FieldType)) ∈ lw_all := lw_g (lw_at lw_m8 47 rfl) rfl
theorem q2029 : (Jvm.Cond.methodLink "LinkedTongue$ObjectNode" (22 : Nat) ({ cls := "java/util/ArrayList", name := "size", desc := "()I" } : Jvm.MethodName)) ∈ lw_all := lw_g (lw_at lw_m8 48 rfl) rfl
theorem q2030 : (Jvm.Cond.methodLink "LinkedTongue$ObjectNode" (26 : Nat) ({ cls := "java/util/Arrays", name := "copyOf", desc := "([II)[I" } : Jvm.MethodName)) ∈ lw_all := lw_g (lw_at lw_m8 49 rfl) rfl
theorem q2031 : (Jvm.Cond.methodLink "LinkedTongue$ObjectNode" (32 : Nat) ({ cls := "java/util/ArrayList", name := "add", desc := "(Ljava/lang/Object;)Z" } : Jvm.MethodName)) ∈ lw_all := lw_g (lw_at lw_m8 50 rfl) rfl
theorem q2557 : (Jvm.Cond.instanceMethod ({ cls := "LinkedTongue$ObjectNode", name := "emit", desc := "(LLinkedTongue$Emitter;)V" } : Jvm.MethodName)) ∈ lw_all := lw_g (lw_at lw_m10 96 rfl) rfl
theorem q2558 : (Jvm.Cond.code ({ cls := "LinkedTongue$ObjectNode", name := "emit", desc := "(LLinkedTongue$Emitter;)V" } : Jvm.MethodName) prog_26_method_3_code (3 : Nat) (Option.none : Option Jvm.ClassFile.FieldType)) ∈ lw_all := lw_g (lw_at lw_m10 97 rfl) rfl
theorem q2559 : (Jvm.Cond.methodLink "LinkedTongue$ObjectNode" (36 : Nat) ({ cls := "LinkedTongue$Emitter", name := "add", desc := "(III)V" } : Jvm.MethodName)) ∈ lw_all := lw_g (lw_at lw_m10 98 rfl) rfl
theorem q2560 : (Jvm.Cond.methodLink "LinkedTongue$ObjectNode" (41 : Nat) ({ cls := "java/util/ArrayList", name := "get", desc := "(I)Ljava/lang/Object;" } : Jvm.MethodName)) ∈ lw_all := lw_g (lw_at lw_m10 99 rfl) rfl
theorem q2561 : (Jvm.Cond.classLink "LinkedTongue$ObjectNode" (4 : Nat) "LinkedTongue$Node") ∈ lw_all := lw_g (lw_at lw_m10 100 rfl) rfl
theorem q2562 : (Jvm.Cond.methodLink "LinkedTongue$ObjectNode" (45 : Nat) ({ cls := "LinkedTongue$Node", name := "emit", desc := "(LLinkedTongue$Emitter;)V" } : Jvm.MethodName)) ∈ lw_all := lw_g (lw_at lw_m10 101 rfl) rfl
theorem q2679 : (Jvm.Cond.methodLink "LinkedTongue$ObjectNode" (49 : Nat) ({ cls := "LinkedTongue$Emitter", name := "site", desc := "(III)V" } : Jvm.MethodName)) ∈ lw_all := lw_g (lw_at lw_m10 218 rfl) rfl
theorem q2716 : (Jvm.Cond.selects "LinkedTongue$ObjectNode" ({ cls := "LinkedTongue$Node", name := "emit", desc := "(LLinkedTongue$Emitter;)V" } : Jvm.MethodName) ({ cls := "LinkedTongue$ObjectNode", name := "emit", desc := "(LLinkedTongue$Emitter;)V" } : Jvm.MethodName)) ∈ lw_all := lw_g (lw_at lw_m11 15 rfl) rfl
theorem q5488 : (Jvm.Cond.castable "LinkedTongue$ObjectNode" "LinkedTongue$Node") ∈ lw_tbl := lw_at lw_m22 147 rfl
theorem q5539 : (Jvm.Cond.castable "LinkedTongue$ObjectNode" "java/lang/Object") ∈ lw_tbl := lw_at lw_m22 198 rfl
theorem q307 : (Jvm.Cond.initialized "LinkedTongue$Scanner") ∈ lw_all := lw_g (lw_at lw_m1 6 rfl) rfl
theorem q444 : (Jvm.Cond.fieldLinkNest "LinkedTongue$Scanner" (36 : Nat) "LinkedTongue$Fault" "told" "I" "LinkedTongue") ∈ lw_tbl := lw_at lw_m1 143 rfl
theorem q463 : (Jvm.Cond.instantiable "LinkedTongue$Scanner" (10 : Nat)) ∈ lw_all := lw_g (lw_at lw_m1 162 rfl) rfl
theorem q465 : (Jvm.Cond.instanceMethod ({ cls := "LinkedTongue$Scanner", name := "<init>", desc := "(LLinkedTongue$Fault;)V" } : Jvm.MethodName)) ∈ lw_all := lw_g (lw_at lw_m1 164 rfl) rfl
theorem q466 : (Jvm.Cond.code ({ cls := "LinkedTongue$Scanner", name := "<init>", desc := "(LLinkedTongue$Fault;)V" } : Jvm.MethodName) prog_31_method_1_code (2 : Nat) (Option.none : Option Jvm.ClassFile.FieldType)) ∈ lw_all := lw_g (lw_at lw_m1 165 rfl) rfl
theorem q467 : (Jvm.Cond.methodLink "LinkedTongue$Scanner" (3 : Nat) ({ cls := "java/lang/Object", name := "<init>", desc := "()V" } : Jvm.MethodName)) ∈ lw_all := lw_g (lw_at lw_m1 166 rfl) rfl
theorem q468 : (Jvm.Cond.fieldLink "LinkedTongue$Scanner" (18 : Nat) "LinkedTongue$Scanner" "fault" "LLinkedTongue$Fault;") ∈ lw_all := lw_g (lw_at lw_m1 167 rfl) rfl
theorem q469 : (Jvm.Cond.fieldLink "LinkedTongue$Scanner" (9 : Nat) "LinkedTongue$Scanner" "text" "[B") ∈ lw_all := lw_g (lw_at lw_m1 168 rfl) rfl
theorem q472 : (Jvm.Cond.fieldLink "LinkedTongue$Scanner" (22 : Nat) "LinkedTongue$Scanner" "size" "I") ∈ lw_all := lw_g (lw_at lw_m1 171 rfl) rfl
theorem q475 : (Jvm.Cond.fieldLink "LinkedTongue$Scanner" (52 : Nat) "LinkedTongue$Scanner" "kind" "I") ∈ lw_all := lw_g (lw_at lw_m1 174 rfl) rfl
theorem q476 : (Jvm.Cond.fieldLink "LinkedTongue$Scanner" (41 : Nat) "LinkedTongue$Scanner" "from" "I") ∈ lw_all := lw_g (lw_at lw_m1 175 rfl) rfl
theorem q479 : (Jvm.Cond.fieldLink "LinkedTongue$Scanner" (30 : Nat) "LinkedTongue$Scanner" "to" "I") ∈ lw_all := lw_g (lw_at lw_m1 178 rfl) rfl
theorem q482 : (Jvm.Cond.fieldLink "LinkedTongue$Scanner" (77 : Nat) "LinkedTongue$Scanner" "number" "J") ∈ lw_all := lw_g (lw_at lw_m1 181 rfl) rfl
theorem q484 : (Jvm.Cond.fieldLink "LinkedTongue$Scanner" (15 : Nat) "LinkedTongue$Scanner" "held" "[B") ∈ lw_all := lw_g (lw_at lw_m1 183 rfl) rfl
theorem q486 : (Jvm.Cond.fieldLink "LinkedTongue$Scanner" (88 : Nat) "LinkedTongue$Scanner" "heldSize" "I") ∈ lw_all := lw_g (lw_at lw_m1 185 rfl) rfl
theorem q488 : (Jvm.Cond.fieldLink "LinkedTongue$Scanner" (26 : Nat) "LinkedTongue$Scanner" "host" "Z") ∈ lw_all := lw_g (lw_at lw_m1 187 rfl) rfl
theorem q489 : (Jvm.Cond.laysFinal "LinkedTongue$Scanner" "LinkedTongue$Scanner" "fault" "LLinkedTongue$Fault;") ∈ lw_all := lw_g (lw_at lw_m1 188 rfl) rfl
theorem q490 : (Jvm.Cond.soleField "LinkedTongue$Scanner" "fault") ∈ lw_all := lw_g (lw_at lw_m1 189 rfl) rfl
theorem q491 : (Jvm.Cond.lays "LinkedTongue$Scanner" "LinkedTongue$Scanner" "text" "[B") ∈ lw_all := lw_g (lw_at lw_m1 190 rfl) rfl
theorem q492 : (Jvm.Cond.soleField "LinkedTongue$Scanner" "text") ∈ lw_all := lw_g (lw_at lw_m1 191 rfl) rfl
theorem q493 : (Jvm.Cond.lays "LinkedTongue$Scanner" "LinkedTongue$Scanner" "size" "I") ∈ lw_all := lw_g (lw_at lw_m1 192 rfl) rfl
theorem q494 : (Jvm.Cond.soleField "LinkedTongue$Scanner" "size") ∈ lw_all := lw_g (lw_at lw_m1 193 rfl) rfl
theorem q495 : (Jvm.Cond.lays "LinkedTongue$Scanner" "LinkedTongue$Scanner" "kind" "I") ∈ lw_all := lw_g (lw_at lw_m1 194 rfl) rfl
theorem q496 : (Jvm.Cond.soleField "LinkedTongue$Scanner" "kind") ∈ lw_all := lw_g (lw_at lw_m1 195 rfl) rfl
theorem q497 : (Jvm.Cond.lays "LinkedTongue$Scanner" "LinkedTongue$Scanner" "from" "I") ∈ lw_all := lw_g (lw_at lw_m1 196 rfl) rfl
theorem q498 : (Jvm.Cond.soleField "LinkedTongue$Scanner" "from") ∈ lw_all := lw_g (lw_at lw_m1 197 rfl) rfl
theorem q499 : (Jvm.Cond.lays "LinkedTongue$Scanner" "LinkedTongue$Scanner" "to" "I") ∈ lw_all := lw_g (lw_at lw_m1 198 rfl) rfl
theorem q500 : (Jvm.Cond.soleField "LinkedTongue$Scanner" "to") ∈ lw_all := lw_g (lw_at lw_m1 199 rfl) rfl
theorem q501 : (Jvm.Cond.lays "LinkedTongue$Scanner" "LinkedTongue$Scanner" "number" "J") ∈ lw_all := lw_g (lw_at lw_m1 200 rfl) rfl
theorem q502 : (Jvm.Cond.soleField "LinkedTongue$Scanner" "number") ∈ lw_all := lw_g (lw_at lw_m1 201 rfl) rfl
theorem q503 : (Jvm.Cond.laysFinal "LinkedTongue$Scanner" "LinkedTongue$Scanner" "held" "[B") ∈ lw_all := lw_g (lw_at lw_m1 202 rfl) rfl
theorem q504 : (Jvm.Cond.soleField "LinkedTongue$Scanner" "held") ∈ lw_all := lw_g (lw_at lw_m1 203 rfl) rfl
theorem q505 : (Jvm.Cond.lays "LinkedTongue$Scanner" "LinkedTongue$Scanner" "heldSize" "I") ∈ lw_all := lw_g (lw_at lw_m1 204 rfl) rfl
theorem q506 : (Jvm.Cond.soleField "LinkedTongue$Scanner" "heldSize") ∈ lw_all := lw_g (lw_at lw_m1 205 rfl) rfl
theorem q507 : (Jvm.Cond.lays "LinkedTongue$Scanner" "LinkedTongue$Scanner" "host" "Z") ∈ lw_all := lw_g (lw_at lw_m1 206 rfl) rfl
theorem q508 : (Jvm.Cond.soleField "LinkedTongue$Scanner" "host") ∈ lw_all := lw_g (lw_at lw_m1 207 rfl) rfl
theorem q509 : (Jvm.Cond.superclass "LinkedTongue$Scanner" "java/lang/Object") ∈ lw_all := lw_g (lw_at lw_m1 208 rfl) rfl
theorem q1089 : (Jvm.Cond.selects "LinkedTongue$Scanner" ({ cls := "java/lang/Object", name := "getClass", desc := "()Ljava/lang/Class;" } : Jvm.MethodName) ({ cls := "java/lang/Object", name := "getClass", desc := "()Ljava/lang/Class;" } : Jvm.MethodName)) ∈ lw_all := lw_g (lw_at lw_m4 68 rfl) rfl
theorem q1338 : (Jvm.Cond.instanceMethod ({ cls := "LinkedTongue$Scanner", name := "begin", desc := "([BIZ)V" } : Jvm.MethodName)) ∈ lw_all := lw_g (lw_at lw_m5 77 rfl) rfl
theorem q1339 : (Jvm.Cond.selects "LinkedTongue$Scanner" ({ cls := "LinkedTongue$Scanner", name := "begin", desc := "([BIZ)V" } : Jvm.MethodName) ({ cls := "LinkedTongue$Scanner", name := "begin", desc := "([BIZ)V" } : Jvm.MethodName)) ∈ lw_all := lw_g (lw_at lw_m5 78 rfl) rfl
theorem q1340 : (Jvm.Cond.code ({ cls := "LinkedTongue$Scanner", name := "begin", desc := "([BIZ)V" } : Jvm.MethodName) prog_31_method_2_code (4 : Nat) (Option.none : Option Jvm.ClassFile.FieldType)) ∈ lw_all := lw_g (lw_at lw_m5 79 rfl) rfl
theorem q1341 : (Jvm.Cond.methodLink "LinkedTongue$Scanner" (33 : Nat) ({ cls := "LinkedTongue$Scanner", name := "next", desc := "()V" } : Jvm.MethodName)) ∈ lw_all := lw_g (lw_at lw_m5 80 rfl) rfl
theorem q1342 : (Jvm.Cond.instanceMethod ({ cls := "LinkedTongue$Scanner", name := "next", desc := "()V" } : Jvm.MethodName)) ∈ lw_all := lw_g (lw_at lw_m5 81 rfl) rfl
theorem q1343 : (Jvm.Cond.selects "LinkedTongue$Scanner" ({ cls := "LinkedTongue$Scanner", name := "next", desc := "()V" } : Jvm.MethodName) ({ cls := "LinkedTongue$Scanner", name := "next", desc := "()V" } : Jvm.MethodName)) ∈ lw_all := lw_g (lw_at lw_m5 82 rfl) rfl
theorem q1344 : (Jvm.Cond.code ({ cls := "LinkedTongue$Scanner", name := "next", desc := "()V" } : Jvm.MethodName) prog_31_method_8_code (4 : Nat) (Option.none : Option Jvm.ClassFile.FieldType)) ∈ lw_all := lw_g (lw_at lw_m5 83 rfl) rfl
theorem q1345 : (Jvm.Cond.methodLink "LinkedTongue$Scanner" (48 : Nat) ({ cls := "LinkedTongue$Scanner", name := "at", desc := "(I)I" } : Jvm.MethodName)) ∈ lw_all := lw_g (lw_at lw_m5 84 rfl) rfl
theorem q1346 : (Jvm.Cond.privateMethod ({ cls := "LinkedTongue$Scanner", name := "at", desc := "(I)I" } : Jvm.MethodName)) ∈ lw_tbl := lw_at lw_m5 85 rfl
theorem q1347 : (Jvm.Cond.instanceMethod ({ cls := "LinkedTongue$Scanner", name := "at", desc := "(I)I" } : Jvm.MethodName)) ∈ lw_all := lw_g (lw_at lw_m5 86 rfl) rfl
theorem q1348 : (Jvm.Cond.code ({ cls := "LinkedTongue$Scanner", name := "at", desc := "(I)I" } : Jvm.MethodName) prog_31_method_3_code (2 : Nat) (Option.some Jvm.ClassFile.FieldType.int)) ∈ lw_all := lw_g (lw_at lw_m5 87 rfl) rfl
theorem q1349 : (Jvm.Cond.methodLink "LinkedTongue$Scanner" (55 : Nat) ({ cls := "LinkedTongue$Scanner", name := "isLetter", desc := "(I)Z" } : Jvm.MethodName)) ∈ lw_all := lw_g (lw_at lw_m5 88 rfl) rfl
theorem q1350 : (Jvm.Cond.static ({ cls := "LinkedTongue$Scanner", name := "isLetter", desc := "(I)Z" } : Jvm.MethodName)) ∈ lw_all := lw_g (lw_at lw_m5 89 rfl) rfl
theorem q1351 : (Jvm.Cond.code ({ cls := "LinkedTongue$Scanner", name := "isLetter", desc := "(I)Z" } : Jvm.MethodName) prog_31_method_6_code (1 : Nat) (Option.some Jvm.ClassFile.FieldType.boolean)) ∈ lw_all := lw_g (lw_at lw_m5 90 rfl) rfl
theorem q1352 : (Jvm.Cond.methodLink "LinkedTongue$Scanner" (59 : Nat) ({ cls := "LinkedTongue$Scanner", name := "name", desc := "(I)V" } : Jvm.MethodName)) ∈ lw_all := lw_g (lw_at lw_m5 91 rfl) rfl
theorem q1353 : (Jvm.Cond.privateMethod ({ cls := "LinkedTongue$Scanner", name := "name", desc := "(I)V" } : Jvm.MethodName)) ∈ lw_tbl := lw_at lw_m5 92 rfl
theorem q1354 : (Jvm.Cond.instanceMethod ({ cls := "LinkedTongue$Scanner", name := "name", desc := "(I)V" } : Jvm.MethodName)) ∈ lw_all := lw_g (lw_at lw_m5 93 rfl) rfl
theorem q1355 : (Jvm.Cond.code ({ cls := "LinkedTongue$Scanner", name := "name", desc := "(I)V" } : Jvm.MethodName) prog_31_method_9_code (3 : Nat) (Option.none : Option Jvm.ClassFile.FieldType)) ∈ lw_all := lw_g (lw_at lw_m5 94 rfl) rfl
theorem q1356 : (Jvm.Cond.methodLink "LinkedTongue$Scanner" (63 : Nat) ({ cls := "LinkedTongue$Scanner", name := "isDigit", desc := "(I)Z" } : Jvm.MethodName)) ∈ lw_all := lw_g (lw_at lw_m5 95 rfl) rfl
theorem q1357 : (Jvm.Cond.static ({ cls := "LinkedTongue$Scanner", name := "isDigit", desc := "(I)Z" } : Jvm.MethodName)) ∈ lw_all := lw_g (lw_at lw_m5 96 rfl) rfl
theorem q1358 : (Jvm.Cond.code ({ cls := "LinkedTongue$Scanner", name := "isDigit", desc := "(I)Z" } : Jvm.MethodName) prog_31_method_7_code (1 : Nat) (Option.some Jvm.ClassFile.FieldType.boolean)) ∈ lw_all := lw_g (lw_at lw_m5 97 rfl) rfl
theorem q1359 : (Jvm.Cond.methodLink "LinkedTongue$Scanner" (75 : Nat) ({ cls := "LinkedTongue$Scanner", name := "fail", desc := "(I)V" } : Jvm.MethodName)) ∈ lw_all := lw_g (lw_at lw_m5 98 rfl) rfl
theorem q1360 : (Jvm.Cond.instanceMethod ({ cls := "LinkedTongue$Scanner", name := "fail", desc := "(I)V" } : Jvm.MethodName)) ∈ lw_all := lw_g (lw_at lw_m5 99 rfl) rfl
theorem q1361 : (Jvm.Cond.selects "LinkedTongue$Scanner" ({ cls := "LinkedTongue$Scanner", name := "fail", desc := "(I)V" } : Jvm.MethodName) ({ cls := "LinkedTongue$Scanner", name := "fail", desc := "(I)V" } : Jvm.MethodName)) ∈ lw_all := lw_g (lw_at lw_m5 100 rfl) rfl
theorem q1362 : (Jvm.Cond.code ({ cls := "LinkedTongue$Scanner", name := "fail", desc := "(I)V" } : Jvm.MethodName) prog_31_method_5_code (2 : Nat) (Option.none : Option Jvm.ClassFile.FieldType)) ∈ lw_all := lw_g (lw_at lw_m5 101 rfl) rfl
theorem q1363 : (Jvm.Cond.methodLink "LinkedTongue$Scanner" (44 : Nat) ({ cls := "LinkedTongue$Scanner", name := "fail", desc := "(II)V" } : Jvm.MethodName)) ∈ lw_all := lw_g (lw_at lw_m5 102 rfl) rfl
theorem q1364 : (Jvm.Cond.instanceMethod ({ cls := "LinkedTongue$Scanner", name := "fail", desc := "(II)V" } : Jvm.MethodName)) ∈ lw_all := lw_g (lw_at lw_m5 103 rfl) rfl
theorem q1365 : (Jvm.Cond.selects "LinkedTongue$Scanner" ({ cls := "LinkedTongue$Scanner", name := "fail", desc := "(II)V" } : Jvm.MethodName) ({ cls := "LinkedTongue$Scanner", name := "fail", desc := "(II)V" } : Jvm.MethodName)) ∈ lw_all := lw_g (lw_at lw_m5 104 rfl) rfl
theorem q1366 : (Jvm.Cond.code ({ cls := "LinkedTongue$Scanner", name := "fail", desc := "(II)V" } : Jvm.MethodName) prog_31_method_4_code (3 : Nat) (Option.none : Option Jvm.ClassFile.FieldType)) ∈ lw_all := lw_g (lw_at lw_m5 105 rfl) rfl
theorem q1367 : (Jvm.Cond.methodLink "LinkedTongue$Scanner" (66 : Nat) ({ cls := "LinkedTongue$Scanner", name := "number", desc := "(I)V" } : Jvm.MethodName)) ∈ lw_all := lw_g (lw_at lw_m5 106 rfl) rfl
theorem q1368 : (Jvm.Cond.privateMethod ({ cls := "LinkedTongue$Scanner", name := "number", desc := "(I)V" } : Jvm.MethodName)) ∈ lw_tbl := lw_at lw_m5 107 rfl
theorem q1369 : (Jvm.Cond.instanceMethod ({ cls := "LinkedTongue$Scanner", name := "number", desc := "(I)V" } : Jvm.MethodName)) ∈ lw_all := lw_g (lw_at lw_m5 108 rfl) rfl
theorem q1370 : (Jvm.Cond.code ({ cls := "LinkedTongue$Scanner", name := "number", desc := "(I)V" } : Jvm.MethodName) prog_31_method_10_code (3 : Nat) (Option.none : Option Jvm.ClassFile.FieldType)) ∈ lw_all := lw_g (lw_at lw_m5 109 rfl) rfl
theorem q1371 : (Jvm.Cond.constantLong "LinkedTongue$Scanner" (80 : Nat) (10 : Int64)) ∈ lw_all := lw_g (lw_at lw_m5 110 rfl) rfl
theorem q1372 : (Jvm.Cond.constantLong "LinkedTongue$Scanner" (82 : Nat) (48 : Int64)) ∈ lw_all := lw_g (lw_at lw_m5 111 rfl) rfl
theorem q1373 : (Jvm.Cond.constantLong "LinkedTongue$Scanner" (86 : Nat) (2147483647 : Int64)) ∈ lw_all := lw_g (lw_at lw_m5 112 rfl) rfl
theorem q1374 : (Jvm.Cond.methodLink "LinkedTongue$Scanner" (69 : Nat) ({ cls := "LinkedTongue$Scanner", name := "quoted", desc := "(I)V" } : Jvm.MethodName)) ∈ lw_all := lw_g (lw_at lw_m5 113 rfl) rfl
theorem q1375 : (Jvm.Cond.privateMethod ({ cls := "LinkedTongue$Scanner", name := "quoted", desc := "(I)V" } : Jvm.MethodName)) ∈ lw_tbl := lw_at lw_m5 114 rfl
theorem q1376 : (Jvm.Cond.instanceMethod ({ cls := "LinkedTongue$Scanner", name := "quoted", desc := "(I)V" } : Jvm.MethodName)) ∈ lw_all := lw_g (lw_at lw_m5 115 rfl) rfl
theorem q1377 : (Jvm.Cond.code ({ cls := "LinkedTongue$Scanner", name := "quoted", desc := "(I)V" } : Jvm.MethodName) prog_31_method_11_code (4 : Nat) (Option.none : Option Jvm.ClassFile.FieldType)) ∈ lw_all := lw_g (lw_at lw_m5 116 rfl) rfl
theorem q1378 : (Jvm.Cond.methodLink "LinkedTongue$Scanner" (72 : Nat) ({ cls := "LinkedTongue$Scanner", name := "sign", desc := "(II)V" } : Jvm.MethodName)) ∈ lw_all := lw_g (lw_at lw_m5 117 rfl) rfl
theorem q1379 : (Jvm.Cond.privateMethod ({ cls := "LinkedTongue$Scanner", name := "sign", desc := "(II)V" } : Jvm.MethodName)) ∈ lw_tbl := lw_at lw_m5 118 rfl
theorem q1380 : (Jvm.Cond.instanceMethod ({ cls := "LinkedTongue$Scanner", name := "sign", desc := "(II)V" } : Jvm.MethodName)) ∈ lw_all := lw_g (lw_at lw_m5 119 rfl) rfl
theorem q1381 : (Jvm.Cond.code ({ cls := "LinkedTongue$Scanner", name := "sign", desc := "(II)V" } : Jvm.MethodName) prog_31_method_12_code (5 : Nat) (Option.none : Option Jvm.ClassFile.FieldType)) ∈ lw_all := lw_g (lw_at lw_m5 120 rfl) rfl
theorem q1388 : (Jvm.Cond.instanceMethod ({ cls := "LinkedTongue$Scanner", name := "is", desc := "(Ljava/lang/String;)Z" } : Jvm.MethodName)) ∈ lw_all := lw_g (lw_at lw_m5 127 rfl) rfl
theorem q1389 : (Jvm.Cond.selects "LinkedTongue$Scanner" ({ cls := "LinkedTongue$Scanner", name := "is", desc := "(Ljava/lang/String;)Z" } : Jvm.MethodName) ({ cls := "LinkedTongue$Scanner", name := "is", desc := "(Ljava/lang/String;)Z" } : Jvm.MethodName)) ∈ lw_all := lw_g (lw_at lw_m5 128 rfl) rfl
theorem q1390 : (Jvm.Cond.code ({ cls := "LinkedTongue$Scanner", name := "is", desc := "(Ljava/lang/String;)Z" } : Jvm.MethodName) prog_31_method_13_code (4 : Nat) (Option.some Jvm.ClassFile.FieldType.boolean)) ∈ lw_all := lw_g (lw_at lw_m5 129 rfl) rfl
theorem q1391 : (Jvm.Cond.methodLink "LinkedTongue$Scanner" (91 : Nat) ({ cls := "java/lang/String", name := "length", desc := "()I" } : Jvm.MethodName)) ∈ lw_all := lw_g (lw_at lw_m5 130 rfl) rfl
theorem q1401 : (Jvm.Cond.methodLink "LinkedTongue$Scanner" (97 : Nat) ({ cls := "java/lang/String", name := "charAt", desc := "(I)C" } : Jvm.MethodName)) ∈ lw_all := lw_g (lw_at lw_m5 140 rfl) rfl
theorem q1449 : (Jvm.Cond.instanceMethod ({ cls := "LinkedTongue$Scanner", name := "demand", desc := "(I)V" } : Jvm.MethodName)) ∈ lw_all := lw_g (lw_at lw_m5 188 rfl) rfl
theorem q1450 : (Jvm.Cond.selects "LinkedTongue$Scanner" ({ cls := "LinkedTongue$Scanner", name := "demand", desc := "(I)V" } : Jvm.MethodName) ({ cls := "LinkedTongue$Scanner", name := "demand", desc := "(I)V" } : Jvm.MethodName)) ∈ lw_all := lw_g (lw_at lw_m5 189 rfl) rfl
theorem q1451 : (Jvm.Cond.code ({ cls := "LinkedTongue$Scanner", name := "demand", desc := "(I)V" } : Jvm.MethodName) prog_31_method_14_code (2 : Nat) (Option.none : Option Jvm.ClassFile.FieldType)) ∈ lw_all := lw_g (lw_at lw_m5 190 rfl) rfl
theorem q1561 : (Jvm.Cond.instanceMethod ({ cls := "LinkedTongue$Scanner", name := "take", desc := "(I)V" } : Jvm.MethodName)) ∈ lw_all := lw_g (lw_at lw_m6 60 rfl) rfl
theorem q1562 : (Jvm.Cond.selects "LinkedTongue$Scanner" ({ cls := "LinkedTongue$Scanner", name := "take", desc := "(I)V" } : Jvm.MethodName) ({ cls := "LinkedTongue$Scanner", name := "take", desc := "(I)V" } : Jvm.MethodName)) ∈ lw_all := lw_g (lw_at lw_m6 61 rfl) rfl
theorem q1563 : (Jvm.Cond.code ({ cls := "LinkedTongue$Scanner", name := "take", desc := "(I)V" } : Jvm.MethodName) prog_31_method_15_code (2 : Nat) (Option.none : Option Jvm.ClassFile.FieldType)) ∈ lw_all := lw_g (lw_at lw_m6 62 rfl) rfl
theorem q1564 : (Jvm.Cond.methodLink "LinkedTongue$Scanner" (101 : Nat) ({ cls := "LinkedTongue$Scanner", name := "demand", desc := "(I)V" } : Jvm.MethodName)) ∈ lw_all := lw_g (lw_at lw_m6 63 rfl) rfl
theorem q5513 : (Jvm.Cond.castable "LinkedTongue$Scanner" "java/lang/Object") ∈ lw_tbl := lw_at lw_m22 172 rfl
theorem q346 : (Jvm.Cond.initialized "LinkedTongue$Variable") ∈ lw_all := lw_g (lw_at lw_m1 45 rfl) rfl
theorem q1101 : (Jvm.Cond.selects "LinkedTongue$Variable" ({ cls := "java/lang/Object", name := "getClass", desc := "()Ljava/lang/Class;" } : Jvm.MethodName) ({ cls := "java/lang/Object", name := "getClass", desc := "()Ljava/lang/Class;" } : Jvm.MethodName)) ∈ lw_all := lw_g (lw_at lw_m4 80 rfl) rfl
theorem q2037 : (Jvm.Cond.instantiable "LinkedTongue$Variable" (1 : Nat)) ∈ lw_all := lw_g (lw_at lw_m8 56 rfl) rfl
theorem q2039 : (Jvm.Cond.instanceMethod ({ cls := "LinkedTongue$Variable", name := "<init>", desc := "(I)V" } : Jvm.MethodName)) ∈ lw_all := lw_g (lw_at lw_m8 58 rfl) rfl
theorem q2040 : (Jvm.Cond.code ({ cls := "LinkedTongue$Variable", name := "<init>", desc := "(I)V" } : Jvm.MethodName) prog_44_method_1_code (2 : Nat) (Option.none : Option Jvm.ClassFile.FieldType)) ∈ lw_all := lw_g (lw_at lw_m8 59 rfl) rfl
theorem q2041 : (Jvm.Cond.methodLinkNest "LinkedTongue$Variable" (1 : Nat) ({ cls := "LinkedTongue$Node", name := "<init>", desc := "()V" } : Jvm.MethodName) "LinkedTongue") ∈ lw_tbl := lw_at lw_m8 60 rfl
theorem q2042 : (Jvm.Cond.fieldLink "LinkedTongue$Variable" (7 : Nat) "LinkedTongue$Variable" "name" "I") ∈ lw_all := lw_g (lw_at lw_m8 61 rfl) rfl
theorem q2044 : (Jvm.Cond.laysFinal "LinkedTongue$Variable" "LinkedTongue$Variable" "name" "I") ∈ lw_all := lw_g (lw_at lw_m8 63 rfl) rfl
theorem q2045 : (Jvm.Cond.soleField "LinkedTongue$Variable" "name") ∈ lw_all := lw_g (lw_at lw_m8 64 rfl) rfl
theorem q2046 : (Jvm.Cond.superclass "LinkedTongue$Variable" "LinkedTongue$Node") ∈ lw_all := lw_g (lw_at lw_m8 65 rfl) rfl
theorem q2600 : (Jvm.Cond.instanceMethod ({ cls := "LinkedTongue$Variable", name := "emit", desc := "(LLinkedTongue$Emitter;)V" } : Jvm.MethodName)) ∈ lw_all := lw_g (lw_at lw_m10 139 rfl) rfl
theorem q2601 : (Jvm.Cond.code ({ cls := "LinkedTongue$Variable", name := "emit", desc := "(LLinkedTongue$Emitter;)V" } : Jvm.MethodName) prog_44_method_2_code (2 : Nat) (Option.none : Option Jvm.ClassFile.FieldType)) ∈ lw_all := lw_g (lw_at lw_m10 140 rfl) rfl
theorem q2602 : (Jvm.Cond.methodLink "LinkedTongue$Variable" (13 : Nat) ({ cls := "LinkedTongue$Emitter", name := "variable", desc := "(IZ)V" } : Jvm.MethodName)) ∈ lw_all := lw_g (lw_at lw_m10 141 rfl) rfl
theorem q2722 : (Jvm.Cond.selects "LinkedTongue$Variable" ({ cls := "LinkedTongue$Node", name := "emit", desc := "(LLinkedTongue$Emitter;)V" } : Jvm.MethodName) ({ cls := "LinkedTongue$Variable", name := "emit", desc := "(LLinkedTongue$Emitter;)V" } : Jvm.MethodName)) ∈ lw_all := lw_g (lw_at lw_m11 21 rfl) rfl
theorem q5476 : (Jvm.Cond.castable "LinkedTongue$Variable" "LinkedTongue$Variable") ∈ lw_tbl := lw_at lw_m22 135 rfl
theorem q5494 : (Jvm.Cond.castable "LinkedTongue$Variable" "LinkedTongue$Node") ∈ lw_tbl := lw_at lw_m22 153 rfl
theorem q5540 : (Jvm.Cond.castable "LinkedTongue$Variable" "java/lang/Object") ∈ lw_tbl := lw_at lw_m22 199 rfl
theorem q347 : (Jvm.Cond.initialized "LinkedTongue$This") ∈ lw_all := lw_g (lw_at lw_m1 46 rfl) rfl
theorem q1098 : (Jvm.Cond.selects "LinkedTongue$This" ({ cls := "java/lang/Object", name := "getClass", desc := "()Ljava/lang/Class;" } : Jvm.MethodName) ({ cls := "java/lang/Object", name := "getClass", desc := "()Ljava/lang/Class;" } : Jvm.MethodName)) ∈ lw_all := lw_g (lw_at lw_m4 77 rfl) rfl
theorem q2048 : (Jvm.Cond.instantiable "LinkedTongue$This" (0 : Nat)) ∈ lw_all := lw_g (lw_at lw_m8 67 rfl) rfl
theorem q2050 : (Jvm.Cond.instanceMethod ({ cls := "LinkedTongue$This", name := "<init>", desc := "()V" } : Jvm.MethodName)) ∈ lw_all := lw_g (lw_at lw_m8 69 rfl) rfl
theorem q2051 : (Jvm.Cond.code ({ cls := "LinkedTongue$This", name := "<init>", desc := "()V" } : Jvm.MethodName) prog_41_method_1_code (1 : Nat) (Option.none : Option Jvm.ClassFile.FieldType)) ∈ lw_all := lw_g (lw_at lw_m8 70 rfl) rfl
theorem q2052 : (Jvm.Cond.methodLinkNest "LinkedTongue$This" (3 : Nat) ({ cls := "LinkedTongue$Node", name := "<init>", desc := "()V" } : Jvm.MethodName) "LinkedTongue") ∈ lw_tbl := lw_at lw_m8 71 rfl
theorem q2053 : (Jvm.Cond.superclass "LinkedTongue$This" "LinkedTongue$Node") ∈ lw_all := lw_g (lw_at lw_m8 72 rfl) rfl
theorem q2572 : (Jvm.Cond.instanceMethod ({ cls := "LinkedTongue$This", name := "emit", desc := "(LLinkedTongue$Emitter;)V" } : Jvm.MethodName)) ∈ lw_all := lw_g (lw_at lw_m10 111 rfl) rfl
theorem q2573 : (Jvm.Cond.code ({ cls := "LinkedTongue$This", name := "emit", desc := "(LLinkedTongue$Emitter;)V" } : Jvm.MethodName) prog_41_method_2_code (2 : Nat) (Option.none : Option Jvm.ClassFile.FieldType)) ∈ lw_all := lw_g (lw_at lw_m10 112 rfl) rfl
theorem q2574 : (Jvm.Cond.methodLink "LinkedTongue$This" (9 : Nat) ({ cls := "LinkedTongue$Emitter", name := "add", desc := "(III)V" } : Jvm.MethodName)) ∈ lw_all := lw_g (lw_at lw_m10 113 rfl) rfl
theorem q2719 : (Jvm.Cond.selects "LinkedTongue$This" ({ cls := "LinkedTongue$Node", name := "emit", desc := "(LLinkedTongue$Emitter;)V" } : Jvm.MethodName) ({ cls := "LinkedTongue$This", name := "emit", desc := "(LLinkedTongue$Emitter;)V" } : Jvm.MethodName)) ∈ lw_all := lw_g (lw_at lw_m11 18 rfl) rfl
theorem q5491 : (Jvm.Cond.castable "LinkedTongue$This" "LinkedTongue$Node") ∈ lw_tbl := lw_at lw_m22 150 rfl
theorem q5541 : (Jvm.Cond.castable "LinkedTongue$This" "java/lang/Object") ∈ lw_tbl := lw_at lw_m22 200 rfl
theorem q348 : (Jvm.Cond.initialized "LinkedTongue$Function") ∈ lw_all := lw_g (lw_at lw_m1 47 rfl) rfl
theorem q1073 : (Jvm.Cond.selects "LinkedTongue$Function" ({ cls := "java/lang/Object", name := "getClass", desc := "()Ljava/lang/Class;" } : Jvm.MethodName) ({ cls := "java/lang/Object", name := "getClass", desc := "()Ljava/lang/Class;" } : Jvm.MethodName)) ∈ lw_all := lw_g (lw_at lw_m4 52 rfl) rfl
theorem q1795 : (Jvm.Cond.fieldLinkNest "LinkedTongue$Function" (15 : Nat) "LinkedTongue$Code" "number" "I" "LinkedTongue") ∈ lw_tbl := lw_at lw_m7 54 rfl
theorem q2064 : (Jvm.Cond.instantiable "LinkedTongue$Function" (1 : Nat)) ∈ lw_all := lw_g (lw_at lw_m8 83 rfl) rfl
theorem q2066 : (Jvm.Cond.instanceMethod ({ cls := "LinkedTongue$Function", name := "<init>", desc := "(LLinkedTongue$Code;)V" } : Jvm.MethodName)) ∈ lw_all := lw_g (lw_at lw_m8 85 rfl) rfl
theorem q2067 : (Jvm.Cond.code ({ cls := "LinkedTongue$Function", name := "<init>", desc := "(LLinkedTongue$Code;)V" } : Jvm.MethodName) prog_14_method_1_code (2 : Nat) (Option.none : Option Jvm.ClassFile.FieldType)) ∈ lw_all := lw_g (lw_at lw_m8 86 rfl) rfl
theorem q2068 : (Jvm.Cond.methodLinkNest "LinkedTongue$Function" (3 : Nat) ({ cls := "LinkedTongue$Node", name := "<init>", desc := "()V" } : Jvm.MethodName) "LinkedTongue") ∈ lw_tbl := lw_at lw_m8 87 rfl
theorem q2069 : (Jvm.Cond.fieldLink "LinkedTongue$Function" (9 : Nat) "LinkedTongue$Function" "code" "LLinkedTongue$Code;") ∈ lw_all := lw_g (lw_at lw_m8 88 rfl) rfl
theorem q2070 : (Jvm.Cond.laysFinal "LinkedTongue$Function" "LinkedTongue$Function" "code" "LLinkedTongue$Code;") ∈ lw_all := lw_g (lw_at lw_m8 89 rfl) rfl
theorem q2071 : (Jvm.Cond.soleField "LinkedTongue$Function" "code") ∈ lw_all := lw_g (lw_at lw_m8 90 rfl) rfl
theorem q2072 : (Jvm.Cond.superclass "LinkedTongue$Function" "LinkedTongue$Node") ∈ lw_all := lw_g (lw_at lw_m8 91 rfl) rfl
theorem q2545 : (Jvm.Cond.instanceMethod ({ cls := "LinkedTongue$Function", name := "emit", desc := "(LLinkedTongue$Emitter;)V" } : Jvm.MethodName)) ∈ lw_all := lw_g (lw_at lw_m10 84 rfl) rfl
theorem q2546 : (Jvm.Cond.code ({ cls := "LinkedTongue$Function", name := "emit", desc := "(LLinkedTongue$Emitter;)V" } : Jvm.MethodName) prog_14_method_2_code (2 : Nat) (Option.none : Option Jvm.ClassFile.FieldType)) ∈ lw_all := lw_g (lw_at lw_m10 85 rfl) rfl
theorem q2547 : (Jvm.Cond.methodLink "LinkedTongue$Function" (21 : Nat) ({ cls := "LinkedTongue$Emitter", name := "add", desc := "(III)V" } : Jvm.MethodName)) ∈ lw_all := lw_g (lw_at lw_m10 86 rfl) rfl
theorem q2713 : (Jvm.Cond.selects "LinkedTongue$Function" ({ cls := "LinkedTongue$Node", name := "emit", desc := "(LLinkedTongue$Emitter;)V" } : Jvm.MethodName) ({ cls := "LinkedTongue$Function", name := "emit", desc := "(LLinkedTongue$Emitter;)V" } : Jvm.MethodName)) ∈ lw_all := lw_g (lw_at lw_m11 12 rfl) rfl
theorem q5485 : (Jvm.Cond.castable "LinkedTongue$Function" "LinkedTongue$Node") ∈ lw_tbl := lw_at lw_m22 144 rfl
theorem q5542 : (Jvm.Cond.castable "LinkedTongue$Function" "java/lang/Object") ∈ lw_tbl := lw_at lw_m22 201 rfl
theorem q349 : (Jvm.Cond.initialized "LinkedTongue$Behind") ∈ lw_all := lw_g (lw_at lw_m1 48 rfl) rfl
theorem q1062 : (Jvm.Cond.selects "LinkedTongue$Behind" ({ cls := "java/lang/Object", name := "getClass", desc := "()Ljava/lang/Class;" } : Jvm.MethodName) ({ cls := "java/lang/Object", name := "getClass", desc := "()Ljava/lang/Class;" } : Jvm.MethodName)) ∈ lw_all := lw_g (lw_at lw_m4 41 rfl) rfl
theorem q2078 : (Jvm.Cond.instantiable "LinkedTongue$Behind" (2 : Nat)) ∈ lw_all := lw_g (lw_at lw_m8 97 rfl) rfl
theorem q2080 : (Jvm.Cond.instanceMethod ({ cls := "LinkedTongue$Behind", name := "<init>", desc := "(LLinkedTongue$Node;)V" } : Jvm.MethodName)) ∈ lw_all := lw_g (lw_at lw_m8 99 rfl) rfl
theorem q2081 : (Jvm.Cond.code ({ cls := "LinkedTongue$Behind", name := "<init>", desc := "(LLinkedTongue$Node;)V" } : Jvm.MethodName) prog_3_method_1_code (2 : Nat) (Option.none : Option Jvm.ClassFile.FieldType)) ∈ lw_all := lw_g (lw_at lw_m8 100 rfl) rfl
theorem q2082 : (Jvm.Cond.methodLinkNest "LinkedTongue$Behind" (1 : Nat) ({ cls := "LinkedTongue$Node", name := "<init>", desc := "()V" } : Jvm.MethodName) "LinkedTongue") ∈ lw_tbl := lw_at lw_m8 101 rfl
theorem q2083 : (Jvm.Cond.classLink "LinkedTongue$Behind" (7 : Nat) "java/util/ArrayList") ∈ lw_all := lw_g (lw_at lw_m8 102 rfl) rfl
theorem q2084 : (Jvm.Cond.methodLink "LinkedTongue$Behind" (9 : Nat) ({ cls := "java/util/ArrayList", name := "<init>", desc := "(I)V" } : Jvm.MethodName)) ∈ lw_all := lw_g (lw_at lw_m8 103 rfl) rfl
theorem q2310 : (Jvm.Cond.fieldLink "LinkedTongue$Behind" (18 : Nat) "LinkedTongue$Behind" "first" "LLinkedTongue$Node;") ∈ lw_all := lw_g (lw_at lw_m9 89 rfl) rfl
theorem q2312 : (Jvm.Cond.fieldLink "LinkedTongue$Behind" (12 : Nat) "LinkedTongue$Behind" "parts" "Ljava/util/ArrayList;") ∈ lw_all := lw_g (lw_at lw_m9 91 rfl) rfl
theorem q2314 : (Jvm.Cond.laysFinal "LinkedTongue$Behind" "LinkedTongue$Behind" "first" "LLinkedTongue$Node;") ∈ lw_all := lw_g (lw_at lw_m9 93 rfl) rfl
theorem q2315 : (Jvm.Cond.soleField "LinkedTongue$Behind" "first") ∈ lw_all := lw_g (lw_at lw_m9 94 rfl) rfl
theorem q2316 : (Jvm.Cond.laysFinal "LinkedTongue$Behind" "LinkedTongue$Behind" "parts" "Ljava/util/ArrayList;") ∈ lw_all := lw_g (lw_at lw_m9 95 rfl) rfl
theorem q2317 : (Jvm.Cond.soleField "LinkedTongue$Behind" "parts") ∈ lw_all := lw_g (lw_at lw_m9 96 rfl) rfl
theorem q2318 : (Jvm.Cond.superclass "LinkedTongue$Behind" "LinkedTongue$Node") ∈ lw_all := lw_g (lw_at lw_m9 97 rfl) rfl
theorem q2389 : (Jvm.Cond.instanceMethod ({ cls := "LinkedTongue$Behind", name := "last", desc := "()LLinkedTongue$Part;" } : Jvm.MethodName)) ∈ lw_all := lw_g (lw_at lw_m9 168 rfl) rfl
theorem q2390 : (Jvm.Cond.selects "LinkedTongue$Behind" ({ cls := "LinkedTongue$Behind", name := "last", desc := "()LLinkedTongue$Part;" } : Jvm.MethodName) ({ cls := "LinkedTongue$Behind", name := "last", desc := "()LLinkedTongue$Part;" } : Jvm.MethodName)) ∈ lw_all := lw_g (lw_at lw_m9 169 rfl) rfl
theorem q2391 : (Jvm.Cond.code ({ cls := "LinkedTongue$Behind", name := "last", desc := "()LLinkedTongue$Part;" } : Jvm.MethodName) prog_3_method_3_code (1 : Nat) (Option.some (Jvm.ClassFile.FieldType.object "LinkedTongue$Part"))) ∈ lw_all := lw_g (lw_at lw_m9 170 rfl) rfl
theorem q2392 : (Jvm.Cond.methodLink "LinkedTongue$Behind" (26 : Nat) ({ cls := "java/util/ArrayList", name := "size", desc := "()I" } : Jvm.MethodName)) ∈ lw_all := lw_g (lw_at lw_m9 171 rfl) rfl
theorem q2393 : (Jvm.Cond.methodLink "LinkedTongue$Behind" (30 : Nat) ({ cls := "java/util/ArrayList", name := "get", desc := "(I)Ljava/lang/Object;" } : Jvm.MethodName)) ∈ lw_all := lw_g (lw_at lw_m9 172 rfl) rfl
theorem q2394 : (Jvm.Cond.classLink "LinkedTongue$Behind" (34 : Nat) "LinkedTongue$Part") ∈ lw_all := lw_g (lw_at lw_m9 173 rfl) rfl
theorem q2518 : (Jvm.Cond.instanceMethod ({ cls := "LinkedTongue$Behind", name := "emit", desc := "(LLinkedTongue$Emitter;)V" } : Jvm.MethodName)) ∈ lw_all := lw_g (lw_at lw_m10 57 rfl) rfl
theorem q2519 : (Jvm.Cond.code ({ cls := "LinkedTongue$Behind", name := "emit", desc := "(LLinkedTongue$Emitter;)V" } : Jvm.MethodName) prog_3_method_4_code (2 : Nat) (Option.none : Option Jvm.ClassFile.FieldType)) ∈ lw_all := lw_g (lw_at lw_m10 58 rfl) rfl
theorem q2520 : (Jvm.Cond.methodLink "LinkedTongue$Behind" (37 : Nat) ({ cls := "LinkedTongue$Behind", name := "ahead", desc := "(LLinkedTongue$Emitter;)V" } : Jvm.MethodName)) ∈ lw_all := lw_g (lw_at lw_m10 59 rfl) rfl
theorem q2521 : (Jvm.Cond.instanceMethod ({ cls := "LinkedTongue$Behind", name := "ahead", desc := "(LLinkedTongue$Emitter;)V" } : Jvm.MethodName)) ∈ lw_all := lw_g (lw_at lw_m10 60 rfl) rfl
theorem q2522 : (Jvm.Cond.selects "LinkedTongue$Behind" ({ cls := "LinkedTongue$Behind", name := "ahead", desc := "(LLinkedTongue$Emitter;)V" } : Jvm.MethodName) ({ cls := "LinkedTongue$Behind", name := "ahead", desc := "(LLinkedTongue$Emitter;)V" } : Jvm.MethodName)) ∈ lw_all := lw_g (lw_at lw_m10 61 rfl) rfl
theorem q2523 : (Jvm.Cond.code ({ cls := "LinkedTongue$Behind", name := "ahead", desc := "(LLinkedTongue$Emitter;)V" } : Jvm.MethodName) prog_3_method_2_code (3 : Nat) (Option.none : Option Jvm.ClassFile.FieldType)) ∈ lw_all := lw_g (lw_at lw_m10 62 rfl) rfl
theorem q2524 : (Jvm.Cond.methodLink "LinkedTongue$Behind" (22 : Nat) ({ cls := "LinkedTongue$Node", name := "emit", desc := "(LLinkedTongue$Emitter;)V" } : Jvm.MethodName)) ∈ lw_all := lw_g (lw_at lw_m10 63 rfl) rfl
theorem q2689 : (Jvm.Cond.methodLink "LinkedTongue$Behind" (36 : Nat) ({ cls := "LinkedTongue$Part", name := "emit", desc := "(LLinkedTongue$Emitter;)V" } : Jvm.MethodName)) ∈ lw_all := lw_g (lw_at lw_m10 228 rfl) rfl
theorem q2702 : (Jvm.Cond.methodLink "LinkedTongue$Behind" (40 : Nat) ({ cls := "LinkedTongue$Behind", name := "last", desc := "()LLinkedTongue$Part;" } : Jvm.MethodName)) ∈ lw_all := lw_g (lw_at lw_m11 1 rfl) rfl
theorem q2709 : (Jvm.Cond.selects "LinkedTongue$Behind" ({ cls := "LinkedTongue$Node", name := "emit", desc := "(LLinkedTongue$Emitter;)V" } : Jvm.MethodName) ({ cls := "LinkedTongue$Behind", name := "emit", desc := "(LLinkedTongue$Emitter;)V" } : Jvm.MethodName)) ∈ lw_all := lw_g (lw_at lw_m11 8 rfl) rfl
theorem q5477 : (Jvm.Cond.castable "LinkedTongue$Behind" "LinkedTongue$Behind") ∈ lw_tbl := lw_at lw_m22 136 rfl
theorem q5481 : (Jvm.Cond.castable "LinkedTongue$Behind" "LinkedTongue$Node") ∈ lw_tbl := lw_at lw_m22 140 rfl
theorem q5543 : (Jvm.Cond.castable "LinkedTongue$Behind" "java/lang/Object") ∈ lw_tbl := lw_at lw_m22 202 rfl
theorem q354 : (Jvm.Cond.initialized "LinkedTongue$Part") ∈ lw_all := lw_g (lw_at lw_m1 53 rfl) rfl
theorem q1087 : (Jvm.Cond.selects "LinkedTongue$Part" ({ cls := "java/lang/Object", name := "getClass", desc := "()Ljava/lang/Class;" } : Jvm.MethodName) ({ cls := "java/lang/Object", name := "getClass", desc := "()Ljava/lang/Class;" } : Jvm.MethodName)) ∈ lw_all := lw_g (lw_at lw_m4 66 rfl) rfl
theorem q2324 : (Jvm.Cond.instantiable "LinkedTongue$Part" (3 : Nat)) ∈ lw_all := lw_g (lw_at lw_m9 103 rfl) rfl
theorem q2326 : (Jvm.Cond.instanceMethod ({ cls := "LinkedTongue$Part", name := "<init>", desc := "(IILjava/util/ArrayList;)V" } : Jvm.MethodName)) ∈ lw_all := lw_g (lw_at lw_m9 105 rfl) rfl
theorem q2327 : (Jvm.Cond.code ({ cls := "LinkedTongue$Part", name := "<init>", desc := "(IILjava/util/ArrayList;)V" } : Jvm.MethodName) prog_29_method_1_code (4 : Nat) (Option.none : Option Jvm.ClassFile.FieldType)) ∈ lw_all := lw_g (lw_at lw_m9 106 rfl) rfl
theorem q2328 : (Jvm.Cond.methodLink "LinkedTongue$Part" (3 : Nat) ({ cls := "java/lang/Object", name := "<init>", desc := "()V" } : Jvm.MethodName)) ∈ lw_all := lw_g (lw_at lw_m9 107 rfl) rfl
theorem q2329 : (Jvm.Cond.fieldLink "LinkedTongue$Part" (9 : Nat) "LinkedTongue$Part" "kind" "I") ∈ lw_all := lw_g (lw_at lw_m9 108 rfl) rfl
theorem q2332 : (Jvm.Cond.fieldLink "LinkedTongue$Part" (15 : Nat) "LinkedTongue$Part" "name" "I") ∈ lw_all := lw_g (lw_at lw_m9 111 rfl) rfl
theorem q2334 : (Jvm.Cond.fieldLink "LinkedTongue$Part" (18 : Nat) "LinkedTongue$Part" "operands" "Ljava/util/ArrayList;") ∈ lw_all := lw_g (lw_at lw_m9 113 rfl) rfl
theorem q2335 : (Jvm.Cond.laysFinal "LinkedTongue$Part" "LinkedTongue$Part" "kind" "I") ∈ lw_all := lw_g (lw_at lw_m9 114 rfl) rfl
theorem q2336 : (Jvm.Cond.soleField "LinkedTongue$Part" "kind") ∈ lw_all := lw_g (lw_at lw_m9 115 rfl) rfl
theorem q2337 : (Jvm.Cond.laysFinal "LinkedTongue$Part" "LinkedTongue$Part" "name" "I") ∈ lw_all := lw_g (lw_at lw_m9 116 rfl) rfl
theorem q2338 : (Jvm.Cond.soleField "LinkedTongue$Part" "name") ∈ lw_all := lw_g (lw_at lw_m9 117 rfl) rfl
theorem q2339 : (Jvm.Cond.laysFinal "LinkedTongue$Part" "LinkedTongue$Part" "operands" "Ljava/util/ArrayList;") ∈ lw_all := lw_g (lw_at lw_m9 118 rfl) rfl
theorem q2340 : (Jvm.Cond.soleField "LinkedTongue$Part" "operands") ∈ lw_all := lw_g (lw_at lw_m9 119 rfl) rfl
theorem q2341 : (Jvm.Cond.superclass "LinkedTongue$Part" "java/lang/Object") ∈ lw_all := lw_g (lw_at lw_m9 120 rfl) rfl
theorem q2690 : (Jvm.Cond.instanceMethod ({ cls := "LinkedTongue$Part", name := "emit", desc := "(LLinkedTongue$Emitter;)V" } : Jvm.MethodName)) ∈ lw_all := lw_g (lw_at lw_m10 229 rfl) rfl
theorem q2691 : (Jvm.Cond.selects "LinkedTongue$Part" ({ cls := "LinkedTongue$Part", name := "emit", desc := "(LLinkedTongue$Emitter;)V" } : Jvm.MethodName) ({ cls := "LinkedTongue$Part", name := "emit", desc := "(LLinkedTongue$Emitter;)V" } : Jvm.MethodName)) ∈ lw_all := lw_g (lw_at lw_m10 230 rfl) rfl
theorem q2692 : (Jvm.Cond.code ({ cls := "LinkedTongue$Part", name := "emit", desc := "(LLinkedTongue$Emitter;)V" } : Jvm.MethodName) prog_29_method_3_code (2 : Nat) (Option.none : Option Jvm.ClassFile.FieldType)) ∈ lw_all := lw_g (lw_at lw_m10 231 rfl) rfl
theorem q2693 : (Jvm.Cond.methodLink "LinkedTongue$Part" (38 : Nat) ({ cls := "LinkedTongue$Part", name := "operands", desc := "(LLinkedTongue$Emitter;)V" } : Jvm.MethodName)) ∈ lw_all := lw_g (lw_at lw_m10 232 rfl) rfl
theorem q2694 : (Jvm.Cond.instanceMethod ({ cls := "LinkedTongue$Part", name := "operands", desc := "(LLinkedTongue$Emitter;)V" } : Jvm.MethodName)) ∈ lw_all := lw_g (lw_at lw_m10 233 rfl) rfl
theorem q2695 : (Jvm.Cond.selects "LinkedTongue$Part" ({ cls := "LinkedTongue$Part", name := "operands", desc := "(LLinkedTongue$Emitter;)V" } : Jvm.MethodName) ({ cls := "LinkedTongue$Part", name := "operands", desc := "(LLinkedTongue$Emitter;)V" } : Jvm.MethodName)) ∈ lw_all := lw_g (lw_at lw_m10 234 rfl) rfl
theorem q2696 : (Jvm.Cond.code ({ cls := "LinkedTongue$Part", name := "operands", desc := "(LLinkedTongue$Emitter;)V" } : Jvm.MethodName) prog_29_method_2_code (3 : Nat) (Option.none : Option Jvm.ClassFile.FieldType)) ∈ lw_all := lw_g (lw_at lw_m10 235 rfl) rfl
theorem q2697 : (Jvm.Cond.methodLink "LinkedTongue$Part" (22 : Nat) ({ cls := "java/util/ArrayList", name := "size", desc := "()I" } : Jvm.MethodName)) ∈ lw_all := lw_g (lw_at lw_m10 236 rfl) rfl
theorem q2698 : (Jvm.Cond.methodLink "LinkedTongue$Part" (28 : Nat) ({ cls := "java/util/ArrayList", name := "get", desc := "(I)Ljava/lang/Object;" } : Jvm.MethodName)) ∈ lw_all := lw_g (lw_at lw_m10 237 rfl) rfl
theorem q2699 : (Jvm.Cond.classLink "LinkedTongue$Part" (32 : Nat) "LinkedTongue$Node") ∈ lw_all := lw_g (lw_at lw_m10 238 rfl) rfl
theorem q2700 : (Jvm.Cond.methodLink "LinkedTongue$Part" (34 : Nat) ({ cls := "LinkedTongue$Node", name := "emit", desc := "(LLinkedTongue$Emitter;)V" } : Jvm.MethodName)) ∈ lw_all := lw_g (lw_at lw_m10 239 rfl) rfl
theorem q2701 : (Jvm.Cond.methodLink "LinkedTongue$Part" (40 : Nat) ({ cls := "LinkedTongue$Emitter", name := "site", desc := "(III)V" } : Jvm.MethodName)) ∈ lw_all := lw_g (lw_at lw_m11 0 rfl) rfl
theorem q5478 : (Jvm.Cond.castable "LinkedTongue$Part" "LinkedTongue$Part") ∈ lw_tbl := lw_at lw_m22 137 rfl
theorem q5547 : (Jvm.Cond.castable "LinkedTongue$Part" "java/lang/Object") ∈ lw_tbl := lw_at lw_m22 206 rfl
theorem q355 : (Jvm.Cond.initialized "LinkedTongue$Unary") ∈ lw_all := lw_g (lw_at lw_m1 54 rfl) rfl
theorem q1100 : (Jvm.Cond.selects "LinkedTongue$Unary" ({ cls := "java/lang/Object", name := "getClass", desc := "()Ljava/lang/Class;" } : Jvm.MethodName) ({ cls := "java/lang/Object", name := "getClass", desc := "()Ljava/lang/Class;" } : Jvm.MethodName)) ∈ lw_all := lw_g (lw_at lw_m4 79 rfl) rfl
theorem q2347 : (Jvm.Cond.instantiable "LinkedTongue$Unary" (2 : Nat)) ∈ lw_all := lw_g (lw_at lw_m9 126 rfl) rfl
theorem q2349 : (Jvm.Cond.instanceMethod ({ cls := "LinkedTongue$Unary", name := "<init>", desc := "(ILLinkedTongue$Node;)V" } : Jvm.MethodName)) ∈ lw_all := lw_g (lw_at lw_m9 128 rfl) rfl
theorem q2350 : (Jvm.Cond.code ({ cls := "LinkedTongue$Unary", name := "<init>", desc := "(ILLinkedTongue$Node;)V" } : Jvm.MethodName) prog_43_method_1_code (3 : Nat) (Option.none : Option Jvm.ClassFile.FieldType)) ∈ lw_all := lw_g (lw_at lw_m9 129 rfl) rfl
theorem q2351 : (Jvm.Cond.methodLinkNest "LinkedTongue$Unary" (1 : Nat) ({ cls := "LinkedTongue$Node", name := "<init>", desc := "()V" } : Jvm.MethodName) "LinkedTongue") ∈ lw_tbl := lw_at lw_m9 130 rfl
theorem q2352 : (Jvm.Cond.fieldLink "LinkedTongue$Unary" (7 : Nat) "LinkedTongue$Unary" "op" "I") ∈ lw_all := lw_g (lw_at lw_m9 131 rfl) rfl
theorem q2353 : (Jvm.Cond.fieldLink "LinkedTongue$Unary" (13 : Nat) "LinkedTongue$Unary" "operand" "LLinkedTongue$Node;") ∈ lw_all := lw_g (lw_at lw_m9 132 rfl) rfl
theorem q2354 : (Jvm.Cond.laysFinal "LinkedTongue$Unary" "LinkedTongue$Unary" "op" "I") ∈ lw_all := lw_g (lw_at lw_m9 133 rfl) rfl
theorem q2355 : (Jvm.Cond.soleField "LinkedTongue$Unary" "op") ∈ lw_all := lw_g (lw_at lw_m9 134 rfl) rfl
theorem q2356 : (Jvm.Cond.laysFinal "LinkedTongue$Unary" "LinkedTongue$Unary" "operand" "LLinkedTongue$Node;") ∈ lw_all := lw_g (lw_at lw_m9 135 rfl) rfl
theorem q2357 : (Jvm.Cond.soleField "LinkedTongue$Unary" "operand") ∈ lw_all := lw_g (lw_at lw_m9 136 rfl) rfl
theorem q2358 : (Jvm.Cond.superclass "LinkedTongue$Unary" "LinkedTongue$Node") ∈ lw_all := lw_g (lw_at lw_m9 137 rfl) rfl
theorem q2597 : (Jvm.Cond.instanceMethod ({ cls := "LinkedTongue$Unary", name := "emit", desc := "(LLinkedTongue$Emitter;)V" } : Jvm.MethodName)) ∈ lw_all := lw_g (lw_at lw_m10 136 rfl) rfl
theorem q2598 : (Jvm.Cond.code ({ cls := "LinkedTongue$Unary", name := "emit", desc := "(LLinkedTongue$Emitter;)V" } : Jvm.MethodName) prog_43_method_2_code (2 : Nat) (Option.none : Option Jvm.ClassFile.FieldType)) ∈ lw_all := lw_g (lw_at lw_m10 137 rfl) rfl
theorem q2599 : (Jvm.Cond.methodLink "LinkedTongue$Unary" (17 : Nat) ({ cls := "LinkedTongue$Node", name := "emit", desc := "(LLinkedTongue$Emitter;)V" } : Jvm.MethodName)) ∈ lw_all := lw_g (lw_at lw_m10 138 rfl) rfl
theorem q2611 : (Jvm.Cond.methodLink "LinkedTongue$Unary" (21 : Nat) ({ cls := "LinkedTongue$Emitter", name := "add", desc := "(III)V" } : Jvm.MethodName)) ∈ lw_all := lw_g (lw_at lw_m10 150 rfl) rfl
theorem q2721 : (Jvm.Cond.selects "LinkedTongue$Unary" ({ cls := "LinkedTongue$Node", name := "emit", desc := "(LLinkedTongue$Emitter;)V" } : Jvm.MethodName) ({ cls := "LinkedTongue$Unary", name := "emit", desc := "(LLinkedTongue$Emitter;)V" } : Jvm.MethodName)) ∈ lw_all := lw_g (lw_at lw_m11 20 rfl) rfl
theorem q5493 : (Jvm.Cond.castable "LinkedTongue$Unary" "LinkedTongue$Node") ∈ lw_tbl := lw_at lw_m22 152 rfl
theorem q5548 : (Jvm.Cond.castable "LinkedTongue$Unary" "java/lang/Object") ∈ lw_tbl := lw_at lw_m22 207 rfl
theorem q356 : (Jvm.Cond.initialized "LinkedTongue$Chain") ∈ lw_all := lw_g (lw_at lw_m1 55 rfl) rfl
theorem q1064 : (Jvm.Cond.selects "LinkedTongue$Chain" ({ cls := "java/lang/Object", name := "getClass", desc := "()Ljava/lang/Class;" } : Jvm.MethodName) ({ cls := "java/lang/Object", name := "getClass", desc := "()Ljava/lang/Class;" } : Jvm.MethodName)) ∈ lw_all := lw_g (lw_at lw_m4 43 rfl) rfl
theorem q2364 : (Jvm.Cond.instantiable "LinkedTongue$Chain" (3 : Nat)) ∈ lw_all := lw_g (lw_at lw_m9 143 rfl) rfl
theorem q2366 : (Jvm.Cond.instanceMethod ({ cls := "LinkedTongue$Chain", name := "<init>", desc := "(LLinkedTongue$Node;)V" } : Jvm.MethodName)) ∈ lw_all := lw_g (lw_at lw_m9 145 rfl) rfl
theorem q2367 : (Jvm.Cond.code ({ cls := "LinkedTongue$Chain", name := "<init>", desc := "(LLinkedTongue$Node;)V" } : Jvm.MethodName) prog_5_method_1_code (2 : Nat) (Option.none : Option Jvm.ClassFile.FieldType)) ∈ lw_all := lw_g (lw_at lw_m9 146 rfl) rfl
theorem q2368 : (Jvm.Cond.methodLinkNest "LinkedTongue$Chain" (3 : Nat) ({ cls := "LinkedTongue$Node", name := "<init>", desc := "()V" } : Jvm.MethodName) "LinkedTongue") ∈ lw_tbl := lw_at lw_m9 147 rfl
theorem q2369 : (Jvm.Cond.classLink "LinkedTongue$Chain" (9 : Nat) "java/util/ArrayList") ∈ lw_all := lw_g (lw_at lw_m9 148 rfl) rfl
theorem q2370 : (Jvm.Cond.methodLink "LinkedTongue$Chain" (11 : Nat) ({ cls := "java/util/ArrayList", name := "<init>", desc := "()V" } : Jvm.MethodName)) ∈ lw_all := lw_g (lw_at lw_m9 149 rfl) rfl
theorem q2371 : (Jvm.Cond.fieldLink "LinkedTongue$Chain" (22 : Nat) "LinkedTongue$Chain" "first" "LLinkedTongue$Node;") ∈ lw_all := lw_g (lw_at lw_m9 150 rfl) rfl
theorem q2372 : (Jvm.Cond.fieldLink "LinkedTongue$Chain" (12 : Nat) "LinkedTongue$Chain" "others" "Ljava/util/ArrayList;") ∈ lw_all := lw_g (lw_at lw_m9 151 rfl) rfl
theorem q2373 : (Jvm.Cond.fieldLink "LinkedTongue$Chain" (18 : Nat) "LinkedTongue$Chain" "ops" "[I") ∈ lw_all := lw_g (lw_at lw_m9 152 rfl) rfl
theorem q2374 : (Jvm.Cond.laysFinal "LinkedTongue$Chain" "LinkedTongue$Chain" "first" "LLinkedTongue$Node;") ∈ lw_all := lw_g (lw_at lw_m9 153 rfl) rfl
theorem q2375 : (Jvm.Cond.soleField "LinkedTongue$Chain" "first") ∈ lw_all := lw_g (lw_at lw_m9 154 rfl) rfl
theorem q2376 : (Jvm.Cond.laysFinal "LinkedTongue$Chain" "LinkedTongue$Chain" "others" "Ljava/util/ArrayList;") ∈ lw_all := lw_g (lw_at lw_m9 155 rfl) rfl
theorem q2377 : (Jvm.Cond.soleField "LinkedTongue$Chain" "others") ∈ lw_all := lw_g (lw_at lw_m9 156 rfl) rfl
theorem q2378 : (Jvm.Cond.lays "LinkedTongue$Chain" "LinkedTongue$Chain" "ops" "[I") ∈ lw_all := lw_g (lw_at lw_m9 157 rfl) rfl
theorem q2379 : (Jvm.Cond.soleField "LinkedTongue$Chain" "ops") ∈ lw_all := lw_g (lw_at lw_m9 158 rfl) rfl
theorem q2380 : (Jvm.Cond.superclass "LinkedTongue$Chain" "LinkedTongue$Node") ∈ lw_all := lw_g (lw_at lw_m9 159 rfl) rfl
theorem q2382 : (Jvm.Cond.instanceMethod ({ cls := "LinkedTongue$Chain", name := "add", desc := "(ILLinkedTongue$Node;)V" } : Jvm.MethodName)) ∈ lw_all := lw_g (lw_at lw_m9 161 rfl) rfl
theorem q2383 : (Jvm.Cond.selects "LinkedTongue$Chain" ({ cls := "LinkedTongue$Chain", name := "add", desc := "(ILLinkedTongue$Node;)V" } : Jvm.MethodName) ({ cls := "LinkedTongue$Chain", name := "add", desc := "(ILLinkedTongue$Node;)V" } : Jvm.MethodName)) ∈ lw_all := lw_g (lw_at lw_m9 162 rfl) rfl
theorem q2384 : (Jvm.Cond.code ({ cls := "LinkedTongue$Chain", name := "add", desc := "(ILLinkedTongue$Node;)V" } : Jvm.MethodName) prog_5_method_2_code (3 : Nat) (Option.none : Option Jvm.ClassFile.FieldType)) ∈ lw_all := lw_g (lw_at lw_m9 163 rfl) rfl
theorem q2385 : (Jvm.Cond.methodLink "LinkedTongue$Chain" (26 : Nat) ({ cls := "java/util/ArrayList", name := "size", desc := "()I" } : Jvm.MethodName)) ∈ lw_all := lw_g (lw_at lw_m9 164 rfl) rfl
theorem q2386 : (Jvm.Cond.methodLink "LinkedTongue$Chain" (30 : Nat) ({ cls := "java/util/Arrays", name := "copyOf", desc := "([II)[I" } : Jvm.MethodName)) ∈ lw_all := lw_g (lw_at lw_m9 165 rfl) rfl
theorem q2387 : (Jvm.Cond.methodLink "LinkedTongue$Chain" (36 : Nat) ({ cls := "java/util/ArrayList", name := "add", desc := "(Ljava/lang/Object;)Z" } : Jvm.MethodName)) ∈ lw_all := lw_g (lw_at lw_m9 166 rfl) rfl
theorem q2531 : (Jvm.Cond.instanceMethod ({ cls := "LinkedTongue$Chain", name := "emit", desc := "(LLinkedTongue$Emitter;)V" } : Jvm.MethodName)) ∈ lw_all := lw_g (lw_at lw_m10 70 rfl) rfl
theorem q2532 : (Jvm.Cond.code ({ cls := "LinkedTongue$Chain", name := "emit", desc := "(LLinkedTongue$Emitter;)V" } : Jvm.MethodName) prog_5_method_3_code (5 : Nat) (Option.none : Option Jvm.ClassFile.FieldType)) ∈ lw_all := lw_g (lw_at lw_m10 71 rfl) rfl
theorem q2533 : (Jvm.Cond.methodLink "LinkedTongue$Chain" (40 : Nat) ({ cls := "LinkedTongue$Node", name := "emit", desc := "(LLinkedTongue$Emitter;)V" } : Jvm.MethodName)) ∈ lw_all := lw_g (lw_at lw_m10 72 rfl) rfl
theorem q2684 : (Jvm.Cond.methodLink "LinkedTongue$Chain" (44 : Nat) ({ cls := "LinkedTongue$Emitter", name := "jump", desc := "(I)I" } : Jvm.MethodName)) ∈ lw_all := lw_g (lw_at lw_m10 223 rfl) rfl
theorem q2685 : (Jvm.Cond.methodLink "LinkedTongue$Chain" (50 : Nat) ({ cls := "java/util/ArrayList", name := "get", desc := "(I)Ljava/lang/Object;" } : Jvm.MethodName)) ∈ lw_all := lw_g (lw_at lw_m10 224 rfl) rfl
theorem q2686 : (Jvm.Cond.classLink "LinkedTongue$Chain" (4 : Nat) "LinkedTongue$Node") ∈ lw_all := lw_g (lw_at lw_m10 225 rfl) rfl
theorem q2687 : (Jvm.Cond.methodLink "LinkedTongue$Chain" (54 : Nat) ({ cls := "LinkedTongue$Emitter", name := "land", desc := "(I)V" } : Jvm.MethodName)) ∈ lw_all := lw_g (lw_at lw_m10 226 rfl) rfl
theorem q2688 : (Jvm.Cond.methodLink "LinkedTongue$Chain" (58 : Nat) ({ cls := "LinkedTongue$Emitter", name := "add", desc := "(III)V" } : Jvm.MethodName)) ∈ lw_all := lw_g (lw_at lw_m10 227 rfl) rfl
theorem q2711 : (Jvm.Cond.selects "LinkedTongue$Chain" ({ cls := "LinkedTongue$Node", name := "emit", desc := "(LLinkedTongue$Emitter;)V" } : Jvm.MethodName) ({ cls := "LinkedTongue$Chain", name := "emit", desc := "(LLinkedTongue$Emitter;)V" } : Jvm.MethodName)) ∈ lw_all := lw_g (lw_at lw_m11 10 rfl) rfl
theorem q5483 : (Jvm.Cond.castable "LinkedTongue$Chain" "LinkedTongue$Node") ∈ lw_tbl := lw_at lw_m22 142 rfl
theorem q5549 : (Jvm.Cond.castable "LinkedTongue$Chain" "java/lang/Object") ∈ lw_tbl := lw_at lw_m22 208 rfl
theorem q357 : (Jvm.Cond.initialized "LinkedTongue$Assign") ∈ lw_all := lw_g (lw_at lw_m1 56 rfl) rfl
theorem q1061 : (Jvm.Cond.selects "LinkedTongue$Assign" ({ cls := "java/lang/Object", name := "getClass", desc := "()Ljava/lang/Class;" } : Jvm.MethodName) ({ cls := "java/lang/Object", name := "getClass", desc := "()Ljava/lang/Class;" } : Jvm.MethodName)) ∈ lw_all := lw_g (lw_at lw_m4 40 rfl) rfl
theorem q2043 : (Jvm.Cond.fieldLinkNest "LinkedTongue$Assign" (24 : Nat) "LinkedTongue$Variable" "name" "I" "LinkedTongue") ∈ lw_tbl := lw_at lw_m8 62 rfl
theorem q2330 : (Jvm.Cond.fieldLinkNest "LinkedTongue$Assign" (48 : Nat) "LinkedTongue$Part" "kind" "I" "LinkedTongue") ∈ lw_tbl := lw_at lw_m9 109 rfl
theorem q2333 : (Jvm.Cond.fieldLinkNest "LinkedTongue$Assign" (51 : Nat) "LinkedTongue$Part" "name" "I" "LinkedTongue") ∈ lw_tbl := lw_at lw_m9 112 rfl
theorem q2396 : (Jvm.Cond.instantiable "LinkedTongue$Assign" (2 : Nat)) ∈ lw_all := lw_g (lw_at lw_m9 175 rfl) rfl
theorem q2398 : (Jvm.Cond.instanceMethod ({ cls := "LinkedTongue$Assign", name := "<init>", desc := "(LLinkedTongue$Node;LLinkedTongue$Node;)V" } : Jvm.MethodName)) ∈ lw_all := lw_g (lw_at lw_m9 177 rfl) rfl
theorem q2399 : (Jvm.Cond.code ({ cls := "LinkedTongue$Assign", name := "<init>", desc := "(LLinkedTongue$Node;LLinkedTongue$Node;)V" } : Jvm.MethodName) prog_2_method_1_code (3 : Nat) (Option.none : Option Jvm.ClassFile.FieldType)) ∈ lw_all := lw_g (lw_at lw_m9 178 rfl) rfl
theorem q2400 : (Jvm.Cond.methodLinkNest "LinkedTongue$Assign" (3 : Nat) ({ cls := "LinkedTongue$Node", name := "<init>", desc := "()V" } : Jvm.MethodName) "LinkedTongue") ∈ lw_tbl := lw_at lw_m9 179 rfl
theorem q2401 : (Jvm.Cond.fieldLink "LinkedTongue$Assign" (9 : Nat) "LinkedTongue$Assign" "target" "LLinkedTongue$Node;") ∈ lw_all := lw_g (lw_at lw_m9 180 rfl) rfl
theorem q2402 : (Jvm.Cond.fieldLink "LinkedTongue$Assign" (15 : Nat) "LinkedTongue$Assign" "value" "LLinkedTongue$Node;") ∈ lw_all := lw_g (lw_at lw_m9 181 rfl) rfl
theorem q2403 : (Jvm.Cond.laysFinal "LinkedTongue$Assign" "LinkedTongue$Assign" "target" "LLinkedTongue$Node;") ∈ lw_all := lw_g (lw_at lw_m9 182 rfl) rfl
theorem q2404 : (Jvm.Cond.soleField "LinkedTongue$Assign" "target") ∈ lw_all := lw_g (lw_at lw_m9 183 rfl) rfl
theorem q2405 : (Jvm.Cond.laysFinal "LinkedTongue$Assign" "LinkedTongue$Assign" "value" "LLinkedTongue$Node;") ∈ lw_all := lw_g (lw_at lw_m9 184 rfl) rfl
theorem q2406 : (Jvm.Cond.soleField "LinkedTongue$Assign" "value") ∈ lw_all := lw_g (lw_at lw_m9 185 rfl) rfl
theorem q2407 : (Jvm.Cond.superclass "LinkedTongue$Assign" "LinkedTongue$Node") ∈ lw_all := lw_g (lw_at lw_m9 186 rfl) rfl
theorem q2513 : (Jvm.Cond.selects "LinkedTongue$Assign" ({ cls := "LinkedTongue$Node", name := "emit", desc := "(LLinkedTongue$Emitter;)V" } : Jvm.MethodName) ({ cls := "LinkedTongue$Assign", name := "emit", desc := "(LLinkedTongue$Emitter;)V" } : Jvm.MethodName)) ∈ lw_all := lw_g (lw_at lw_m10 52 rfl) rfl
theorem q2514 : (Jvm.Cond.instanceMethod ({ cls := "LinkedTongue$Assign", name := "emit", desc := "(LLinkedTongue$Emitter;)V" } : Jvm.MethodName)) ∈ lw_all := lw_g (lw_at lw_m10 53 rfl) rfl
theorem q2515 : (Jvm.Cond.code ({ cls := "LinkedTongue$Assign", name := "emit", desc := "(LLinkedTongue$Emitter;)V" } : Jvm.MethodName) prog_2_method_2_code (3 : Nat) (Option.none : Option Jvm.ClassFile.FieldType)) ∈ lw_all := lw_g (lw_at lw_m10 54 rfl) rfl
theorem q2516 : (Jvm.Cond.classLink "LinkedTongue$Assign" (18 : Nat) "LinkedTongue$Variable") ∈ lw_all := lw_g (lw_at lw_m10 55 rfl) rfl
theorem q2517 : (Jvm.Cond.methodLink "LinkedTongue$Assign" (20 : Nat) ({ cls := "LinkedTongue$Node", name := "emit", desc := "(LLinkedTongue$Emitter;)V" } : Jvm.MethodName)) ∈ lw_all := lw_g (lw_at lw_m10 56 rfl) rfl
theorem q2703 : (Jvm.Cond.methodLink "LinkedTongue$Assign" (28 : Nat) ({ cls := "LinkedTongue$Emitter", name := "variable", desc := "(IZ)V" } : Jvm.MethodName)) ∈ lw_all := lw_g (lw_at lw_m11 2 rfl) rfl
theorem q2704 : (Jvm.Cond.classLink "LinkedTongue$Assign" (34 : Nat) "LinkedTongue$Behind") ∈ lw_all := lw_g (lw_at lw_m11 3 rfl) rfl
theorem q2705 : (Jvm.Cond.methodLink "LinkedTongue$Assign" (36 : Nat) ({ cls := "LinkedTongue$Behind", name := "ahead", desc := "(LLinkedTongue$Emitter;)V" } : Jvm.MethodName)) ∈ lw_all := lw_g (lw_at lw_m11 4 rfl) rfl
theorem q2706 : (Jvm.Cond.methodLink "LinkedTongue$Assign" (39 : Nat) ({ cls := "LinkedTongue$Behind", name := "last", desc := "()LLinkedTongue$Part;" } : Jvm.MethodName)) ∈ lw_all := lw_g (lw_at lw_m11 5 rfl) rfl
theorem q2707 : (Jvm.Cond.methodLink "LinkedTongue$Assign" (43 : Nat) ({ cls := "LinkedTongue$Part", name := "operands", desc := "(LLinkedTongue$Emitter;)V" } : Jvm.MethodName)) ∈ lw_all := lw_g (lw_at lw_m11 6 rfl) rfl
theorem q2708 : (Jvm.Cond.methodLink "LinkedTongue$Assign" (52 : Nat) ({ cls := "LinkedTongue$Emitter", name := "site", desc := "(III)V" } : Jvm.MethodName)) ∈ lw_all := lw_g (lw_at lw_m11 7 rfl) rfl
theorem q5480 : (Jvm.Cond.castable "LinkedTongue$Assign" "LinkedTongue$Node") ∈ lw_tbl := lw_at lw_m22 139 rfl
theorem q5550 : (Jvm.Cond.castable "LinkedTongue$Assign" "java/lang/Object") ∈ lw_tbl := lw_at lw_m22 209 rfl
theorem q358 : (Jvm.Cond.initialized "LinkedTongue$Simple") ∈ lw_all := lw_g (lw_at lw_m1 57 rfl) rfl
theorem q1093 : (Jvm.Cond.selects "LinkedTongue$Simple" ({ cls := "java/lang/Object", name := "getClass", desc := "()Ljava/lang/Class;" } : Jvm.MethodName) ({ cls := "java/lang/Object", name := "getClass", desc := "()Ljava/lang/Class;" } : Jvm.MethodName)) ∈ lw_all := lw_g (lw_at lw_m4 72 rfl) rfl
theorem q2409 : (Jvm.Cond.instantiable "LinkedTongue$Simple" (3 : Nat)) ∈ lw_all := lw_g (lw_at lw_m9 188 rfl) rfl
theorem q2411 : (Jvm.Cond.instanceMethod ({ cls := "LinkedTongue$Simple", name := "<init>", desc := "(LLinkedTongue$Node;II)V" } : Jvm.MethodName)) ∈ lw_all := lw_g (lw_at lw_m9 190 rfl) rfl
theorem q2412 : (Jvm.Cond.code ({ cls := "LinkedTongue$Simple", name := "<init>", desc := "(LLinkedTongue$Node;II)V" } : Jvm.MethodName) prog_35_method_1_code (4 : Nat) (Option.none : Option Jvm.ClassFile.FieldType)) ∈ lw_all := lw_g (lw_at lw_m9 191 rfl) rfl
theorem q2413 : (Jvm.Cond.methodLinkNest "LinkedTongue$Simple" (1 : Nat) ({ cls := "LinkedTongue$Node", name := "<init>", desc := "()V" } : Jvm.MethodName) "LinkedTongue") ∈ lw_tbl := lw_at lw_m9 192 rfl
theorem q2414 : (Jvm.Cond.fieldLink "LinkedTongue$Simple" (7 : Nat) "LinkedTongue$Simple" "value" "LLinkedTongue$Node;") ∈ lw_all := lw_g (lw_at lw_m9 193 rfl) rfl
theorem q2415 : (Jvm.Cond.fieldLink "LinkedTongue$Simple" (13 : Nat) "LinkedTongue$Simple" "name" "I") ∈ lw_all := lw_g (lw_at lw_m9 194 rfl) rfl
theorem q2416 : (Jvm.Cond.fieldLink "LinkedTongue$Simple" (17 : Nat) "LinkedTongue$Simple" "op" "I") ∈ lw_all := lw_g (lw_at lw_m9 195 rfl) rfl
theorem q2417 : (Jvm.Cond.laysFinal "LinkedTongue$Simple" "LinkedTongue$Simple" "value" "LLinkedTongue$Node;") ∈ lw_all := lw_g (lw_at lw_m9 196 rfl) rfl
theorem q2418 : (Jvm.Cond.soleField "LinkedTongue$Simple" "value") ∈ lw_all := lw_g (lw_at lw_m9 197 rfl) rfl
theorem q2419 : (Jvm.Cond.laysFinal "LinkedTongue$Simple" "LinkedTongue$Simple" "name" "I") ∈ lw_all := lw_g (lw_at lw_m9 198 rfl) rfl
theorem q2420 : (Jvm.Cond.soleField "LinkedTongue$Simple" "name") ∈ lw_all := lw_g (lw_at lw_m9 199 rfl) rfl
theorem q2421 : (Jvm.Cond.laysFinal "LinkedTongue$Simple" "LinkedTongue$Simple" "op" "I") ∈ lw_all := lw_g (lw_at lw_m9 200 rfl) rfl
theorem q2422 : (Jvm.Cond.soleField "LinkedTongue$Simple" "op") ∈ lw_all := lw_g (lw_at lw_m9 201 rfl) rfl
theorem q2423 : (Jvm.Cond.superclass "LinkedTongue$Simple" "LinkedTongue$Node") ∈ lw_all := lw_g (lw_at lw_m9 202 rfl) rfl
theorem q2569 : (Jvm.Cond.instanceMethod ({ cls := "LinkedTongue$Simple", name := "emit", desc := "(LLinkedTongue$Emitter;)V" } : Jvm.MethodName)) ∈ lw_all := lw_g (lw_at lw_m10 108 rfl) rfl
theorem q2570 : (Jvm.Cond.code ({ cls := "LinkedTongue$Simple", name := "emit", desc := "(LLinkedTongue$Emitter;)V" } : Jvm.MethodName) prog_35_method_2_code (2 : Nat) (Option.none : Option Jvm.ClassFile.FieldType)) ∈ lw_all := lw_g (lw_at lw_m10 109 rfl) rfl
theorem q2571 : (Jvm.Cond.methodLink "LinkedTongue$Simple" (20 : Nat) ({ cls := "LinkedTongue$Node", name := "emit", desc := "(LLinkedTongue$Emitter;)V" } : Jvm.MethodName)) ∈ lw_all := lw_g (lw_at lw_m10 110 rfl) rfl
theorem q2612 : (Jvm.Cond.methodLink "LinkedTongue$Simple" (24 : Nat) ({ cls := "LinkedTongue$Emitter", name := "variable", desc := "(IZ)V" } : Jvm.MethodName)) ∈ lw_all := lw_g (lw_at lw_m10 151 rfl) rfl
theorem q2613 : (Jvm.Cond.methodLink "LinkedTongue$Simple" (30 : Nat) ({ cls := "LinkedTongue$Emitter", name := "add", desc := "(III)V" } : Jvm.MethodName)) ∈ lw_all := lw_g (lw_at lw_m10 152 rfl) rfl
theorem q2718 : (Jvm.Cond.selects "LinkedTongue$Simple" ({ cls := "LinkedTongue$Node", name := "emit", desc := "(LLinkedTongue$Emitter;)V" } : Jvm.MethodName) ({ cls := "LinkedTongue$Simple", name := "emit", desc := "(LLinkedTongue$Emitter;)V" } : Jvm.MethodName)) ∈ lw_all := lw_g (lw_at lw_m11 17 rfl) rfl
theorem q5490 : (Jvm.Cond.castable "LinkedTongue$Simple" "LinkedTongue$Node") ∈ lw_tbl := lw_at lw_m22 149 rfl
theorem q5551 : (Jvm.Cond.castable "LinkedTongue$Simple" "java/lang/Object") ∈ lw_tbl := lw_at lw_m22 210 rfl
theorem q359 : (Jvm.Cond.initialized "LinkedTongue$If") ∈ lw_all := lw_g (lw_at lw_m1 58 rfl) rfl
theorem q1078 : (Jvm.Cond.selects "LinkedTongue$If" ({ cls := "java/lang/Object", name := "getClass", desc := "()Ljava/lang/Class;" } : Jvm.MethodName) ({ cls := "java/lang/Object", name := "getClass", desc := "()Ljava/lang/Class;" } : Jvm.MethodName)) ∈ lw_all := lw_g (lw_at lw_m4 57 rfl) rfl
theorem q2429 : (Jvm.Cond.instantiable "LinkedTongue$If" (2 : Nat)) ∈ lw_all := lw_g (lw_at lw_m9 208 rfl) rfl
theorem q2431 : (Jvm.Cond.instanceMethod ({ cls := "LinkedTongue$If", name := "<init>", desc := "()V" } : Jvm.MethodName)) ∈ lw_all := lw_g (lw_at lw_m9 210 rfl) rfl
theorem q2432 : (Jvm.Cond.code ({ cls := "LinkedTongue$If", name := "<init>", desc := "()V" } : Jvm.MethodName) prog_19_method_1_code (1 : Nat) (Option.none : Option Jvm.ClassFile.FieldType)) ∈ lw_all := lw_g (lw_at lw_m9 211 rfl) rfl
theorem q2433 : (Jvm.Cond.methodLinkNest "LinkedTongue$If" (3 : Nat) ({ cls := "LinkedTongue$Node", name := "<init>", desc := "()V" } : Jvm.MethodName) "LinkedTongue") ∈ lw_tbl := lw_at lw_m9 212 rfl
theorem q2434 : (Jvm.Cond.classLink "LinkedTongue$If" (9 : Nat) "java/util/ArrayList") ∈ lw_all := lw_g (lw_at lw_m9 213 rfl) rfl
theorem q2435 : (Jvm.Cond.methodLink "LinkedTongue$If" (11 : Nat) ({ cls := "java/util/ArrayList", name := "<init>", desc := "()V" } : Jvm.MethodName)) ∈ lw_all := lw_g (lw_at lw_m9 214 rfl) rfl
theorem q2436 : (Jvm.Cond.fieldLink "LinkedTongue$If" (12 : Nat) "LinkedTongue$If" "conditions" "Ljava/util/ArrayList;") ∈ lw_all := lw_g (lw_at lw_m9 215 rfl) rfl
theorem q2438 : (Jvm.Cond.fieldLink "LinkedTongue$If" (18 : Nat) "LinkedTongue$If" "blocks" "Ljava/util/ArrayList;") ∈ lw_all := lw_g (lw_at lw_m9 217 rfl) rfl
theorem q2440 : (Jvm.Cond.laysFinal "LinkedTongue$If" "LinkedTongue$If" "conditions" "Ljava/util/ArrayList;") ∈ lw_all := lw_g (lw_at lw_m9 219 rfl) rfl
theorem q2441 : (Jvm.Cond.soleField "LinkedTongue$If" "conditions") ∈ lw_all := lw_g (lw_at lw_m9 220 rfl) rfl
theorem q2442 : (Jvm.Cond.laysFinal "LinkedTongue$If" "LinkedTongue$If" "blocks" "Ljava/util/ArrayList;") ∈ lw_all := lw_g (lw_at lw_m9 221 rfl) rfl
theorem q2443 : (Jvm.Cond.soleField "LinkedTongue$If" "blocks") ∈ lw_all := lw_g (lw_at lw_m9 222 rfl) rfl
theorem q2444 : (Jvm.Cond.superclass "LinkedTongue$If" "LinkedTongue$Node") ∈ lw_all := lw_g (lw_at lw_m9 223 rfl) rfl
theorem q2551 : (Jvm.Cond.instanceMethod ({ cls := "LinkedTongue$If", name := "emit", desc := "(LLinkedTongue$Emitter;)V" } : Jvm.MethodName)) ∈ lw_all := lw_g (lw_at lw_m10 90 rfl) rfl
theorem q2552 : (Jvm.Cond.code ({ cls := "LinkedTongue$If", name := "emit", desc := "(LLinkedTongue$Emitter;)V" } : Jvm.MethodName) prog_19_method_2_code (6 : Nat) (Option.none : Option Jvm.ClassFile.FieldType)) ∈ lw_all := lw_g (lw_at lw_m10 91 rfl) rfl
theorem q2553 : (Jvm.Cond.methodLink "LinkedTongue$If" (21 : Nat) ({ cls := "java/util/ArrayList", name := "size", desc := "()I" } : Jvm.MethodName)) ∈ lw_all := lw_g (lw_at lw_m10 92 rfl) rfl
theorem q2554 : (Jvm.Cond.methodLink "LinkedTongue$If" (25 : Nat) ({ cls := "java/util/ArrayList", name := "get", desc := "(I)Ljava/lang/Object;" } : Jvm.MethodName)) ∈ lw_all := lw_g (lw_at lw_m10 93 rfl) rfl
theorem q2555 : (Jvm.Cond.classLink "LinkedTongue$If" (4 : Nat) "LinkedTongue$Node") ∈ lw_all := lw_g (lw_at lw_m10 94 rfl) rfl
theorem q2556 : (Jvm.Cond.methodLink "LinkedTongue$If" (29 : Nat) ({ cls := "LinkedTongue$Node", name := "emit", desc := "(LLinkedTongue$Emitter;)V" } : Jvm.MethodName)) ∈ lw_all := lw_g (lw_at lw_m10 95 rfl) rfl
theorem q2680 : (Jvm.Cond.methodLink "LinkedTongue$If" (33 : Nat) ({ cls := "LinkedTongue$Emitter", name := "jump", desc := "(I)I" } : Jvm.MethodName)) ∈ lw_all := lw_g (lw_at lw_m10 219 rfl) rfl
theorem q2681 : (Jvm.Cond.classLink "LinkedTongue$If" (39 : Nat) "LinkedTongue$Block") ∈ lw_all := lw_g (lw_at lw_m10 220 rfl) rfl
theorem q2682 : (Jvm.Cond.methodLink "LinkedTongue$If" (41 : Nat) ({ cls := "LinkedTongue$Block", name := "emit", desc := "(LLinkedTongue$Emitter;)V" } : Jvm.MethodName)) ∈ lw_all := lw_g (lw_at lw_m10 221 rfl) rfl
theorem q2683 : (Jvm.Cond.methodLink "LinkedTongue$If" (42 : Nat) ({ cls := "LinkedTongue$Emitter", name := "land", desc := "(I)V" } : Jvm.MethodName)) ∈ lw_all := lw_g (lw_at lw_m10 222 rfl) rfl
theorem q2715 : (Jvm.Cond.selects "LinkedTongue$If" ({ cls := "LinkedTongue$Node", name := "emit", desc := "(LLinkedTongue$Emitter;)V" } : Jvm.MethodName) ({ cls := "LinkedTongue$If", name := "emit", desc := "(LLinkedTongue$Emitter;)V" } : Jvm.MethodName)) ∈ lw_all := lw_g (lw_at lw_m11 14 rfl) rfl
theorem q5487 : (Jvm.Cond.castable "LinkedTongue$If" "LinkedTongue$Node") ∈ lw_tbl := lw_at lw_m22 146 rfl
theorem q5552 : (Jvm.Cond.castable "LinkedTongue$If" "java/lang/Object") ∈ lw_tbl := lw_at lw_m22 211 rfl
theorem q308 : (Jvm.Cond.initialized "LinkedTongue$Host") ∈ lw_all := lw_g (lw_at lw_m1 7 rfl) rfl
theorem q471 : (Jvm.Cond.fieldLinkNest "LinkedTongue$Host" (124 : Nat) "LinkedTongue$Scanner" "text" "[B" "LinkedTongue") ∈ lw_tbl := lw_at lw_m1 170 rfl
theorem q474 : (Jvm.Cond.fieldLinkNest "LinkedTongue$Host" (90 : Nat) "LinkedTongue$Scanner" "kind" "I" "LinkedTongue") ∈ lw_tbl := lw_at lw_m1 173 rfl
theorem q478 : (Jvm.Cond.fieldLinkNest "LinkedTongue$Host" (128 : Nat) "LinkedTongue$Scanner" "from" "I" "LinkedTongue") ∈ lw_tbl := lw_at lw_m1 177 rfl
theorem q481 : (Jvm.Cond.fieldLinkNest "LinkedTongue$Host" (131 : Nat) "LinkedTongue$Scanner" "to" "I" "LinkedTongue") ∈ lw_tbl := lw_at lw_m1 180 rfl
theorem q511 : (Jvm.Cond.instantiable "LinkedTongue$Host" (10 : Nat)) ∈ lw_all := lw_g (lw_at lw_m1 210 rfl) rfl
theorem q513 : (Jvm.Cond.instanceMethod ({ cls := "LinkedTongue$Host", name := "<init>", desc := "()V" } : Jvm.MethodName)) ∈ lw_all := lw_g (lw_at lw_m1 212 rfl) rfl
theorem q514 : (Jvm.Cond.code ({ cls := "LinkedTongue$Host", name := "<init>", desc := "()V" } : Jvm.MethodName) prog_17_method_1_code (1 : Nat) (Option.none : Option Jvm.ClassFile.FieldType)) ∈ lw_all := lw_g (lw_at lw_m1 213 rfl) rfl
theorem q515 : (Jvm.Cond.methodLink "LinkedTongue$Host" (3 : Nat) ({ cls := "java/lang/Object", name := "<init>", desc := "()V" } : Jvm.MethodName)) ∈ lw_all := lw_g (lw_at lw_m1 214 rfl) rfl
theorem q516 : (Jvm.Cond.classLink "LinkedTongue$Host" (9 : Nat) "java/lang/String") ∈ lw_all := lw_g (lw_at lw_m1 215 rfl) rfl
theorem q518 : (Jvm.Cond.stringRef "LinkedTongue$Host" (11 : Nat) "void") ∈ lw_tbl := lw_at lw_m1 217 rfl
theorem q519 : (Jvm.Cond.stringRef "LinkedTongue$Host" (13 : Nat) "int") ∈ lw_tbl := lw_at lw_m1 218 rfl
theorem q520 : (Jvm.Cond.stringRef "LinkedTongue$Host" (15 : Nat) "long") ∈ lw_tbl := lw_at lw_m1 219 rfl
theorem q521 : (Jvm.Cond.stringRef "LinkedTongue$Host" (17 : Nat) "bool") ∈ lw_tbl := lw_at lw_m1 220 rfl
theorem q522 : (Jvm.Cond.stringRef "LinkedTongue$Host" (19 : Nat) "Int") ∈ lw_tbl := lw_at lw_m1 221 rfl
theorem q523 : (Jvm.Cond.stringRef "LinkedTongue$Host" (21 : Nat) "Long") ∈ lw_tbl := lw_at lw_m1 222 rfl
theorem q524 : (Jvm.Cond.stringRef "LinkedTongue$Host" (23 : Nat) "Bool") ∈ lw_tbl := lw_at lw_m1 223 rfl
theorem q525 : (Jvm.Cond.stringRef "LinkedTongue$Host" (25 : Nat) "Text") ∈ lw_tbl := lw_at lw_m1 224 rfl
theorem q526 : (Jvm.Cond.stringRef "LinkedTongue$Host" (27 : Nat) "Any") ∈ lw_tbl := lw_at lw_m1 225 rfl
theorem q527 : (Jvm.Cond.classLink "LinkedTongue$Host" (35 : Nat) "java/util/ArrayList") ∈ lw_all := lw_g (lw_at lw_m1 226 rfl) rfl
theorem q529 : (Jvm.Cond.methodLink "LinkedTongue$Host" (37 : Nat) ({ cls := "java/util/ArrayList", name := "<init>", desc := "()V" } : Jvm.MethodName)) ∈ lw_all := lw_g (lw_at lw_m1 228 rfl) rfl
theorem q553 : (Jvm.Cond.classLink "LinkedTongue$Host" (45 : Nat) "LinkedTongue$Words") ∈ lw_all := lw_g (lw_at lw_m2 12 rfl) rfl
theorem q555 : (Jvm.Cond.methodLink "LinkedTongue$Host" (47 : Nat) ({ cls := "LinkedTongue$Words", name := "<init>", desc := "(II)V" } : Jvm.MethodName)) ∈ lw_all := lw_g (lw_at lw_m2 14 rfl) rfl
theorem q602 : (Jvm.Cond.fieldLink "LinkedTongue$Host" (29 : Nat) "LinkedTongue$Host" "plainWords" "[Ljava/lang/String;") ∈ lw_all := lw_g (lw_at lw_m2 61 rfl) rfl
theorem q603 : (Jvm.Cond.fieldLink "LinkedTongue$Host" (38 : Nat) "LinkedTongue$Host" "types" "Ljava/util/ArrayList;") ∈ lw_all := lw_g (lw_at lw_m2 62 rfl) rfl
theorem q606 : (Jvm.Cond.fieldLink "LinkedTongue$Host" (42 : Nat) "LinkedTongue$Host" "members" "Ljava/util/ArrayList;") ∈ lw_all := lw_g (lw_at lw_m2 65 rfl) rfl
theorem q608 : (Jvm.Cond.fieldLink "LinkedTongue$Host" (50 : Nat) "LinkedTongue$Host" "words" "LLinkedTongue$Words;") ∈ lw_all := lw_g (lw_at lw_m2 67 rfl) rfl
theorem q611 : (Jvm.Cond.fieldLink "LinkedTongue$Host" (54 : Nat) "LinkedTongue$Host" "draft" "[I") ∈ lw_all := lw_g (lw_at lw_m2 70 rfl) rfl
theorem q612 : (Jvm.Cond.fieldLink "LinkedTongue$Host" (201 : Nat) "LinkedTongue$Host" "drafted" "I") ∈ lw_all := lw_g (lw_at lw_m2 71 rfl) rfl
theorem q613 : (Jvm.Cond.fieldLink "LinkedTongue$Host" (214 : Nat) "LinkedTongue$Host" "draftVariable" "Z") ∈ lw_all := lw_g (lw_at lw_m2 72 rfl) rfl
theorem q614 : (Jvm.Cond.fieldLink "LinkedTongue$Host" (58 : Nat) "LinkedTongue$Host" "meant" "Ljava/util/ArrayList;") ∈ lw_all := lw_g (lw_at lw_m2 73 rfl) rfl
theorem q615 : (Jvm.Cond.fieldLink "LinkedTongue$Host" (61 : Nat) "LinkedTongue$Host" "met" "[Z") ∈ lw_all := lw_g (lw_at lw_m2 74 rfl) rfl
theorem q617 : (Jvm.Cond.fieldLink "LinkedTongue$Host" (254 : Nat) "LinkedTongue$Host" "why" "I") ∈ lw_all := lw_g (lw_at lw_m2 76 rfl) rfl
theorem q618 : (Jvm.Cond.laysFinal "LinkedTongue$Host" "LinkedTongue$Host" "plainWords" "[Ljava/lang/String;") ∈ lw_all := lw_g (lw_at lw_m2 77 rfl) rfl
theorem q619 : (Jvm.Cond.soleField "LinkedTongue$Host" "plainWords") ∈ lw_all := lw_g (lw_at lw_m2 78 rfl) rfl
theorem q620 : (Jvm.Cond.laysFinal "LinkedTongue$Host" "LinkedTongue$Host" "types" "Ljava/util/ArrayList;") ∈ lw_all := lw_g (lw_at lw_m2 79 rfl) rfl
theorem q621 : (Jvm.Cond.soleField "LinkedTongue$Host" "types") ∈ lw_all := lw_g (lw_at lw_m2 80 rfl) rfl
theorem q622 : (Jvm.Cond.laysFinal "LinkedTongue$Host" "LinkedTongue$Host" "members" "Ljava/util/ArrayList;") ∈ lw_all := lw_g (lw_at lw_m2 81 rfl) rfl
theorem q623 : (Jvm.Cond.soleField "LinkedTongue$Host" "members") ∈ lw_all := lw_g (lw_at lw_m2 82 rfl) rfl
theorem q624 : (Jvm.Cond.laysFinal "LinkedTongue$Host" "LinkedTongue$Host" "words" "LLinkedTongue$Words;") ∈ lw_all := lw_g (lw_at lw_m2 83 rfl) rfl
theorem q625 : (Jvm.Cond.soleField "LinkedTongue$Host" "words") ∈ lw_all := lw_g (lw_at lw_m2 84 rfl) rfl
theorem q626 : (Jvm.Cond.laysFinal "LinkedTongue$Host" "LinkedTongue$Host" "draft" "[I") ∈ lw_all := lw_g (lw_at lw_m2 85 rfl) rfl
theorem q627 : (Jvm.Cond.soleField "LinkedTongue$Host" "draft") ∈ lw_all := lw_g (lw_at lw_m2 86 rfl) rfl
theorem q628 : (Jvm.Cond.lays "LinkedTongue$Host" "LinkedTongue$Host" "drafted" "I") ∈ lw_all := lw_g (lw_at lw_m2 87 rfl) rfl
theorem q629 : (Jvm.Cond.soleField "LinkedTongue$Host" "drafted") ∈ lw_all := lw_g (lw_at lw_m2 88 rfl) rfl
theorem q630 : (Jvm.Cond.lays "LinkedTongue$Host" "LinkedTongue$Host" "draftVariable" "Z") ∈ lw_all := lw_g (lw_at lw_m2 89 rfl) rfl
theorem q631 : (Jvm.Cond.soleField "LinkedTongue$Host" "draftVariable") ∈ lw_all := lw_g (lw_at lw_m2 90 rfl) rfl
theorem q632 : (Jvm.Cond.laysFinal "LinkedTongue$Host" "LinkedTongue$Host" "meant" "Ljava/util/ArrayList;") ∈ lw_all := lw_g (lw_at lw_m2 91 rfl) rfl
theorem q633 : (Jvm.Cond.soleField "LinkedTongue$Host" "meant") ∈ lw_all := lw_g (lw_at lw_m2 92 rfl) rfl
theorem q634 : (Jvm.Cond.laysFinal "LinkedTongue$Host" "LinkedTongue$Host" "met" "[Z") ∈ lw_all := lw_g (lw_at lw_m2 93 rfl) rfl
theorem q635 : (Jvm.Cond.soleField "LinkedTongue$Host" "met") ∈ lw_all := lw_g (lw_at lw_m2 94 rfl) rfl
theorem q636 : (Jvm.Cond.lays "LinkedTongue$Host" "LinkedTongue$Host" "why" "I") ∈ lw_all := lw_g (lw_at lw_m2 95 rfl) rfl
theorem q637 : (Jvm.Cond.soleField "LinkedTongue$Host" "why") ∈ lw_all := lw_g (lw_at lw_m2 96 rfl) rfl
theorem q638 : (Jvm.Cond.superclass "LinkedTongue$Host" "java/lang/Object") ∈ lw_all := lw_g (lw_at lw_m2 97 rfl) rfl
theorem q1076 : (Jvm.Cond.selects "LinkedTongue$Host" ({ cls := "java/lang/Object", name := "getClass", desc := "()Ljava/lang/Class;" } : Jvm.MethodName) ({ cls := "java/lang/Object", name := "getClass", desc := "()Ljava/lang/Class;" } : Jvm.MethodName)) ∈ lw_all := lw_g (lw_at lw_m4 55 rfl) rfl
theorem q1332 : (Jvm.Cond.instanceMethod ({ cls := "LinkedTongue$Host", name := "clear", desc := "()V" } : Jvm.MethodName)) ∈ lw_all := lw_g (lw_at lw_m5 71 rfl) rfl
theorem q1333 : (Jvm.Cond.selects "LinkedTongue$Host" ({ cls := "LinkedTongue$Host", name := "clear", desc := "()V" } : Jvm.MethodName) ({ cls := "LinkedTongue$Host", name := "clear", desc := "()V" } : Jvm.MethodName)) ∈ lw_all := lw_g (lw_at lw_m5 72 rfl) rfl
theorem q1334 : (Jvm.Cond.code ({ cls := "LinkedTongue$Host", name := "clear", desc := "()V" } : Jvm.MethodName) prog_17_method_2_code (1 : Nat) (Option.none : Option Jvm.ClassFile.FieldType)) ∈ lw_all := lw_g (lw_at lw_m5 73 rfl) rfl
theorem q1335 : (Jvm.Cond.methodLink "LinkedTongue$Host" (65 : Nat) ({ cls := "java/util/ArrayList", name := "clear", desc := "()V" } : Jvm.MethodName)) ∈ lw_all := lw_g (lw_at lw_m5 74 rfl) rfl
theorem q1336 : (Jvm.Cond.methodLink "LinkedTongue$Host" (68 : Nat) ({ cls := "LinkedTongue$Words", name := "cut", desc := "(I)V" } : Jvm.MethodName)) ∈ lw_all := lw_g (lw_at lw_m5 75 rfl) rfl
theorem q1383 : (Jvm.Cond.instanceMethod ({ cls := "LinkedTongue$Host", name := "read", desc := "(LLinkedTongue$Scanner;)V" } : Jvm.MethodName)) ∈ lw_all := lw_g (lw_at lw_m5 122 rfl) rfl
theorem q1384 : (Jvm.Cond.selects "LinkedTongue$Host" ({ cls := "LinkedTongue$Host", name := "read", desc := "(LLinkedTongue$Scanner;)V" } : Jvm.MethodName) ({ cls := "LinkedTongue$Host", name := "read", desc := "(LLinkedTongue$Scanner;)V" } : Jvm.MethodName)) ∈ lw_all := lw_g (lw_at lw_m5 123 rfl) rfl
theorem q1385 : (Jvm.Cond.code ({ cls := "LinkedTongue$Host", name := "read", desc := "(LLinkedTongue$Scanner;)V" } : Jvm.MethodName) prog_17_method_4_code (3 : Nat) (Option.none : Option Jvm.ClassFile.FieldType)) ∈ lw_all := lw_g (lw_at lw_m5 124 rfl) rfl
theorem q1386 : (Jvm.Cond.stringRef "LinkedTongue$Host" (95 : Nat) "interface") ∈ lw_tbl := lw_at lw_m5 125 rfl
theorem q1387 : (Jvm.Cond.methodLink "LinkedTongue$Host" (97 : Nat) ({ cls := "LinkedTongue$Scanner", name := "is", desc := "(Ljava/lang/String;)Z" } : Jvm.MethodName)) ∈ lw_all := lw_g (lw_at lw_m5 126 rfl) rfl
theorem q1437 : (Jvm.Cond.stringRef "LinkedTongue$Host" (101 : Nat) "class") ∈ lw_tbl := lw_at lw_m5 176 rfl
theorem q1438 : (Jvm.Cond.methodLink "LinkedTongue$Host" (103 : Nat) ({ cls := "LinkedTongue$Scanner", name := "fail", desc := "(I)V" } : Jvm.MethodName)) ∈ lw_all := lw_g (lw_at lw_m5 177 rfl) rfl
theorem q1439 : (Jvm.Cond.methodLink "LinkedTongue$Host" (106 : Nat) ({ cls := "LinkedTongue$Scanner", name := "next", desc := "()V" } : Jvm.MethodName)) ∈ lw_all := lw_g (lw_at lw_m5 178 rfl) rfl
theorem q1440 : (Jvm.Cond.methodLink "LinkedTongue$Host" (109 : Nat) ({ cls := "LinkedTongue$Host", name := "readType", desc := "(LLinkedTongue$Scanner;Z)V" } : Jvm.MethodName)) ∈ lw_all := lw_g (lw_at lw_m5 179 rfl) rfl
theorem q1441 : (Jvm.Cond.privateMethod ({ cls := "LinkedTongue$Host", name := "readType", desc := "(LLinkedTongue$Scanner;Z)V" } : Jvm.MethodName)) ∈ lw_tbl := lw_at lw_m5 180 rfl
theorem q1442 : (Jvm.Cond.instanceMethod ({ cls := "LinkedTongue$Host", name := "readType", desc := "(LLinkedTongue$Scanner;Z)V" } : Jvm.MethodName)) ∈ lw_all := lw_g (lw_at lw_m5 181 rfl) rfl
theorem q1443 : (Jvm.Cond.code ({ cls := "LinkedTongue$Host", name := "readType", desc := "(LLinkedTongue$Scanner;Z)V" } : Jvm.MethodName) prog_17_method_8_code (5 : Nat) (Option.none : Option Jvm.ClassFile.FieldType)) ∈ lw_all := lw_g (lw_at lw_m5 182 rfl) rfl
theorem q1444 : (Jvm.Cond.methodLink "LinkedTongue$Host" (143 : Nat) ({ cls := "LinkedTongue$Host", name := "newName", desc := "(LLinkedTongue$Scanner;)I" } : Jvm.MethodName)) ∈ lw_all := lw_g (lw_at lw_m5 183 rfl) rfl
theorem q1445 : (Jvm.Cond.privateMethod ({ cls := "LinkedTongue$Host", name := "newName", desc := "(LLinkedTongue$Scanner;)I" } : Jvm.MethodName)) ∈ lw_tbl := lw_at lw_m5 184 rfl
theorem q1446 : (Jvm.Cond.instanceMethod ({ cls := "LinkedTongue$Host", name := "newName", desc := "(LLinkedTongue$Scanner;)I" } : Jvm.MethodName)) ∈ lw_all := lw_g (lw_at lw_m5 185 rfl) rfl
theorem q1447 : (Jvm.Cond.code ({ cls := "LinkedTongue$Host", name := "newName", desc := "(LLinkedTongue$Scanner;)I" } : Jvm.MethodName) prog_17_method_6_code (2 : Nat) (Option.some Jvm.ClassFile.FieldType.int)) ∈ lw_all := lw_g (lw_at lw_m5 186 rfl) rfl
theorem q1448 : (Jvm.Cond.methodLink "LinkedTongue$Host" (113 : Nat) ({ cls := "LinkedTongue$Scanner", name := "demand", desc := "(I)V" } : Jvm.MethodName)) ∈ lw_all := lw_g (lw_at lw_m5 187 rfl) rfl
theorem q1452 : (Jvm.Cond.methodLink "LinkedTongue$Host" (116 : Nat) ({ cls := "LinkedTongue$Host", name := "plain", desc := "(LLinkedTongue$Scanner;)I" } : Jvm.MethodName)) ∈ lw_all := lw_g (lw_at lw_m5 191 rfl) rfl
theorem q1453 : (Jvm.Cond.privateMethod ({ cls := "LinkedTongue$Host", name := "plain", desc := "(LLinkedTongue$Scanner;)I" } : Jvm.MethodName)) ∈ lw_tbl := lw_at lw_m5 192 rfl
theorem q1454 : (Jvm.Cond.instanceMethod ({ cls := "LinkedTongue$Host", name := "plain", desc := "(LLinkedTongue$Scanner;)I" } : Jvm.MethodName)) ∈ lw_all := lw_g (lw_at lw_m5 193 rfl) rfl
theorem q1455 : (Jvm.Cond.code ({ cls := "LinkedTongue$Host", name := "plain", desc := "(LLinkedTongue$Scanner;)I" } : Jvm.MethodName) prog_17_method_5_code (3 : Nat) (Option.some Jvm.ClassFile.FieldType.int)) ∈ lw_all := lw_g (lw_at lw_m5 194 rfl) rfl
theorem q1456 : (Jvm.Cond.stringRef "LinkedTongue$Host" (120 : Nat) "static") ∈ lw_tbl := lw_at lw_m5 195 rfl
theorem q1457 : (Jvm.Cond.stringRef "LinkedTongue$Host" (122 : Nat) "new") ∈ lw_tbl := lw_at lw_m5 196 rfl
theorem q1458 : (Jvm.Cond.methodLink "LinkedTongue$Host" (134 : Nat) ({ cls := "LinkedTongue$Words", name := "take", desc := "([BII)I" } : Jvm.MethodName)) ∈ lw_all := lw_g (lw_at lw_m5 197 rfl) rfl
theorem q1481 : (Jvm.Cond.methodLink "LinkedTongue$Host" (137 : Nat) ({ cls := "LinkedTongue$Host", name := "find", desc := "([BII)LLinkedTongue$HostType;" } : Jvm.MethodName)) ∈ lw_all := lw_g (lw_at lw_m5 220 rfl) rfl
theorem q1482 : (Jvm.Cond.instanceMethod ({ cls := "LinkedTongue$Host", name := "find", desc := "([BII)LLinkedTongue$HostType;" } : Jvm.MethodName)) ∈ lw_all := lw_g (lw_at lw_m5 221 rfl) rfl
theorem q1483 : (Jvm.Cond.selects "LinkedTongue$Host" ({ cls := "LinkedTongue$Host", name := "find", desc := "([BII)LLinkedTongue$HostType;" } : Jvm.MethodName) ({ cls := "LinkedTongue$Host", name := "find", desc := "([BII)LLinkedTongue$HostType;" } : Jvm.MethodName)) ∈ lw_all := lw_g (lw_at lw_m5 222 rfl) rfl
theorem q1484 : (Jvm.Cond.code ({ cls := "LinkedTongue$Host", name := "find", desc := "([BII)LLinkedTongue$HostType;" } : Jvm.MethodName) prog_17_method_3_code (6 : Nat) (Option.some (Jvm.ClassFile.FieldType.object "LinkedTongue$HostType"))) ∈ lw_all := lw_g (lw_at lw_m5 223 rfl) rfl
theorem q1485 : (Jvm.Cond.methodLink "LinkedTongue$Host" (72 : Nat) ({ cls := "LinkedTongue$Words", name := "find", desc := "([BII)I" } : Jvm.MethodName)) ∈ lw_all := lw_g (lw_at lw_m5 224 rfl) rfl
theorem q1486 : (Jvm.Cond.methodLink "LinkedTongue$Host" (76 : Nat) ({ cls := "java/util/ArrayList", name := "size", desc := "()I" } : Jvm.MethodName)) ∈ lw_all := lw_g (lw_at lw_m5 225 rfl) rfl
theorem q1487 : (Jvm.Cond.methodLink "LinkedTongue$Host" (80 : Nat) ({ cls := "java/util/ArrayList", name := "get", desc := "(I)Ljava/lang/Object;" } : Jvm.MethodName)) ∈ lw_all := lw_g (lw_at lw_m5 226 rfl) rfl
theorem q1488 : (Jvm.Cond.classLink "LinkedTongue$Host" (84 : Nat) "LinkedTongue$HostType") ∈ lw_all := lw_g (lw_at lw_m5 227 rfl) rfl
theorem q1490 : (Jvm.Cond.methodLink "LinkedTongue$Host" (146 : Nat) ({ cls := "LinkedTongue$HostType", name := "<init>", desc := "(IIZI)V" } : Jvm.MethodName)) ∈ lw_all := lw_g (lw_at lw_m5 229 rfl) rfl
theorem q1498 : (Jvm.Cond.fieldLinkNest "LinkedTongue$Host" (140 : Nat) "LinkedTongue$HostType" "number" "I" "LinkedTongue") ∈ lw_tbl := lw_at lw_m5 237 rfl
theorem q1504 : (Jvm.Cond.fieldLinkNest "LinkedTongue$Host" (86 : Nat) "LinkedTongue$HostType" "name" "I" "LinkedTongue") ∈ lw_tbl := lw_at lw_m6 3 rfl
theorem q1509 : (Jvm.Cond.fieldLinkNest "LinkedTongue$Host" (171 : Nat) "LinkedTongue$HostType" "isInterface" "Z" "LinkedTongue") ∈ lw_tbl := lw_at lw_m6 8 rfl
theorem q1512 : (Jvm.Cond.fieldLinkNest "LinkedTongue$Host" (175 : Nat) "LinkedTongue$HostType" "above" "LLinkedTongue$HostType;" "LinkedTongue") ∈ lw_tbl := lw_at lw_m6 11 rfl
theorem q1514 : (Jvm.Cond.fieldLinkNest "LinkedTongue$Host" (168 : Nat) "LinkedTongue$HostType" "supers" "Ljava/util/ArrayList;" "LinkedTongue") ∈ lw_tbl := lw_at lw_m6 13 rfl
theorem q1516 : (Jvm.Cond.fieldLinkNest "LinkedTongue$Host" (196 : Nat) "LinkedTongue$HostType" "members" "Ljava/util/ArrayList;" "LinkedTongue") ∈ lw_tbl := lw_at lw_m6 15 rfl
theorem q1546 : (Jvm.Cond.methodLink "LinkedTongue$Host" (149 : Nat) ({ cls := "LinkedTongue$Host", name := "readSupers", desc := "(LLinkedTongue$Scanner;LLinkedTongue$HostType;)V" } : Jvm.MethodName)) ∈ lw_all := lw_g (lw_at lw_m6 45 rfl) rfl
theorem q1547 : (Jvm.Cond.privateMethod ({ cls := "LinkedTongue$Host", name := "readSupers", desc := "(LLinkedTongue$Scanner;LLinkedTongue$HostType;)V" } : Jvm.MethodName)) ∈ lw_tbl := lw_at lw_m6 46 rfl
theorem q1548 : (Jvm.Cond.instanceMethod ({ cls := "LinkedTongue$Host", name := "readSupers", desc := "(LLinkedTongue$Scanner;LLinkedTongue$HostType;)V" } : Jvm.MethodName)) ∈ lw_all := lw_g (lw_at lw_m6 47 rfl) rfl
theorem q1549 : (Jvm.Cond.code ({ cls := "LinkedTongue$Host", name := "readSupers", desc := "(LLinkedTongue$Scanner;LLinkedTongue$HostType;)V" } : Jvm.MethodName) prog_17_method_9_code (8 : Nat) (Option.none : Option Jvm.ClassFile.FieldType)) ∈ lw_all := lw_g (lw_at lw_m6 48 rfl) rfl
theorem q1550 : (Jvm.Cond.methodLink "LinkedTongue$Host" (165 : Nat) ({ cls := "LinkedTongue$Host", name := "type", desc := "(LLinkedTongue$Scanner;)I" } : Jvm.MethodName)) ∈ lw_all := lw_g (lw_at lw_m6 49 rfl) rfl
theorem q1551 : (Jvm.Cond.privateMethod ({ cls := "LinkedTongue$Host", name := "type", desc := "(LLinkedTongue$Scanner;)I" } : Jvm.MethodName)) ∈ lw_tbl := lw_at lw_m6 50 rfl
theorem q1552 : (Jvm.Cond.instanceMethod ({ cls := "LinkedTongue$Host", name := "type", desc := "(LLinkedTongue$Scanner;)I" } : Jvm.MethodName)) ∈ lw_all := lw_g (lw_at lw_m6 51 rfl) rfl
theorem q1553 : (Jvm.Cond.code ({ cls := "LinkedTongue$Host", name := "type", desc := "(LLinkedTongue$Scanner;)I" } : Jvm.MethodName) prog_17_method_7_code (4 : Nat) (Option.some Jvm.ClassFile.FieldType.int)) ∈ lw_all := lw_g (lw_at lw_m6 52 rfl) rfl
theorem q1554 : (Jvm.Cond.methodLink "LinkedTongue$Host" (179 : Nat) ({ cls := "LinkedTongue$HostType", name := "rise", desc := "(LLinkedTongue$HostType;)V" } : Jvm.MethodName)) ∈ lw_all := lw_g (lw_at lw_m6 53 rfl) rfl
theorem q1559 : (Jvm.Cond.methodLink "LinkedTongue$Host" (153 : Nat) ({ cls := "java/util/ArrayList", name := "add", desc := "(Ljava/lang/Object;)Z" } : Jvm.MethodName)) ∈ lw_all := lw_g (lw_at lw_m6 58 rfl) rfl
theorem q1560 : (Jvm.Cond.methodLink "LinkedTongue$Host" (157 : Nat) ({ cls := "LinkedTongue$Scanner", name := "take", desc := "(I)V" } : Jvm.MethodName)) ∈ lw_all := lw_g (lw_at lw_m6 59 rfl) rfl
theorem q1565 : (Jvm.Cond.methodLink "LinkedTongue$Host" (159 : Nat) ({ cls := "LinkedTongue$Host", name := "readMember", desc := "(LLinkedTongue$Scanner;LLinkedTongue$HostType;)V" } : Jvm.MethodName)) ∈ lw_all := lw_g (lw_at lw_m6 64 rfl) rfl
theorem q1566 : (Jvm.Cond.privateMethod ({ cls := "LinkedTongue$Host", name := "readMember", desc := "(LLinkedTongue$Scanner;LLinkedTongue$HostType;)V" } : Jvm.MethodName)) ∈ lw_tbl := lw_at lw_m6 65 rfl
theorem q1567 : (Jvm.Cond.instanceMethod ({ cls := "LinkedTongue$Host", name := "readMember", desc := "(LLinkedTongue$Scanner;LLinkedTongue$HostType;)V" } : Jvm.MethodName)) ∈ lw_all := lw_g (lw_at lw_m6 66 rfl) rfl
theorem q1568 : (Jvm.Cond.code ({ cls := "LinkedTongue$Host", name := "readMember", desc := "(LLinkedTongue$Scanner;LLinkedTongue$HostType;)V" } : Jvm.MethodName) prog_17_method_10_code (11 : Nat) (Option.none : Option Jvm.ClassFile.FieldType)) ∈ lw_all := lw_g (lw_at lw_m6 67 rfl) rfl
theorem q1569 : (Jvm.Cond.methodLink "LinkedTongue$Host" (183 : Nat) ({ cls := "LinkedTongue$HostType", name := "field", desc := "(I)LLinkedTongue$Member;" } : Jvm.MethodName)) ∈ lw_all := lw_g (lw_at lw_m6 68 rfl) rfl
theorem q1576 : (Jvm.Cond.methodLink "LinkedTongue$Host" (187 : Nat) ({ cls := "LinkedTongue$Scanner", name := "fail", desc := "(II)V" } : Jvm.MethodName)) ∈ lw_all := lw_g (lw_at lw_m6 75 rfl) rfl
theorem q1577 : (Jvm.Cond.methodLink "LinkedTongue$Host" (189 : Nat) ({ cls := "LinkedTongue$Host", name := "add", desc := "(LLinkedTongue$HostType;IIZI[IZ)V" } : Jvm.MethodName)) ∈ lw_all := lw_g (lw_at lw_m6 76 rfl) rfl
theorem q1578 : (Jvm.Cond.privateMethod ({ cls := "LinkedTongue$Host", name := "add", desc := "(LLinkedTongue$HostType;IIZI[IZ)V" } : Jvm.MethodName)) ∈ lw_tbl := lw_at lw_m6 77 rfl
theorem q1579 : (Jvm.Cond.instanceMethod ({ cls := "LinkedTongue$Host", name := "add", desc := "(LLinkedTongue$HostType;IIZI[IZ)V" } : Jvm.MethodName)) ∈ lw_all := lw_g (lw_at lw_m6 78 rfl) rfl
theorem q1580 : (Jvm.Cond.code ({ cls := "LinkedTongue$Host", name := "add", desc := "(LLinkedTongue$HostType;IIZI[IZ)V" } : Jvm.MethodName) prog_17_method_12_code (9 : Nat) (Option.none : Option Jvm.ClassFile.FieldType)) ∈ lw_all := lw_g (lw_at lw_m6 79 rfl) rfl
theorem q1581 : (Jvm.Cond.classLink "LinkedTongue$Host" (197 : Nat) "LinkedTongue$Member") ∈ lw_all := lw_g (lw_at lw_m6 80 rfl) rfl
theorem q1583 : (Jvm.Cond.methodLink "LinkedTongue$Host" (217 : Nat) ({ cls := "LinkedTongue$Member", name := "<init>", desc := "(IIILLinkedTongue$HostType;ZI[IZ)V" } : Jvm.MethodName)) ∈ lw_all := lw_g (lw_at lw_m6 82 rfl) rfl
theorem q1592 : (Jvm.Cond.fieldLinkNest "LinkedTongue$Host" (199 : Nat) "LinkedTongue$Member" "kind" "I" "LinkedTongue") ∈ lw_tbl := lw_at lw_m6 91 rfl
theorem q1604 : (Jvm.Cond.fieldLinkNest "LinkedTongue$Host" (228 : Nat) "LinkedTongue$Member" "isStatic" "Z" "LinkedTongue") ∈ lw_tbl := lw_at lw_m6 103 rfl
theorem q1608 : (Jvm.Cond.fieldLinkNest "LinkedTongue$Host" (200 : Nat) "LinkedTongue$Member" "name" "I" "LinkedTongue") ∈ lw_tbl := lw_at lw_m6 107 rfl
theorem q1611 : (Jvm.Cond.fieldLinkNest "LinkedTongue$Host" (231 : Nat) "LinkedTongue$Member" "parameters" "[I" "LinkedTongue") ∈ lw_tbl := lw_at lw_m6 110 rfl
theorem q1614 : (Jvm.Cond.fieldLinkNest "LinkedTongue$Host" (261 : Nat) "LinkedTongue$Member" "variable" "Z" "LinkedTongue") ∈ lw_tbl := lw_at lw_m6 113 rfl
theorem q1642 : (Jvm.Cond.methodLink "LinkedTongue$Host" (192 : Nat) ({ cls := "LinkedTongue$Host", name := "readParameters", desc := "(LLinkedTongue$Scanner;)V" } : Jvm.MethodName)) ∈ lw_all := lw_g (lw_at lw_m6 141 rfl) rfl
theorem q1643 : (Jvm.Cond.privateMethod ({ cls := "LinkedTongue$Host", name := "readParameters", desc := "(LLinkedTongue$Scanner;)V" } : Jvm.MethodName)) ∈ lw_tbl := lw_at lw_m6 142 rfl
theorem q1644 : (Jvm.Cond.instanceMethod ({ cls := "LinkedTongue$Host", name := "readParameters", desc := "(LLinkedTongue$Scanner;)V" } : Jvm.MethodName)) ∈ lw_all := lw_g (lw_at lw_m6 143 rfl) rfl
theorem q1645 : (Jvm.Cond.code ({ cls := "LinkedTongue$Host", name := "readParameters", desc := "(LLinkedTongue$Scanner;)V" } : Jvm.MethodName) prog_17_method_11_code (4 : Nat) (Option.none : Option Jvm.ClassFile.FieldType)) ∈ lw_all := lw_g (lw_at lw_m6 144 rfl) rfl
theorem q1646 : (Jvm.Cond.methodLink "LinkedTongue$Host" (204 : Nat) ({ cls := "LinkedTongue$Member", name := "hasTypes", desc := "([II)Z" } : Jvm.MethodName)) ∈ lw_all := lw_g (lw_at lw_m6 145 rfl) rfl
theorem q1650 : (Jvm.Cond.methodLink "LinkedTongue$Host" (208 : Nat) ({ cls := "java/util/Arrays", name := "copyOf", desc := "([II)[I" } : Jvm.MethodName)) ∈ lw_all := lw_g (lw_at lw_m6 149 rfl) rfl
theorem q1651 : (Jvm.Cond.methodLink "LinkedTongue$Host" (162 : Nat) ({ cls := "LinkedTongue$HostType", name := "settle", desc := "()V" } : Jvm.MethodName)) ∈ lw_all := lw_g (lw_at lw_m6 150 rfl) rfl
theorem q1684 : (Jvm.Cond.instanceMethod ({ cls := "LinkedTongue$Host", name := "isType", desc := "(I)Z" } : Jvm.MethodName)) ∈ lw_all := lw_g (lw_at lw_m6 183 rfl) rfl
theorem q1685 : (Jvm.Cond.selects "LinkedTongue$Host" ({ cls := "LinkedTongue$Host", name := "isType", desc := "(I)Z" } : Jvm.MethodName) ({ cls := "LinkedTongue$Host", name := "isType", desc := "(I)Z" } : Jvm.MethodName)) ∈ lw_all := lw_g (lw_at lw_m6 184 rfl) rfl
theorem q1686 : (Jvm.Cond.code ({ cls := "LinkedTongue$Host", name := "isType", desc := "(I)Z" } : Jvm.MethodName) prog_17_method_14_code (2 : Nat) (Option.some Jvm.ClassFile.FieldType.boolean)) ∈ lw_all := lw_g (lw_at lw_m6 185 rfl) rfl
theorem q1688 : (Jvm.Cond.instanceMethod ({ cls := "LinkedTongue$Host", name := "isUnder", desc := "(II)Z" } : Jvm.MethodName)) ∈ lw_all := lw_g (lw_at lw_m6 187 rfl) rfl
theorem q1689 : (Jvm.Cond.selects "LinkedTongue$Host" ({ cls := "LinkedTongue$Host", name := "isUnder", desc := "(II)Z" } : Jvm.MethodName) ({ cls := "LinkedTongue$Host", name := "isUnder", desc := "(II)Z" } : Jvm.MethodName)) ∈ lw_all := lw_g (lw_at lw_m6 188 rfl) rfl
theorem q1690 : (Jvm.Cond.code ({ cls := "LinkedTongue$Host", name := "isUnder", desc := "(II)Z" } : Jvm.MethodName) prog_17_method_13_code (3 : Nat) (Option.some Jvm.ClassFile.FieldType.boolean)) ∈ lw_all := lw_g (lw_at lw_m6 189 rfl) rfl
theorem q1691 : (Jvm.Cond.methodLink "LinkedTongue$Host" (220 : Nat) ({ cls := "LinkedTongue$HostType", name := "isBelow", desc := "(LLinkedTongue$HostType;)Z" } : Jvm.MethodName)) ∈ lw_all := lw_g (lw_at lw_m6 190 rfl) rfl
theorem q3224 : (Jvm.Cond.instanceMethod ({ cls := "LinkedTongue$Host", name := "getter", desc := "(LLinkedTongue$HostType;ZI)LLinkedTongue$Member;" } : Jvm.MethodName)) ∈ lw_all := lw_g (lw_at lw_m13 43 rfl) rfl
theorem q3225 : (Jvm.Cond.selects "LinkedTongue$Host" ({ cls := "LinkedTongue$Host", name := "getter", desc := "(LLinkedTongue$HostType;ZI)LLinkedTongue$Member;" } : Jvm.MethodName) ({ cls := "LinkedTongue$Host", name := "getter", desc := "(LLinkedTongue$HostType;ZI)LLinkedTongue$Member;" } : Jvm.MethodName)) ∈ lw_all := lw_g (lw_at lw_m13 44 rfl) rfl
theorem q3226 : (Jvm.Cond.code ({ cls := "LinkedTongue$Host", name := "getter", desc := "(LLinkedTongue$HostType;ZI)LLinkedTongue$Member;" } : Jvm.MethodName) prog_17_method_22_code (5 : Nat) (Option.some (Jvm.ClassFile.FieldType.object "LinkedTongue$Member"))) ∈ lw_all := lw_g (lw_at lw_m13 45 rfl) rfl
theorem q3227 : (Jvm.Cond.methodLink "LinkedTongue$Host" (242 : Nat) ({ cls := "LinkedTongue$Host", name := "findMethods", desc := "(LLinkedTongue$HostType;ZI)V" } : Jvm.MethodName)) ∈ lw_all := lw_g (lw_at lw_m13 46 rfl) rfl
theorem q3228 : (Jvm.Cond.privateMethod ({ cls := "LinkedTongue$Host", name := "findMethods", desc := "(LLinkedTongue$HostType;ZI)V" } : Jvm.MethodName)) ∈ lw_tbl := lw_at lw_m13 47 rfl
theorem q3229 : (Jvm.Cond.instanceMethod ({ cls := "LinkedTongue$Host", name := "findMethods", desc := "(LLinkedTongue$HostType;ZI)V" } : Jvm.MethodName)) ∈ lw_all := lw_g (lw_at lw_m13 48 rfl) rfl
theorem q3230 : (Jvm.Cond.code ({ cls := "LinkedTongue$Host", name := "findMethods", desc := "(LLinkedTongue$HostType;ZI)V" } : Jvm.MethodName) prog_17_method_18_code (5 : Nat) (Option.none : Option Jvm.ClassFile.FieldType)) ∈ lw_all := lw_g (lw_at lw_m13 49 rfl) rfl
theorem q3231 : (Jvm.Cond.methodLink "LinkedTongue$Host" (234 : Nat) ({ cls := "LinkedTongue$Host", name := "mean", desc := "(LLinkedTongue$HostType;IZI)V" } : Jvm.MethodName)) ∈ lw_all := lw_g (lw_at lw_m13 50 rfl) rfl
theorem q3232 : (Jvm.Cond.privateMethod ({ cls := "LinkedTongue$Host", name := "mean", desc := "(LLinkedTongue$HostType;IZI)V" } : Jvm.MethodName)) ∈ lw_tbl := lw_at lw_m13 51 rfl
theorem q3233 : (Jvm.Cond.instanceMethod ({ cls := "LinkedTongue$Host", name := "mean", desc := "(LLinkedTongue$HostType;IZI)V" } : Jvm.MethodName)) ∈ lw_all := lw_g (lw_at lw_m13 52 rfl) rfl
theorem q3234 : (Jvm.Cond.code ({ cls := "LinkedTongue$Host", name := "mean", desc := "(LLinkedTongue$HostType;IZI)V" } : Jvm.MethodName) prog_17_method_16_code (9 : Nat) (Option.none : Option Jvm.ClassFile.FieldType)) ∈ lw_all := lw_g (lw_at lw_m13 53 rfl) rfl
theorem q3235 : (Jvm.Cond.methodLink "LinkedTongue$Host" (238 : Nat) ({ cls := "LinkedTongue$Host", name := "meanAbove", desc := "(LLinkedTongue$HostType;I[Z)V" } : Jvm.MethodName)) ∈ lw_all := lw_g (lw_at lw_m13 54 rfl) rfl
theorem q3236 : (Jvm.Cond.privateMethod ({ cls := "LinkedTongue$Host", name := "meanAbove", desc := "(LLinkedTongue$HostType;I[Z)V" } : Jvm.MethodName)) ∈ lw_tbl := lw_at lw_m13 55 rfl
theorem q3237 : (Jvm.Cond.instanceMethod ({ cls := "LinkedTongue$Host", name := "meanAbove", desc := "(LLinkedTongue$HostType;I[Z)V" } : Jvm.MethodName)) ∈ lw_all := lw_g (lw_at lw_m13 56 rfl) rfl
theorem q3238 : (Jvm.Cond.code ({ cls := "LinkedTongue$Host", name := "meanAbove", desc := "(LLinkedTongue$HostType;I[Z)V" } : Jvm.MethodName) prog_17_method_17_code (6 : Nat) (Option.none : Option Jvm.ClassFile.FieldType)) ∈ lw_all := lw_g (lw_at lw_m13 57 rfl) rfl
theorem q3252 : (Jvm.Cond.instanceMethod ({ cls := "LinkedTongue$Host", name := "hasSetter", desc := "(LLinkedTongue$HostType;ZI)Z" } : Jvm.MethodName)) ∈ lw_all := lw_g (lw_at lw_m13 71 rfl) rfl
theorem q3253 : (Jvm.Cond.selects "LinkedTongue$Host" ({ cls := "LinkedTongue$Host", name := "hasSetter", desc := "(LLinkedTongue$HostType;ZI)Z" } : Jvm.MethodName) ({ cls := "LinkedTongue$Host", name := "hasSetter", desc := "(LLinkedTongue$HostType;ZI)Z" } : Jvm.MethodName)) ∈ lw_all := lw_g (lw_at lw_m13 72 rfl) rfl
theorem q3254 : (Jvm.Cond.code ({ cls := "LinkedTongue$Host", name := "hasSetter", desc := "(LLinkedTongue$HostType;ZI)Z" } : Jvm.MethodName) prog_17_method_21_code (5 : Nat) (Option.some Jvm.ClassFile.FieldType.boolean)) ∈ lw_all := lw_g (lw_at lw_m13 73 rfl) rfl
theorem q3264 : (Jvm.Cond.instanceMethod ({ cls := "LinkedTongue$Host", name := "choose", desc := "(LLinkedTongue$HostType;IZIZ[II)LLinkedTongue$Member;" } : Jvm.MethodName)) ∈ lw_all := lw_g (lw_at lw_m13 83 rfl) rfl
theorem q3265 : (Jvm.Cond.selects "LinkedTongue$Host" ({ cls := "LinkedTongue$Host", name := "choose", desc := "(LLinkedTongue$HostType;IZIZ[II)LLinkedTongue$Member;" } : Jvm.MethodName) ({ cls := "LinkedTongue$Host", name := "choose", desc := "(LLinkedTongue$HostType;IZIZ[II)LLinkedTongue$Member;" } : Jvm.MethodName)) ∈ lw_all := lw_g (lw_at lw_m13 84 rfl) rfl
theorem q3266 : (Jvm.Cond.code ({ cls := "LinkedTongue$Host", name := "choose", desc := "(LLinkedTongue$HostType;IZIZ[II)LLinkedTongue$Member;" } : Jvm.MethodName) prog_17_method_23_code (14 : Nat) (Option.some (Jvm.ClassFile.FieldType.object "LinkedTongue$Member"))) ∈ lw_all := lw_g (lw_at lw_m13 85 rfl) rfl
theorem q3267 : (Jvm.Cond.methodLink "LinkedTongue$Host" (246 : Nat) ({ cls := "LinkedTongue$Host", name := "fits", desc := "(LLinkedTongue$Member;I[II)Z" } : Jvm.MethodName)) ∈ lw_all := lw_g (lw_at lw_m13 86 rfl) rfl
theorem q3268 : (Jvm.Cond.privateMethod ({ cls := "LinkedTongue$Host", name := "fits", desc := "(LLinkedTongue$Member;I[II)Z" } : Jvm.MethodName)) ∈ lw_tbl := lw_at lw_m13 87 rfl
theorem q3269 : (Jvm.Cond.instanceMethod ({ cls := "LinkedTongue$Host", name := "fits", desc := "(LLinkedTongue$Member;I[II)Z" } : Jvm.MethodName)) ∈ lw_all := lw_g (lw_at lw_m13 88 rfl) rfl
theorem q3270 : (Jvm.Cond.code ({ cls := "LinkedTongue$Host", name := "fits", desc := "(LLinkedTongue$Member;I[II)Z" } : Jvm.MethodName) prog_17_method_25_code (7 : Nat) (Option.some Jvm.ClassFile.FieldType.boolean)) ∈ lw_all := lw_g (lw_at lw_m13 89 rfl) rfl
theorem q3271 : (Jvm.Cond.methodLink "LinkedTongue$Host" (264 : Nat) ({ cls := "java/lang/Math", name := "min", desc := "(II)I" } : Jvm.MethodName)) ∈ lw_all := lw_g (lw_at lw_m13 90 rfl) rfl
theorem q3272 : (Jvm.Cond.methodLink "LinkedTongue$Host" (270 : Nat) ({ cls := "LinkedTongue$Host", name := "goes", desc := "(IIZ)Z" } : Jvm.MethodName)) ∈ lw_all := lw_g (lw_at lw_m13 91 rfl) rfl
theorem q3273 : (Jvm.Cond.instanceMethod ({ cls := "LinkedTongue$Host", name := "goes", desc := "(IIZ)Z" } : Jvm.MethodName)) ∈ lw_all := lw_g (lw_at lw_m13 92 rfl) rfl
theorem q3274 : (Jvm.Cond.selects "LinkedTongue$Host" ({ cls := "LinkedTongue$Host", name := "goes", desc := "(IIZ)Z" } : Jvm.MethodName) ({ cls := "LinkedTongue$Host", name := "goes", desc := "(IIZ)Z" } : Jvm.MethodName)) ∈ lw_all := lw_g (lw_at lw_m13 93 rfl) rfl
theorem q3275 : (Jvm.Cond.code ({ cls := "LinkedTongue$Host", name := "goes", desc := "(IIZ)Z" } : Jvm.MethodName) prog_17_method_15_code (4 : Nat) (Option.some Jvm.ClassFile.FieldType.boolean)) ∈ lw_all := lw_g (lw_at lw_m13 94 rfl) rfl
theorem q3276 : (Jvm.Cond.methodLink "LinkedTongue$Host" (224 : Nat) ({ cls := "LinkedTongue$Host", name := "isUnder", desc := "(II)Z" } : Jvm.MethodName)) ∈ lw_all := lw_g (lw_at lw_m13 95 rfl) rfl
theorem q3277 : (Jvm.Cond.methodLink "LinkedTongue$Host" (250 : Nat) ({ cls := "LinkedTongue$Host", name := "isMostSpecific", desc := "(LLinkedTongue$Member;IZ[II)Z" } : Jvm.MethodName)) ∈ lw_all := lw_g (lw_at lw_m13 96 rfl) rfl
theorem q3278 : (Jvm.Cond.privateMethod ({ cls := "LinkedTongue$Host", name := "isMostSpecific", desc := "(LLinkedTongue$Member;IZ[II)Z" } : Jvm.MethodName)) ∈ lw_tbl := lw_at lw_m13 97 rfl
theorem q3279 : (Jvm.Cond.instanceMethod ({ cls := "LinkedTongue$Host", name := "isMostSpecific", desc := "(LLinkedTongue$Member;IZ[II)Z" } : Jvm.MethodName)) ∈ lw_all := lw_g (lw_at lw_m13 98 rfl) rfl
theorem q3280 : (Jvm.Cond.code ({ cls := "LinkedTongue$Host", name := "isMostSpecific", desc := "(LLinkedTongue$Member;IZ[II)Z" } : Jvm.MethodName) prog_17_method_24_code (8 : Nat) (Option.some Jvm.ClassFile.FieldType.boolean)) ∈ lw_all := lw_g (lw_at lw_m13 99 rfl) rfl
theorem q3281 : (Jvm.Cond.methodLink "LinkedTongue$Host" (257 : Nat) ({ cls := "LinkedTongue$Host", name := "isMoreSpecific", desc := "(LLinkedTongue$Member;LLinkedTongue$Member;I)Z" } : Jvm.MethodName)) ∈ lw_all := lw_g (lw_at lw_m13 100 rfl) rfl
theorem q3282 : (Jvm.Cond.privateMethod ({ cls := "LinkedTongue$Host", name := "isMoreSpecific", desc := "(LLinkedTongue$Member;LLinkedTongue$Member;I)Z" } : Jvm.MethodName)) ∈ lw_tbl := lw_at lw_m13 101 rfl
theorem q3283 : (Jvm.Cond.instanceMethod ({ cls := "LinkedTongue$Host", name := "isMoreSpecific", desc := "(LLinkedTongue$Member;LLinkedTongue$Member;I)Z" } : Jvm.MethodName)) ∈ lw_all := lw_g (lw_at lw_m13 102 rfl) rfl
theorem q3284 : (Jvm.Cond.code ({ cls := "LinkedTongue$Host", name := "isMoreSpecific", desc := "(LLinkedTongue$Member;LLinkedTongue$Member;I)Z" } : Jvm.MethodName) prog_17_method_26_code (8 : Nat) (Option.some Jvm.ClassFile.FieldType.boolean)) ∈ lw_all := lw_g (lw_at lw_m13 103 rfl) rfl
theorem q3285 : (Jvm.Cond.methodLink "LinkedTongue$Host" (274 : Nat) ({ cls := "java/lang/Math", name := "max", desc := "(II)I" } : Jvm.MethodName)) ∈ lw_all := lw_g (lw_at lw_m13 104 rfl) rfl
theorem q3322 : (Jvm.Cond.instanceMethod ({ cls := "LinkedTongue$Host", name := "hasMethods", desc := "(LLinkedTongue$HostType;ZI)Z" } : Jvm.MethodName)) ∈ lw_all := lw_g (lw_at lw_m13 141 rfl) rfl
theorem q3323 : (Jvm.Cond.selects "LinkedTongue$Host" ({ cls := "LinkedTongue$Host", name := "hasMethods", desc := "(LLinkedTongue$HostType;ZI)Z" } : Jvm.MethodName) ({ cls := "LinkedTongue$Host", name := "hasMethods", desc := "(LLinkedTongue$HostType;ZI)Z" } : Jvm.MethodName)) ∈ lw_all := lw_g (lw_at lw_m13 142 rfl) rfl
theorem q3324 : (Jvm.Cond.code ({ cls := "LinkedTongue$Host", name := "hasMethods", desc := "(LLinkedTongue$HostType;ZI)Z" } : Jvm.MethodName) prog_17_method_19_code (4 : Nat) (Option.some Jvm.ClassFile.FieldType.boolean)) ∈ lw_all := lw_g (lw_at lw_m13 143 rfl) rfl
theorem q3326 : (Jvm.Cond.instanceMethod ({ cls := "LinkedTongue$Host", name := "hasMaker", desc := "(LLinkedTongue$HostType;)Z" } : Jvm.MethodName)) ∈ lw_all := lw_g (lw_at lw_m13 145 rfl) rfl
theorem q3327 : (Jvm.Cond.selects "LinkedTongue$Host" ({ cls := "LinkedTongue$Host", name := "hasMaker", desc := "(LLinkedTongue$HostType;)Z" } : Jvm.MethodName) ({ cls := "LinkedTongue$Host", name := "hasMaker", desc := "(LLinkedTongue$HostType;)Z" } : Jvm.MethodName)) ∈ lw_all := lw_g (lw_at lw_m13 146 rfl) rfl
theorem q3328 : (Jvm.Cond.code ({ cls := "LinkedTongue$Host", name := "hasMaker", desc := "(LLinkedTongue$HostType;)Z" } : Jvm.MethodName) prog_17_method_20_code (2 : Nat) (Option.some Jvm.ClassFile.FieldType.boolean)) ∈ lw_all := lw_g (lw_at lw_m13 147 rfl) rfl
theorem q5514 : (Jvm.Cond.castable "LinkedTongue$Host" "java/lang/Object") ∈ lw_tbl := lw_at lw_m22 173 rfl
theorem q360 : (Jvm.Cond.initialized "LinkedTongue$While") ∈ lw_all := lw_g (lw_at lw_m1 59 rfl) rfl
theorem q1103 : (Jvm.Cond.selects "LinkedTongue$While" ({ cls := "java/lang/Object", name := "getClass", desc := "()Ljava/lang/Class;" } : Jvm.MethodName) ({ cls := "java/lang/Object", name := "getClass", desc := "()Ljava/lang/Class;" } : Jvm.MethodName)) ∈ lw_all := lw_g (lw_at lw_m4 82 rfl) rfl
theorem q2446 : (Jvm.Cond.instantiable "LinkedTongue$While" (2 : Nat)) ∈ lw_all := lw_g (lw_at lw_m9 225 rfl) rfl
theorem q2448 : (Jvm.Cond.instanceMethod ({ cls := "LinkedTongue$While", name := "<init>", desc := "(LLinkedTongue$Node;LLinkedTongue$Block;)V" } : Jvm.MethodName)) ∈ lw_all := lw_g (lw_at lw_m9 227 rfl) rfl
theorem q2449 : (Jvm.Cond.code ({ cls := "LinkedTongue$While", name := "<init>", desc := "(LLinkedTongue$Node;LLinkedTongue$Block;)V" } : Jvm.MethodName) prog_46_method_1_code (3 : Nat) (Option.none : Option Jvm.ClassFile.FieldType)) ∈ lw_all := lw_g (lw_at lw_m9 228 rfl) rfl
theorem q2450 : (Jvm.Cond.methodLinkNest "LinkedTongue$While" (3 : Nat) ({ cls := "LinkedTongue$Node", name := "<init>", desc := "()V" } : Jvm.MethodName) "LinkedTongue") ∈ lw_tbl := lw_at lw_m9 229 rfl
theorem q2451 : (Jvm.Cond.fieldLink "LinkedTongue$While" (9 : Nat) "LinkedTongue$While" "condition" "LLinkedTongue$Node;") ∈ lw_all := lw_g (lw_at lw_m9 230 rfl) rfl
theorem q2452 : (Jvm.Cond.fieldLink "LinkedTongue$While" (15 : Nat) "LinkedTongue$While" "block" "LLinkedTongue$Block;") ∈ lw_all := lw_g (lw_at lw_m9 231 rfl) rfl
theorem q2453 : (Jvm.Cond.laysFinal "LinkedTongue$While" "LinkedTongue$While" "condition" "LLinkedTongue$Node;") ∈ lw_all := lw_g (lw_at lw_m9 232 rfl) rfl
theorem q2454 : (Jvm.Cond.soleField "LinkedTongue$While" "condition") ∈ lw_all := lw_g (lw_at lw_m9 233 rfl) rfl
theorem q2455 : (Jvm.Cond.laysFinal "LinkedTongue$While" "LinkedTongue$While" "block" "LLinkedTongue$Block;") ∈ lw_all := lw_g (lw_at lw_m9 234 rfl) rfl
theorem q2456 : (Jvm.Cond.soleField "LinkedTongue$While" "block") ∈ lw_all := lw_g (lw_at lw_m9 235 rfl) rfl
theorem q2457 : (Jvm.Cond.superclass "LinkedTongue$While" "LinkedTongue$Node") ∈ lw_all := lw_g (lw_at lw_m9 236 rfl) rfl
theorem q2603 : (Jvm.Cond.instanceMethod ({ cls := "LinkedTongue$While", name := "emit", desc := "(LLinkedTongue$Emitter;)V" } : Jvm.MethodName)) ∈ lw_all := lw_g (lw_at lw_m10 142 rfl) rfl
theorem q2604 : (Jvm.Cond.code ({ cls := "LinkedTongue$While", name := "emit", desc := "(LLinkedTongue$Emitter;)V" } : Jvm.MethodName) prog_46_method_2_code (4 : Nat) (Option.none : Option Jvm.ClassFile.FieldType)) ∈ lw_all := lw_g (lw_at lw_m10 143 rfl) rfl
theorem q2605 : (Jvm.Cond.methodLink "LinkedTongue$While" (19 : Nat) ({ cls := "LinkedTongue$Emitter", name := "here", desc := "()I" } : Jvm.MethodName)) ∈ lw_all := lw_g (lw_at lw_m10 144 rfl) rfl
theorem q2606 : (Jvm.Cond.methodLink "LinkedTongue$While" (25 : Nat) ({ cls := "LinkedTongue$Node", name := "emit", desc := "(LLinkedTongue$Emitter;)V" } : Jvm.MethodName)) ∈ lw_all := lw_g (lw_at lw_m10 145 rfl) rfl
theorem q2607 : (Jvm.Cond.methodLink "LinkedTongue$While" (29 : Nat) ({ cls := "LinkedTongue$Emitter", name := "jump", desc := "(I)I" } : Jvm.MethodName)) ∈ lw_all := lw_g (lw_at lw_m10 146 rfl) rfl
theorem q2608 : (Jvm.Cond.methodLink "LinkedTongue$While" (33 : Nat) ({ cls := "LinkedTongue$Block", name := "emit", desc := "(LLinkedTongue$Emitter;)V" } : Jvm.MethodName)) ∈ lw_all := lw_g (lw_at lw_m10 147 rfl) rfl
theorem q2609 : (Jvm.Cond.methodLink "LinkedTongue$While" (36 : Nat) ({ cls := "LinkedTongue$Emitter", name := "add", desc := "(III)V" } : Jvm.MethodName)) ∈ lw_all := lw_g (lw_at lw_m10 148 rfl) rfl
theorem q2610 : (Jvm.Cond.methodLink "LinkedTongue$While" (40 : Nat) ({ cls := "LinkedTongue$Emitter", name := "land", desc := "(I)V" } : Jvm.MethodName)) ∈ lw_all := lw_g (lw_at lw_m10 149 rfl) rfl
theorem q2723 : (Jvm.Cond.selects "LinkedTongue$While" ({ cls := "LinkedTongue$Node", name := "emit", desc := "(LLinkedTongue$Emitter;)V" } : Jvm.MethodName) ({ cls := "LinkedTongue$While", name := "emit", desc := "(LLinkedTongue$Emitter;)V" } : Jvm.MethodName)) ∈ lw_all := lw_g (lw_at lw_m11 22 rfl) rfl
theorem q5495 : (Jvm.Cond.castable "LinkedTongue$While" "LinkedTongue$Node") ∈ lw_tbl := lw_at lw_m22 154 rfl
theorem q5553 : (Jvm.Cond.castable "LinkedTongue$While" "java/lang/Object") ∈ lw_tbl := lw_at lw_m22 212 rfl
theorem q361 : (Jvm.Cond.initialized "LinkedTongue$Try") ∈ lw_all := lw_g (lw_at lw_m1 60 rfl) rfl
theorem q1099 : (Jvm.Cond.selects "LinkedTongue$Try" ({ cls := "java/lang/Object", name := "getClass", desc := "()Ljava/lang/Class;" } : Jvm.MethodName) ({ cls := "java/lang/Object", name := "getClass", desc := "()Ljava/lang/Class;" } : Jvm.MethodName)) ∈ lw_all := lw_g (lw_at lw_m4 78 rfl) rfl
theorem q2463 : (Jvm.Cond.instantiable "LinkedTongue$Try" (3 : Nat)) ∈ lw_all := lw_g (lw_at lw_m10 2 rfl) rfl
theorem q2465 : (Jvm.Cond.instanceMethod ({ cls := "LinkedTongue$Try", name := "<init>", desc := "(LLinkedTongue$Block;ILLinkedTongue$Block;)V" } : Jvm.MethodName)) ∈ lw_all := lw_g (lw_at lw_m10 4 rfl) rfl
theorem q2466 : (Jvm.Cond.code ({ cls := "LinkedTongue$Try", name := "<init>", desc := "(LLinkedTongue$Block;ILLinkedTongue$Block;)V" } : Jvm.MethodName) prog_42_method_1_code (4 : Nat) (Option.none : Option Jvm.ClassFile.FieldType)) ∈ lw_all := lw_g (lw_at lw_m10 5 rfl) rfl
theorem q2467 : (Jvm.Cond.methodLinkNest "LinkedTongue$Try" (3 : Nat) ({ cls := "LinkedTongue$Node", name := "<init>", desc := "()V" } : Jvm.MethodName) "LinkedTongue") ∈ lw_tbl := lw_at lw_m10 6 rfl
theorem q2468 : (Jvm.Cond.fieldLink "LinkedTongue$Try" (9 : Nat) "LinkedTongue$Try" "block" "LLinkedTongue$Block;") ∈ lw_all := lw_g (lw_at lw_m10 7 rfl) rfl
theorem q2469 : (Jvm.Cond.fieldLink "LinkedTongue$Try" (19 : Nat) "LinkedTongue$Try" "handler" "LLinkedTongue$Block;") ∈ lw_all := lw_g (lw_at lw_m10 8 rfl) rfl
theorem q2470 : (Jvm.Cond.fieldLink "LinkedTongue$Try" (15 : Nat) "LinkedTongue$Try" "name" "I") ∈ lw_all := lw_g (lw_at lw_m10 9 rfl) rfl
theorem q2471 : (Jvm.Cond.laysFinal "LinkedTongue$Try" "LinkedTongue$Try" "block" "LLinkedTongue$Block;") ∈ lw_all := lw_g (lw_at lw_m10 10 rfl) rfl
theorem q2472 : (Jvm.Cond.soleField "LinkedTongue$Try" "block") ∈ lw_all := lw_g (lw_at lw_m10 11 rfl) rfl
theorem q2473 : (Jvm.Cond.laysFinal "LinkedTongue$Try" "LinkedTongue$Try" "handler" "LLinkedTongue$Block;") ∈ lw_all := lw_g (lw_at lw_m10 12 rfl) rfl
theorem q2474 : (Jvm.Cond.soleField "LinkedTongue$Try" "handler") ∈ lw_all := lw_g (lw_at lw_m10 13 rfl) rfl
theorem q2475 : (Jvm.Cond.laysFinal "LinkedTongue$Try" "LinkedTongue$Try" "name" "I") ∈ lw_all := lw_g (lw_at lw_m10 14 rfl) rfl
theorem q2476 : (Jvm.Cond.soleField "LinkedTongue$Try" "name") ∈ lw_all := lw_g (lw_at lw_m10 15 rfl) rfl
theorem q2477 : (Jvm.Cond.superclass "LinkedTongue$Try" "LinkedTongue$Node") ∈ lw_all := lw_g (lw_at lw_m10 16 rfl) rfl
theorem q2575 : (Jvm.Cond.instanceMethod ({ cls := "LinkedTongue$Try", name := "emit", desc := "(LLinkedTongue$Emitter;)V" } : Jvm.MethodName)) ∈ lw_all := lw_g (lw_at lw_m10 114 rfl) rfl
theorem q2576 : (Jvm.Cond.code ({ cls := "LinkedTongue$Try", name := "emit", desc := "(LLinkedTongue$Emitter;)V" } : Jvm.MethodName) prog_42_method_2_code (4 : Nat) (Option.none : Option Jvm.ClassFile.FieldType)) ∈ lw_all := lw_g (lw_at lw_m10 115 rfl) rfl
theorem q2577 : (Jvm.Cond.methodLink "LinkedTongue$Try" (22 : Nat) ({ cls := "LinkedTongue$Emitter", name := "jump", desc := "(I)I" } : Jvm.MethodName)) ∈ lw_all := lw_g (lw_at lw_m10 116 rfl) rfl
theorem q2586 : (Jvm.Cond.methodLink "LinkedTongue$Try" (28 : Nat) ({ cls := "LinkedTongue$Block", name := "emit", desc := "(LLinkedTongue$Emitter;)V" } : Jvm.MethodName)) ∈ lw_all := lw_g (lw_at lw_m10 125 rfl) rfl
theorem q2587 : (Jvm.Cond.methodLink "LinkedTongue$Try" (34 : Nat) ({ cls := "LinkedTongue$Emitter", name := "add", desc := "(III)V" } : Jvm.MethodName)) ∈ lw_all := lw_g (lw_at lw_m10 126 rfl) rfl
theorem q2588 : (Jvm.Cond.methodLink "LinkedTongue$Try" (38 : Nat) ({ cls := "LinkedTongue$Emitter", name := "land", desc := "(I)V" } : Jvm.MethodName)) ∈ lw_all := lw_g (lw_at lw_m10 127 rfl) rfl
theorem q2592 : (Jvm.Cond.methodLink "LinkedTongue$Try" (42 : Nat) ({ cls := "LinkedTongue$Emitter", name := "variable", desc := "(IZ)V" } : Jvm.MethodName)) ∈ lw_all := lw_g (lw_at lw_m10 131 rfl) rfl
theorem q2720 : (Jvm.Cond.selects "LinkedTongue$Try" ({ cls := "LinkedTongue$Node", name := "emit", desc := "(LLinkedTongue$Emitter;)V" } : Jvm.MethodName) ({ cls := "LinkedTongue$Try", name := "emit", desc := "(LLinkedTongue$Emitter;)V" } : Jvm.MethodName)) ∈ lw_all := lw_g (lw_at lw_m11 19 rfl) rfl
theorem q5492 : (Jvm.Cond.castable "LinkedTongue$Try" "LinkedTongue$Node") ∈ lw_tbl := lw_at lw_m22 151 rfl
theorem q5554 : (Jvm.Cond.castable "LinkedTongue$Try" "java/lang/Object") ∈ lw_tbl := lw_at lw_m22 213 rfl
theorem q362 : (Jvm.Cond.initialized "LinkedTongue$Emitter") ∈ lw_all := lw_g (lw_at lw_m1 61 rfl) rfl
theorem q1068 : (Jvm.Cond.selects "LinkedTongue$Emitter" ({ cls := "java/lang/Object", name := "getClass", desc := "()Ljava/lang/Class;" } : Jvm.MethodName) ({ cls := "java/lang/Object", name := "getClass", desc := "()Ljava/lang/Class;" } : Jvm.MethodName)) ∈ lw_all := lw_g (lw_at lw_m4 47 rfl) rfl
theorem q1797 : (Jvm.Cond.fieldLinkNest "LinkedTongue$Emitter" (93 : Nat) "LinkedTongue$Code" "number" "I" "LinkedTongue") ∈ lw_tbl := lw_at lw_m7 56 rfl
theorem q1804 : (Jvm.Cond.fieldLinkNest "LinkedTongue$Emitter" (35 : Nat) "LinkedTongue$Code" "variables" "I" "LinkedTongue") ∈ lw_tbl := lw_at lw_m7 63 rfl
theorem q1808 : (Jvm.Cond.fieldLinkNest "LinkedTongue$Emitter" (68 : Nat) "LinkedTongue$Code" "size" "I" "LinkedTongue") ∈ lw_tbl := lw_at lw_m7 67 rfl
theorem q1810 : (Jvm.Cond.fieldLinkNest "LinkedTongue$Emitter" (45 : Nat) "LinkedTongue$Code" "firstSite" "I" "LinkedTongue") ∈ lw_tbl := lw_at lw_m7 69 rfl
theorem q1812 : (Jvm.Cond.fieldLinkNest "LinkedTongue$Emitter" (65 : Nat) "LinkedTongue$Code" "sites" "I" "LinkedTongue") ∈ lw_tbl := lw_at lw_m7 71 rfl
theorem q1815 : (Jvm.Cond.fieldLinkNest "LinkedTongue$Emitter" (72 : Nat) "LinkedTongue$Code" "rows" "[I" "LinkedTongue") ∈ lw_tbl := lw_at lw_m7 74 rfl
theorem q1842 : (Jvm.Cond.fieldLinkNest "LinkedTongue$Emitter" (84 : Nat) "LinkedTongue$Scope" "outer" "LLinkedTongue$Scope;" "LinkedTongue") ∈ lw_tbl := lw_at lw_m7 101 rfl
theorem q1845 : (Jvm.Cond.fieldLinkNest "LinkedTongue$Emitter" (26 : Nat) "LinkedTongue$Scope" "code" "LLinkedTongue$Code;" "LinkedTongue") ∈ lw_tbl := lw_at lw_m7 104 rfl
theorem q1849 : (Jvm.Cond.fieldLinkNest "LinkedTongue$Emitter" (76 : Nat) "LinkedTongue$Scope" "isUnit" "Z" "LinkedTongue") ∈ lw_tbl := lw_at lw_m7 108 rfl
theorem q1854 : (Jvm.Cond.fieldLinkNest "LinkedTongue$Emitter" (32 : Nat) "LinkedTongue$Scope" "size" "I" "LinkedTongue") ∈ lw_tbl := lw_at lw_m7 113 rfl
theorem q1857 : (Jvm.Cond.fieldLinkNest "LinkedTongue$Emitter" (48 : Nat) "LinkedTongue$Scope" "body" "Ljava/util/ArrayList;" "LinkedTongue") ∈ lw_tbl := lw_at lw_m7 116 rfl
theorem q2483 : (Jvm.Cond.instantiable "LinkedTongue$Emitter" (4 : Nat)) ∈ lw_all := lw_g (lw_at lw_m10 22 rfl) rfl
theorem q2485 : (Jvm.Cond.instanceMethod ({ cls := "LinkedTongue$Emitter", name := "<init>", desc := "(Ljava/util/ArrayList;Ljava/util/ArrayList;I)V" } : Jvm.MethodName)) ∈ lw_all := lw_g (lw_at lw_m10 24 rfl) rfl
theorem q2486 : (Jvm.Cond.code ({ cls := "LinkedTongue$Emitter", name := "<init>", desc := "(Ljava/util/ArrayList;Ljava/util/ArrayList;I)V" } : Jvm.MethodName) prog_9_method_1_code (4 : Nat) (Option.none : Option Jvm.ClassFile.FieldType)) ∈ lw_all := lw_g (lw_at lw_m10 25 rfl) rfl
theorem q2487 : (Jvm.Cond.methodLink "LinkedTongue$Emitter" (3 : Nat) ({ cls := "java/lang/Object", name := "<init>", desc := "()V" } : Jvm.MethodName)) ∈ lw_all := lw_g (lw_at lw_m10 26 rfl) rfl
theorem q2488 : (Jvm.Cond.fieldLink "LinkedTongue$Emitter" (9 : Nat) "LinkedTongue$Emitter" "sites" "Ljava/util/ArrayList;") ∈ lw_all := lw_g (lw_at lw_m10 27 rfl) rfl
theorem q2489 : (Jvm.Cond.fieldLink "LinkedTongue$Emitter" (15 : Nat) "LinkedTongue$Emitter" "descriptors" "Ljava/util/ArrayList;") ∈ lw_all := lw_g (lw_at lw_m10 28 rfl) rfl
theorem q2490 : (Jvm.Cond.fieldLink "LinkedTongue$Emitter" (22 : Nat) "LinkedTongue$Emitter" "scope" "LLinkedTongue$Scope;") ∈ lw_all := lw_g (lw_at lw_m10 29 rfl) rfl
theorem q2491 : (Jvm.Cond.fieldLink "LinkedTongue$Emitter" (18 : Nat) "LinkedTongue$Emitter" "instructions" "I") ∈ lw_all := lw_g (lw_at lw_m10 30 rfl) rfl
theorem q2493 : (Jvm.Cond.laysFinal "LinkedTongue$Emitter" "LinkedTongue$Emitter" "sites" "Ljava/util/ArrayList;") ∈ lw_all := lw_g (lw_at lw_m10 32 rfl) rfl
theorem q2494 : (Jvm.Cond.soleField "LinkedTongue$Emitter" "sites") ∈ lw_all := lw_g (lw_at lw_m10 33 rfl) rfl
theorem q2495 : (Jvm.Cond.laysFinal "LinkedTongue$Emitter" "LinkedTongue$Emitter" "descriptors" "Ljava/util/ArrayList;") ∈ lw_all := lw_g (lw_at lw_m10 34 rfl) rfl
theorem q2496 : (Jvm.Cond.soleField "LinkedTongue$Emitter" "descriptors") ∈ lw_all := lw_g (lw_at lw_m10 35 rfl) rfl
theorem q2497 : (Jvm.Cond.lays "LinkedTongue$Emitter" "LinkedTongue$Emitter" "scope" "LLinkedTongue$Scope;") ∈ lw_all := lw_g (lw_at lw_m10 36 rfl) rfl
theorem q2498 : (Jvm.Cond.soleField "LinkedTongue$Emitter" "scope") ∈ lw_all := lw_g (lw_at lw_m10 37 rfl) rfl
theorem q2499 : (Jvm.Cond.lays "LinkedTongue$Emitter" "LinkedTongue$Emitter" "instructions" "I") ∈ lw_all := lw_g (lw_at lw_m10 38 rfl) rfl
theorem q2500 : (Jvm.Cond.soleField "LinkedTongue$Emitter" "instructions") ∈ lw_all := lw_g (lw_at lw_m10 39 rfl) rfl
theorem q2501 : (Jvm.Cond.superclass "LinkedTongue$Emitter" "java/lang/Object") ∈ lw_all := lw_g (lw_at lw_m10 40 rfl) rfl
theorem q2504 : (Jvm.Cond.instanceMethod ({ cls := "LinkedTongue$Emitter", name := "function", desc := "(LLinkedTongue$Scope;)V" } : Jvm.MethodName)) ∈ lw_all := lw_g (lw_at lw_m10 43 rfl) rfl
theorem q2505 : (Jvm.Cond.selects "LinkedTongue$Emitter" ({ cls := "LinkedTongue$Emitter", name := "function", desc := "(LLinkedTongue$Scope;)V" } : Jvm.MethodName) ({ cls := "LinkedTongue$Emitter", name := "function", desc := "(LLinkedTongue$Scope;)V" } : Jvm.MethodName)) ∈ lw_all := lw_g (lw_at lw_m10 44 rfl) rfl
theorem q2506 : (Jvm.Cond.code ({ cls := "LinkedTongue$Emitter", name := "function", desc := "(LLinkedTongue$Scope;)V" } : Jvm.MethodName) prog_9_method_2_code (3 : Nat) (Option.none : Option Jvm.ClassFile.FieldType)) ∈ lw_all := lw_g (lw_at lw_m10 45 rfl) rfl
theorem q2507 : (Jvm.Cond.methodLink "LinkedTongue$Emitter" (40 : Nat) ({ cls := "java/util/ArrayList", name := "size", desc := "()I" } : Jvm.MethodName)) ∈ lw_all := lw_g (lw_at lw_m10 46 rfl) rfl
theorem q2508 : (Jvm.Cond.methodLink "LinkedTongue$Emitter" (51 : Nat) ({ cls := "java/util/ArrayList", name := "get", desc := "(I)Ljava/lang/Object;" } : Jvm.MethodName)) ∈ lw_all := lw_g (lw_at lw_m10 47 rfl) rfl
theorem q2509 : (Jvm.Cond.classLink "LinkedTongue$Emitter" (55 : Nat) "LinkedTongue$Node") ∈ lw_all := lw_g (lw_at lw_m10 48 rfl) rfl
theorem q2510 : (Jvm.Cond.methodLink "LinkedTongue$Emitter" (57 : Nat) ({ cls := "LinkedTongue$Node", name := "emit", desc := "(LLinkedTongue$Emitter;)V" } : Jvm.MethodName)) ∈ lw_all := lw_g (lw_at lw_m10 49 rfl) rfl
theorem q2537 : (Jvm.Cond.instanceMethod ({ cls := "LinkedTongue$Emitter", name := "add", desc := "(III)V" } : Jvm.MethodName)) ∈ lw_all := lw_g (lw_at lw_m10 76 rfl) rfl
theorem q2538 : (Jvm.Cond.selects "LinkedTongue$Emitter" ({ cls := "LinkedTongue$Emitter", name := "add", desc := "(III)V" } : Jvm.MethodName) ({ cls := "LinkedTongue$Emitter", name := "add", desc := "(III)V" } : Jvm.MethodName)) ∈ lw_all := lw_g (lw_at lw_m10 77 rfl) rfl
theorem q2539 : (Jvm.Cond.code ({ cls := "LinkedTongue$Emitter", name := "add", desc := "(III)V" } : Jvm.MethodName) prog_9_method_3_code (4 : Nat) (Option.none : Option Jvm.ClassFile.FieldType)) ∈ lw_all := lw_g (lw_at lw_m10 78 rfl) rfl
theorem q2540 : (Jvm.Cond.methodLink "LinkedTongue$Emitter" (67 : Nat) ({ cls := "LinkedTongue$Code", name := "add", desc := "(III)V" } : Jvm.MethodName)) ∈ lw_all := lw_g (lw_at lw_m10 79 rfl) rfl
theorem q2578 : (Jvm.Cond.instanceMethod ({ cls := "LinkedTongue$Emitter", name := "jump", desc := "(I)I" } : Jvm.MethodName)) ∈ lw_all := lw_g (lw_at lw_m10 117 rfl) rfl
theorem q2579 : (Jvm.Cond.selects "LinkedTongue$Emitter" ({ cls := "LinkedTongue$Emitter", name := "jump", desc := "(I)I" } : Jvm.MethodName) ({ cls := "LinkedTongue$Emitter", name := "jump", desc := "(I)I" } : Jvm.MethodName)) ∈ lw_all := lw_g (lw_at lw_m10 118 rfl) rfl
theorem q2580 : (Jvm.Cond.code ({ cls := "LinkedTongue$Emitter", name := "jump", desc := "(I)I" } : Jvm.MethodName) prog_9_method_5_code (2 : Nat) (Option.some Jvm.ClassFile.FieldType.int)) ∈ lw_all := lw_g (lw_at lw_m10 119 rfl) rfl
theorem q2581 : (Jvm.Cond.methodLink "LinkedTongue$Emitter" (61 : Nat) ({ cls := "LinkedTongue$Emitter", name := "add", desc := "(III)V" } : Jvm.MethodName)) ∈ lw_all := lw_g (lw_at lw_m10 120 rfl) rfl
theorem q2582 : (Jvm.Cond.methodLink "LinkedTongue$Emitter" (69 : Nat) ({ cls := "LinkedTongue$Emitter", name := "here", desc := "()I" } : Jvm.MethodName)) ∈ lw_all := lw_g (lw_at lw_m10 121 rfl) rfl
theorem q2583 : (Jvm.Cond.instanceMethod ({ cls := "LinkedTongue$Emitter", name := "here", desc := "()I" } : Jvm.MethodName)) ∈ lw_all := lw_g (lw_at lw_m10 122 rfl) rfl
theorem q2584 : (Jvm.Cond.selects "LinkedTongue$Emitter" ({ cls := "LinkedTongue$Emitter", name := "here", desc := "()I" } : Jvm.MethodName) ({ cls := "LinkedTongue$Emitter", name := "here", desc := "()I" } : Jvm.MethodName)) ∈ lw_all := lw_g (lw_at lw_m10 123 rfl) rfl
theorem q2585 : (Jvm.Cond.code ({ cls := "LinkedTongue$Emitter", name := "here", desc := "()I" } : Jvm.MethodName) prog_9_method_4_code (1 : Nat) (Option.some Jvm.ClassFile.FieldType.int)) ∈ lw_all := lw_g (lw_at lw_m10 124 rfl) rfl
theorem q2589 : (Jvm.Cond.instanceMethod ({ cls := "LinkedTongue$Emitter", name := "land", desc := "(I)V" } : Jvm.MethodName)) ∈ lw_all := lw_g (lw_at lw_m10 128 rfl) rfl
theorem q2590 : (Jvm.Cond.selects "LinkedTongue$Emitter" ({ cls := "LinkedTongue$Emitter", name := "land", desc := "(I)V" } : Jvm.MethodName) ({ cls := "LinkedTongue$Emitter", name := "land", desc := "(I)V" } : Jvm.MethodName)) ∈ lw_all := lw_g (lw_at lw_m10 129 rfl) rfl
theorem q2591 : (Jvm.Cond.code ({ cls := "LinkedTongue$Emitter", name := "land", desc := "(I)V" } : Jvm.MethodName) prog_9_method_6_code (2 : Nat) (Option.none : Option Jvm.ClassFile.FieldType)) ∈ lw_all := lw_g (lw_at lw_m10 130 rfl) rfl
theorem q2593 : (Jvm.Cond.instanceMethod ({ cls := "LinkedTongue$Emitter", name := "variable", desc := "(IZ)V" } : Jvm.MethodName)) ∈ lw_all := lw_g (lw_at lw_m10 132 rfl) rfl
theorem q2594 : (Jvm.Cond.selects "LinkedTongue$Emitter" ({ cls := "LinkedTongue$Emitter", name := "variable", desc := "(IZ)V" } : Jvm.MethodName) ({ cls := "LinkedTongue$Emitter", name := "variable", desc := "(IZ)V" } : Jvm.MethodName)) ∈ lw_all := lw_g (lw_at lw_m10 133 rfl) rfl
theorem q2595 : (Jvm.Cond.code ({ cls := "LinkedTongue$Emitter", name := "variable", desc := "(IZ)V" } : Jvm.MethodName) prog_9_method_7_code (6 : Nat) (Option.none : Option Jvm.ClassFile.FieldType)) ∈ lw_all := lw_g (lw_at lw_m10 134 rfl) rfl
theorem q2596 : (Jvm.Cond.methodLink "LinkedTongue$Emitter" (80 : Nat) ({ cls := "LinkedTongue$Scope", name := "find", desc := "(I)I" } : Jvm.MethodName)) ∈ lw_all := lw_g (lw_at lw_m10 135 rfl) rfl
theorem q2615 : (Jvm.Cond.instanceMethod ({ cls := "LinkedTongue$Emitter", name := "site", desc := "(III)V" } : Jvm.MethodName)) ∈ lw_all := lw_g (lw_at lw_m10 154 rfl) rfl
theorem q2616 : (Jvm.Cond.selects "LinkedTongue$Emitter" ({ cls := "LinkedTongue$Emitter", name := "site", desc := "(III)V" } : Jvm.MethodName) ({ cls := "LinkedTongue$Emitter", name := "site", desc := "(III)V" } : Jvm.MethodName)) ∈ lw_all := lw_g (lw_at lw_m10 155 rfl) rfl
theorem q2617 : (Jvm.Cond.code ({ cls := "LinkedTongue$Emitter", name := "site", desc := "(III)V" } : Jvm.MethodName) prog_9_method_8_code (6 : Nat) (Option.none : Option Jvm.ClassFile.FieldType)) ∈ lw_all := lw_g (lw_at lw_m10 156 rfl) rfl
theorem q2618 : (Jvm.Cond.classLink "LinkedTongue$Emitter" (87 : Nat) "LinkedTongue$Site") ∈ lw_all := lw_g (lw_at lw_m10 157 rfl) rfl
theorem q2619 : (Jvm.Cond.methodLink "LinkedTongue$Emitter" (89 : Nat) ({ cls := "LinkedTongue$Site", name := "isLike", desc := "(III)Z" } : Jvm.MethodName)) ∈ lw_all := lw_g (lw_at lw_m10 158 rfl) rfl
theorem q2624 : (Jvm.Cond.methodLink "LinkedTongue$Emitter" (96 : Nat) ({ cls := "LinkedTongue$Site", name := "<init>", desc := "(IIIIIII)V" } : Jvm.MethodName)) ∈ lw_all := lw_g (lw_at lw_m10 163 rfl) rfl
theorem q2629 : (Jvm.Cond.fieldLinkNest "LinkedTongue$Emitter" (102 : Nat) "LinkedTongue$Site" "number" "I" "LinkedTongue") ∈ lw_tbl := lw_at lw_m10 168 rfl
theorem q2677 : (Jvm.Cond.methodLink "LinkedTongue$Emitter" (99 : Nat) ({ cls := "java/util/ArrayList", name := "add", desc := "(Ljava/lang/Object;)Z" } : Jvm.MethodName)) ∈ lw_all := lw_g (lw_at lw_m10 216 rfl) rfl
theorem q5555 : (Jvm.Cond.castable "LinkedTongue$Emitter" "java/lang/Object") ∈ lw_tbl := lw_at lw_m22 214 rfl
theorem q363 : (Jvm.Cond.initialized "LinkedTongue$Site") ∈ lw_all := lw_g (lw_at lw_m1 62 rfl) rfl
theorem q1094 : (Jvm.Cond.selects "LinkedTongue$Site" ({ cls := "java/lang/Object", name := "getClass", desc := "()Ljava/lang/Class;" } : Jvm.MethodName) ({ cls := "java/lang/Object", name := "getClass", desc := "()Ljava/lang/Class;" } : Jvm.MethodName)) ∈ lw_all := lw_g (lw_at lw_m4 73 rfl) rfl
theorem q1154 : (Jvm.Cond.instanceMethod ({ cls := "LinkedTongue$Site", name := "letGo", desc := "(LLinkedTongue$Spare;)V" } : Jvm.MethodName)) ∈ lw_all := lw_g (lw_at lw_m4 133 rfl) rfl
theorem q1155 : (Jvm.Cond.selects "LinkedTongue$Site" ({ cls := "LinkedTongue$Site", name := "letGo", desc := "(LLinkedTongue$Spare;)V" } : Jvm.MethodName) ({ cls := "LinkedTongue$Site", name := "letGo", desc := "(LLinkedTongue$Spare;)V" } : Jvm.MethodName)) ∈ lw_all := lw_g (lw_at lw_m4 134 rfl) rfl
theorem q1156 : (Jvm.Cond.code ({ cls := "LinkedTongue$Site", name := "letGo", desc := "(LLinkedTongue$Spare;)V" } : Jvm.MethodName) prog_36_method_5_code (3 : Nat) (Option.none : Option Jvm.ClassFile.FieldType)) ∈ lw_all := lw_g (lw_at lw_m4 135 rfl) rfl
theorem q1157 : (Jvm.Cond.methodLink "LinkedTongue$Site" (46 : Nat) ({ cls := "LinkedTongue$Spare", name := "give", desc := "(LLinkedTongue$Entry;)V" } : Jvm.MethodName)) ∈ lw_all := lw_g (lw_at lw_m4 136 rfl) rfl
theorem q2620 : (Jvm.Cond.instanceMethod ({ cls := "LinkedTongue$Site", name := "isLike", desc := "(III)Z" } : Jvm.MethodName)) ∈ lw_all := lw_g (lw_at lw_m10 159 rfl) rfl
theorem q2621 : (Jvm.Cond.selects "LinkedTongue$Site" ({ cls := "LinkedTongue$Site", name := "isLike", desc := "(III)Z" } : Jvm.MethodName) ({ cls := "LinkedTongue$Site", name := "isLike", desc := "(III)Z" } : Jvm.MethodName)) ∈ lw_all := lw_g (lw_at lw_m10 160 rfl) rfl
theorem q2622 : (Jvm.Cond.code ({ cls := "LinkedTongue$Site", name := "isLike", desc := "(III)Z" } : Jvm.MethodName) prog_36_method_2_code (4 : Nat) (Option.some Jvm.ClassFile.FieldType.boolean)) ∈ lw_all := lw_g (lw_at lw_m10 161 rfl) rfl
theorem q2623 : (Jvm.Cond.instantiable "LinkedTongue$Site" (13 : Nat)) ∈ lw_all := lw_g (lw_at lw_m10 162 rfl) rfl
theorem q2625 : (Jvm.Cond.instanceMethod ({ cls := "LinkedTongue$Site", name := "<init>", desc := "(IIIIIII)V" } : Jvm.MethodName)) ∈ lw_all := lw_g (lw_at lw_m10 164 rfl) rfl
theorem q2626 : (Jvm.Cond.code ({ cls := "LinkedTongue$Site", name := "<init>", desc := "(IIIIIII)V" } : Jvm.MethodName) prog_36_method_1_code (8 : Nat) (Option.none : Option Jvm.ClassFile.FieldType)) ∈ lw_all := lw_g (lw_at lw_m10 165 rfl) rfl
theorem q2627 : (Jvm.Cond.methodLink "LinkedTongue$Site" (3 : Nat) ({ cls := "java/lang/Object", name := "<init>", desc := "()V" } : Jvm.MethodName)) ∈ lw_all := lw_g (lw_at lw_m10 166 rfl) rfl
theorem q2628 : (Jvm.Cond.fieldLink "LinkedTongue$Site" (9 : Nat) "LinkedTongue$Site" "number" "I") ∈ lw_all := lw_g (lw_at lw_m10 167 rfl) rfl
theorem q2630 : (Jvm.Cond.fieldLink "LinkedTongue$Site" (15 : Nat) "LinkedTongue$Site" "kind" "I") ∈ lw_all := lw_g (lw_at lw_m10 169 rfl) rfl
theorem q2633 : (Jvm.Cond.fieldLink "LinkedTongue$Site" (18 : Nat) "LinkedTongue$Site" "name" "I") ∈ lw_all := lw_g (lw_at lw_m10 172 rfl) rfl
theorem q2636 : (Jvm.Cond.fieldLink "LinkedTongue$Site" (21 : Nat) "LinkedTongue$Site" "operands" "I") ∈ lw_all := lw_g (lw_at lw_m10 175 rfl) rfl
theorem q2639 : (Jvm.Cond.fieldLink "LinkedTongue$Site" (24 : Nat) "LinkedTongue$Site" "function" "I") ∈ lw_all := lw_g (lw_at lw_m10 178 rfl) rfl
theorem q2640 : (Jvm.Cond.fieldLink "LinkedTongue$Site" (27 : Nat) "LinkedTongue$Site" "instruction" "I") ∈ lw_all := lw_g (lw_at lw_m10 179 rfl) rfl
theorem q2641 : (Jvm.Cond.fieldLink "LinkedTongue$Site" (30 : Nat) "LinkedTongue$Site" "descriptor" "I") ∈ lw_all := lw_g (lw_at lw_m10 180 rfl) rfl
theorem q2642 : (Jvm.Cond.fieldLink "LinkedTongue$Site" (69 : Nat) "LinkedTongue$Site" "links" "I") ∈ lw_all := lw_g (lw_at lw_m10 181 rfl) rfl
theorem q2643 : (Jvm.Cond.fieldLink "LinkedTongue$Site" (62 : Nat) "LinkedTongue$Site" "hits" "I") ∈ lw_all := lw_g (lw_at lw_m10 182 rfl) rfl
theorem q2644 : (Jvm.Cond.fieldLink "LinkedTongue$Site" (55 : Nat) "LinkedTongue$Site" "pruned" "I") ∈ lw_all := lw_g (lw_at lw_m10 183 rfl) rfl
theorem q2645 : (Jvm.Cond.fieldLink "LinkedTongue$Site" (52 : Nat) "LinkedTongue$Site" "size" "I") ∈ lw_all := lw_g (lw_at lw_m10 184 rfl) rfl
theorem q2647 : (Jvm.Cond.fieldLink "LinkedTongue$Site" (65 : Nat) "LinkedTongue$Site" "megamorphic" "Z") ∈ lw_all := lw_g (lw_at lw_m10 186 rfl) rfl
theorem q2648 : (Jvm.Cond.fieldLink "LinkedTongue$Site" (33 : Nat) "LinkedTongue$Site" "first" "LLinkedTongue$Entry;") ∈ lw_all := lw_g (lw_at lw_m10 187 rfl) rfl
theorem q2650 : (Jvm.Cond.laysFinal "LinkedTongue$Site" "LinkedTongue$Site" "number" "I") ∈ lw_all := lw_g (lw_at lw_m10 189 rfl) rfl
theorem q2651 : (Jvm.Cond.soleField "LinkedTongue$Site" "number") ∈ lw_all := lw_g (lw_at lw_m10 190 rfl) rfl
theorem q2652 : (Jvm.Cond.laysFinal "LinkedTongue$Site" "LinkedTongue$Site" "kind" "I") ∈ lw_all := lw_g (lw_at lw_m10 191 rfl) rfl
theorem q2653 : (Jvm.Cond.soleField "LinkedTongue$Site" "kind") ∈ lw_all := lw_g (lw_at lw_m10 192 rfl) rfl
theorem q2654 : (Jvm.Cond.laysFinal "LinkedTongue$Site" "LinkedTongue$Site" "name" "I") ∈ lw_all := lw_g (lw_at lw_m10 193 rfl) rfl
theorem q2655 : (Jvm.Cond.soleField "LinkedTongue$Site" "name") ∈ lw_all := lw_g (lw_at lw_m10 194 rfl) rfl
theorem q2656 : (Jvm.Cond.laysFinal "LinkedTongue$Site" "LinkedTongue$Site" "operands" "I") ∈ lw_all := lw_g (lw_at lw_m10 195 rfl) rfl
theorem q2657 : (Jvm.Cond.soleField "LinkedTongue$Site" "operands") ∈ lw_all := lw_g (lw_at lw_m10 196 rfl) rfl
theorem q2658 : (Jvm.Cond.laysFinal "LinkedTongue$Site" "LinkedTongue$Site" "function" "I") ∈ lw_all := lw_g (lw_at lw_m10 197 rfl) rfl
theorem q2659 : (Jvm.Cond.soleField "LinkedTongue$Site" "function") ∈ lw_all := lw_g (lw_at lw_m10 198 rfl) rfl
theorem q2660 : (Jvm.Cond.laysFinal "LinkedTongue$Site" "LinkedTongue$Site" "instruction" "I") ∈ lw_all := lw_g (lw_at lw_m10 199 rfl) rfl
theorem q2661 : (Jvm.Cond.soleField "LinkedTongue$Site" "instruction") ∈ lw_all := lw_g (lw_at lw_m10 200 rfl) rfl
theorem q2662 : (Jvm.Cond.laysFinal "LinkedTongue$Site" "LinkedTongue$Site" "descriptor" "I") ∈ lw_all := lw_g (lw_at lw_m10 201 rfl) rfl
theorem q2663 : (Jvm.Cond.soleField "LinkedTongue$Site" "descriptor") ∈ lw_all := lw_g (lw_at lw_m10 202 rfl) rfl
theorem q2664 : (Jvm.Cond.lays "LinkedTongue$Site" "LinkedTongue$Site" "links" "I") ∈ lw_all := lw_g (lw_at lw_m10 203 rfl) rfl
theorem q2665 : (Jvm.Cond.soleField "LinkedTongue$Site" "links") ∈ lw_all := lw_g (lw_at lw_m10 204 rfl) rfl
theorem q2666 : (Jvm.Cond.lays "LinkedTongue$Site" "LinkedTongue$Site" "hits" "I") ∈ lw_all := lw_g (lw_at lw_m10 205 rfl) rfl
theorem q2667 : (Jvm.Cond.soleField "LinkedTongue$Site" "hits") ∈ lw_all := lw_g (lw_at lw_m10 206 rfl) rfl
theorem q2668 : (Jvm.Cond.lays "LinkedTongue$Site" "LinkedTongue$Site" "pruned" "I") ∈ lw_all := lw_g (lw_at lw_m10 207 rfl) rfl
theorem q2669 : (Jvm.Cond.soleField "LinkedTongue$Site" "pruned") ∈ lw_all := lw_g (lw_at lw_m10 208 rfl) rfl
theorem q2670 : (Jvm.Cond.lays "LinkedTongue$Site" "LinkedTongue$Site" "size" "I") ∈ lw_all := lw_g (lw_at lw_m10 209 rfl) rfl
theorem q2671 : (Jvm.Cond.soleField "LinkedTongue$Site" "size") ∈ lw_all := lw_g (lw_at lw_m10 210 rfl) rfl
theorem q2672 : (Jvm.Cond.lays "LinkedTongue$Site" "LinkedTongue$Site" "megamorphic" "Z") ∈ lw_all := lw_g (lw_at lw_m10 211 rfl) rfl
theorem q2673 : (Jvm.Cond.soleField "LinkedTongue$Site" "megamorphic") ∈ lw_all := lw_g (lw_at lw_m10 212 rfl) rfl
theorem q2674 : (Jvm.Cond.lays "LinkedTongue$Site" "LinkedTongue$Site" "first" "LLinkedTongue$Entry;") ∈ lw_all := lw_g (lw_at lw_m10 213 rfl) rfl
theorem q2675 : (Jvm.Cond.soleField "LinkedTongue$Site" "first") ∈ lw_all := lw_g (lw_at lw_m10 214 rfl) rfl
theorem q2676 : (Jvm.Cond.superclass "LinkedTongue$Site" "java/lang/Object") ∈ lw_all := lw_g (lw_at lw_m10 215 rfl) rfl
theorem q2763 : (Jvm.Cond.instanceMethod ({ cls := "LinkedTongue$Site", name := "tell", desc := "(I)I" } : Jvm.MethodName)) ∈ lw_all := lw_g (lw_at lw_m11 62 rfl) rfl
theorem q2764 : (Jvm.Cond.selects "LinkedTongue$Site" ({ cls := "LinkedTongue$Site", name := "tell", desc := "(I)I" } : Jvm.MethodName) ({ cls := "LinkedTongue$Site", name := "tell", desc := "(I)I" } : Jvm.MethodName)) ∈ lw_all := lw_g (lw_at lw_m11 63 rfl) rfl
theorem q2765 : (Jvm.Cond.code ({ cls := "LinkedTongue$Site", name := "tell", desc := "(I)I" } : Jvm.MethodName) prog_36_method_6_code (2 : Nat) (Option.some Jvm.ClassFile.FieldType.int)) ∈ lw_all := lw_g (lw_at lw_m11 64 rfl) rfl
theorem q3151 : (Jvm.Cond.instanceMethod ({ cls := "LinkedTongue$Site", name := "hit", desc := "(LLinkedTongue$Found;LLinkedTongue$Spare;)LLinkedTongue$Entry;" } : Jvm.MethodName)) ∈ lw_all := lw_g (lw_at lw_m12 210 rfl) rfl
theorem q3152 : (Jvm.Cond.selects "LinkedTongue$Site" ({ cls := "LinkedTongue$Site", name := "hit", desc := "(LLinkedTongue$Found;LLinkedTongue$Spare;)LLinkedTongue$Entry;" } : Jvm.MethodName) ({ cls := "LinkedTongue$Site", name := "hit", desc := "(LLinkedTongue$Found;LLinkedTongue$Spare;)LLinkedTongue$Entry;" } : Jvm.MethodName)) ∈ lw_all := lw_g (lw_at lw_m12 211 rfl) rfl
theorem q3153 : (Jvm.Cond.code ({ cls := "LinkedTongue$Site", name := "hit", desc := "(LLinkedTongue$Found;LLinkedTongue$Spare;)LLinkedTongue$Entry;" } : Jvm.MethodName) prog_36_method_3_code (6 : Nat) (Option.some (Jvm.ClassFile.FieldType.object "LinkedTongue$Entry"))) ∈ lw_all := lw_g (lw_at lw_m12 212 rfl) rfl
theorem q3154 : (Jvm.Cond.methodLink "LinkedTongue$Site" (42 : Nat) ({ cls := "LinkedTongue$Entry", name := "isStale", desc := "()Z" } : Jvm.MethodName)) ∈ lw_all := lw_g (lw_at lw_m12 213 rfl) rfl
theorem q3155 : (Jvm.Cond.methodLink "LinkedTongue$Site" (58 : Nat) ({ cls := "LinkedTongue$Entry", name := "holds", desc := "(LLinkedTongue$Found;)Z" } : Jvm.MethodName)) ∈ lw_all := lw_g (lw_at lw_m12 214 rfl) rfl
theorem q3330 : (Jvm.Cond.instanceMethod ({ cls := "LinkedTongue$Site", name := "link", desc := "(LLinkedTongue$Found;ILLinkedTongue$Spare;)V" } : Jvm.MethodName)) ∈ lw_all := lw_g (lw_at lw_m13 149 rfl) rfl
theorem q3331 : (Jvm.Cond.selects "LinkedTongue$Site" ({ cls := "LinkedTongue$Site", name := "link", desc := "(LLinkedTongue$Found;ILLinkedTongue$Spare;)V" } : Jvm.MethodName) ({ cls := "LinkedTongue$Site", name := "link", desc := "(LLinkedTongue$Found;ILLinkedTongue$Spare;)V" } : Jvm.MethodName)) ∈ lw_all := lw_g (lw_at lw_m13 150 rfl) rfl
theorem q3332 : (Jvm.Cond.code ({ cls := "LinkedTongue$Site", name := "link", desc := "(LLinkedTongue$Found;ILLinkedTongue$Spare;)V" } : Jvm.MethodName) prog_36_method_4_code (5 : Nat) (Option.none : Option Jvm.ClassFile.FieldType)) ∈ lw_all := lw_g (lw_at lw_m13 151 rfl) rfl
theorem q3333 : (Jvm.Cond.methodLink "LinkedTongue$Site" (72 : Nat) ({ cls := "LinkedTongue$Site", name := "letGo", desc := "(LLinkedTongue$Spare;)V" } : Jvm.MethodName)) ∈ lw_all := lw_g (lw_at lw_m13 152 rfl) rfl
theorem q3334 : (Jvm.Cond.methodLink "LinkedTongue$Site" (76 : Nat) ({ cls := "LinkedTongue$Spare", name := "take", desc := "(LLinkedTongue$Found;LLinkedTongue$Entry;I)LLinkedTongue$Entry;" } : Jvm.MethodName)) ∈ lw_all := lw_g (lw_at lw_m13 153 rfl) rfl
theorem q3359 : (Jvm.Cond.fieldLinkNest "LinkedTongue$Site" (37 : Nat) "LinkedTongue$Entry" "next" "LLinkedTongue$Entry;" "LinkedTongue") ∈ lw_tbl := lw_at lw_m13 178 rfl
theorem q5473 : (Jvm.Cond.castable "LinkedTongue$Site" "LinkedTongue$Site") ∈ lw_tbl := lw_at lw_m22 132 rfl
theorem q5556 : (Jvm.Cond.castable "LinkedTongue$Site" "java/lang/Object") ∈ lw_tbl := lw_at lw_m22 215 rfl
theorem q364 : (Jvm.Cond.initialized "LinkedTongueModel$Part") ∈ lw_all := lw_g (lw_at lw_m1 63 rfl) rfl
theorem q1109 : (Jvm.Cond.selects "LinkedTongueModel$Part" ({ cls := "java/lang/Object", name := "getClass", desc := "()Ljava/lang/Class;" } : Jvm.MethodName) ({ cls := "java/lang/Object", name := "getClass", desc := "()Ljava/lang/Class;" } : Jvm.MethodName)) ∈ lw_all := lw_g (lw_at lw_m4 88 rfl) rfl
theorem q3926 : (Jvm.Cond.fieldLinkNest "LinkedTongueModel$Part" (40 : Nat) "LinkedTongueModel$Ints" "size" "I" "LinkedTongueModel") ∈ lw_tbl := lw_at lw_m16 25 rfl
theorem q4664 : (Jvm.Cond.instantiable "LinkedTongueModel$Part" (8 : Nat)) ∈ lw_all := lw_g (lw_at lw_m19 43 rfl) rfl
theorem q4666 : (Jvm.Cond.instanceMethod ({ cls := "LinkedTongueModel$Part", name := "<init>", desc := "()V" } : Jvm.MethodName)) ∈ lw_all := lw_g (lw_at lw_m19 45 rfl) rfl
theorem q4667 : (Jvm.Cond.code ({ cls := "LinkedTongueModel$Part", name := "<init>", desc := "()V" } : Jvm.MethodName) prog_53_method_1_code (1 : Nat) (Option.none : Option Jvm.ClassFile.FieldType)) ∈ lw_all := lw_g (lw_at lw_m19 46 rfl) rfl
theorem q4668 : (Jvm.Cond.methodLink "LinkedTongueModel$Part" (3 : Nat) ({ cls := "java/lang/Object", name := "<init>", desc := "()V" } : Jvm.MethodName)) ∈ lw_all := lw_g (lw_at lw_m19 47 rfl) rfl
theorem q4669 : (Jvm.Cond.classLink "LinkedTongueModel$Part" (15 : Nat) "LinkedTongueModel$Ints") ∈ lw_all := lw_g (lw_at lw_m19 48 rfl) rfl
theorem q4670 : (Jvm.Cond.methodLink "LinkedTongueModel$Part" (17 : Nat) ({ cls := "LinkedTongueModel$Ints", name := "<init>", desc := "(I)V" } : Jvm.MethodName)) ∈ lw_all := lw_g (lw_at lw_m19 49 rfl) rfl
theorem q4671 : (Jvm.Cond.fieldLink "LinkedTongueModel$Part" (30 : Nat) "LinkedTongueModel$Part" "around" "I") ∈ lw_all := lw_g (lw_at lw_m19 50 rfl) rfl
theorem q4673 : (Jvm.Cond.fieldLink "LinkedTongueModel$Part" (34 : Nat) "LinkedTongueModel$Part" "parameters" "I") ∈ lw_all := lw_g (lw_at lw_m19 52 rfl) rfl
theorem q4675 : (Jvm.Cond.fieldLink "LinkedTongueModel$Part" (37 : Nat) "LinkedTongueModel$Part" "variables" "I") ∈ lw_all := lw_g (lw_at lw_m19 54 rfl) rfl
theorem q4677 : (Jvm.Cond.fieldLink "LinkedTongueModel$Part" (9 : Nat) "LinkedTongueModel$Part" "variable" "[I") ∈ lw_all := lw_g (lw_at lw_m19 56 rfl) rfl
theorem q4679 : (Jvm.Cond.fieldLink "LinkedTongueModel$Part" (20 : Nat) "LinkedTongueModel$Part" "op" "LLinkedTongueModel$Ints;") ∈ lw_all := lw_g (lw_at lw_m19 58 rfl) rfl
theorem q4681 : (Jvm.Cond.fieldLink "LinkedTongueModel$Part" (24 : Nat) "LinkedTongueModel$Part" "a" "LLinkedTongueModel$Ints;") ∈ lw_all := lw_g (lw_at lw_m19 60 rfl) rfl
theorem q4683 : (Jvm.Cond.fieldLink "LinkedTongueModel$Part" (27 : Nat) "LinkedTongueModel$Part" "b" "LLinkedTongueModel$Ints;") ∈ lw_all := lw_g (lw_at lw_m19 62 rfl) rfl
theorem q4685 : (Jvm.Cond.fieldLink "LinkedTongueModel$Part" (43 : Nat) "LinkedTongueModel$Part" "uncounted" "I") ∈ lw_all := lw_g (lw_at lw_m19 64 rfl) rfl
theorem q4686 : (Jvm.Cond.lays "LinkedTongueModel$Part" "LinkedTongueModel$Part" "around" "I") ∈ lw_all := lw_g (lw_at lw_m19 65 rfl) rfl
theorem q4687 : (Jvm.Cond.soleField "LinkedTongueModel$Part" "around") ∈ lw_all := lw_g (lw_at lw_m19 66 rfl) rfl
theorem q4688 : (Jvm.Cond.lays "LinkedTongueModel$Part" "LinkedTongueModel$Part" "parameters" "I") ∈ lw_all := lw_g (lw_at lw_m19 67 rfl) rfl
theorem q4689 : (Jvm.Cond.soleField "LinkedTongueModel$Part" "parameters") ∈ lw_all := lw_g (lw_at lw_m19 68 rfl) rfl
theorem q4690 : (Jvm.Cond.lays "LinkedTongueModel$Part" "LinkedTongueModel$Part" "variables" "I") ∈ lw_all := lw_g (lw_at lw_m19 69 rfl) rfl
theorem q4691 : (Jvm.Cond.soleField "LinkedTongueModel$Part" "variables") ∈ lw_all := lw_g (lw_at lw_m19 70 rfl) rfl
theorem q4692 : (Jvm.Cond.laysFinal "LinkedTongueModel$Part" "LinkedTongueModel$Part" "variable" "[I") ∈ lw_all := lw_g (lw_at lw_m19 71 rfl) rfl
theorem q4693 : (Jvm.Cond.soleField "LinkedTongueModel$Part" "variable") ∈ lw_all := lw_g (lw_at lw_m19 72 rfl) rfl
theorem q4694 : (Jvm.Cond.laysFinal "LinkedTongueModel$Part" "LinkedTongueModel$Part" "op" "LLinkedTongueModel$Ints;") ∈ lw_all := lw_g (lw_at lw_m19 73 rfl) rfl
theorem q4695 : (Jvm.Cond.soleField "LinkedTongueModel$Part" "op") ∈ lw_all := lw_g (lw_at lw_m19 74 rfl) rfl
theorem q4696 : (Jvm.Cond.laysFinal "LinkedTongueModel$Part" "LinkedTongueModel$Part" "a" "LLinkedTongueModel$Ints;") ∈ lw_all := lw_g (lw_at lw_m19 75 rfl) rfl
theorem q4697 : (Jvm.Cond.soleField "LinkedTongueModel$Part" "a") ∈ lw_all := lw_g (lw_at lw_m19 76 rfl) rfl
theorem q4698 : (Jvm.Cond.laysFinal "LinkedTongueModel$Part" "LinkedTongueModel$Part" "b" "LLinkedTongueModel$Ints;") ∈ lw_all := lw_g (lw_at lw_m19 77 rfl) rfl
theorem q4699 : (Jvm.Cond.soleField "LinkedTongueModel$Part" "b") ∈ lw_all := lw_g (lw_at lw_m19 78 rfl) rfl
theorem q4700 : (Jvm.Cond.lays "LinkedTongueModel$Part" "LinkedTongueModel$Part" "uncounted" "I") ∈ lw_all := lw_g (lw_at lw_m19 79 rfl) rfl
theorem q4701 : (Jvm.Cond.soleField "LinkedTongueModel$Part" "uncounted") ∈ lw_all := lw_g (lw_at lw_m19 80 rfl) rfl
theorem q4702 : (Jvm.Cond.superclass "LinkedTongueModel$Part" "java/lang/Object") ∈ lw_all := lw_g (lw_at lw_m19 81 rfl) rfl
theorem q4704 : (Jvm.Cond.instanceMethod ({ cls := "LinkedTongueModel$Part", name := "begin", desc := "(I)V" } : Jvm.MethodName)) ∈ lw_all := lw_g (lw_at lw_m19 83 rfl) rfl
theorem q4705 : (Jvm.Cond.selects "LinkedTongueModel$Part" ({ cls := "LinkedTongueModel$Part", name := "begin", desc := "(I)V" } : Jvm.MethodName) ({ cls := "LinkedTongueModel$Part", name := "begin", desc := "(I)V" } : Jvm.MethodName)) ∈ lw_all := lw_g (lw_at lw_m19 84 rfl) rfl
theorem q4706 : (Jvm.Cond.code ({ cls := "LinkedTongueModel$Part", name := "begin", desc := "(I)V" } : Jvm.MethodName) prog_53_method_2_code (2 : Nat) (Option.none : Option Jvm.ClassFile.FieldType)) ∈ lw_all := lw_g (lw_at lw_m19 85 rfl) rfl
theorem q4734 : (Jvm.Cond.instanceMethod ({ cls := "LinkedTongueModel$Part", name := "find", desc := "(I)I" } : Jvm.MethodName)) ∈ lw_all := lw_g (lw_at lw_m19 113 rfl) rfl
theorem q4735 : (Jvm.Cond.selects "LinkedTongueModel$Part" ({ cls := "LinkedTongueModel$Part", name := "find", desc := "(I)I" } : Jvm.MethodName) ({ cls := "LinkedTongueModel$Part", name := "find", desc := "(I)I" } : Jvm.MethodName)) ∈ lw_all := lw_g (lw_at lw_m19 114 rfl) rfl
theorem q4736 : (Jvm.Cond.code ({ cls := "LinkedTongueModel$Part", name := "find", desc := "(I)I" } : Jvm.MethodName) prog_53_method_6_code (3 : Nat) (Option.some Jvm.ClassFile.FieldType.int)) ∈ lw_all := lw_g (lw_at lw_m19 115 rfl) rfl
theorem q4778 : (Jvm.Cond.instanceMethod ({ cls := "LinkedTongueModel$Part", name := "add", desc := "(IIIZ)V" } : Jvm.MethodName)) ∈ lw_all := lw_g (lw_at lw_m19 157 rfl) rfl
theorem q4779 : (Jvm.Cond.selects "LinkedTongueModel$Part" ({ cls := "LinkedTongueModel$Part", name := "add", desc := "(IIIZ)V" } : Jvm.MethodName) ({ cls := "LinkedTongueModel$Part", name := "add", desc := "(IIIZ)V" } : Jvm.MethodName)) ∈ lw_all := lw_g (lw_at lw_m19 158 rfl) rfl
theorem q4780 : (Jvm.Cond.code ({ cls := "LinkedTongueModel$Part", name := "add", desc := "(IIIZ)V" } : Jvm.MethodName) prog_53_method_4_code (5 : Nat) (Option.none : Option Jvm.ClassFile.FieldType)) ∈ lw_all := lw_g (lw_at lw_m19 159 rfl) rfl
theorem q4781 : (Jvm.Cond.methodLink "LinkedTongueModel$Part" (46 : Nat) ({ cls := "LinkedTongueModel$Ints", name := "add", desc := "(I)V" } : Jvm.MethodName)) ∈ lw_all := lw_g (lw_at lw_m19 160 rfl) rfl
theorem q4859 : (Jvm.Cond.instanceMethod ({ cls := "LinkedTongueModel$Part", name := "here", desc := "()I" } : Jvm.MethodName)) ∈ lw_all := lw_g (lw_at lw_m19 238 rfl) rfl
theorem q4860 : (Jvm.Cond.selects "LinkedTongueModel$Part" ({ cls := "LinkedTongueModel$Part", name := "here", desc := "()I" } : Jvm.MethodName) ({ cls := "LinkedTongueModel$Part", name := "here", desc := "()I" } : Jvm.MethodName)) ∈ lw_all := lw_g (lw_at lw_m19 239 rfl) rfl
theorem q4861 : (Jvm.Cond.code ({ cls := "LinkedTongueModel$Part", name := "here", desc := "()I" } : Jvm.MethodName) prog_53_method_3_code (1 : Nat) (Option.some Jvm.ClassFile.FieldType.int)) ∈ lw_all := lw_g (lw_at lw_m20 0 rfl) rfl
theorem q4871 : (Jvm.Cond.instanceMethod ({ cls := "LinkedTongueModel$Part", name := "drop", desc := "()V" } : Jvm.MethodName)) ∈ lw_all := lw_g (lw_at lw_m20 10 rfl) rfl
theorem q4872 : (Jvm.Cond.selects "LinkedTongueModel$Part" ({ cls := "LinkedTongueModel$Part", name := "drop", desc := "()V" } : Jvm.MethodName) ({ cls := "LinkedTongueModel$Part", name := "drop", desc := "()V" } : Jvm.MethodName)) ∈ lw_all := lw_g (lw_at lw_m20 11 rfl) rfl
theorem q4873 : (Jvm.Cond.code ({ cls := "LinkedTongueModel$Part", name := "drop", desc := "()V" } : Jvm.MethodName) prog_53_method_5_code (1 : Nat) (Option.none : Option Jvm.ClassFile.FieldType)) ∈ lw_all := lw_g (lw_at lw_m20 12 rfl) rfl
theorem q5557 : (Jvm.Cond.castable "LinkedTongueModel$Part" "java/lang/Object") ∈ lw_tbl := lw_at lw_m22 216 rfl
theorem q365 : (Jvm.Cond.initialized "LinkedTongue$Variables") ∈ lw_all := lw_g (lw_at lw_m1 64 rfl) rfl
theorem q1102 : (Jvm.Cond.selects "LinkedTongue$Variables" ({ cls := "java/lang/Object", name := "getClass", desc := "()Ljava/lang/Class;" } : Jvm.MethodName) ({ cls := "java/lang/Object", name := "getClass", desc := "()Ljava/lang/Class;" } : Jvm.MethodName)) ∈ lw_all := lw_g (lw_at lw_m4 81 rfl) rfl
theorem q2803 : (Jvm.Cond.instantiable "LinkedTongue$Variables" (3 : Nat)) ∈ lw_all := lw_g (lw_at lw_m11 102 rfl) rfl
theorem q2805 : (Jvm.Cond.instanceMethod ({ cls := "LinkedTongue$Variables", name := "<init>", desc := "(LLinkedTongue$Variables;I)V" } : Jvm.MethodName)) ∈ lw_all := lw_g (lw_at lw_m11 104 rfl) rfl
theorem q2806 : (Jvm.Cond.code ({ cls := "LinkedTongue$Variables", name := "<init>", desc := "(LLinkedTongue$Variables;I)V" } : Jvm.MethodName) prog_45_method_1_code (3 : Nat) (Option.none : Option Jvm.ClassFile.FieldType)) ∈ lw_all := lw_g (lw_at lw_m11 105 rfl) rfl
theorem q2807 : (Jvm.Cond.methodLink "LinkedTongue$Variables" (1 : Nat) ({ cls := "java/lang/Object", name := "<init>", desc := "()V" } : Jvm.MethodName)) ∈ lw_all := lw_g (lw_at lw_m11 106 rfl) rfl
theorem q2808 : (Jvm.Cond.fieldLink "LinkedTongue$Variables" (7 : Nat) "LinkedTongue$Variables" "around" "LLinkedTongue$Variables;") ∈ lw_all := lw_g (lw_at lw_m11 107 rfl) rfl
theorem q2810 : (Jvm.Cond.fieldLink "LinkedTongue$Variables" (13 : Nat) "LinkedTongue$Variables" "words" "[J") ∈ lw_all := lw_g (lw_at lw_m11 109 rfl) rfl
theorem q2812 : (Jvm.Cond.fieldLink "LinkedTongue$Variables" (17 : Nat) "LinkedTongue$Variables" "tags" "[B") ∈ lw_all := lw_g (lw_at lw_m11 111 rfl) rfl
theorem q2814 : (Jvm.Cond.laysFinal "LinkedTongue$Variables" "LinkedTongue$Variables" "around" "LLinkedTongue$Variables;") ∈ lw_all := lw_g (lw_at lw_m11 113 rfl) rfl
theorem q2815 : (Jvm.Cond.soleField "LinkedTongue$Variables" "around") ∈ lw_all := lw_g (lw_at lw_m11 114 rfl) rfl
theorem q2816 : (Jvm.Cond.laysFinal "LinkedTongue$Variables" "LinkedTongue$Variables" "words" "[J") ∈ lw_all := lw_g (lw_at lw_m11 115 rfl) rfl
theorem q2817 : (Jvm.Cond.soleField "LinkedTongue$Variables" "words") ∈ lw_all := lw_g (lw_at lw_m11 116 rfl) rfl
theorem q2818 : (Jvm.Cond.laysFinal "LinkedTongue$Variables" "LinkedTongue$Variables" "tags" "[B") ∈ lw_all := lw_g (lw_at lw_m11 117 rfl) rfl
theorem q2819 : (Jvm.Cond.soleField "LinkedTongue$Variables" "tags") ∈ lw_all := lw_g (lw_at lw_m11 118 rfl) rfl
theorem q2820 : (Jvm.Cond.superclass "LinkedTongue$Variables" "java/lang/Object") ∈ lw_all := lw_g (lw_at lw_m11 119 rfl) rfl
theorem q5558 : (Jvm.Cond.castable "LinkedTongue$Variables" "java/lang/Object") ∈ lw_tbl := lw_at lw_m22 217 rfl
theorem q367 : (Jvm.Cond.initialized "LinkedTongue$Thing") ∈ lw_all := lw_g (lw_at lw_m1 66 rfl) rfl
theorem q2847 : (Jvm.Cond.declares ({ cls := "LinkedTongue$Thing", name := "tag", desc := "()B" } : Jvm.MethodName)) ∈ lw_tbl := lw_at lw_m11 146 rfl
theorem q2848 : (Jvm.Cond.sameMethod "LinkedTongue$Thing" "LinkedTongue$Thing" "tag" "()B") ∈ lw_all := lw_g (lw_at lw_m11 147 rfl) rfl
theorem q3009 : (Jvm.Cond.instanceMethod ({ cls := "LinkedTongue$Thing", name := "<init>", desc := "(II)V" } : Jvm.MethodName)) ∈ lw_all := lw_g (lw_at lw_m12 68 rfl) rfl
theorem q3010 : (Jvm.Cond.code ({ cls := "LinkedTongue$Thing", name := "<init>", desc := "(II)V" } : Jvm.MethodName) prog_40_method_1_code (3 : Nat) (Option.none : Option Jvm.ClassFile.FieldType)) ∈ lw_all := lw_g (lw_at lw_m12 69 rfl) rfl
theorem q3011 : (Jvm.Cond.methodLink "LinkedTongue$Thing" (1 : Nat) ({ cls := "java/lang/Object", name := "<init>", desc := "()V" } : Jvm.MethodName)) ∈ lw_all := lw_g (lw_at lw_m12 70 rfl) rfl
theorem q3029 : (Jvm.Cond.fieldLink "LinkedTongue$Thing" (7 : Nat) "LinkedTongue$Thing" "number" "I") ∈ lw_all := lw_g (lw_at lw_m12 88 rfl) rfl
theorem q3041 : (Jvm.Cond.fieldLink "LinkedTongue$Thing" (13 : Nat) "LinkedTongue$Thing" "words" "[J") ∈ lw_all := lw_g (lw_at lw_m12 100 rfl) rfl
theorem q3049 : (Jvm.Cond.fieldLink "LinkedTongue$Thing" (17 : Nat) "LinkedTongue$Thing" "tags" "[B") ∈ lw_all := lw_g (lw_at lw_m12 108 rfl) rfl
theorem q3057 : (Jvm.Cond.fieldLink "LinkedTongue$Thing" (21 : Nat) "LinkedTongue$Thing" "size" "I") ∈ lw_all := lw_g (lw_at lw_m12 116 rfl) rfl
theorem q3077 : (Jvm.Cond.soleField "LinkedTongue$Thing" "number") ∈ lw_all := lw_g (lw_at lw_m12 136 rfl) rfl
theorem q3079 : (Jvm.Cond.soleField "LinkedTongue$Thing" "words") ∈ lw_all := lw_g (lw_at lw_m12 138 rfl) rfl
theorem q3081 : (Jvm.Cond.soleField "LinkedTongue$Thing" "tags") ∈ lw_all := lw_g (lw_at lw_m12 140 rfl) rfl
theorem q3083 : (Jvm.Cond.soleField "LinkedTongue$Thing" "size") ∈ lw_all := lw_g (lw_at lw_m12 142 rfl) rfl
theorem q3106 : (Jvm.Cond.declares ({ cls := "LinkedTongue$Thing", name := "add", desc := "(BJ)V" } : Jvm.MethodName)) ∈ lw_tbl := lw_at lw_m12 165 rfl
theorem q3108 : (Jvm.Cond.instanceMethod ({ cls := "LinkedTongue$Thing", name := "add", desc := "(BJ)V" } : Jvm.MethodName)) ∈ lw_all := lw_g (lw_at lw_m12 167 rfl) rfl
theorem q3109 : (Jvm.Cond.code ({ cls := "LinkedTongue$Thing", name := "add", desc := "(BJ)V" } : Jvm.MethodName) prog_40_method_3_code (4 : Nat) (Option.none : Option Jvm.ClassFile.FieldType)) ∈ lw_all := lw_g (lw_at lw_m12 168 rfl) rfl
theorem q3110 : (Jvm.Cond.methodLink "LinkedTongue$Thing" (24 : Nat) ({ cls := "java/util/Arrays", name := "copyOf", desc := "([JI)[J" } : Jvm.MethodName)) ∈ lw_all := lw_g (lw_at lw_m12 169 rfl) rfl
theorem q3111 : (Jvm.Cond.methodLink "LinkedTongue$Thing" (30 : Nat) ({ cls := "java/util/Arrays", name := "copyOf", desc := "([BI)[B" } : Jvm.MethodName)) ∈ lw_all := lw_g (lw_at lw_m12 170 rfl) rfl
theorem q3421 : (Jvm.Cond.declares ({ cls := "LinkedTongue$Thing", name := "set", desc := "(IBJ)V" } : Jvm.MethodName)) ∈ lw_tbl := lw_at lw_m14 0 rfl
theorem q3424 : (Jvm.Cond.instanceMethod ({ cls := "LinkedTongue$Thing", name := "set", desc := "(IBJ)V" } : Jvm.MethodName)) ∈ lw_all := lw_g (lw_at lw_m14 3 rfl) rfl
theorem q3425 : (Jvm.Cond.code ({ cls := "LinkedTongue$Thing", name := "set", desc := "(IBJ)V" } : Jvm.MethodName) prog_40_method_4_code (5 : Nat) (Option.none : Option Jvm.ClassFile.FieldType)) ∈ lw_all := lw_g (lw_at lw_m14 4 rfl) rfl
theorem q5464 : (Jvm.Cond.sameMethod "LinkedTongue$Thing" "LinkedTongue$Thing" "set" "(IBJ)V") ∈ lw_all := lw_g (lw_at lw_m22 123 rfl) rfl
theorem q368 : (Jvm.Cond.initialized "LinkedTongue$Obj") ∈ lw_all := lw_g (lw_at lw_m1 67 rfl) rfl
theorem q1083 : (Jvm.Cond.selects "LinkedTongue$Obj" ({ cls := "java/lang/Object", name := "getClass", desc := "()Ljava/lang/Class;" } : Jvm.MethodName) ({ cls := "java/lang/Object", name := "getClass", desc := "()Ljava/lang/Class;" } : Jvm.MethodName)) ∈ lw_all := lw_g (lw_at lw_m4 62 rfl) rfl
theorem q2855 : (Jvm.Cond.selects "LinkedTongue$Obj" ({ cls := "LinkedTongue$Thing", name := "tag", desc := "()B" } : Jvm.MethodName) ({ cls := "LinkedTongue$Obj", name := "tag", desc := "()B" } : Jvm.MethodName)) ∈ lw_all := lw_g (lw_at lw_m11 154 rfl) rfl
theorem q2856 : (Jvm.Cond.instanceMethod ({ cls := "LinkedTongue$Obj", name := "tag", desc := "()B" } : Jvm.MethodName)) ∈ lw_all := lw_g (lw_at lw_m11 155 rfl) rfl
theorem q2857 : (Jvm.Cond.code ({ cls := "LinkedTongue$Obj", name := "tag", desc := "()B" } : Jvm.MethodName) prog_25_method_2_code (1 : Nat) (Option.some Jvm.ClassFile.FieldType.byte)) ∈ lw_all := lw_g (lw_at lw_m11 156 rfl) rfl
theorem q3006 : (Jvm.Cond.instanceMethod ({ cls := "LinkedTongue$Obj", name := "<init>", desc := "(ILLinkedTongue$Shape;)V" } : Jvm.MethodName)) ∈ lw_all := lw_g (lw_at lw_m12 65 rfl) rfl
theorem q3007 : (Jvm.Cond.code ({ cls := "LinkedTongue$Obj", name := "<init>", desc := "(ILLinkedTongue$Shape;)V" } : Jvm.MethodName) prog_25_method_1_code (3 : Nat) (Option.none : Option Jvm.ClassFile.FieldType)) ∈ lw_all := lw_g (lw_at lw_m12 66 rfl) rfl
theorem q3008 : (Jvm.Cond.methodLink "LinkedTongue$Obj" (3 : Nat) ({ cls := "LinkedTongue$Thing", name := "<init>", desc := "(II)V" } : Jvm.MethodName)) ∈ lw_all := lw_g (lw_at lw_m12 67 rfl) rfl
theorem q3017 : (Jvm.Cond.fieldLink "LinkedTongue$Obj" (15 : Nat) "LinkedTongue$Obj" "shape" "LLinkedTongue$Shape;") ∈ lw_all := lw_g (lw_at lw_m12 76 rfl) rfl
theorem q3024 : (Jvm.Cond.fieldLink "LinkedTongue$Obj" (9 : Nat) "LinkedTongue$Obj" "epoch" "I") ∈ lw_all := lw_g (lw_at lw_m12 83 rfl) rfl
theorem q3031 : (Jvm.Cond.sameField "LinkedTongue$Obj" "LinkedTongue$Thing" "number" "I") ∈ lw_all := lw_g (lw_at lw_m12 90 rfl) rfl
theorem q3043 : (Jvm.Cond.sameField "LinkedTongue$Obj" "LinkedTongue$Thing" "words" "[J") ∈ lw_all := lw_g (lw_at lw_m12 102 rfl) rfl
theorem q3051 : (Jvm.Cond.sameField "LinkedTongue$Obj" "LinkedTongue$Thing" "tags" "[B") ∈ lw_all := lw_g (lw_at lw_m12 110 rfl) rfl
