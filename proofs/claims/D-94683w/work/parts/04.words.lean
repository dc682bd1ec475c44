set_option maxRecDepth 100000
theorem q133 : (Jvm.Cond.initialized "java/util/AbstractCollection") ∈ lw_all := lw_g (lw_at lw_m1 4 rfl) rfl
theorem q226 : (Jvm.Cond.instanceMethod ({ cls := "java/util/AbstractCollection", name := "<init>", desc := "()V" } : Jvm.MethodName)) ∈ lw_all := lw_g (lw_at lw_m1 97 rfl) rfl
theorem q227 : (Jvm.Cond.code ({ cls := "java/util/AbstractCollection", name := "<init>", desc := "()V" } : Jvm.MethodName) prog_40_method_1_code (1 : Nat) (Option.none : Option Jvm.ClassFile.FieldType)) ∈ lw_all := lw_g (lw_at lw_m1 98 rfl) rfl
theorem q228 : (Jvm.Cond.methodLink "java/util/AbstractCollection" (1 : Nat) ({ cls := "java/lang/Object", name := "<init>", desc := "()V" } : Jvm.MethodName)) ∈ lw_all := lw_g (lw_at lw_m1 99 rfl) rfl
theorem q134 : (Jvm.Cond.initialized "java/util/AbstractList") ∈ lw_all := lw_g (lw_at lw_m1 5 rfl) rfl
theorem q223 : (Jvm.Cond.instanceMethod ({ cls := "java/util/AbstractList", name := "<init>", desc := "()V" } : Jvm.MethodName)) ∈ lw_all := lw_g (lw_at lw_m1 94 rfl) rfl
theorem q224 : (Jvm.Cond.code ({ cls := "java/util/AbstractList", name := "<init>", desc := "()V" } : Jvm.MethodName) prog_41_method_1_code (1 : Nat) (Option.none : Option Jvm.ClassFile.FieldType)) ∈ lw_all := lw_g (lw_at lw_m1 95 rfl) rfl
theorem q225 : (Jvm.Cond.methodLink "java/util/AbstractList" (1 : Nat) ({ cls := "java/util/AbstractCollection", name := "<init>", desc := "()V" } : Jvm.MethodName)) ∈ lw_all := lw_g (lw_at lw_m1 96 rfl) rfl
theorem q235 : (Jvm.Cond.fieldLink "java/util/AbstractList" (7 : Nat) "java/util/AbstractList" "modCount" "I") ∈ lw_all := lw_g (lw_at lw_m1 106 rfl) rfl
theorem q243 : (Jvm.Cond.soleField "java/util/AbstractList" "modCount") ∈ lw_all := lw_g (lw_at lw_m1 114 rfl) rfl
theorem q135 : (Jvm.Cond.initialized "java/util/ArrayList") ∈ lw_all := lw_g (lw_at lw_m1 6 rfl) rfl
theorem q218 : (Jvm.Cond.instantiable "java/util/ArrayList" (3 : Nat)) ∈ lw_all := lw_g (lw_at lw_m1 89 rfl) rfl
theorem q220 : (Jvm.Cond.instanceMethod ({ cls := "java/util/ArrayList", name := "<init>", desc := "(I)V" } : Jvm.MethodName)) ∈ lw_all := lw_g (lw_at lw_m1 91 rfl) rfl
theorem q221 : (Jvm.Cond.code ({ cls := "java/util/ArrayList", name := "<init>", desc := "(I)V" } : Jvm.MethodName) prog_42_method_1_code (2 : Nat) (Option.none : Option Jvm.ClassFile.FieldType)) ∈ lw_all := lw_g (lw_at lw_m1 92 rfl) rfl
theorem q222 : (Jvm.Cond.methodLink "java/util/ArrayList" (1 : Nat) ({ cls := "java/util/AbstractList", name := "<init>", desc := "()V" } : Jvm.MethodName)) ∈ lw_all := lw_g (lw_at lw_m1 93 rfl) rfl
theorem q229 : (Jvm.Cond.classLink "java/util/ArrayList" (7 : Nat) "java/lang/Object") ∈ lw_all := lw_g (lw_at lw_m1 100 rfl) rfl
theorem q231 : (Jvm.Cond.fieldLink "java/util/ArrayList" (15 : Nat) "java/util/ArrayList" "EMPTY_ELEMENTDATA" "[Ljava/lang/Object;") ∈ lw_all := lw_g (lw_at lw_m1 102 rfl) rfl
theorem q232 : (Jvm.Cond.laysStatic "java/util/ArrayList" "EMPTY_ELEMENTDATA" "[Ljava/lang/Object;") ∈ lw_tbl := lw_at lw_m1 103 rfl
theorem q233 : (Jvm.Cond.fieldLink "java/util/ArrayList" (9 : Nat) "java/util/ArrayList" "elementData" "[Ljava/lang/Object;") ∈ lw_all := lw_g (lw_at lw_m1 104 rfl) rfl
theorem q234 : (Jvm.Cond.fieldLink "java/util/ArrayList" (48 : Nat) "java/util/ArrayList" "size" "I") ∈ lw_all := lw_g (lw_at lw_m1 105 rfl) rfl
theorem q236 : (Jvm.Cond.fieldLink "java/util/ArrayList" (63 : Nat) "java/util/ArrayList" "modCount" "I") ∈ lw_all := lw_g (lw_at lw_m1 107 rfl) rfl
theorem q237 : (Jvm.Cond.sameField "java/util/ArrayList" "java/util/AbstractList" "modCount" "I") ∈ lw_all := lw_g (lw_at lw_m1 108 rfl) rfl
theorem q238 : (Jvm.Cond.lays "java/util/ArrayList" "java/util/ArrayList" "elementData" "[Ljava/lang/Object;") ∈ lw_all := lw_g (lw_at lw_m1 109 rfl) rfl
theorem q239 : (Jvm.Cond.soleField "java/util/ArrayList" "elementData") ∈ lw_all := lw_g (lw_at lw_m1 110 rfl) rfl
theorem q240 : (Jvm.Cond.lays "java/util/ArrayList" "java/util/ArrayList" "size" "I") ∈ lw_all := lw_g (lw_at lw_m1 111 rfl) rfl
theorem q241 : (Jvm.Cond.soleField "java/util/ArrayList" "size") ∈ lw_all := lw_g (lw_at lw_m1 112 rfl) rfl
theorem q242 : (Jvm.Cond.lays "java/util/ArrayList" "java/util/AbstractList" "modCount" "I") ∈ lw_all := lw_g (lw_at lw_m1 113 rfl) rfl
theorem q244 : (Jvm.Cond.superclass "java/util/ArrayList" "java/util/AbstractList") ∈ lw_all := lw_g (lw_at lw_m1 115 rfl) rfl
theorem q666 : (Jvm.Cond.instanceMethod ({ cls := "java/util/ArrayList", name := "size", desc := "()I" } : Jvm.MethodName)) ∈ lw_all := lw_g (lw_at lw_m3 57 rfl) rfl
theorem q667 : (Jvm.Cond.selects "java/util/ArrayList" ({ cls := "java/util/ArrayList", name := "size", desc := "()I" } : Jvm.MethodName) ({ cls := "java/util/ArrayList", name := "size", desc := "()I" } : Jvm.MethodName)) ∈ lw_all := lw_g (lw_at lw_m3 58 rfl) rfl
theorem q668 : (Jvm.Cond.code ({ cls := "java/util/ArrayList", name := "size", desc := "()I" } : Jvm.MethodName) prog_42_method_8_code (1 : Nat) (Option.some Jvm.ClassFile.FieldType.int)) ∈ lw_all := lw_g (lw_at lw_m3 59 rfl) rfl
theorem q684 : (Jvm.Cond.instanceMethod ({ cls := "java/util/ArrayList", name := "get", desc := "(I)Ljava/lang/Object;" } : Jvm.MethodName)) ∈ lw_all := lw_g (lw_at lw_m3 75 rfl) rfl
theorem q685 : (Jvm.Cond.selects "java/util/ArrayList" ({ cls := "java/util/ArrayList", name := "get", desc := "(I)Ljava/lang/Object;" } : Jvm.MethodName) ({ cls := "java/util/ArrayList", name := "get", desc := "(I)Ljava/lang/Object;" } : Jvm.MethodName)) ∈ lw_all := lw_g (lw_at lw_m3 76 rfl) rfl
theorem q686 : (Jvm.Cond.code ({ cls := "java/util/ArrayList", name := "get", desc := "(I)Ljava/lang/Object;" } : Jvm.MethodName) prog_42_method_20_code (2 : Nat) (Option.some (Jvm.ClassFile.FieldType.object "java/lang/Object"))) ∈ lw_all := lw_g (lw_at lw_m3 77 rfl) rfl
theorem q687 : (Jvm.Cond.methodLink "java/util/ArrayList" (118 : Nat) ({ cls := "java/util/Objects", name := "checkIndex", desc := "(II)I" } : Jvm.MethodName)) ∈ lw_all := lw_g (lw_at lw_m3 78 rfl) rfl
theorem q691 : (Jvm.Cond.methodLink "java/util/ArrayList" (123 : Nat) ({ cls := "java/util/ArrayList", name := "elementData", desc := "(I)Ljava/lang/Object;" } : Jvm.MethodName)) ∈ lw_all := lw_g (lw_at lw_m3 82 rfl) rfl
theorem q692 : (Jvm.Cond.instanceMethod ({ cls := "java/util/ArrayList", name := "elementData", desc := "(I)Ljava/lang/Object;" } : Jvm.MethodName)) ∈ lw_all := lw_g (lw_at lw_m3 83 rfl) rfl
theorem q693 : (Jvm.Cond.selects "java/util/ArrayList" ({ cls := "java/util/ArrayList", name := "elementData", desc := "(I)Ljava/lang/Object;" } : Jvm.MethodName) ({ cls := "java/util/ArrayList", name := "elementData", desc := "(I)Ljava/lang/Object;" } : Jvm.MethodName)) ∈ lw_all := lw_g (lw_at lw_m3 84 rfl) rfl
theorem q694 : (Jvm.Cond.code ({ cls := "java/util/ArrayList", name := "elementData", desc := "(I)Ljava/lang/Object;" } : Jvm.MethodName) prog_42_method_18_code (2 : Nat) (Option.some (Jvm.ClassFile.FieldType.object "java/lang/Object"))) ∈ lw_all := lw_g (lw_at lw_m3 85 rfl) rfl
theorem q728 : (Jvm.Cond.instanceMethod ({ cls := "java/util/ArrayList", name := "add", desc := "(Ljava/lang/Object;)Z" } : Jvm.MethodName)) ∈ lw_all := lw_g (lw_at lw_m3 119 rfl) rfl
theorem q729 : (Jvm.Cond.selects "java/util/ArrayList" ({ cls := "java/util/ArrayList", name := "add", desc := "(Ljava/lang/Object;)Z" } : Jvm.MethodName) ({ cls := "java/util/ArrayList", name := "add", desc := "(Ljava/lang/Object;)Z" } : Jvm.MethodName)) ∈ lw_all := lw_g (lw_at lw_m3 120 rfl) rfl
theorem q730 : (Jvm.Cond.code ({ cls := "java/util/ArrayList", name := "add", desc := "(Ljava/lang/Object;)Z" } : Jvm.MethodName) prog_42_method_25_code (2 : Nat) (Option.some Jvm.ClassFile.FieldType.boolean)) ∈ lw_all := lw_g (lw_at lw_m3 121 rfl) rfl
theorem q731 : (Jvm.Cond.methodLink "java/util/ArrayList" (131 : Nat) ({ cls := "java/util/ArrayList", name := "add", desc := "(Ljava/lang/Object;[Ljava/lang/Object;I)V" } : Jvm.MethodName)) ∈ lw_all := lw_g (lw_at lw_m3 122 rfl) rfl
theorem q732 : (Jvm.Cond.privateMethod ({ cls := "java/util/ArrayList", name := "add", desc := "(Ljava/lang/Object;[Ljava/lang/Object;I)V" } : Jvm.MethodName)) ∈ lw_tbl := lw_at lw_m3 123 rfl
theorem q733 : (Jvm.Cond.instanceMethod ({ cls := "java/util/ArrayList", name := "add", desc := "(Ljava/lang/Object;[Ljava/lang/Object;I)V" } : Jvm.MethodName)) ∈ lw_all := lw_g (lw_at lw_m3 124 rfl) rfl
theorem q734 : (Jvm.Cond.code ({ cls := "java/util/ArrayList", name := "add", desc := "(Ljava/lang/Object;[Ljava/lang/Object;I)V" } : Jvm.MethodName) prog_42_method_24_code (4 : Nat) (Option.none : Option Jvm.ClassFile.FieldType)) ∈ lw_all := lw_g (lw_at lw_m3 125 rfl) rfl
theorem q735 : (Jvm.Cond.methodLink "java/util/ArrayList" (129 : Nat) ({ cls := "java/util/ArrayList", name := "grow", desc := "()[Ljava/lang/Object;" } : Jvm.MethodName)) ∈ lw_all := lw_g (lw_at lw_m3 126 rfl) rfl
theorem q736 : (Jvm.Cond.privateMethod ({ cls := "java/util/ArrayList", name := "grow", desc := "()[Ljava/lang/Object;" } : Jvm.MethodName)) ∈ lw_tbl := lw_at lw_m3 127 rfl
theorem q737 : (Jvm.Cond.instanceMethod ({ cls := "java/util/ArrayList", name := "grow", desc := "()[Ljava/lang/Object;" } : Jvm.MethodName)) ∈ lw_all := lw_g (lw_at lw_m3 128 rfl) rfl
theorem q738 : (Jvm.Cond.code ({ cls := "java/util/ArrayList", name := "grow", desc := "()[Ljava/lang/Object;" } : Jvm.MethodName) prog_42_method_7_code (1 : Nat) (Option.some (Jvm.ClassFile.FieldType.array (Jvm.ClassFile.FieldType.object "java/lang/Object")))) ∈ lw_all := lw_g (lw_at lw_m3 129 rfl) rfl
theorem q739 : (Jvm.Cond.methodLink "java/util/ArrayList" (69 : Nat) ({ cls := "java/util/ArrayList", name := "grow", desc := "(I)[Ljava/lang/Object;" } : Jvm.MethodName)) ∈ lw_all := lw_g (lw_at lw_m3 130 rfl) rfl
theorem q740 : (Jvm.Cond.privateMethod ({ cls := "java/util/ArrayList", name := "grow", desc := "(I)[Ljava/lang/Object;" } : Jvm.MethodName)) ∈ lw_tbl := lw_at lw_m3 131 rfl
theorem q741 : (Jvm.Cond.instanceMethod ({ cls := "java/util/ArrayList", name := "grow", desc := "(I)[Ljava/lang/Object;" } : Jvm.MethodName)) ∈ lw_all := lw_g (lw_at lw_m3 132 rfl) rfl
theorem q742 : (Jvm.Cond.code ({ cls := "java/util/ArrayList", name := "grow", desc := "(I)[Ljava/lang/Object;" } : Jvm.MethodName) prog_42_method_6_code (4 : Nat) (Option.some (Jvm.ClassFile.FieldType.array (Jvm.ClassFile.FieldType.object "java/lang/Object")))) ∈ lw_all := lw_g (lw_at lw_m3 133 rfl) rfl
theorem q743 : (Jvm.Cond.fieldLink "java/util/ArrayList" (39 : Nat) "java/util/ArrayList" "DEFAULTCAPACITY_EMPTY_ELEMENTDATA" "[Ljava/lang/Object;") ∈ lw_all := lw_g (lw_at lw_m3 134 rfl) rfl
theorem q744 : (Jvm.Cond.laysStatic "java/util/ArrayList" "DEFAULTCAPACITY_EMPTY_ELEMENTDATA" "[Ljava/lang/Object;") ∈ lw_tbl := lw_at lw_m3 135 rfl
theorem q745 : (Jvm.Cond.methodLink "java/util/ArrayList" (73 : Nat) ({ cls := "jdk/internal/util/ArraysSupport", name := "newLength", desc := "(III)I" } : Jvm.MethodName)) ∈ lw_all := lw_g (lw_at lw_m3 136 rfl) rfl
theorem q753 : (Jvm.Cond.methodLink "java/util/ArrayList" (66 : Nat) ({ cls := "java/util/Arrays", name := "copyOf", desc := "([Ljava/lang/Object;I)[Ljava/lang/Object;" } : Jvm.MethodName)) ∈ lw_all := lw_g (lw_at lw_m3 144 rfl) rfl
theorem q778 : (Jvm.Cond.selects "java/util/ArrayList" ({ cls := "java/lang/Object", name := "getClass", desc := "()Ljava/lang/Class;" } : Jvm.MethodName) ({ cls := "java/lang/Object", name := "getClass", desc := "()Ljava/lang/Class;" } : Jvm.MethodName)) ∈ lw_all := lw_g (lw_at lw_m3 169 rfl) rfl
theorem q790 : (Jvm.Cond.methodLink "java/util/ArrayList" (79 : Nat) ({ cls := "java/lang/Math", name := "max", desc := "(II)I" } : Jvm.MethodName)) ∈ lw_all := lw_g (lw_at lw_m3 181 rfl) rfl
theorem q802 : (Jvm.Cond.instanceMethod ({ cls := "java/util/ArrayList", name := "isEmpty", desc := "()Z" } : Jvm.MethodName)) ∈ lw_all := lw_g (lw_at lw_m3 193 rfl) rfl
theorem q803 : (Jvm.Cond.selects "java/util/ArrayList" ({ cls := "java/util/ArrayList", name := "isEmpty", desc := "()Z" } : Jvm.MethodName) ({ cls := "java/util/ArrayList", name := "isEmpty", desc := "()Z" } : Jvm.MethodName)) ∈ lw_all := lw_g (lw_at lw_m3 194 rfl) rfl
theorem q804 : (Jvm.Cond.code ({ cls := "java/util/ArrayList", name := "isEmpty", desc := "()Z" } : Jvm.MethodName) prog_42_method_9_code (1 : Nat) (Option.some Jvm.ClassFile.FieldType.boolean)) ∈ lw_all := lw_g (lw_at lw_m3 195 rfl) rfl
theorem q2247 : (Jvm.Cond.castable "java/util/ArrayList" "java/lang/Object") ∈ lw_tbl := lw_at lw_m9 198 rfl
theorem q139 : (Jvm.Cond.initialized "java/lang/String") ∈ lw_all := lw_g (lw_at lw_m1 10 rfl) rfl
theorem q464 : (Jvm.Cond.instanceMethod ({ cls := "java/lang/String", name := "length", desc := "()I" } : Jvm.MethodName)) ∈ lw_all := lw_g (lw_at lw_m2 95 rfl) rfl
theorem q465 : (Jvm.Cond.selects "java/lang/String" ({ cls := "java/lang/String", name := "length", desc := "()I" } : Jvm.MethodName) ({ cls := "java/lang/String", name := "length", desc := "()I" } : Jvm.MethodName)) ∈ lw_all := lw_g (lw_at lw_m2 96 rfl) rfl
theorem q466 : (Jvm.Cond.code ({ cls := "java/lang/String", name := "length", desc := "()I" } : Jvm.MethodName) prog_33_method_54_code (1 : Nat) (Option.some Jvm.ClassFile.FieldType.int)) ∈ lw_all := lw_g (lw_at lw_m2 97 rfl) rfl
theorem q467 : (Jvm.Cond.methodLink "java/lang/String" (335 : Nat) ({ cls := "java/lang/String", name := "coder", desc := "()B" } : Jvm.MethodName)) ∈ lw_all := lw_g (lw_at lw_m2 98 rfl) rfl
theorem q468 : (Jvm.Cond.instanceMethod ({ cls := "java/lang/String", name := "coder", desc := "()B" } : Jvm.MethodName)) ∈ lw_all := lw_g (lw_at lw_m2 99 rfl) rfl
theorem q469 : (Jvm.Cond.selects "java/lang/String" ({ cls := "java/lang/String", name := "coder", desc := "()B" } : Jvm.MethodName) ({ cls := "java/lang/String", name := "coder", desc := "()B" } : Jvm.MethodName)) ∈ lw_all := lw_g (lw_at lw_m2 100 rfl) rfl
theorem q470 : (Jvm.Cond.code ({ cls := "java/lang/String", name := "coder", desc := "()B" } : Jvm.MethodName) prog_33_method_152_code (1 : Nat) (Option.some Jvm.ClassFile.FieldType.byte)) ∈ lw_all := lw_g (lw_at lw_m2 101 rfl) rfl
theorem q471 : (Jvm.Cond.fieldLink "java/lang/String" (38 : Nat) "java/lang/String" "COMPACT_STRINGS" "Z") ∈ lw_all := lw_g (lw_at lw_m2 102 rfl) rfl
theorem q472 : (Jvm.Cond.laysStatic "java/lang/String" "COMPACT_STRINGS" "Z") ∈ lw_tbl := lw_at lw_m2 103 rfl
theorem q474 : (Jvm.Cond.instanceMethod ({ cls := "java/lang/String", name := "charAt", desc := "(I)C" } : Jvm.MethodName)) ∈ lw_all := lw_g (lw_at lw_m2 105 rfl) rfl
theorem q475 : (Jvm.Cond.selects "java/lang/String" ({ cls := "java/lang/String", name := "charAt", desc := "(I)C" } : Jvm.MethodName) ({ cls := "java/lang/String", name := "charAt", desc := "(I)C" } : Jvm.MethodName)) ∈ lw_all := lw_g (lw_at lw_m2 106 rfl) rfl
theorem q476 : (Jvm.Cond.code ({ cls := "java/lang/String", name := "charAt", desc := "(I)C" } : Jvm.MethodName) prog_33_method_56_code (2 : Nat) (Option.some Jvm.ClassFile.FieldType.char)) ∈ lw_all := lw_g (lw_at lw_m2 107 rfl) rfl
theorem q477 : (Jvm.Cond.methodLink "java/lang/String" (492 : Nat) ({ cls := "java/lang/String", name := "isLatin1", desc := "()Z" } : Jvm.MethodName)) ∈ lw_all := lw_g (lw_at lw_m2 108 rfl) rfl
theorem q478 : (Jvm.Cond.instanceMethod ({ cls := "java/lang/String", name := "isLatin1", desc := "()Z" } : Jvm.MethodName)) ∈ lw_all := lw_g (lw_at lw_m2 109 rfl) rfl
theorem q479 : (Jvm.Cond.selects "java/lang/String" ({ cls := "java/lang/String", name := "isLatin1", desc := "()Z" } : Jvm.MethodName) ({ cls := "java/lang/String", name := "isLatin1", desc := "()Z" } : Jvm.MethodName)) ∈ lw_all := lw_g (lw_at lw_m2 110 rfl) rfl
theorem q480 : (Jvm.Cond.code ({ cls := "java/lang/String", name := "isLatin1", desc := "()Z" } : Jvm.MethodName) prog_33_method_154_code (1 : Nat) (Option.some Jvm.ClassFile.FieldType.boolean)) ∈ lw_all := lw_g (lw_at lw_m2 111 rfl) rfl
theorem q481 : (Jvm.Cond.methodLink "java/lang/String" (495 : Nat) ({ cls := "java/lang/StringLatin1", name := "charAt", desc := "([BI)C" } : Jvm.MethodName)) ∈ lw_all := lw_g (lw_at lw_m2 112 rfl) rfl
theorem q485 : (Jvm.Cond.static ({ cls := "java/lang/String", name := "checkIndex", desc := "(II)V" } : Jvm.MethodName)) ∈ lw_all := lw_g (lw_at lw_m2 116 rfl) rfl
theorem q486 : (Jvm.Cond.code ({ cls := "java/lang/String", name := "checkIndex", desc := "(II)V" } : Jvm.MethodName) prog_33_method_155_code (2 : Nat) (Option.none : Option Jvm.ClassFile.FieldType)) ∈ lw_all := lw_g (lw_at lw_m2 117 rfl) rfl
theorem q487 : (Jvm.Cond.fieldLink "java/lang/String" (1053 : Nat) "jdk/internal/util/Preconditions" "SIOOBE_FORMATTER" "Ljava/util/function/BiFunction;") ∈ lw_all := lw_g (lw_at lw_m2 118 rfl) rfl
theorem q489 : (Jvm.Cond.methodLink "java/lang/String" (1059 : Nat) ({ cls := "jdk/internal/util/Preconditions", name := "checkIndex", desc := "(IILjava/util/function/BiFunction;)I" } : Jvm.MethodName)) ∈ lw_all := lw_g (lw_at lw_m2 120 rfl) rfl
theorem q492 : (Jvm.Cond.methodLink "java/lang/String" (498 : Nat) ({ cls := "java/lang/StringUTF16", name := "charAt", desc := "([BI)C" } : Jvm.MethodName)) ∈ lw_all := lw_g (lw_at lw_m2 123 rfl) rfl
theorem q524 : (Jvm.Cond.instanceMethod ({ cls := "java/lang/String", name := "indexOf", desc := "(I)I" } : Jvm.MethodName)) ∈ lw_all := lw_g (lw_at lw_m2 155 rfl) rfl
theorem q525 : (Jvm.Cond.selects "java/lang/String" ({ cls := "java/lang/String", name := "indexOf", desc := "(I)I" } : Jvm.MethodName) ({ cls := "java/lang/String", name := "indexOf", desc := "(I)I" } : Jvm.MethodName)) ∈ lw_all := lw_g (lw_at lw_m2 156 rfl) rfl
theorem q526 : (Jvm.Cond.code ({ cls := "java/lang/String", name := "indexOf", desc := "(I)I" } : Jvm.MethodName) prog_33_method_79_code (2 : Nat) (Option.some Jvm.ClassFile.FieldType.int)) ∈ lw_all := lw_g (lw_at lw_m2 157 rfl) rfl
theorem q527 : (Jvm.Cond.methodLink "java/lang/String" (633 : Nat) ({ cls := "java/lang/String", name := "indexOf", desc := "(II)I" } : Jvm.MethodName)) ∈ lw_all := lw_g (lw_at lw_m2 158 rfl) rfl
theorem q528 : (Jvm.Cond.instanceMethod ({ cls := "java/lang/String", name := "indexOf", desc := "(II)I" } : Jvm.MethodName)) ∈ lw_all := lw_g (lw_at lw_m2 159 rfl) rfl
theorem q529 : (Jvm.Cond.selects "java/lang/String" ({ cls := "java/lang/String", name := "indexOf", desc := "(II)I" } : Jvm.MethodName) ({ cls := "java/lang/String", name := "indexOf", desc := "(II)I" } : Jvm.MethodName)) ∈ lw_all := lw_g (lw_at lw_m2 160 rfl) rfl
theorem q530 : (Jvm.Cond.code ({ cls := "java/lang/String", name := "indexOf", desc := "(II)I" } : Jvm.MethodName) prog_33_method_80_code (3 : Nat) (Option.some Jvm.ClassFile.FieldType.int)) ∈ lw_all := lw_g (lw_at lw_m2 161 rfl) rfl
theorem q531 : (Jvm.Cond.methodLink "java/lang/String" (505 : Nat) ({ cls := "java/lang/String", name := "length", desc := "()I" } : Jvm.MethodName)) ∈ lw_all := lw_g (lw_at lw_m2 162 rfl) rfl
theorem q532 : (Jvm.Cond.methodLink "java/lang/String" (637 : Nat) ({ cls := "java/lang/StringLatin1", name := "indexOf", desc := "([BIII)I" } : Jvm.MethodName)) ∈ lw_all := lw_g (lw_at lw_m2 163 rfl) rfl
theorem q547 : (Jvm.Cond.methodLink "java/lang/String" (640 : Nat) ({ cls := "java/lang/StringUTF16", name := "indexOf", desc := "([BIII)I" } : Jvm.MethodName)) ∈ lw_all := lw_g (lw_at lw_m2 178 rfl) rfl
theorem q560 : (Jvm.Cond.static ({ cls := "java/lang/String", name := "checkBoundsBeginEnd", desc := "(III)V" } : Jvm.MethodName)) ∈ lw_all := lw_g (lw_at lw_m2 191 rfl) rfl
theorem q561 : (Jvm.Cond.code ({ cls := "java/lang/String", name := "checkBoundsBeginEnd", desc := "(III)V" } : Jvm.MethodName) prog_33_method_158_code (3 : Nat) (Option.none : Option Jvm.ClassFile.FieldType)) ∈ lw_all := lw_g (lw_at lw_m2 192 rfl) rfl
theorem q562 : (Jvm.Cond.methodLink "java/lang/String" (1062 : Nat) ({ cls := "jdk/internal/util/Preconditions", name := "checkFromToIndex", desc := "(IIILjava/util/function/BiFunction;)I" } : Jvm.MethodName)) ∈ lw_all := lw_g (lw_at lw_m2 193 rfl) rfl
theorem q1458 : (Jvm.Cond.instantiable "java/lang/String" (4 : Nat)) ∈ lw_all := lw_g (lw_at lw_m6 129 rfl) rfl
theorem q1459 : (Jvm.Cond.laysFinal "java/lang/String" "java/lang/String" "value" "[B") ∈ lw_all := lw_g (lw_at lw_m6 130 rfl) rfl
theorem q1460 : (Jvm.Cond.soleField "java/lang/String" "value") ∈ lw_all := lw_g (lw_at lw_m6 131 rfl) rfl
theorem q1461 : (Jvm.Cond.laysFinal "java/lang/String" "java/lang/String" "coder" "B") ∈ lw_all := lw_g (lw_at lw_m6 132 rfl) rfl
theorem q1462 : (Jvm.Cond.soleField "java/lang/String" "coder") ∈ lw_all := lw_g (lw_at lw_m6 133 rfl) rfl
theorem q2243 : (Jvm.Cond.castable "java/lang/String" "java/lang/Object") ∈ lw_tbl := lw_at lw_m9 194 rfl
theorem q2276 : (Jvm.Cond.fieldLink "java/lang/String" (9 : Nat) "java/lang/String" "value" "[B") ∈ lw_all := lw_g (lw_at lw_m9 227 rfl) rfl
theorem q2277 : (Jvm.Cond.fieldLink "java/lang/String" (15 : Nat) "java/lang/String" "coder" "B") ∈ lw_all := lw_g (lw_at lw_m9 228 rfl) rfl
theorem q140 : (Jvm.Cond.initialized "java/lang/StringLatin1") ∈ lw_all := lw_g (lw_at lw_m1 11 rfl) rfl
theorem q482 : (Jvm.Cond.static ({ cls := "java/lang/StringLatin1", name := "charAt", desc := "([BI)C" } : Jvm.MethodName)) ∈ lw_all := lw_g (lw_at lw_m2 113 rfl) rfl
theorem q483 : (Jvm.Cond.code ({ cls := "java/lang/StringLatin1", name := "charAt", desc := "([BI)C" } : Jvm.MethodName) prog_34_method_2_code (2 : Nat) (Option.some Jvm.ClassFile.FieldType.char)) ∈ lw_all := lw_g (lw_at lw_m2 114 rfl) rfl
theorem q484 : (Jvm.Cond.methodLink "java/lang/StringLatin1" (9 : Nat) ({ cls := "java/lang/String", name := "checkIndex", desc := "(II)V" } : Jvm.MethodName)) ∈ lw_all := lw_g (lw_at lw_m2 115 rfl) rfl
theorem q533 : (Jvm.Cond.static ({ cls := "java/lang/StringLatin1", name := "indexOf", desc := "([BIII)I" } : Jvm.MethodName)) ∈ lw_all := lw_g (lw_at lw_m2 164 rfl) rfl
theorem q534 : (Jvm.Cond.code ({ cls := "java/lang/StringLatin1", name := "indexOf", desc := "([BIII)I" } : Jvm.MethodName) prog_34_method_22_code (4 : Nat) (Option.some Jvm.ClassFile.FieldType.int)) ∈ lw_all := lw_g (lw_at lw_m2 165 rfl) rfl
theorem q535 : (Jvm.Cond.methodLink "java/lang/StringLatin1" (88 : Nat) ({ cls := "java/lang/StringLatin1", name := "canEncode", desc := "(I)Z" } : Jvm.MethodName)) ∈ lw_all := lw_g (lw_at lw_m2 166 rfl) rfl
theorem q536 : (Jvm.Cond.static ({ cls := "java/lang/StringLatin1", name := "canEncode", desc := "(I)Z" } : Jvm.MethodName)) ∈ lw_all := lw_g (lw_at lw_m2 167 rfl) rfl
theorem q537 : (Jvm.Cond.code ({ cls := "java/lang/StringLatin1", name := "canEncode", desc := "(I)Z" } : Jvm.MethodName) prog_34_method_4_code (1 : Nat) (Option.some Jvm.ClassFile.FieldType.boolean)) ∈ lw_all := lw_g (lw_at lw_m2 168 rfl) rfl
theorem q538 : (Jvm.Cond.methodLink "java/lang/StringLatin1" (92 : Nat) ({ cls := "java/lang/Math", name := "max", desc := "(II)I" } : Jvm.MethodName)) ∈ lw_all := lw_g (lw_at lw_m2 169 rfl) rfl
theorem q541 : (Jvm.Cond.methodLink "java/lang/StringLatin1" (38 : Nat) ({ cls := "java/lang/Math", name := "min", desc := "(II)I" } : Jvm.MethodName)) ∈ lw_all := lw_g (lw_at lw_m2 172 rfl) rfl
theorem q544 : (Jvm.Cond.methodLink "java/lang/StringLatin1" (95 : Nat) ({ cls := "java/lang/StringLatin1", name := "indexOfChar", desc := "([BIII)I" } : Jvm.MethodName)) ∈ lw_all := lw_g (lw_at lw_m2 175 rfl) rfl
theorem q545 : (Jvm.Cond.static ({ cls := "java/lang/StringLatin1", name := "indexOfChar", desc := "([BIII)I" } : Jvm.MethodName)) ∈ lw_all := lw_g (lw_at lw_m2 176 rfl) rfl
theorem q546 : (Jvm.Cond.code ({ cls := "java/lang/StringLatin1", name := "indexOfChar", desc := "([BIII)I" } : Jvm.MethodName) prog_34_method_23_code (6 : Nat) (Option.some Jvm.ClassFile.FieldType.int)) ∈ lw_all := lw_g (lw_at lw_m2 177 rfl) rfl
theorem q141 : (Jvm.Cond.initialized "jdk/internal/util/Preconditions") ∈ lw_all := lw_g (lw_at lw_m1 12 rfl) rfl
theorem q488 : (Jvm.Cond.laysStatic "jdk/internal/util/Preconditions" "SIOOBE_FORMATTER" "Ljava/util/function/BiFunction;") ∈ lw_tbl := lw_at lw_m2 119 rfl
theorem q490 : (Jvm.Cond.static ({ cls := "jdk/internal/util/Preconditions", name := "checkIndex", desc := "(IILjava/util/function/BiFunction;)I" } : Jvm.MethodName)) ∈ lw_all := lw_g (lw_at lw_m2 121 rfl) rfl
theorem q491 : (Jvm.Cond.code ({ cls := "jdk/internal/util/Preconditions", name := "checkIndex", desc := "(IILjava/util/function/BiFunction;)I" } : Jvm.MethodName) prog_51_method_11_code (3 : Nat) (Option.some Jvm.ClassFile.FieldType.int)) ∈ lw_all := lw_g (lw_at lw_m2 122 rfl) rfl
theorem q563 : (Jvm.Cond.static ({ cls := "jdk/internal/util/Preconditions", name := "checkFromToIndex", desc := "(IIILjava/util/function/BiFunction;)I" } : Jvm.MethodName)) ∈ lw_all := lw_g (lw_at lw_m2 194 rfl) rfl
theorem q564 : (Jvm.Cond.code ({ cls := "jdk/internal/util/Preconditions", name := "checkFromToIndex", desc := "(IIILjava/util/function/BiFunction;)I" } : Jvm.MethodName) prog_51_method_12_code (4 : Nat) (Option.some Jvm.ClassFile.FieldType.int)) ∈ lw_all := lw_g (lw_at lw_m2 195 rfl) rfl
theorem q142 : (Jvm.Cond.initialized "java/lang/StringUTF16") ∈ lw_all := lw_g (lw_at lw_m1 13 rfl) rfl
theorem q493 : (Jvm.Cond.static ({ cls := "java/lang/StringUTF16", name := "charAt", desc := "([BI)C" } : Jvm.MethodName)) ∈ lw_all := lw_g (lw_at lw_m2 124 rfl) rfl
theorem q494 : (Jvm.Cond.code ({ cls := "java/lang/StringUTF16", name := "charAt", desc := "([BI)C" } : Jvm.MethodName) prog_35_method_83_code (2 : Nat) (Option.some Jvm.ClassFile.FieldType.char)) ∈ lw_all := lw_g (lw_at lw_m2 125 rfl) rfl
theorem q495 : (Jvm.Cond.methodLink "java/lang/StringUTF16" (67 : Nat) ({ cls := "java/lang/StringUTF16", name := "checkIndex", desc := "(I[B)V" } : Jvm.MethodName)) ∈ lw_all := lw_g (lw_at lw_m2 126 rfl) rfl
theorem q496 : (Jvm.Cond.static ({ cls := "java/lang/StringUTF16", name := "checkIndex", desc := "(I[B)V" } : Jvm.MethodName)) ∈ lw_all := lw_g (lw_at lw_m2 127 rfl) rfl
theorem q497 : (Jvm.Cond.code ({ cls := "java/lang/StringUTF16", name := "checkIndex", desc := "(I[B)V" } : Jvm.MethodName) prog_35_method_91_code (2 : Nat) (Option.none : Option Jvm.ClassFile.FieldType)) ∈ lw_all := lw_g (lw_at lw_m2 128 rfl) rfl
theorem q498 : (Jvm.Cond.methodLink "java/lang/StringUTF16" (48 : Nat) ({ cls := "java/lang/StringUTF16", name := "length", desc := "([B)I" } : Jvm.MethodName)) ∈ lw_all := lw_g (lw_at lw_m2 129 rfl) rfl
theorem q499 : (Jvm.Cond.static ({ cls := "java/lang/StringUTF16", name := "length", desc := "([B)I" } : Jvm.MethodName)) ∈ lw_all := lw_g (lw_at lw_m2 130 rfl) rfl
theorem q500 : (Jvm.Cond.code ({ cls := "java/lang/StringUTF16", name := "length", desc := "([B)I" } : Jvm.MethodName) prog_35_method_6_code (1 : Nat) (Option.some Jvm.ClassFile.FieldType.int)) ∈ lw_all := lw_g (lw_at lw_m2 131 rfl) rfl
theorem q501 : (Jvm.Cond.methodLink "java/lang/StringUTF16" (414 : Nat) ({ cls := "java/lang/String", name := "checkIndex", desc := "(II)V" } : Jvm.MethodName)) ∈ lw_all := lw_g (lw_at lw_m2 132 rfl) rfl
theorem q502 : (Jvm.Cond.methodLink "java/lang/StringUTF16" (71 : Nat) ({ cls := "java/lang/StringUTF16", name := "getChar", desc := "([BI)C" } : Jvm.MethodName)) ∈ lw_all := lw_g (lw_at lw_m2 133 rfl) rfl
theorem q503 : (Jvm.Cond.static ({ cls := "java/lang/StringUTF16", name := "getChar", desc := "([BI)C" } : Jvm.MethodName)) ∈ lw_all := lw_g (lw_at lw_m2 134 rfl) rfl
theorem q504 : (Jvm.Cond.code ({ cls := "java/lang/StringUTF16", name := "getChar", desc := "([BI)C" } : Jvm.MethodName) prog_35_method_5_code (2 : Nat) (Option.some Jvm.ClassFile.FieldType.char)) ∈ lw_all := lw_g (lw_at lw_m2 135 rfl) rfl
theorem q505 : (Jvm.Cond.fieldLink "java/lang/StringUTF16" (44 : Nat) "java/lang/StringUTF16" "$assertionsDisabled" "Z") ∈ lw_all := lw_g (lw_at lw_m2 136 rfl) rfl
theorem q506 : (Jvm.Cond.laysStatic "java/lang/StringUTF16" "$assertionsDisabled" "Z") ∈ lw_tbl := lw_at lw_m2 137 rfl
theorem q507 : (Jvm.Cond.fieldLink "java/lang/StringUTF16" (59 : Nat) "java/lang/StringUTF16" "HI_BYTE_SHIFT" "I") ∈ lw_all := lw_g (lw_at lw_m2 138 rfl) rfl
theorem q508 : (Jvm.Cond.laysStatic "java/lang/StringUTF16" "HI_BYTE_SHIFT" "I") ∈ lw_tbl := lw_at lw_m2 139 rfl
theorem q509 : (Jvm.Cond.fieldLink "java/lang/StringUTF16" (63 : Nat) "java/lang/StringUTF16" "LO_BYTE_SHIFT" "I") ∈ lw_all := lw_g (lw_at lw_m2 140 rfl) rfl
theorem q510 : (Jvm.Cond.laysStatic "java/lang/StringUTF16" "LO_BYTE_SHIFT" "I") ∈ lw_tbl := lw_at lw_m2 141 rfl
theorem q548 : (Jvm.Cond.static ({ cls := "java/lang/StringUTF16", name := "indexOf", desc := "([BIII)I" } : Jvm.MethodName)) ∈ lw_all := lw_g (lw_at lw_m2 179 rfl) rfl
theorem q549 : (Jvm.Cond.code ({ cls := "java/lang/StringUTF16", name := "indexOf", desc := "([BIII)I" } : Jvm.MethodName) prog_35_method_40_code (4 : Nat) (Option.some Jvm.ClassFile.FieldType.int)) ∈ lw_all := lw_g (lw_at lw_m2 180 rfl) rfl
theorem q550 : (Jvm.Cond.methodLink "java/lang/StringUTF16" (224 : Nat) ({ cls := "java/lang/Math", name := "max", desc := "(II)I" } : Jvm.MethodName)) ∈ lw_all := lw_g (lw_at lw_m2 181 rfl) rfl
theorem q551 : (Jvm.Cond.methodLink "java/lang/StringUTF16" (183 : Nat) ({ cls := "java/lang/Math", name := "min", desc := "(II)I" } : Jvm.MethodName)) ∈ lw_all := lw_g (lw_at lw_m2 182 rfl) rfl
theorem q552 : (Jvm.Cond.constant "java/lang/StringUTF16" (227 : Nat) (65536 : Int32)) ∈ lw_all := lw_g (lw_at lw_m2 183 rfl) rfl
theorem q553 : (Jvm.Cond.methodLink "java/lang/StringUTF16" (228 : Nat) ({ cls := "java/lang/StringUTF16", name := "indexOfChar", desc := "([BIII)I" } : Jvm.MethodName)) ∈ lw_all := lw_g (lw_at lw_m2 184 rfl) rfl
theorem q554 : (Jvm.Cond.static ({ cls := "java/lang/StringUTF16", name := "indexOfChar", desc := "([BIII)I" } : Jvm.MethodName)) ∈ lw_all := lw_g (lw_at lw_m2 185 rfl) rfl
theorem q555 : (Jvm.Cond.code ({ cls := "java/lang/StringUTF16", name := "indexOfChar", desc := "([BIII)I" } : Jvm.MethodName) prog_35_method_47_code (4 : Nat) (Option.some Jvm.ClassFile.FieldType.int)) ∈ lw_all := lw_g (lw_at lw_m2 186 rfl) rfl
theorem q556 : (Jvm.Cond.methodLink "java/lang/StringUTF16" (96 : Nat) ({ cls := "java/lang/StringUTF16", name := "checkBoundsBeginEnd", desc := "(II[B)V" } : Jvm.MethodName)) ∈ lw_all := lw_g (lw_at lw_m2 187 rfl) rfl
theorem q557 : (Jvm.Cond.static ({ cls := "java/lang/StringUTF16", name := "checkBoundsBeginEnd", desc := "(II[B)V" } : Jvm.MethodName)) ∈ lw_all := lw_g (lw_at lw_m2 188 rfl) rfl
theorem q558 : (Jvm.Cond.code ({ cls := "java/lang/StringUTF16", name := "checkBoundsBeginEnd", desc := "(II[B)V" } : Jvm.MethodName) prog_35_method_93_code (3 : Nat) (Option.none : Option Jvm.ClassFile.FieldType)) ∈ lw_all := lw_g (lw_at lw_m2 189 rfl) rfl
theorem q559 : (Jvm.Cond.methodLink "java/lang/StringUTF16" (241 : Nat) ({ cls := "java/lang/String", name := "checkBoundsBeginEnd", desc := "(III)V" } : Jvm.MethodName)) ∈ lw_all := lw_g (lw_at lw_m2 190 rfl) rfl
theorem q565 : (Jvm.Cond.methodLink "java/lang/StringUTF16" (244 : Nat) ({ cls := "java/lang/StringUTF16", name := "indexOfCharUnsafe", desc := "([BIII)I" } : Jvm.MethodName)) ∈ lw_all := lw_g (lw_at lw_m2 196 rfl) rfl
theorem q566 : (Jvm.Cond.static ({ cls := "java/lang/StringUTF16", name := "indexOfCharUnsafe", desc := "([BIII)I" } : Jvm.MethodName)) ∈ lw_all := lw_g (lw_at lw_m2 197 rfl) rfl
theorem q567 : (Jvm.Cond.code ({ cls := "java/lang/StringUTF16", name := "indexOfCharUnsafe", desc := "([BIII)I" } : Jvm.MethodName) prog_35_method_48_code (5 : Nat) (Option.some Jvm.ClassFile.FieldType.int)) ∈ lw_all := lw_g (lw_at lw_m2 198 rfl) rfl
theorem q568 : (Jvm.Cond.methodLink "java/lang/StringUTF16" (232 : Nat) ({ cls := "java/lang/StringUTF16", name := "indexOfSupplementary", desc := "([BIII)I" } : Jvm.MethodName)) ∈ lw_all := lw_g (lw_at lw_m2 199 rfl) rfl
theorem q569 : (Jvm.Cond.static ({ cls := "java/lang/StringUTF16", name := "indexOfSupplementary", desc := "([BIII)I" } : Jvm.MethodName)) ∈ lw_all := lw_g (lw_at lw_m2 200 rfl) rfl
theorem q570 : (Jvm.Cond.code ({ cls := "java/lang/StringUTF16", name := "indexOfSupplementary", desc := "([BIII)I" } : Jvm.MethodName) prog_35_method_49_code (7 : Nat) (Option.some Jvm.ClassFile.FieldType.int)) ∈ lw_all := lw_g (lw_at lw_m2 201 rfl) rfl
theorem q571 : (Jvm.Cond.methodLink "java/lang/StringUTF16" (164 : Nat) ({ cls := "java/lang/Character", name := "isValidCodePoint", desc := "(I)Z" } : Jvm.MethodName)) ∈ lw_all := lw_g (lw_at lw_m2 202 rfl) rfl
theorem q574 : (Jvm.Cond.methodLink "java/lang/StringUTF16" (157 : Nat) ({ cls := "java/lang/Character", name := "highSurrogate", desc := "(I)C" } : Jvm.MethodName)) ∈ lw_all := lw_g (lw_at lw_m2 205 rfl) rfl
theorem q578 : (Jvm.Cond.methodLink "java/lang/StringUTF16" (161 : Nat) ({ cls := "java/lang/Character", name := "lowSurrogate", desc := "(I)C" } : Jvm.MethodName)) ∈ lw_all := lw_g (lw_at lw_m2 209 rfl) rfl
theorem q143 : (Jvm.Cond.initialized "java/lang/Math") ∈ lw_all := lw_g (lw_at lw_m1 14 rfl) rfl
theorem q539 : (Jvm.Cond.static ({ cls := "java/lang/Math", name := "max", desc := "(II)I" } : Jvm.MethodName)) ∈ lw_all := lw_g (lw_at lw_m2 170 rfl) rfl
theorem q540 : (Jvm.Cond.code ({ cls := "java/lang/Math", name := "max", desc := "(II)I" } : Jvm.MethodName) prog_31_method_65_code (2 : Nat) (Option.some Jvm.ClassFile.FieldType.int)) ∈ lw_all := lw_g (lw_at lw_m2 171 rfl) rfl
theorem q542 : (Jvm.Cond.static ({ cls := "java/lang/Math", name := "min", desc := "(II)I" } : Jvm.MethodName)) ∈ lw_all := lw_g (lw_at lw_m2 173 rfl) rfl
theorem q543 : (Jvm.Cond.code ({ cls := "java/lang/Math", name := "min", desc := "(II)I" } : Jvm.MethodName) prog_31_method_69_code (2 : Nat) (Option.some Jvm.ClassFile.FieldType.int)) ∈ lw_all := lw_g (lw_at lw_m2 174 rfl) rfl
theorem q828 : (Jvm.Cond.static ({ cls := "java/lang/Math", name := "min", desc := "(JJ)J" } : Jvm.MethodName)) ∈ lw_all := lw_g (lw_at lw_m3 219 rfl) rfl
theorem q829 : (Jvm.Cond.code ({ cls := "java/lang/Math", name := "min", desc := "(JJ)J" } : Jvm.MethodName) prog_31_method_70_code (4 : Nat) (Option.some Jvm.ClassFile.FieldType.long)) ∈ lw_all := lw_g (lw_at lw_m3 220 rfl) rfl
theorem q1160 : (Jvm.Cond.static ({ cls := "java/lang/Math", name := "abs", desc := "(J)J" } : Jvm.MethodName)) ∈ lw_all := lw_g (lw_at lw_m5 71 rfl) rfl
theorem q1161 : (Jvm.Cond.code ({ cls := "java/lang/Math", name := "abs", desc := "(J)J" } : Jvm.MethodName) prog_31_method_61_code (2 : Nat) (Option.some Jvm.ClassFile.FieldType.long)) ∈ lw_all := lw_g (lw_at lw_m5 72 rfl) rfl
theorem q1207 : (Jvm.Cond.static ({ cls := "java/lang/Math", name := "max", desc := "(JJ)J" } : Jvm.MethodName)) ∈ lw_all := lw_g (lw_at lw_m5 118 rfl) rfl
theorem q1208 : (Jvm.Cond.code ({ cls := "java/lang/Math", name := "max", desc := "(JJ)J" } : Jvm.MethodName) prog_31_method_66_code (4 : Nat) (Option.some Jvm.ClassFile.FieldType.long)) ∈ lw_all := lw_g (lw_at lw_m5 119 rfl) rfl
theorem q1240 : (Jvm.Cond.static ({ cls := "java/lang/Math", name := "floorDiv", desc := "(JJ)J" } : Jvm.MethodName)) ∈ lw_all := lw_g (lw_at lw_m5 151 rfl) rfl
theorem q1241 : (Jvm.Cond.code ({ cls := "java/lang/Math", name := "floorDiv", desc := "(JJ)J" } : Jvm.MethodName) prog_31_method_49_code (6 : Nat) (Option.some Jvm.ClassFile.FieldType.long)) ∈ lw_all := lw_g (lw_at lw_m5 152 rfl) rfl
theorem q144 : (Jvm.Cond.initialized "java/lang/Character") ∈ lw_all := lw_g (lw_at lw_m1 15 rfl) rfl
theorem q572 : (Jvm.Cond.static ({ cls := "java/lang/Character", name := "isValidCodePoint", desc := "(I)Z" } : Jvm.MethodName)) ∈ lw_all := lw_g (lw_at lw_m2 203 rfl) rfl
theorem q573 : (Jvm.Cond.code ({ cls := "java/lang/Character", name := "isValidCodePoint", desc := "(I)Z" } : Jvm.MethodName) prog_24_method_11_code (2 : Nat) (Option.some Jvm.ClassFile.FieldType.boolean)) ∈ lw_all := lw_g (lw_at lw_m2 204 rfl) rfl
theorem q575 : (Jvm.Cond.static ({ cls := "java/lang/Character", name := "highSurrogate", desc := "(I)C" } : Jvm.MethodName)) ∈ lw_all := lw_g (lw_at lw_m2 206 rfl) rfl
theorem q576 : (Jvm.Cond.code ({ cls := "java/lang/Character", name := "highSurrogate", desc := "(I)C" } : Jvm.MethodName) prog_24_method_28_code (1 : Nat) (Option.some Jvm.ClassFile.FieldType.char)) ∈ lw_all := lw_g (lw_at lw_m2 207 rfl) rfl
theorem q577 : (Jvm.Cond.constant "java/lang/Character" (110 : Nat) (55232 : Int32)) ∈ lw_all := lw_g (lw_at lw_m2 208 rfl) rfl
theorem q579 : (Jvm.Cond.static ({ cls := "java/lang/Character", name := "lowSurrogate", desc := "(I)C" } : Jvm.MethodName)) ∈ lw_all := lw_g (lw_at lw_m2 210 rfl) rfl
theorem q580 : (Jvm.Cond.code ({ cls := "java/lang/Character", name := "lowSurrogate", desc := "(I)C" } : Jvm.MethodName) prog_24_method_29_code (1 : Nat) (Option.some Jvm.ClassFile.FieldType.char)) ∈ lw_all := lw_g (lw_at lw_m2 211 rfl) rfl
theorem q581 : (Jvm.Cond.constant "java/lang/Character" (76 : Nat) (56320 : Int32)) ∈ lw_all := lw_g (lw_at lw_m2 212 rfl) rfl
theorem q145 : (Jvm.Cond.initialized "java/lang/Throwable") ∈ lw_all := lw_g (lw_at lw_m1 16 rfl) rfl
theorem q599 : (Jvm.Cond.declares ({ cls := "java/lang/Throwable", name := "<init>", desc := "()V" } : Jvm.MethodName)) ∈ lw_tbl := lw_at lw_m2 230 rfl
theorem q600 : (Jvm.Cond.declares ({ cls := "java/lang/Throwable", name := "<init>", desc := "(Ljava/lang/String;)V" } : Jvm.MethodName)) ∈ lw_tbl := lw_at lw_m2 231 rfl
theorem q604 : (Jvm.Cond.lays "java/lang/Throwable" "java/lang/Throwable" "cause" "Ljava/lang/Throwable;") ∈ lw_all := lw_g (lw_at lw_m2 235 rfl) rfl
theorem q606 : (Jvm.Cond.lays "java/lang/Throwable" "java/lang/Throwable" "stackTrace" "[Ljava/lang/StackTraceElement;") ∈ lw_all := lw_g (lw_at lw_m2 237 rfl) rfl
theorem q608 : (Jvm.Cond.lays "java/lang/Throwable" "java/lang/Throwable" "suppressedExceptions" "Ljava/util/List;") ∈ lw_all := lw_g (lw_at lw_m2 239 rfl) rfl
theorem q610 : (Jvm.Cond.lays "java/lang/Throwable" "java/lang/Throwable" "detailMessage" "Ljava/lang/String;") ∈ lw_all := lw_g (lw_at lw_m3 1 rfl) rfl
theorem q612 : (Jvm.Cond.lays "java/lang/Throwable" "java/lang/Throwable" "backtrace" "Ljava/lang/Object;") ∈ lw_all := lw_g (lw_at lw_m3 3 rfl) rfl
theorem q613 : (Jvm.Cond.fieldLink "java/lang/Throwable" (198 : Nat) "java/lang/Throwable" "backtrace" "Ljava/lang/Object;") ∈ lw_all := lw_g (lw_at lw_m3 4 rfl) rfl
theorem q614 : (Jvm.Cond.superclass "java/lang/Throwable" "java/lang/Object") ∈ lw_all := lw_g (lw_at lw_m3 5 rfl) rfl
theorem q615 : (Jvm.Cond.instanceMethod ({ cls := "java/lang/Throwable", name := "<init>", desc := "()V" } : Jvm.MethodName)) ∈ lw_all := lw_g (lw_at lw_m3 6 rfl) rfl
theorem q616 : (Jvm.Cond.code ({ cls := "java/lang/Throwable", name := "<init>", desc := "()V" } : Jvm.MethodName) prog_37_method_1_code (1 : Nat) (Option.none : Option Jvm.ClassFile.FieldType)) ∈ lw_all := lw_g (lw_at lw_m3 7 rfl) rfl
theorem q617 : (Jvm.Cond.methodLink "java/lang/Throwable" (1 : Nat) ({ cls := "java/lang/Object", name := "<init>", desc := "()V" } : Jvm.MethodName)) ∈ lw_all := lw_g (lw_at lw_m3 8 rfl) rfl
theorem q618 : (Jvm.Cond.fieldLink "java/lang/Throwable" (13 : Nat) "java/lang/Throwable" "UNASSIGNED_STACK" "[Ljava/lang/StackTraceElement;") ∈ lw_all := lw_g (lw_at lw_m3 9 rfl) rfl
theorem q619 : (Jvm.Cond.laysStatic "java/lang/Throwable" "UNASSIGNED_STACK" "[Ljava/lang/StackTraceElement;") ∈ lw_tbl := lw_at lw_m3 10 rfl
theorem q620 : (Jvm.Cond.fieldLink "java/lang/Throwable" (20 : Nat) "java/lang/Throwable" "SUPPRESSED_SENTINEL" "Ljava/util/List;") ∈ lw_all := lw_g (lw_at lw_m3 11 rfl) rfl
theorem q621 : (Jvm.Cond.laysStatic "java/lang/Throwable" "SUPPRESSED_SENTINEL" "Ljava/util/List;") ∈ lw_tbl := lw_at lw_m3 12 rfl
theorem q622 : (Jvm.Cond.methodLink "java/lang/Throwable" (27 : Nat) ({ cls := "java/lang/Throwable", name := "fillInStackTrace", desc := "()Ljava/lang/Throwable;" } : Jvm.MethodName)) ∈ lw_all := lw_g (lw_at lw_m3 13 rfl) rfl
theorem q623 : (Jvm.Cond.instanceMethod ({ cls := "java/lang/Throwable", name := "fillInStackTrace", desc := "()Ljava/lang/Throwable;" } : Jvm.MethodName)) ∈ lw_all := lw_g (lw_at lw_m3 14 rfl) rfl
theorem q624 : (Jvm.Cond.sameMethod "java/lang/Throwable" "java/lang/Throwable" "fillInStackTrace" "()Ljava/lang/Throwable;") ∈ lw_all := lw_g (lw_at lw_m3 15 rfl) rfl
theorem q629 : (Jvm.Cond.codeSync ({ cls := "java/lang/Throwable", name := "fillInStackTrace", desc := "()Ljava/lang/Throwable;" } : Jvm.MethodName) prog_37_method_18_code (1 : Nat) (Option.some (Jvm.ClassFile.FieldType.object "java/lang/Throwable"))) ∈ lw_all := lw_g (lw_at lw_m3 20 rfl) rfl
theorem q630 : (Jvm.Cond.methodLink "java/lang/Throwable" (202 : Nat) ({ cls := "java/lang/Throwable", name := "fillInStackTrace", desc := "(I)Ljava/lang/Throwable;" } : Jvm.MethodName)) ∈ lw_all := lw_g (lw_at lw_m3 21 rfl) rfl
theorem q631 : (Jvm.Cond.privateMethod ({ cls := "java/lang/Throwable", name := "fillInStackTrace", desc := "(I)Ljava/lang/Throwable;" } : Jvm.MethodName)) ∈ lw_tbl := lw_at lw_m3 22 rfl
theorem q632 : (Jvm.Cond.instanceMethod ({ cls := "java/lang/Throwable", name := "fillInStackTrace", desc := "(I)Ljava/lang/Throwable;" } : Jvm.MethodName)) ∈ lw_all := lw_g (lw_at lw_m3 23 rfl) rfl
theorem q633 : (Jvm.Cond.instantiable "java/lang/Throwable" (6 : Nat)) ∈ lw_all := lw_g (lw_at lw_m3 24 rfl) rfl
theorem q634 : (Jvm.Cond.native ({ cls := "java/lang/Throwable", name := "fillInStackTrace", desc := "(I)Ljava/lang/Throwable;" } : Jvm.MethodName)) ∈ lw_all := lw_g (lw_at lw_m3 25 rfl) rfl
theorem q642 : (Jvm.Cond.instanceMethod ({ cls := "java/lang/Throwable", name := "<init>", desc := "(Ljava/lang/String;Ljava/lang/Throwable;ZZ)V" } : Jvm.MethodName)) ∈ lw_all := lw_g (lw_at lw_m3 33 rfl) rfl
theorem q643 : (Jvm.Cond.code ({ cls := "java/lang/Throwable", name := "<init>", desc := "(Ljava/lang/String;Ljava/lang/Throwable;ZZ)V" } : Jvm.MethodName) prog_37_method_5_code (5 : Nat) (Option.none : Option Jvm.ClassFile.FieldType)) ∈ lw_all := lw_g (lw_at lw_m3 34 rfl) rfl
theorem q648 : (Jvm.Cond.fieldLink "java/lang/Throwable" (198 : Nat) "java/lang/Throwable" "backtrace" "Ljava/lang/Object;") ∈ lw_all := lw_g (lw_at lw_m3 39 rfl) rfl
theorem q649 : (Jvm.Cond.fieldLink "java/lang/Throwable" (31 : Nat) "java/lang/Throwable" "detailMessage" "Ljava/lang/String;") ∈ lw_all := lw_g (lw_at lw_m3 40 rfl) rfl
theorem q650 : (Jvm.Cond.fieldLink "java/lang/Throwable" (7 : Nat) "java/lang/Throwable" "cause" "Ljava/lang/Throwable;") ∈ lw_all := lw_g (lw_at lw_m3 41 rfl) rfl
theorem q651 : (Jvm.Cond.fieldLink "java/lang/Throwable" (17 : Nat) "java/lang/Throwable" "stackTrace" "[Ljava/lang/StackTraceElement;") ∈ lw_all := lw_g (lw_at lw_m3 42 rfl) rfl
theorem q652 : (Jvm.Cond.fieldLink "java/lang/Throwable" (24 : Nat) "java/lang/Throwable" "suppressedExceptions" "Ljava/util/List;") ∈ lw_all := lw_g (lw_at lw_m3 43 rfl) rfl
theorem q657 : (Jvm.Cond.soleField "java/lang/Throwable" "backtrace") ∈ lw_all := lw_g (lw_at lw_m3 48 rfl) rfl
theorem q658 : (Jvm.Cond.soleField "java/lang/Throwable" "detailMessage") ∈ lw_all := lw_g (lw_at lw_m3 49 rfl) rfl
theorem q659 : (Jvm.Cond.soleField "java/lang/Throwable" "cause") ∈ lw_all := lw_g (lw_at lw_m3 50 rfl) rfl
theorem q660 : (Jvm.Cond.soleField "java/lang/Throwable" "stackTrace") ∈ lw_all := lw_g (lw_at lw_m3 51 rfl) rfl
theorem q662 : (Jvm.Cond.soleField "java/lang/Throwable" "depth") ∈ lw_all := lw_g (lw_at lw_m3 53 rfl) rfl
theorem q663 : (Jvm.Cond.soleField "java/lang/Throwable" "suppressedExceptions") ∈ lw_all := lw_g (lw_at lw_m3 54 rfl) rfl
theorem q1443 : (Jvm.Cond.instanceMethod ({ cls := "java/lang/Throwable", name := "<init>", desc := "(Ljava/lang/String;)V" } : Jvm.MethodName)) ∈ lw_all := lw_g (lw_at lw_m6 114 rfl) rfl
theorem q1444 : (Jvm.Cond.code ({ cls := "java/lang/Throwable", name := "<init>", desc := "(Ljava/lang/String;)V" } : Jvm.MethodName) prog_37_method_2_code (2 : Nat) (Option.none : Option Jvm.ClassFile.FieldType)) ∈ lw_all := lw_g (lw_at lw_m6 115 rfl) rfl
theorem q2229 : (Jvm.Cond.sameMethod "java/lang/Throwable" "java/lang/Throwable" "fillInStackTrace" "(I)Ljava/lang/Throwable;") ∈ lw_all := lw_g (lw_at lw_m9 180 rfl) rfl
theorem q2264 : (Jvm.Cond.castable "java/lang/Throwable" "java/lang/Object") ∈ lw_tbl := lw_at lw_m9 215 rfl
theorem q146 : (Jvm.Cond.initialized "java/lang/Exception") ∈ lw_all := lw_g (lw_at lw_m1 17 rfl) rfl
theorem q597 : (Jvm.Cond.declares ({ cls := "java/lang/Exception", name := "<init>", desc := "()V" } : Jvm.MethodName)) ∈ lw_tbl := lw_at lw_m2 228 rfl
theorem q598 : (Jvm.Cond.declares ({ cls := "java/lang/Exception", name := "<init>", desc := "(Ljava/lang/String;)V" } : Jvm.MethodName)) ∈ lw_tbl := lw_at lw_m2 229 rfl
theorem q639 : (Jvm.Cond.instanceMethod ({ cls := "java/lang/Exception", name := "<init>", desc := "(Ljava/lang/String;Ljava/lang/Throwable;ZZ)V" } : Jvm.MethodName)) ∈ lw_all := lw_g (lw_at lw_m3 30 rfl) rfl
theorem q640 : (Jvm.Cond.code ({ cls := "java/lang/Exception", name := "<init>", desc := "(Ljava/lang/String;Ljava/lang/Throwable;ZZ)V" } : Jvm.MethodName) prog_27_method_5_code (5 : Nat) (Option.none : Option Jvm.ClassFile.FieldType)) ∈ lw_all := lw_g (lw_at lw_m3 31 rfl) rfl
theorem q641 : (Jvm.Cond.methodLink "java/lang/Exception" (16 : Nat) ({ cls := "java/lang/Throwable", name := "<init>", desc := "(Ljava/lang/String;Ljava/lang/Throwable;ZZ)V" } : Jvm.MethodName)) ∈ lw_all := lw_g (lw_at lw_m3 32 rfl) rfl
theorem q1440 : (Jvm.Cond.instanceMethod ({ cls := "java/lang/Exception", name := "<init>", desc := "(Ljava/lang/String;)V" } : Jvm.MethodName)) ∈ lw_all := lw_g (lw_at lw_m6 111 rfl) rfl
theorem q1441 : (Jvm.Cond.code ({ cls := "java/lang/Exception", name := "<init>", desc := "(Ljava/lang/String;)V" } : Jvm.MethodName) prog_27_method_2_code (2 : Nat) (Option.none : Option Jvm.ClassFile.FieldType)) ∈ lw_all := lw_g (lw_at lw_m6 112 rfl) rfl
theorem q1442 : (Jvm.Cond.methodLink "java/lang/Exception" (7 : Nat) ({ cls := "java/lang/Throwable", name := "<init>", desc := "(Ljava/lang/String;)V" } : Jvm.MethodName)) ∈ lw_all := lw_g (lw_at lw_m6 113 rfl) rfl
theorem q1484 : (Jvm.Cond.instanceMethod ({ cls := "java/lang/Exception", name := "<init>", desc := "()V" } : Jvm.MethodName)) ∈ lw_all := lw_g (lw_at lw_m6 155 rfl) rfl
theorem q1485 : (Jvm.Cond.code ({ cls := "java/lang/Exception", name := "<init>", desc := "()V" } : Jvm.MethodName) prog_27_method_1_code (1 : Nat) (Option.none : Option Jvm.ClassFile.FieldType)) ∈ lw_all := lw_g (lw_at lw_m6 156 rfl) rfl
theorem q1486 : (Jvm.Cond.methodLink "java/lang/Exception" (1 : Nat) ({ cls := "java/lang/Throwable", name := "<init>", desc := "()V" } : Jvm.MethodName)) ∈ lw_all := lw_g (lw_at lw_m6 157 rfl) rfl
theorem q149 : (Jvm.Cond.initialized "java/util/Objects") ∈ lw_all := lw_g (lw_at lw_m1 20 rfl) rfl
theorem q688 : (Jvm.Cond.static ({ cls := "java/util/Objects", name := "checkIndex", desc := "(II)I" } : Jvm.MethodName)) ∈ lw_all := lw_g (lw_at lw_m3 79 rfl) rfl
theorem q689 : (Jvm.Cond.code ({ cls := "java/util/Objects", name := "checkIndex", desc := "(II)I" } : Jvm.MethodName) prog_47_method_17_code (2 : Nat) (Option.some Jvm.ClassFile.FieldType.int)) ∈ lw_all := lw_g (lw_at lw_m3 80 rfl) rfl
theorem q690 : (Jvm.Cond.methodLink "java/util/Objects" (105 : Nat) ({ cls := "jdk/internal/util/Preconditions", name := "checkIndex", desc := "(IILjava/util/function/BiFunction;)I" } : Jvm.MethodName)) ∈ lw_all := lw_g (lw_at lw_m3 81 rfl) rfl
theorem q150 : (Jvm.Cond.initialized "jdk/internal/util/ArraysSupport") ∈ lw_all := lw_g (lw_at lw_m1 21 rfl) rfl
theorem q746 : (Jvm.Cond.static ({ cls := "jdk/internal/util/ArraysSupport", name := "newLength", desc := "(III)I" } : Jvm.MethodName)) ∈ lw_all := lw_g (lw_at lw_m3 137 rfl) rfl
theorem q747 : (Jvm.Cond.code ({ cls := "jdk/internal/util/ArraysSupport", name := "newLength", desc := "(III)I" } : Jvm.MethodName) prog_50_method_27_code (4 : Nat) (Option.some Jvm.ClassFile.FieldType.int)) ∈ lw_all := lw_g (lw_at lw_m3 138 rfl) rfl
theorem q748 : (Jvm.Cond.methodLink "jdk/internal/util/ArraysSupport" (194 : Nat) ({ cls := "java/lang/Math", name := "max", desc := "(II)I" } : Jvm.MethodName)) ∈ lw_all := lw_g (lw_at lw_m3 139 rfl) rfl
theorem q749 : (Jvm.Cond.constant "jdk/internal/util/ArraysSupport" (200 : Nat) (2147483639 : Int32)) ∈ lw_all := lw_g (lw_at lw_m3 140 rfl) rfl
theorem q750 : (Jvm.Cond.methodLink "jdk/internal/util/ArraysSupport" (201 : Nat) ({ cls := "jdk/internal/util/ArraysSupport", name := "hugeLength", desc := "(II)I" } : Jvm.MethodName)) ∈ lw_all := lw_g (lw_at lw_m3 141 rfl) rfl
theorem q751 : (Jvm.Cond.static ({ cls := "jdk/internal/util/ArraysSupport", name := "hugeLength", desc := "(II)I" } : Jvm.MethodName)) ∈ lw_all := lw_g (lw_at lw_m3 142 rfl) rfl
theorem q752 : (Jvm.Cond.code ({ cls := "jdk/internal/util/ArraysSupport", name := "hugeLength", desc := "(II)I" } : Jvm.MethodName) prog_50_method_28_code (3 : Nat) (Option.some Jvm.ClassFile.FieldType.int)) ∈ lw_all := lw_g (lw_at lw_m3 143 rfl) rfl
theorem q151 : (Jvm.Cond.initialized "java/util/Arrays") ∈ lw_all := lw_g (lw_at lw_m1 22 rfl) rfl
theorem q754 : (Jvm.Cond.static ({ cls := "java/util/Arrays", name := "copyOf", desc := "([Ljava/lang/Object;I)[Ljava/lang/Object;" } : Jvm.MethodName)) ∈ lw_all := lw_g (lw_at lw_m3 145 rfl) rfl
theorem q755 : (Jvm.Cond.code ({ cls := "java/util/Arrays", name := "copyOf", desc := "([Ljava/lang/Object;I)[Ljava/lang/Object;" } : Jvm.MethodName) prog_43_method_119_code (2 : Nat) (Option.some (Jvm.ClassFile.FieldType.array (Jvm.ClassFile.FieldType.object "java/lang/Object")))) ∈ lw_all := lw_g (lw_at lw_m3 146 rfl) rfl
theorem q756 : (Jvm.Cond.methodLink "java/util/Arrays" (86 : Nat) ({ cls := "java/lang/Object", name := "getClass", desc := "()Ljava/lang/Class;" } : Jvm.MethodName)) ∈ lw_all := lw_g (lw_at lw_m3 147 rfl) rfl
theorem q781 : (Jvm.Cond.methodLink "java/util/Arrays" (300 : Nat) ({ cls := "java/util/Arrays", name := "copyOf", desc := "([Ljava/lang/Object;ILjava/lang/Class;)[Ljava/lang/Object;" } : Jvm.MethodName)) ∈ lw_all := lw_g (lw_at lw_m3 172 rfl) rfl
theorem q782 : (Jvm.Cond.static ({ cls := "java/util/Arrays", name := "copyOf", desc := "([Ljava/lang/Object;ILjava/lang/Class;)[Ljava/lang/Object;" } : Jvm.MethodName)) ∈ lw_all := lw_g (lw_at lw_m3 173 rfl) rfl
theorem q783 : (Jvm.Cond.code ({ cls := "java/util/Arrays", name := "copyOf", desc := "([Ljava/lang/Object;ILjava/lang/Class;)[Ljava/lang/Object;" } : Jvm.MethodName) prog_43_method_120_code (4 : Nat) (Option.some (Jvm.ClassFile.FieldType.array (Jvm.ClassFile.FieldType.object "java/lang/Object")))) ∈ lw_all := lw_g (lw_at lw_m3 174 rfl) rfl
theorem q784 : (Jvm.Cond.classLink "java/util/Arrays" (110 : Nat) "[Ljava/lang/Object;") ∈ lw_all := lw_g (lw_at lw_m3 175 rfl) rfl
theorem q785 : (Jvm.Cond.classLink "java/util/Arrays" (2 : Nat) "java/lang/Object") ∈ lw_all := lw_g (lw_at lw_m3 176 rfl) rfl
theorem q786 : (Jvm.Cond.methodLink "java/util/Arrays" (304 : Nat) ({ cls := "java/lang/Math", name := "min", desc := "(II)I" } : Jvm.MethodName)) ∈ lw_all := lw_g (lw_at lw_m3 177 rfl) rfl
theorem q787 : (Jvm.Cond.methodLink "java/util/Arrays" (150 : Nat) ({ cls := "java/lang/System", name := "arraycopy", desc := "(Ljava/lang/Object;ILjava/lang/Object;II)V" } : Jvm.MethodName)) ∈ lw_all := lw_g (lw_at lw_m3 178 rfl) rfl
theorem q163 : (Jvm.Cond.initialized "java/lang/RuntimeException") ∈ lw_all := lw_g (lw_at lw_m1 34 rfl) rfl
theorem q1437 : (Jvm.Cond.instanceMethod ({ cls := "java/lang/RuntimeException", name := "<init>", desc := "(Ljava/lang/String;)V" } : Jvm.MethodName)) ∈ lw_all := lw_g (lw_at lw_m6 108 rfl) rfl
theorem q1438 : (Jvm.Cond.code ({ cls := "java/lang/RuntimeException", name := "<init>", desc := "(Ljava/lang/String;)V" } : Jvm.MethodName) prog_32_method_2_code (2 : Nat) (Option.none : Option Jvm.ClassFile.FieldType)) ∈ lw_all := lw_g (lw_at lw_m6 109 rfl) rfl
theorem q1439 : (Jvm.Cond.methodLink "java/lang/RuntimeException" (7 : Nat) ({ cls := "java/lang/Exception", name := "<init>", desc := "(Ljava/lang/String;)V" } : Jvm.MethodName)) ∈ lw_all := lw_g (lw_at lw_m6 110 rfl) rfl
theorem q1455 : (Jvm.Cond.declares ({ cls := "java/lang/RuntimeException", name := "<init>", desc := "()V" } : Jvm.MethodName)) ∈ lw_tbl := lw_at lw_m6 126 rfl
theorem q1456 : (Jvm.Cond.declares ({ cls := "java/lang/RuntimeException", name := "<init>", desc := "(Ljava/lang/String;)V" } : Jvm.MethodName)) ∈ lw_tbl := lw_at lw_m6 127 rfl
theorem q1481 : (Jvm.Cond.instanceMethod ({ cls := "java/lang/RuntimeException", name := "<init>", desc := "()V" } : Jvm.MethodName)) ∈ lw_all := lw_g (lw_at lw_m6 152 rfl) rfl
theorem q1482 : (Jvm.Cond.code ({ cls := "java/lang/RuntimeException", name := "<init>", desc := "()V" } : Jvm.MethodName) prog_32_method_1_code (1 : Nat) (Option.none : Option Jvm.ClassFile.FieldType)) ∈ lw_all := lw_g (lw_at lw_m6 153 rfl) rfl
theorem q1483 : (Jvm.Cond.methodLink "java/lang/RuntimeException" (1 : Nat) ({ cls := "java/lang/Exception", name := "<init>", desc := "()V" } : Jvm.MethodName)) ∈ lw_all := lw_g (lw_at lw_m6 154 rfl) rfl
theorem q164 : (Jvm.Cond.initialized "java/lang/IndexOutOfBoundsException") ∈ lw_all := lw_g (lw_at lw_m1 35 rfl) rfl
theorem q627 : (Jvm.Cond.selects "java/lang/IndexOutOfBoundsException" ({ cls := "java/lang/Throwable", name := "fillInStackTrace", desc := "()Ljava/lang/Throwable;" } : Jvm.MethodName) ({ cls := "java/lang/Throwable", name := "fillInStackTrace", desc := "()Ljava/lang/Throwable;" } : Jvm.MethodName)) ∈ lw_all := lw_g (lw_at lw_m3 18 rfl) rfl
theorem q777 : (Jvm.Cond.selects "java/lang/IndexOutOfBoundsException" ({ cls := "java/lang/Object", name := "getClass", desc := "()Ljava/lang/Class;" } : Jvm.MethodName) ({ cls := "java/lang/Object", name := "getClass", desc := "()Ljava/lang/Class;" } : Jvm.MethodName)) ∈ lw_all := lw_g (lw_at lw_m3 168 rfl) rfl
theorem q1434 : (Jvm.Cond.instanceMethod ({ cls := "java/lang/IndexOutOfBoundsException", name := "<init>", desc := "(Ljava/lang/String;)V" } : Jvm.MethodName)) ∈ lw_all := lw_g (lw_at lw_m6 105 rfl) rfl
theorem q1435 : (Jvm.Cond.code ({ cls := "java/lang/IndexOutOfBoundsException", name := "<init>", desc := "(Ljava/lang/String;)V" } : Jvm.MethodName) prog_28_method_2_code (2 : Nat) (Option.none : Option Jvm.ClassFile.FieldType)) ∈ lw_all := lw_g (lw_at lw_m6 106 rfl) rfl
theorem q1436 : (Jvm.Cond.methodLink "java/lang/IndexOutOfBoundsException" (7 : Nat) ({ cls := "java/lang/RuntimeException", name := "<init>", desc := "(Ljava/lang/String;)V" } : Jvm.MethodName)) ∈ lw_all := lw_g (lw_at lw_m6 107 rfl) rfl
theorem q1453 : (Jvm.Cond.declares ({ cls := "java/lang/IndexOutOfBoundsException", name := "<init>", desc := "()V" } : Jvm.MethodName)) ∈ lw_tbl := lw_at lw_m6 124 rfl
theorem q1454 : (Jvm.Cond.declares ({ cls := "java/lang/IndexOutOfBoundsException", name := "<init>", desc := "(Ljava/lang/String;)V" } : Jvm.MethodName)) ∈ lw_tbl := lw_at lw_m6 125 rfl
theorem q1469 : (Jvm.Cond.instantiable "java/lang/IndexOutOfBoundsException" (6 : Nat)) ∈ lw_all := lw_g (lw_at lw_m6 140 rfl) rfl
theorem q1470 : (Jvm.Cond.castable "java/lang/IndexOutOfBoundsException" "java/lang/IndexOutOfBoundsException") ∈ lw_tbl := lw_at lw_m6 141 rfl
theorem q1471 : (Jvm.Cond.selects "java/lang/IndexOutOfBoundsException" ({ cls := "java/lang/Throwable", name := "fillInStackTrace", desc := "(I)Ljava/lang/Throwable;" } : Jvm.MethodName) ({ cls := "java/lang/Throwable", name := "fillInStackTrace", desc := "(I)Ljava/lang/Throwable;" } : Jvm.MethodName)) ∈ lw_all := lw_g (lw_at lw_m6 142 rfl) rfl
theorem q1472 : (Jvm.Cond.lays "java/lang/IndexOutOfBoundsException" "java/lang/Throwable" "cause" "Ljava/lang/Throwable;") ∈ lw_all := lw_g (lw_at lw_m6 143 rfl) rfl
theorem q1473 : (Jvm.Cond.lays "java/lang/IndexOutOfBoundsException" "java/lang/Throwable" "stackTrace" "[Ljava/lang/StackTraceElement;") ∈ lw_all := lw_g (lw_at lw_m6 144 rfl) rfl
theorem q1474 : (Jvm.Cond.lays "java/lang/IndexOutOfBoundsException" "java/lang/Throwable" "suppressedExceptions" "Ljava/util/List;") ∈ lw_all := lw_g (lw_at lw_m6 145 rfl) rfl
theorem q1475 : (Jvm.Cond.lays "java/lang/IndexOutOfBoundsException" "java/lang/Throwable" "detailMessage" "Ljava/lang/String;") ∈ lw_all := lw_g (lw_at lw_m6 146 rfl) rfl
theorem q1476 : (Jvm.Cond.lays "java/lang/IndexOutOfBoundsException" "java/lang/Throwable" "backtrace" "Ljava/lang/Object;") ∈ lw_all := lw_g (lw_at lw_m6 147 rfl) rfl
theorem q1478 : (Jvm.Cond.instanceMethod ({ cls := "java/lang/IndexOutOfBoundsException", name := "<init>", desc := "()V" } : Jvm.MethodName)) ∈ lw_all := lw_g (lw_at lw_m6 149 rfl) rfl
theorem q1479 : (Jvm.Cond.code ({ cls := "java/lang/IndexOutOfBoundsException", name := "<init>", desc := "()V" } : Jvm.MethodName) prog_28_method_1_code (1 : Nat) (Option.none : Option Jvm.ClassFile.FieldType)) ∈ lw_all := lw_g (lw_at lw_m6 150 rfl) rfl
theorem q1480 : (Jvm.Cond.methodLink "java/lang/IndexOutOfBoundsException" (1 : Nat) ({ cls := "java/lang/RuntimeException", name := "<init>", desc := "()V" } : Jvm.MethodName)) ∈ lw_all := lw_g (lw_at lw_m6 151 rfl) rfl
theorem q1487 : (Jvm.Cond.lays "java/lang/IndexOutOfBoundsException" "java/lang/Throwable" "depth" "I") ∈ lw_all := lw_g (lw_at lw_m6 158 rfl) rfl
theorem q1488 : (Jvm.Cond.superclass "java/lang/IndexOutOfBoundsException" "java/lang/RuntimeException") ∈ lw_all := lw_g (lw_at lw_m6 159 rfl) rfl
theorem q2261 : (Jvm.Cond.castable "java/lang/IndexOutOfBoundsException" "java/lang/Object") ∈ lw_tbl := lw_at lw_m9 212 rfl
theorem q165 : (Jvm.Cond.initialized "java/lang/ArrayIndexOutOfBoundsException") ∈ lw_all := lw_g (lw_at lw_m1 36 rfl) rfl
theorem q626 : (Jvm.Cond.selects "java/lang/ArrayIndexOutOfBoundsException" ({ cls := "java/lang/Throwable", name := "fillInStackTrace", desc := "()Ljava/lang/Throwable;" } : Jvm.MethodName) ({ cls := "java/lang/Throwable", name := "fillInStackTrace", desc := "()Ljava/lang/Throwable;" } : Jvm.MethodName)) ∈ lw_all := lw_g (lw_at lw_m3 17 rfl) rfl
theorem q776 : (Jvm.Cond.selects "java/lang/ArrayIndexOutOfBoundsException" ({ cls := "java/lang/Object", name := "getClass", desc := "()Ljava/lang/Class;" } : Jvm.MethodName) ({ cls := "java/lang/Object", name := "getClass", desc := "()Ljava/lang/Class;" } : Jvm.MethodName)) ∈ lw_all := lw_g (lw_at lw_m3 167 rfl) rfl
theorem q1430 : (Jvm.Cond.instantiable "java/lang/ArrayIndexOutOfBoundsException" (6 : Nat)) ∈ lw_all := lw_g (lw_at lw_m6 101 rfl) rfl
theorem q1431 : (Jvm.Cond.instanceMethod ({ cls := "java/lang/ArrayIndexOutOfBoundsException", name := "<init>", desc := "(Ljava/lang/String;)V" } : Jvm.MethodName)) ∈ lw_all := lw_g (lw_at lw_m6 102 rfl) rfl
theorem q1432 : (Jvm.Cond.code ({ cls := "java/lang/ArrayIndexOutOfBoundsException", name := "<init>", desc := "(Ljava/lang/String;)V" } : Jvm.MethodName) prog_22_method_2_code (2 : Nat) (Option.none : Option Jvm.ClassFile.FieldType)) ∈ lw_all := lw_g (lw_at lw_m6 103 rfl) rfl
theorem q1433 : (Jvm.Cond.methodLink "java/lang/ArrayIndexOutOfBoundsException" (7 : Nat) ({ cls := "java/lang/IndexOutOfBoundsException", name := "<init>", desc := "(Ljava/lang/String;)V" } : Jvm.MethodName)) ∈ lw_all := lw_g (lw_at lw_m6 104 rfl) rfl
theorem q1445 : (Jvm.Cond.lays "java/lang/ArrayIndexOutOfBoundsException" "java/lang/Throwable" "backtrace" "Ljava/lang/Object;") ∈ lw_all := lw_g (lw_at lw_m6 116 rfl) rfl
theorem q1446 : (Jvm.Cond.lays "java/lang/ArrayIndexOutOfBoundsException" "java/lang/Throwable" "detailMessage" "Ljava/lang/String;") ∈ lw_all := lw_g (lw_at lw_m6 117 rfl) rfl
theorem q1447 : (Jvm.Cond.lays "java/lang/ArrayIndexOutOfBoundsException" "java/lang/Throwable" "cause" "Ljava/lang/Throwable;") ∈ lw_all := lw_g (lw_at lw_m6 118 rfl) rfl
theorem q1448 : (Jvm.Cond.lays "java/lang/ArrayIndexOutOfBoundsException" "java/lang/Throwable" "stackTrace" "[Ljava/lang/StackTraceElement;") ∈ lw_all := lw_g (lw_at lw_m6 119 rfl) rfl
theorem q1449 : (Jvm.Cond.lays "java/lang/ArrayIndexOutOfBoundsException" "java/lang/Throwable" "depth" "I") ∈ lw_all := lw_g (lw_at lw_m6 120 rfl) rfl
theorem q1450 : (Jvm.Cond.lays "java/lang/ArrayIndexOutOfBoundsException" "java/lang/Throwable" "suppressedExceptions" "Ljava/util/List;") ∈ lw_all := lw_g (lw_at lw_m6 121 rfl) rfl
theorem q1451 : (Jvm.Cond.superclass "java/lang/ArrayIndexOutOfBoundsException" "java/lang/IndexOutOfBoundsException") ∈ lw_all := lw_g (lw_at lw_m6 122 rfl) rfl
theorem q1452 : (Jvm.Cond.castable "java/lang/ArrayIndexOutOfBoundsException" "java/lang/ArrayIndexOutOfBoundsException") ∈ lw_tbl := lw_at lw_m6 123 rfl
theorem q1457 : (Jvm.Cond.selects "java/lang/ArrayIndexOutOfBoundsException" ({ cls := "java/lang/Throwable", name := "fillInStackTrace", desc := "(I)Ljava/lang/Throwable;" } : Jvm.MethodName) ({ cls := "java/lang/Throwable", name := "fillInStackTrace", desc := "(I)Ljava/lang/Throwable;" } : Jvm.MethodName)) ∈ lw_all := lw_g (lw_at lw_m6 128 rfl) rfl
theorem q2232 : (Jvm.Cond.castable "java/lang/ArrayIndexOutOfBoundsException" "java/lang/IndexOutOfBoundsException") ∈ lw_tbl := lw_at lw_m9 183 rfl
theorem q2260 : (Jvm.Cond.castable "java/lang/ArrayIndexOutOfBoundsException" "java/lang/Object") ∈ lw_tbl := lw_at lw_m9 211 rfl
theorem q166 : (Jvm.Cond.initialized "java/util/NoSuchElementException") ∈ lw_all := lw_g (lw_at lw_m1 37 rfl) rfl
theorem q628 : (Jvm.Cond.selects "java/util/NoSuchElementException" ({ cls := "java/lang/Throwable", name := "fillInStackTrace", desc := "()Ljava/lang/Throwable;" } : Jvm.MethodName) ({ cls := "java/lang/Throwable", name := "fillInStackTrace", desc := "()Ljava/lang/Throwable;" } : Jvm.MethodName)) ∈ lw_all := lw_g (lw_at lw_m3 19 rfl) rfl
theorem q779 : (Jvm.Cond.selects "java/util/NoSuchElementException" ({ cls := "java/lang/Object", name := "getClass", desc := "()Ljava/lang/Class;" } : Jvm.MethodName) ({ cls := "java/lang/Object", name := "getClass", desc := "()Ljava/lang/Class;" } : Jvm.MethodName)) ∈ lw_all := lw_g (lw_at lw_m3 170 rfl) rfl
theorem q1490 : (Jvm.Cond.instantiable "java/util/NoSuchElementException" (6 : Nat)) ∈ lw_all := lw_g (lw_at lw_m6 161 rfl) rfl
theorem q1491 : (Jvm.Cond.castable "java/util/NoSuchElementException" "java/util/NoSuchElementException") ∈ lw_tbl := lw_at lw_m6 162 rfl
theorem q1492 : (Jvm.Cond.selects "java/util/NoSuchElementException" ({ cls := "java/lang/Throwable", name := "fillInStackTrace", desc := "(I)Ljava/lang/Throwable;" } : Jvm.MethodName) ({ cls := "java/lang/Throwable", name := "fillInStackTrace", desc := "(I)Ljava/lang/Throwable;" } : Jvm.MethodName)) ∈ lw_all := lw_g (lw_at lw_m6 163 rfl) rfl
theorem q1493 : (Jvm.Cond.lays "java/util/NoSuchElementException" "java/lang/Throwable" "cause" "Ljava/lang/Throwable;") ∈ lw_all := lw_g (lw_at lw_m6 164 rfl) rfl
theorem q1494 : (Jvm.Cond.lays "java/util/NoSuchElementException" "java/lang/Throwable" "stackTrace" "[Ljava/lang/StackTraceElement;") ∈ lw_all := lw_g (lw_at lw_m6 165 rfl) rfl
theorem q1495 : (Jvm.Cond.lays "java/util/NoSuchElementException" "java/lang/Throwable" "suppressedExceptions" "Ljava/util/List;") ∈ lw_all := lw_g (lw_at lw_m6 166 rfl) rfl
theorem q1496 : (Jvm.Cond.lays "java/util/NoSuchElementException" "java/lang/Throwable" "detailMessage" "Ljava/lang/String;") ∈ lw_all := lw_g (lw_at lw_m6 167 rfl) rfl
theorem q1497 : (Jvm.Cond.lays "java/util/NoSuchElementException" "java/lang/Throwable" "backtrace" "Ljava/lang/Object;") ∈ lw_all := lw_g (lw_at lw_m6 168 rfl) rfl
theorem q1499 : (Jvm.Cond.instanceMethod ({ cls := "java/util/NoSuchElementException", name := "<init>", desc := "()V" } : Jvm.MethodName)) ∈ lw_all := lw_g (lw_at lw_m6 170 rfl) rfl
theorem q1500 : (Jvm.Cond.code ({ cls := "java/util/NoSuchElementException", name := "<init>", desc := "()V" } : Jvm.MethodName) prog_46_method_1_code (1 : Nat) (Option.none : Option Jvm.ClassFile.FieldType)) ∈ lw_all := lw_g (lw_at lw_m6 171 rfl) rfl
theorem q1501 : (Jvm.Cond.methodLink "java/util/NoSuchElementException" (1 : Nat) ({ cls := "java/lang/RuntimeException", name := "<init>", desc := "()V" } : Jvm.MethodName)) ∈ lw_all := lw_g (lw_at lw_m6 172 rfl) rfl
theorem q1502 : (Jvm.Cond.lays "java/util/NoSuchElementException" "java/lang/Throwable" "depth" "I") ∈ lw_all := lw_g (lw_at lw_m6 173 rfl) rfl
theorem q1503 : (Jvm.Cond.superclass "java/util/NoSuchElementException" "java/lang/RuntimeException") ∈ lw_all := lw_g (lw_at lw_m6 174 rfl) rfl
theorem q2262 : (Jvm.Cond.castable "java/util/NoSuchElementException" "java/lang/Object") ∈ lw_tbl := lw_at lw_m9 213 rfl
theorem q167 : (Jvm.Cond.initialized "java/lang/Integer") ∈ lw_all := lw_g (lw_at lw_m1 38 rfl) rfl
theorem q1389 : (Jvm.Cond.static ({ cls := "java/lang/Integer", name := "bitCount", desc := "(I)I" } : Jvm.MethodName)) ∈ lw_all := lw_g (lw_at lw_m6 60 rfl) rfl
theorem q1390 : (Jvm.Cond.code ({ cls := "java/lang/Integer", name := "bitCount", desc := "(I)I" } : Jvm.MethodName) prog_29_method_49_code (1 : Nat) (Option.some Jvm.ClassFile.FieldType.int)) ∈ lw_all := lw_g (lw_at lw_m6 61 rfl) rfl
theorem q1391 : (Jvm.Cond.constant "java/lang/Integer" (265 : Nat) (1431655765 : Int32)) ∈ lw_all := lw_g (lw_at lw_m6 62 rfl) rfl
theorem q1392 : (Jvm.Cond.constant "java/lang/Integer" (266 : Nat) (858993459 : Int32)) ∈ lw_all := lw_g (lw_at lw_m6 63 rfl) rfl
theorem q1393 : (Jvm.Cond.constant "java/lang/Integer" (267 : Nat) (252645135 : Int32)) ∈ lw_all := lw_g (lw_at lw_m6 64 rfl) rfl
theorem q174 : (Jvm.Cond.instanceMethod ({ cls := "java/lang/Object", name := "<init>", desc := "()V" } : Jvm.MethodName)) ∈ lw_all := lw_g (lw_at lw_m1 45 rfl) rfl
theorem q175 : (Jvm.Cond.code ({ cls := "java/lang/Object", name := "<init>", desc := "()V" } : Jvm.MethodName) object_method_1_code (1 : Nat) (Option.none : Option Jvm.ClassFile.FieldType)) ∈ lw_all := lw_g (lw_at lw_m1 46 rfl) rfl
theorem q757 : (Jvm.Cond.instanceMethod ({ cls := "java/lang/Object", name := "getClass", desc := "()Ljava/lang/Class;" } : Jvm.MethodName)) ∈ lw_all := lw_g (lw_at lw_m3 148 rfl) rfl
theorem q758 : (Jvm.Cond.sameMethod "java/lang/Object" "java/lang/Object" "getClass" "()Ljava/lang/Class;") ∈ lw_all := lw_g (lw_at lw_m3 149 rfl) rfl
theorem q780 : (Jvm.Cond.native ({ cls := "java/lang/Object", name := "getClass", desc := "()Ljava/lang/Class;" } : Jvm.MethodName)) ∈ lw_all := lw_g (lw_at lw_m3 171 rfl) rfl
theorem q2230 : (Jvm.Cond.initialized "java/lang/Object") ∈ lw_all := lw_g (lw_at lw_m9 181 rfl) rfl
theorem q2267 : (Jvm.Cond.declares ({ cls := "java/lang/Object", name := "getClass", desc := "()Ljava/lang/Class;" } : Jvm.MethodName)) ∈ lw_tbl := lw_at lw_m9 218 rfl
theorem q129 : (Jvm.Cond.initialized "LongYearsLaw") ∈ lw_all := lw_g (lw_at lw_m1 0 rfl) rfl
theorem q168 : (Jvm.Cond.classLink "LongYearsLaw" (8 : Nat) "LongYears") ∈ lw_all := lw_g (lw_at lw_m1 39 rfl) rfl
theorem q170 : (Jvm.Cond.methodLink "LongYearsLaw" (17 : Nat) ({ cls := "LongYears", name := "<init>", desc := "()V" } : Jvm.MethodName)) ∈ lw_all := lw_g (lw_at lw_m1 41 rfl) rfl
theorem q424 : (Jvm.Cond.methodLink "LongYearsLaw" (21 : Nat) ({ cls := "LongYears", name := "feed", desc := "(IIIII)I" } : Jvm.MethodName)) ∈ lw_all := lw_g (lw_at lw_m2 55 rfl) rfl
theorem q432 : (Jvm.Cond.methodLink "LongYearsLaw" (26 : Nat) ({ cls := "LongYears", name := "text", desc := "(I)I" } : Jvm.MethodName)) ∈ lw_all := lw_g (lw_at lw_m2 63 rfl) rfl
theorem q1030 : (Jvm.Cond.methodLink "LongYearsLaw" (31 : Nat) ({ cls := "LongYears", name := "fault", desc := "(I)I" } : Jvm.MethodName)) ∈ lw_all := lw_g (lw_at lw_m4 181 rfl) rfl
theorem q1034 : (Jvm.Cond.methodLink "LongYearsLaw" (35 : Nat) ({ cls := "LongYears", name := "named", desc := "(II)I" } : Jvm.MethodName)) ∈ lw_all := lw_g (lw_at lw_m4 185 rfl) rfl
theorem q1039 : (Jvm.Cond.methodLink "LongYearsLaw" (49 : Nat) ({ cls := "LongYears", name := "length", desc := "(II)J" } : Jvm.MethodName)) ∈ lw_all := lw_g (lw_at lw_m4 190 rfl) rfl
theorem q1060 : (Jvm.Cond.methodLink "LongYearsLaw" (56 : Nat) ({ cls := "LongYears", name := "date", desc := "(IJI)J" } : Jvm.MethodName)) ∈ lw_all := lw_g (lw_at lw_m4 211 rfl) rfl
theorem q1079 : (Jvm.Cond.methodLink "LongYearsLaw" (61 : Nat) ({ cls := "LongYears", name := "count", desc := "(IIJ)J" } : Jvm.MethodName)) ∈ lw_all := lw_g (lw_at lw_m4 230 rfl) rfl
theorem q1089 : (Jvm.Cond.methodLink "LongYearsLaw" (66 : Nat) ({ cls := "LongYears", name := "round", desc := "(JI)I" } : Jvm.MethodName)) ∈ lw_all := lw_g (lw_at lw_m5 0 rfl) rfl
theorem q1107 : (Jvm.Cond.methodLink "LongYearsLaw" (71 : Nat) ({ cls := "LongYears", name := "feast", desc := "(IJ)I" } : Jvm.MethodName)) ∈ lw_all := lw_g (lw_at lw_m5 18 rfl) rfl
theorem q1173 : (Jvm.Cond.methodLink "LongYearsLaw" (76 : Nat) ({ cls := "LongYears", name := "festive", desc := "(IJ)J" } : Jvm.MethodName)) ∈ lw_all := lw_g (lw_at lw_m5 84 rfl) rfl
theorem q1183 : (Jvm.Cond.methodLink "LongYearsLaw" (81 : Nat) ({ cls := "LongYears", name := "rule", desc := "(IJ)J" } : Jvm.MethodName)) ∈ lw_all := lw_g (lw_at lw_m5 94 rfl) rfl
theorem q1187 : (Jvm.Cond.methodLink "LongYearsLaw" (85 : Nat) ({ cls := "LongYears", name := "life", desc := "(II)J" } : Jvm.MethodName)) ∈ lw_all := lw_g (lw_at lw_m5 98 rfl) rfl
theorem q1196 : (Jvm.Cond.methodLink "LongYearsLaw" (89 : Nat) ({ cls := "LongYears", name := "age", desc := "(IJI)J" } : Jvm.MethodName)) ∈ lw_all := lw_g (lw_at lw_m5 107 rfl) rfl
theorem q1209 : (Jvm.Cond.methodLink "LongYearsLaw" (93 : Nat) ({ cls := "LongYears", name := "elder", desc := "(II)I" } : Jvm.MethodName)) ∈ lw_all := lw_g (lw_at lw_m5 120 rfl) rfl
theorem q1213 : (Jvm.Cond.methodLink "LongYearsLaw" (97 : Nat) ({ cls := "LongYears", name := "often", desc := "(IIIJ)J" } : Jvm.MethodName)) ∈ lw_all := lw_g (lw_at lw_m5 124 rfl) rfl
theorem q1223 : (Jvm.Cond.methodLink "LongYearsLaw" (102 : Nat) ({ cls := "LongYears", name := "springs", desc := "(II)J" } : Jvm.MethodName)) ∈ lw_all := lw_g (lw_at lw_m5 134 rfl) rfl
theorem q1242 : (Jvm.Cond.methodLink "LongYearsLaw" (106 : Nat) ({ cls := "LongYears", name := "many", desc := "(III)I" } : Jvm.MethodName)) ∈ lw_all := lw_g (lw_at lw_m5 153 rfl) rfl
theorem q1248 : (Jvm.Cond.methodLink "LongYearsLaw" (111 : Nat) ({ cls := "LongYears", name := "next", desc := "(JIII)J" } : Jvm.MethodName)) ∈ lw_all := lw_g (lw_at lw_m5 159 rfl) rfl
theorem q1254 : (Jvm.Cond.methodLink "LongYearsLaw" (116 : Nat) ({ cls := "LongYears", name := "alike", desc := "(IIJZ)J" } : Jvm.MethodName)) ∈ lw_all := lw_g (lw_at lw_m5 165 rfl) rfl
theorem q1258 : (Jvm.Cond.methodLink "LongYearsLaw" (121 : Nat) ({ cls := "LongYears", name := "deed", desc := "(III)J" } : Jvm.MethodName)) ∈ lw_all := lw_g (lw_at lw_m5 169 rfl) rfl
theorem q1290 : (Jvm.Cond.methodLink "LongYearsLaw" (126 : Nat) ({ cls := "LongYears", name := "ends", desc := "(IJI)I" } : Jvm.MethodName)) ∈ lw_all := lw_g (lw_at lw_m5 201 rfl) rfl
theorem q1294 : (Jvm.Cond.methodLink "LongYearsLaw" (131 : Nat) ({ cls := "LongYears", name := "hire", desc := "(IJII)J" } : Jvm.MethodName)) ∈ lw_all := lw_g (lw_at lw_m5 205 rfl) rfl
theorem q1300 : (Jvm.Cond.methodLink "LongYearsLaw" (136 : Nat) ({ cls := "LongYears", name := "parts", desc := "(III)I" } : Jvm.MethodName)) ∈ lw_all := lw_g (lw_at lw_m5 211 rfl) rfl
theorem q1304 : (Jvm.Cond.methodLink "LongYearsLaw" (140 : Nat) ({ cls := "LongYears", name := "months", desc := "(III)I" } : Jvm.MethodName)) ∈ lw_all := lw_g (lw_at lw_m5 215 rfl) rfl
theorem q1308 : (Jvm.Cond.methodLink "LongYearsLaw" (144 : Nat) ({ cls := "LongYears", name := "note", desc := "()I" } : Jvm.MethodName)) ∈ lw_all := lw_g (lw_at lw_m5 219 rfl) rfl
theorem q1312 : (Jvm.Cond.methodLink "LongYearsLaw" (148 : Nat) ({ cls := "LongYears", name := "says", desc := "(III)Z" } : Jvm.MethodName)) ∈ lw_all := lw_g (lw_at lw_m5 223 rfl) rfl
theorem q1325 : (Jvm.Cond.methodLink "LongYearsLaw" (153 : Nat) ({ cls := "LongYears", name := "undo", desc := "()I" } : Jvm.MethodName)) ∈ lw_all := lw_g (lw_at lw_m5 236 rfl) rfl
theorem q1330 : (Jvm.Cond.methodLink "LongYearsLaw" (157 : Nat) ({ cls := "LongYears", name := "alone", desc := "(II)I" } : Jvm.MethodName)) ∈ lw_all := lw_g (lw_at lw_m6 1 rfl) rfl
theorem q1368 : (Jvm.Cond.methodLink "LongYearsLaw" (161 : Nat) ({ cls := "LongYears", name := "fits", desc := "(II)I" } : Jvm.MethodName)) ∈ lw_all := lw_g (lw_at lw_m6 39 rfl) rfl
theorem q1384 : (Jvm.Cond.methodLink "LongYearsLaw" (165 : Nat) ({ cls := "LongYears", name := "gap", desc := "()I" } : Jvm.MethodName)) ∈ lw_all := lw_g (lw_at lw_m6 55 rfl) rfl
theorem q1398 : (Jvm.Cond.methodLink "LongYearsLaw" (169 : Nat) ({ cls := "LongYears", name := "told", desc := "(II)I" } : Jvm.MethodName)) ∈ lw_all := lw_g (lw_at lw_m6 69 rfl) rfl
theorem q1402 : (Jvm.Cond.methodLink "LongYearsLaw" (173 : Nat) ({ cls := "LongYears", name := "judged", desc := "()I" } : Jvm.MethodName)) ∈ lw_all := lw_g (lw_at lw_m6 73 rfl) rfl
theorem q1410 : (Jvm.Cond.methodLink "LongYearsLaw" (177 : Nat) ({ cls := "LongYears", name := "forget", desc := "()I" } : Jvm.MethodName)) ∈ lw_all := lw_g (lw_at lw_m6 81 rfl) rfl
theorem q1414 : (Jvm.Cond.methodLink "LongYearsLaw" (181 : Nat) ({ cls := "LongYears", name := "keep", desc := "()I" } : Jvm.MethodName)) ∈ lw_all := lw_g (lw_at lw_m6 85 rfl) rfl
theorem q1418 : (Jvm.Cond.methodLink "LongYearsLaw" (185 : Nat) ({ cls := "LongYears", name := "back", desc := "()I" } : Jvm.MethodName)) ∈ lw_all := lw_g (lw_at lw_m6 89 rfl) rfl
theorem q1422 : (Jvm.Cond.methodLink "LongYearsLaw" (189 : Nat) ({ cls := "LongYears", name := "size", desc := "(I)I" } : Jvm.MethodName)) ∈ lw_all := lw_g (lw_at lw_m6 93 rfl) rfl
theorem q1426 : (Jvm.Cond.methodLink "LongYearsLaw" (39 : Nat) ({ cls := "LongYearsLaw", name := "look", desc := "(LLongYears;II[J)I" } : Jvm.MethodName)) ∈ lw_all := lw_g (lw_at lw_m6 97 rfl) rfl
theorem q1427 : (Jvm.Cond.static ({ cls := "LongYearsLaw", name := "look", desc := "(LLongYears;II[J)I" } : Jvm.MethodName)) ∈ lw_all := lw_g (lw_at lw_m6 98 rfl) rfl
theorem q1428 : (Jvm.Cond.codeWith ({ cls := "LongYearsLaw", name := "look", desc := "(LLongYears;II[J)I" } : Jvm.MethodName) method_3_code (5 : Nat) (Option.some Jvm.ClassFile.FieldType.int) [((0 : Nat), (10 : Nat), (13 : Nat), (13 : Nat)), ((0 : Nat), (10 : Nat), (17 : Nat), (15 : Nat))]) ∈ lw_all := lw_g (lw_at lw_m6 99 rfl) rfl
theorem q1429 : (Jvm.Cond.classLink "LongYearsLaw" (13 : Nat) "java/lang/IndexOutOfBoundsException") ∈ lw_all := lw_g (lw_at lw_m6 100 rfl) rfl
theorem q1463 : (Jvm.Cond.classLink "LongYearsLaw" (15 : Nat) "java/util/NoSuchElementException") ∈ lw_all := lw_g (lw_at lw_m6 134 rfl) rfl
theorem q1464 : (Jvm.Cond.methodLink "LongYearsLaw" (7 : Nat) ({ cls := "LongYears", name := "look", desc := "(II)I" } : Jvm.MethodName)) ∈ lw_all := lw_g (lw_at lw_m6 135 rfl) rfl
theorem q1504 : (Jvm.Cond.classLink "LongYearsLaw" (18 : Nat) "LongYearsModel") ∈ lw_all := lw_g (lw_at lw_m6 175 rfl) rfl
theorem q1506 : (Jvm.Cond.methodLink "LongYearsLaw" (20 : Nat) ({ cls := "LongYearsModel", name := "<init>", desc := "()V" } : Jvm.MethodName)) ∈ lw_all := lw_g (lw_at lw_m6 177 rfl) rfl
theorem q1754 : (Jvm.Cond.methodLink "LongYearsLaw" (45 : Nat) ({ cls := "LongYearsModel", name := "thrown", desc := "()I" } : Jvm.MethodName)) ∈ lw_all := lw_g (lw_at lw_m7 185 rfl) rfl
theorem q1758 : (Jvm.Cond.methodLink "LongYearsLaw" (25 : Nat) ({ cls := "LongYearsModel", name := "feed", desc := "(IIIII)I" } : Jvm.MethodName)) ∈ lw_all := lw_g (lw_at lw_m7 189 rfl) rfl
theorem q1762 : (Jvm.Cond.methodLink "LongYearsLaw" (30 : Nat) ({ cls := "LongYearsModel", name := "text", desc := "(I)I" } : Jvm.MethodName)) ∈ lw_all := lw_g (lw_at lw_m7 193 rfl) rfl
theorem q1944 : (Jvm.Cond.methodLink "LongYearsLaw" (34 : Nat) ({ cls := "LongYearsModel", name := "fault", desc := "(I)I" } : Jvm.MethodName)) ∈ lw_all := lw_g (lw_at lw_m8 135 rfl) rfl
theorem q1948 : (Jvm.Cond.methodLink "LongYearsLaw" (38 : Nat) ({ cls := "LongYearsModel", name := "named", desc := "(II)I" } : Jvm.MethodName)) ∈ lw_all := lw_g (lw_at lw_m8 139 rfl) rfl
theorem q1952 : (Jvm.Cond.methodLink "LongYearsLaw" (44 : Nat) ({ cls := "LongYearsModel", name := "look", desc := "(II)I" } : Jvm.MethodName)) ∈ lw_all := lw_g (lw_at lw_m8 143 rfl) rfl
theorem q1964 : (Jvm.Cond.methodLink "LongYearsLaw" (53 : Nat) ({ cls := "LongYearsModel", name := "length", desc := "(II)J" } : Jvm.MethodName)) ∈ lw_all := lw_g (lw_at lw_m8 155 rfl) rfl
theorem q1973 : (Jvm.Cond.methodLink "LongYearsLaw" (60 : Nat) ({ cls := "LongYearsModel", name := "date", desc := "(IJI)J" } : Jvm.MethodName)) ∈ lw_all := lw_g (lw_at lw_m8 164 rfl) rfl
theorem q1988 : (Jvm.Cond.methodLink "LongYearsLaw" (65 : Nat) ({ cls := "LongYearsModel", name := "count", desc := "(IIJ)J" } : Jvm.MethodName)) ∈ lw_all := lw_g (lw_at lw_m8 179 rfl) rfl
theorem q1993 : (Jvm.Cond.methodLink "LongYearsLaw" (70 : Nat) ({ cls := "LongYearsModel", name := "round", desc := "(JI)I" } : Jvm.MethodName)) ∈ lw_all := lw_g (lw_at lw_m8 184 rfl) rfl
theorem q2003 : (Jvm.Cond.methodLink "LongYearsLaw" (75 : Nat) ({ cls := "LongYearsModel", name := "feast", desc := "(IJ)I" } : Jvm.MethodName)) ∈ lw_all := lw_g (lw_at lw_m8 194 rfl) rfl
theorem q2031 : (Jvm.Cond.methodLink "LongYearsLaw" (80 : Nat) ({ cls := "LongYearsModel", name := "festive", desc := "(IJ)J" } : Jvm.MethodName)) ∈ lw_all := lw_g (lw_at lw_m8 222 rfl) rfl
theorem q2041 : (Jvm.Cond.methodLink "LongYearsLaw" (84 : Nat) ({ cls := "LongYearsModel", name := "rule", desc := "(IJ)J" } : Jvm.MethodName)) ∈ lw_all := lw_g (lw_at lw_m8 232 rfl) rfl
theorem q2046 : (Jvm.Cond.methodLink "LongYearsLaw" (88 : Nat) ({ cls := "LongYearsModel", name := "life", desc := "(II)J" } : Jvm.MethodName)) ∈ lw_all := lw_g (lw_at lw_m8 237 rfl) rfl
theorem q2054 : (Jvm.Cond.methodLink "LongYearsLaw" (92 : Nat) ({ cls := "LongYearsModel", name := "age", desc := "(IJI)J" } : Jvm.MethodName)) ∈ lw_all := lw_g (lw_at lw_m9 5 rfl) rfl
theorem q2058 : (Jvm.Cond.methodLink "LongYearsLaw" (96 : Nat) ({ cls := "LongYearsModel", name := "elder", desc := "(II)I" } : Jvm.MethodName)) ∈ lw_all := lw_g (lw_at lw_m9 9 rfl) rfl
theorem q2062 : (Jvm.Cond.methodLink "LongYearsLaw" (101 : Nat) ({ cls := "LongYearsModel", name := "often", desc := "(IIIJ)J" } : Jvm.MethodName)) ∈ lw_all := lw_g (lw_at lw_m9 13 rfl) rfl
theorem q2066 : (Jvm.Cond.methodLink "LongYearsLaw" (105 : Nat) ({ cls := "LongYearsModel", name := "springs", desc := "(II)J" } : Jvm.MethodName)) ∈ lw_all := lw_g (lw_at lw_m9 17 rfl) rfl
theorem q2081 : (Jvm.Cond.methodLink "LongYearsLaw" (110 : Nat) ({ cls := "LongYearsModel", name := "many", desc := "(III)I" } : Jvm.MethodName)) ∈ lw_all := lw_g (lw_at lw_m9 32 rfl) rfl
theorem q2086 : (Jvm.Cond.methodLink "LongYearsLaw" (115 : Nat) ({ cls := "LongYearsModel", name := "next", desc := "(JIII)J" } : Jvm.MethodName)) ∈ lw_all := lw_g (lw_at lw_m9 37 rfl) rfl
theorem q2090 : (Jvm.Cond.methodLink "LongYearsLaw" (120 : Nat) ({ cls := "LongYearsModel", name := "alike", desc := "(IIJZ)J" } : Jvm.MethodName)) ∈ lw_all := lw_g (lw_at lw_m9 41 rfl) rfl
theorem q2094 : (Jvm.Cond.methodLink "LongYearsLaw" (125 : Nat) ({ cls := "LongYearsModel", name := "deed", desc := "(III)J" } : Jvm.MethodName)) ∈ lw_all := lw_g (lw_at lw_m9 45 rfl) rfl
theorem q2110 : (Jvm.Cond.methodLink "LongYearsLaw" (130 : Nat) ({ cls := "LongYearsModel", name := "ends", desc := "(IJI)I" } : Jvm.MethodName)) ∈ lw_all := lw_g (lw_at lw_m9 61 rfl) rfl
theorem q2117 : (Jvm.Cond.methodLink "LongYearsLaw" (135 : Nat) ({ cls := "LongYearsModel", name := "hire", desc := "(IJII)J" } : Jvm.MethodName)) ∈ lw_all := lw_g (lw_at lw_m9 68 rfl) rfl
theorem q2121 : (Jvm.Cond.methodLink "LongYearsLaw" (139 : Nat) ({ cls := "LongYearsModel", name := "parts", desc := "(III)I" } : Jvm.MethodName)) ∈ lw_all := lw_g (lw_at lw_m9 72 rfl) rfl
theorem q2125 : (Jvm.Cond.methodLink "LongYearsLaw" (143 : Nat) ({ cls := "LongYearsModel", name := "months", desc := "(III)I" } : Jvm.MethodName)) ∈ lw_all := lw_g (lw_at lw_m9 76 rfl) rfl
theorem q2129 : (Jvm.Cond.methodLink "LongYearsLaw" (147 : Nat) ({ cls := "LongYearsModel", name := "note", desc := "()I" } : Jvm.MethodName)) ∈ lw_all := lw_g (lw_at lw_m9 80 rfl) rfl
theorem q2133 : (Jvm.Cond.methodLink "LongYearsLaw" (152 : Nat) ({ cls := "LongYearsModel", name := "says", desc := "(III)Z" } : Jvm.MethodName)) ∈ lw_all := lw_g (lw_at lw_m9 84 rfl) rfl
theorem q2141 : (Jvm.Cond.methodLink "LongYearsLaw" (156 : Nat) ({ cls := "LongYearsModel", name := "undo", desc := "()I" } : Jvm.MethodName)) ∈ lw_all := lw_g (lw_at lw_m9 92 rfl) rfl
theorem q2145 : (Jvm.Cond.methodLink "LongYearsLaw" (160 : Nat) ({ cls := "LongYearsModel", name := "alone", desc := "(II)I" } : Jvm.MethodName)) ∈ lw_all := lw_g (lw_at lw_m9 96 rfl) rfl
theorem q2165 : (Jvm.Cond.methodLink "LongYearsLaw" (164 : Nat) ({ cls := "LongYearsModel", name := "fits", desc := "(II)I" } : Jvm.MethodName)) ∈ lw_all := lw_g (lw_at lw_m9 116 rfl) rfl
theorem q2189 : (Jvm.Cond.methodLink "LongYearsLaw" (168 : Nat) ({ cls := "LongYearsModel", name := "gap", desc := "()I" } : Jvm.MethodName)) ∈ lw_all := lw_g (lw_at lw_m9 140 rfl) rfl
theorem q2200 : (Jvm.Cond.methodLink "LongYearsLaw" (172 : Nat) ({ cls := "LongYearsModel", name := "told", desc := "(II)I" } : Jvm.MethodName)) ∈ lw_all := lw_g (lw_at lw_m9 151 rfl) rfl
theorem q2204 : (Jvm.Cond.methodLink "LongYearsLaw" (176 : Nat) ({ cls := "LongYearsModel", name := "judged", desc := "()I" } : Jvm.MethodName)) ∈ lw_all := lw_g (lw_at lw_m9 155 rfl) rfl
theorem q2212 : (Jvm.Cond.methodLink "LongYearsLaw" (180 : Nat) ({ cls := "LongYearsModel", name := "forget", desc := "()I" } : Jvm.MethodName)) ∈ lw_all := lw_g (lw_at lw_m9 163 rfl) rfl
theorem q2216 : (Jvm.Cond.methodLink "LongYearsLaw" (184 : Nat) ({ cls := "LongYearsModel", name := "keep", desc := "()I" } : Jvm.MethodName)) ∈ lw_all := lw_g (lw_at lw_m9 167 rfl) rfl
theorem q2220 : (Jvm.Cond.methodLink "LongYearsLaw" (188 : Nat) ({ cls := "LongYearsModel", name := "back", desc := "()I" } : Jvm.MethodName)) ∈ lw_all := lw_g (lw_at lw_m9 171 rfl) rfl
theorem q2224 : (Jvm.Cond.methodLink "LongYearsLaw" (192 : Nat) ({ cls := "LongYearsModel", name := "size", desc := "(I)I" } : Jvm.MethodName)) ∈ lw_all := lw_g (lw_at lw_m9 175 rfl) rfl
theorem q2228 : (Jvm.Cond.constantLong "LongYearsLaw" (54 : Nat) (4294967295 : Int64)) ∈ lw_all := lw_g (lw_at lw_m9 179 rfl) rfl
theorem q130 : (Jvm.Cond.initialized "LongYears") ∈ lw_all := lw_g (lw_at lw_m1 1 rfl) rfl
theorem q169 : (Jvm.Cond.instantiable "LongYears" (27 : Nat)) ∈ lw_all := lw_g (lw_at lw_m1 40 rfl) rfl
theorem q171 : (Jvm.Cond.instanceMethod ({ cls := "LongYears", name := "<init>", desc := "()V" } : Jvm.MethodName)) ∈ lw_all := lw_g (lw_at lw_m1 42 rfl) rfl
theorem q172 : (Jvm.Cond.code ({ cls := "LongYears", name := "<init>", desc := "()V" } : Jvm.MethodName) prog_1_method_3_code (2 : Nat) (Option.none : Option Jvm.ClassFile.FieldType)) ∈ lw_all := lw_g (lw_at lw_m1 43 rfl) rfl
theorem q173 : (Jvm.Cond.methodLink "LongYears" (13 : Nat) ({ cls := "java/lang/Object", name := "<init>", desc := "()V" } : Jvm.MethodName)) ∈ lw_all := lw_g (lw_at lw_m1 44 rfl) rfl
theorem q176 : (Jvm.Cond.classLink "LongYears" (27 : Nat) "LongYears$Reader") ∈ lw_all := lw_g (lw_at lw_m1 47 rfl) rfl
theorem q178 : (Jvm.Cond.methodLinkNest "LongYears" (29 : Nat) ({ cls := "LongYears$Reader", name := "<init>", desc := "(LLongYears;)V" } : Jvm.MethodName) "LongYears") ∈ lw_tbl := lw_at lw_m1 49 rfl
theorem q211 : (Jvm.Cond.classLink "LongYears" (36 : Nat) "LongYears$Realm") ∈ lw_all := lw_g (lw_at lw_m1 82 rfl) rfl
theorem q213 : (Jvm.Cond.methodLinkNest "LongYears" (38 : Nat) ({ cls := "LongYears$Realm", name := "<init>", desc := "()V" } : Jvm.MethodName) "LongYears") ∈ lw_tbl := lw_at lw_m1 84 rfl
theorem q248 : (Jvm.Cond.fieldLinkNest "LongYears" (151 : Nat) "LongYears$Realm" "lands" "Ljava/util/ArrayList;" "LongYears") ∈ lw_tbl := lw_at lw_m1 119 rfl
theorem q251 : (Jvm.Cond.fieldLinkNest "LongYears" (160 : Nat) "LongYears$Realm" "feasts" "Ljava/util/ArrayList;" "LongYears") ∈ lw_tbl := lw_at lw_m1 122 rfl
theorem q254 : (Jvm.Cond.fieldLinkNest "LongYears" (163 : Nat) "LongYears$Realm" "people" "Ljava/util/ArrayList;" "LongYears") ∈ lw_tbl := lw_at lw_m1 125 rfl
theorem q257 : (Jvm.Cond.fieldLinkNest "LongYears" (166 : Nat) "LongYears$Realm" "deeds" "Ljava/util/ArrayList;" "LongYears") ∈ lw_tbl := lw_at lw_m1 128 rfl
theorem q260 : (Jvm.Cond.fieldLinkNest "LongYears" (115 : Nat) "LongYears$Realm" "notes" "Ljava/util/ArrayList;" "LongYears") ∈ lw_tbl := lw_at lw_m1 131 rfl
theorem q264 : (Jvm.Cond.fieldLinkNest "LongYears" (322 : Nat) "LongYears$Realm" "week" "I" "LongYears") ∈ lw_tbl := lw_at lw_m1 135 rfl
theorem q274 : (Jvm.Cond.fieldLinkNest "LongYears" (440 : Nat) "LongYears$Realm" "knots" "I" "LongYears") ∈ lw_tbl := lw_at lw_m1 145 rfl
theorem q275 : (Jvm.Cond.fieldLinkNest "LongYears" (148 : Nat) "LongYears$Realm" "lines" "I" "LongYears") ∈ lw_tbl := lw_at lw_m1 146 rfl
theorem q310 : (Jvm.Cond.classLink "LongYears" (47 : Nat) "LongYears$Note") ∈ lw_all := lw_g (lw_at lw_m1 181 rfl) rfl
theorem q312 : (Jvm.Cond.classLink "LongYears" (72 : Nat) "[[J") ∈ lw_all := lw_g (lw_at lw_m1 183 rfl) rfl
theorem q315 : (Jvm.Cond.methodLink "LongYears" (87 : Nat) ({ cls := "LongYears$Note", name := "<init>", desc := "(I)V" } : Jvm.MethodName)) ∈ lw_all := lw_g (lw_at lw_m1 186 rfl) rfl
theorem q323 : (Jvm.Cond.fieldLinkNest "LongYears" (391 : Nat) "LongYears$Note" "words" "I" "LongYears") ∈ lw_tbl := lw_at lw_m1 194 rfl
theorem q325 : (Jvm.Cond.fieldLinkNest "LongYears" (349 : Nat) "LongYears$Note" "a" "[I" "LongYears") ∈ lw_tbl := lw_at lw_m1 196 rfl
theorem q327 : (Jvm.Cond.fieldLinkNest "LongYears" (352 : Nat) "LongYears$Note" "b" "[I" "LongYears") ∈ lw_tbl := lw_at lw_m1 198 rfl
theorem q342 : (Jvm.Cond.fieldLink "LongYears" (19 : Nat) "LongYears" "tape" "[B") ∈ lw_all := lw_g (lw_at lw_m1 213 rfl) rfl
theorem q343 : (Jvm.Cond.fieldLink "LongYears" (90 : Nat) "LongYears" "taped" "I") ∈ lw_all := lw_g (lw_at lw_m1 214 rfl) rfl
theorem q344 : (Jvm.Cond.fieldLink "LongYears" (100 : Nat) "LongYears" "faultKind" "I") ∈ lw_all := lw_g (lw_at lw_m1 215 rfl) rfl
theorem q345 : (Jvm.Cond.fieldLink "LongYears" (23 : Nat) "LongYears" "faultPlace" "I") ∈ lw_all := lw_g (lw_at lw_m1 216 rfl) rfl
theorem q346 : (Jvm.Cond.fieldLink "LongYears" (32 : Nat) "LongYears" "reader" "LLongYears$Reader;") ∈ lw_all := lw_g (lw_at lw_m1 217 rfl) rfl
theorem q347 : (Jvm.Cond.fieldLink "LongYears" (39 : Nat) "LongYears" "realm" "LLongYears$Realm;") ∈ lw_all := lw_g (lw_at lw_m1 218 rfl) rfl
theorem q348 : (Jvm.Cond.fieldLink "LongYears" (43 : Nat) "LongYears" "names" "[J") ∈ lw_all := lw_g (lw_at lw_m1 219 rfl) rfl
theorem q349 : (Jvm.Cond.fieldLink "LongYears" (49 : Nat) "LongYears" "notes" "[LLongYears$Note;") ∈ lw_all := lw_g (lw_at lw_m1 220 rfl) rfl
theorem q350 : (Jvm.Cond.fieldLink "LongYears" (53 : Nat) "LongYears" "image" "[LLongYears$Note;") ∈ lw_all := lw_g (lw_at lw_m1 221 rfl) rfl
theorem q351 : (Jvm.Cond.fieldLink "LongYears" (124 : Nat) "LongYears" "noteMany" "I") ∈ lw_all := lw_g (lw_at lw_m1 222 rfl) rfl
theorem q352 : (Jvm.Cond.fieldLink "LongYears" (434 : Nat) "LongYears" "imageMany" "I") ∈ lw_all := lw_g (lw_at lw_m1 223 rfl) rfl
theorem q353 : (Jvm.Cond.fieldLink "LongYears" (135 : Nat) "LongYears" "toldMany" "I") ∈ lw_all := lw_g (lw_at lw_m1 224 rfl) rfl
theorem q354 : (Jvm.Cond.fieldLink "LongYears" (437 : Nat) "LongYears" "imageTold" "I") ∈ lw_all := lw_g (lw_at lw_m1 225 rfl) rfl
theorem q355 : (Jvm.Cond.fieldLink "LongYears" (56 : Nat) "LongYears" "undos" "[I") ∈ lw_all := lw_g (lw_at lw_m1 226 rfl) rfl
theorem q356 : (Jvm.Cond.fieldLink "LongYears" (138 : Nat) "LongYears" "undoMany" "I") ∈ lw_all := lw_g (lw_at lw_m1 227 rfl) rfl
theorem q357 : (Jvm.Cond.fieldLink "LongYears" (141 : Nat) "LongYears" "hasImage" "Z") ∈ lw_all := lw_g (lw_at lw_m1 228 rfl) rfl
theorem q358 : (Jvm.Cond.fieldLink "LongYears" (60 : Nat) "LongYears" "toldOf" "[I") ∈ lw_all := lw_g (lw_at lw_m1 229 rfl) rfl
theorem q359 : (Jvm.Cond.fieldLink "LongYears" (63 : Nat) "LongYears" "toldCount" "[I") ∈ lw_all := lw_g (lw_at lw_m1 230 rfl) rfl
theorem q360 : (Jvm.Cond.fieldLink "LongYears" (66 : Nat) "LongYears" "imageOf" "[I") ∈ lw_all := lw_g (lw_at lw_m1 231 rfl) rfl
theorem q361 : (Jvm.Cond.fieldLink "LongYears" (69 : Nat) "LongYears" "imageCount" "[I") ∈ lw_all := lw_g (lw_at lw_m1 232 rfl) rfl
theorem q362 : (Jvm.Cond.fieldLink "LongYears" (74 : Nat) "LongYears" "rows" "[[J") ∈ lw_all := lw_g (lw_at lw_m1 233 rfl) rfl
theorem q363 : (Jvm.Cond.fieldLink "LongYears" (77 : Nat) "LongYears" "isLaid" "[Z") ∈ lw_all := lw_g (lw_at lw_m1 234 rfl) rfl
theorem q364 : (Jvm.Cond.fieldLink "LongYears" (81 : Nat) "LongYears" "root" "[I") ∈ lw_all := lw_g (lw_at lw_m1 235 rfl) rfl
theorem q365 : (Jvm.Cond.fieldLink "LongYears" (84 : Nat) "LongYears" "far" "[I") ∈ lw_all := lw_g (lw_at lw_m1 236 rfl) rfl
theorem q366 : (Jvm.Cond.fieldLink "LongYears" (372 : Nat) "LongYears" "fitMany" "I") ∈ lw_all := lw_g (lw_at lw_m1 237 rfl) rfl
theorem q367 : (Jvm.Cond.fieldLink "LongYears" (375 : Nat) "LongYears" "fitFirst" "I") ∈ lw_all := lw_g (lw_at lw_m1 238 rfl) rfl
theorem q368 : (Jvm.Cond.fieldLink "LongYears" (378 : Nat) "LongYears" "fitLast" "I") ∈ lw_all := lw_g (lw_at lw_m1 239 rfl) rfl
theorem q369 : (Jvm.Cond.laysFinal "LongYears" "LongYears" "tape" "[B") ∈ lw_all := lw_g (lw_at lw_m2 0 rfl) rfl
theorem q370 : (Jvm.Cond.soleField "LongYears" "tape") ∈ lw_all := lw_g (lw_at lw_m2 1 rfl) rfl
theorem q371 : (Jvm.Cond.lays "LongYears" "LongYears" "taped" "I") ∈ lw_all := lw_g (lw_at lw_m2 2 rfl) rfl
theorem q372 : (Jvm.Cond.soleField "LongYears" "taped") ∈ lw_all := lw_g (lw_at lw_m2 3 rfl) rfl
theorem q373 : (Jvm.Cond.lays "LongYears" "LongYears" "faultKind" "I") ∈ lw_all := lw_g (lw_at lw_m2 4 rfl) rfl
theorem q374 : (Jvm.Cond.soleField "LongYears" "faultKind") ∈ lw_all := lw_g (lw_at lw_m2 5 rfl) rfl
theorem q375 : (Jvm.Cond.lays "LongYears" "LongYears" "faultPlace" "I") ∈ lw_all := lw_g (lw_at lw_m2 6 rfl) rfl
theorem q376 : (Jvm.Cond.soleField "LongYears" "faultPlace") ∈ lw_all := lw_g (lw_at lw_m2 7 rfl) rfl
theorem q377 : (Jvm.Cond.laysFinal "LongYears" "LongYears" "reader" "LLongYears$Reader;") ∈ lw_all := lw_g (lw_at lw_m2 8 rfl) rfl
theorem q378 : (Jvm.Cond.soleField "LongYears" "reader") ∈ lw_all := lw_g (lw_at lw_m2 9 rfl) rfl
theorem q379 : (Jvm.Cond.lays "LongYears" "LongYears" "realm" "LLongYears$Realm;") ∈ lw_all := lw_g (lw_at lw_m2 10 rfl) rfl
theorem q380 : (Jvm.Cond.soleField "LongYears" "realm") ∈ lw_all := lw_g (lw_at lw_m2 11 rfl) rfl
theorem q381 : (Jvm.Cond.laysFinal "LongYears" "LongYears" "names" "[J") ∈ lw_all := lw_g (lw_at lw_m2 12 rfl) rfl
theorem q382 : (Jvm.Cond.soleField "LongYears" "names") ∈ lw_all := lw_g (lw_at lw_m2 13 rfl) rfl
theorem q383 : (Jvm.Cond.laysFinal "LongYears" "LongYears" "notes" "[LLongYears$Note;") ∈ lw_all := lw_g (lw_at lw_m2 14 rfl) rfl
theorem q384 : (Jvm.Cond.soleField "LongYears" "notes") ∈ lw_all := lw_g (lw_at lw_m2 15 rfl) rfl
theorem q385 : (Jvm.Cond.laysFinal "LongYears" "LongYears" "image" "[LLongYears$Note;") ∈ lw_all := lw_g (lw_at lw_m2 16 rfl) rfl
theorem q386 : (Jvm.Cond.soleField "LongYears" "image") ∈ lw_all := lw_g (lw_at lw_m2 17 rfl) rfl
theorem q387 : (Jvm.Cond.lays "LongYears" "LongYears" "noteMany" "I") ∈ lw_all := lw_g (lw_at lw_m2 18 rfl) rfl
theorem q388 : (Jvm.Cond.soleField "LongYears" "noteMany") ∈ lw_all := lw_g (lw_at lw_m2 19 rfl) rfl
theorem q389 : (Jvm.Cond.lays "LongYears" "LongYears" "imageMany" "I") ∈ lw_all := lw_g (lw_at lw_m2 20 rfl) rfl
theorem q390 : (Jvm.Cond.soleField "LongYears" "imageMany") ∈ lw_all := lw_g (lw_at lw_m2 21 rfl) rfl
theorem q391 : (Jvm.Cond.lays "LongYears" "LongYears" "toldMany" "I") ∈ lw_all := lw_g (lw_at lw_m2 22 rfl) rfl
theorem q392 : (Jvm.Cond.soleField "LongYears" "toldMany") ∈ lw_all := lw_g (lw_at lw_m2 23 rfl) rfl
theorem q393 : (Jvm.Cond.lays "LongYears" "LongYears" "imageTold" "I") ∈ lw_all := lw_g (lw_at lw_m2 24 rfl) rfl
theorem q394 : (Jvm.Cond.soleField "LongYears" "imageTold") ∈ lw_all := lw_g (lw_at lw_m2 25 rfl) rfl
theorem q395 : (Jvm.Cond.laysFinal "LongYears" "LongYears" "undos" "[I") ∈ lw_all := lw_g (lw_at lw_m2 26 rfl) rfl
theorem q396 : (Jvm.Cond.soleField "LongYears" "undos") ∈ lw_all := lw_g (lw_at lw_m2 27 rfl) rfl
theorem q397 : (Jvm.Cond.lays "LongYears" "LongYears" "undoMany" "I") ∈ lw_all := lw_g (lw_at lw_m2 28 rfl) rfl
theorem q398 : (Jvm.Cond.soleField "LongYears" "undoMany") ∈ lw_all := lw_g (lw_at lw_m2 29 rfl) rfl
theorem q399 : (Jvm.Cond.lays "LongYears" "LongYears" "hasImage" "Z") ∈ lw_all := lw_g (lw_at lw_m2 30 rfl) rfl
theorem q400 : (Jvm.Cond.soleField "LongYears" "hasImage") ∈ lw_all := lw_g (lw_at lw_m2 31 rfl) rfl
theorem q401 : (Jvm.Cond.laysFinal "LongYears" "LongYears" "toldOf" "[I") ∈ lw_all := lw_g (lw_at lw_m2 32 rfl) rfl
theorem q402 : (Jvm.Cond.soleField "LongYears" "toldOf") ∈ lw_all := lw_g (lw_at lw_m2 33 rfl) rfl
theorem q403 : (Jvm.Cond.laysFinal "LongYears" "LongYears" "toldCount" "[I") ∈ lw_all := lw_g (lw_at lw_m2 34 rfl) rfl
theorem q404 : (Jvm.Cond.soleField "LongYears" "toldCount") ∈ lw_all := lw_g (lw_at lw_m2 35 rfl) rfl
theorem q405 : (Jvm.Cond.laysFinal "LongYears" "LongYears" "imageOf" "[I") ∈ lw_all := lw_g (lw_at lw_m2 36 rfl) rfl
theorem q406 : (Jvm.Cond.soleField "LongYears" "imageOf") ∈ lw_all := lw_g (lw_at lw_m2 37 rfl) rfl
theorem q407 : (Jvm.Cond.laysFinal "LongYears" "LongYears" "imageCount" "[I") ∈ lw_all := lw_g (lw_at lw_m2 38 rfl) rfl
theorem q408 : (Jvm.Cond.soleField "LongYears" "imageCount") ∈ lw_all := lw_g (lw_at lw_m2 39 rfl) rfl
theorem q409 : (Jvm.Cond.laysFinal "LongYears" "LongYears" "rows" "[[J") ∈ lw_all := lw_g (lw_at lw_m2 40 rfl) rfl
theorem q410 : (Jvm.Cond.soleField "LongYears" "rows") ∈ lw_all := lw_g (lw_at lw_m2 41 rfl) rfl
theorem q411 : (Jvm.Cond.laysFinal "LongYears" "LongYears" "isLaid" "[Z") ∈ lw_all := lw_g (lw_at lw_m2 42 rfl) rfl
theorem q412 : (Jvm.Cond.soleField "LongYears" "isLaid") ∈ lw_all := lw_g (lw_at lw_m2 43 rfl) rfl
theorem q413 : (Jvm.Cond.laysFinal "LongYears" "LongYears" "root" "[I") ∈ lw_all := lw_g (lw_at lw_m2 44 rfl) rfl
theorem q414 : (Jvm.Cond.soleField "LongYears" "root") ∈ lw_all := lw_g (lw_at lw_m2 45 rfl) rfl
theorem q415 : (Jvm.Cond.laysFinal "LongYears" "LongYears" "far" "[I") ∈ lw_all := lw_g (lw_at lw_m2 46 rfl) rfl
theorem q416 : (Jvm.Cond.soleField "LongYears" "far") ∈ lw_all := lw_g (lw_at lw_m2 47 rfl) rfl
theorem q417 : (Jvm.Cond.lays "LongYears" "LongYears" "fitMany" "I") ∈ lw_all := lw_g (lw_at lw_m2 48 rfl) rfl
theorem q418 : (Jvm.Cond.soleField "LongYears" "fitMany") ∈ lw_all := lw_g (lw_at lw_m2 49 rfl) rfl
theorem q419 : (Jvm.Cond.lays "LongYears" "LongYears" "fitFirst" "I") ∈ lw_all := lw_g (lw_at lw_m2 50 rfl) rfl
theorem q420 : (Jvm.Cond.soleField "LongYears" "fitFirst") ∈ lw_all := lw_g (lw_at lw_m2 51 rfl) rfl
theorem q421 : (Jvm.Cond.lays "LongYears" "LongYears" "fitLast" "I") ∈ lw_all := lw_g (lw_at lw_m2 52 rfl) rfl
theorem q422 : (Jvm.Cond.soleField "LongYears" "fitLast") ∈ lw_all := lw_g (lw_at lw_m2 53 rfl) rfl
theorem q423 : (Jvm.Cond.superclass "LongYears" "java/lang/Object") ∈ lw_all := lw_g (lw_at lw_m2 54 rfl) rfl
theorem q425 : (Jvm.Cond.instanceMethod ({ cls := "LongYears", name := "feed", desc := "(IIIII)I" } : Jvm.MethodName)) ∈ lw_all := lw_g (lw_at lw_m2 56 rfl) rfl
theorem q426 : (Jvm.Cond.selects "LongYears" ({ cls := "LongYears", name := "feed", desc := "(IIIII)I" } : Jvm.MethodName) ({ cls := "LongYears", name := "feed", desc := "(IIIII)I" } : Jvm.MethodName)) ∈ lw_all := lw_g (lw_at lw_m2 57 rfl) rfl
theorem q427 : (Jvm.Cond.code ({ cls := "LongYears", name := "feed", desc := "(IIIII)I" } : Jvm.MethodName) prog_1_method_4_code (6 : Nat) (Option.some Jvm.ClassFile.FieldType.int)) ∈ lw_all := lw_g (lw_at lw_m2 58 rfl) rfl
theorem q428 : (Jvm.Cond.methodLink "LongYears" (93 : Nat) ({ cls := "LongYears", name := "put", desc := "(I)V" } : Jvm.MethodName)) ∈ lw_all := lw_g (lw_at lw_m2 59 rfl) rfl
theorem q429 : (Jvm.Cond.privateMethod ({ cls := "LongYears", name := "put", desc := "(I)V" } : Jvm.MethodName)) ∈ lw_tbl := lw_at lw_m2 60 rfl
theorem q430 : (Jvm.Cond.instanceMethod ({ cls := "LongYears", name := "put", desc := "(I)V" } : Jvm.MethodName)) ∈ lw_all := lw_g (lw_at lw_m2 61 rfl) rfl
theorem q431 : (Jvm.Cond.code ({ cls := "LongYears", name := "put", desc := "(I)V" } : Jvm.MethodName) prog_1_method_5_code (3 : Nat) (Option.none : Option Jvm.ClassFile.FieldType)) ∈ lw_all := lw_g (lw_at lw_m2 62 rfl) rfl
theorem q433 : (Jvm.Cond.instanceMethod ({ cls := "LongYears", name := "text", desc := "(I)I" } : Jvm.MethodName)) ∈ lw_all := lw_g (lw_at lw_m2 64 rfl) rfl
theorem q434 : (Jvm.Cond.selects "LongYears" ({ cls := "LongYears", name := "text", desc := "(I)I" } : Jvm.MethodName) ({ cls := "LongYears", name := "text", desc := "(I)I" } : Jvm.MethodName)) ∈ lw_all := lw_g (lw_at lw_m2 65 rfl) rfl
theorem q435 : (Jvm.Cond.codeWith ({ cls := "LongYears", name := "text", desc := "(I)I" } : Jvm.MethodName) prog_1_method_6_code (3 : Nat) (Option.some Jvm.ClassFile.FieldType.int) [((32 : Nat), (44 : Nat), (47 : Nat), (107 : Nat))]) ∈ lw_all := lw_g (lw_at lw_m2 66 rfl) rfl
theorem q436 : (Jvm.Cond.classLink "LongYears" (107 : Nat) "LongYears$Fault") ∈ lw_all := lw_g (lw_at lw_m2 67 rfl) rfl
theorem q437 : (Jvm.Cond.methodLink "LongYears" (96 : Nat) ({ cls := "LongYears", name := "in", desc := "(JJJ)Z" } : Jvm.MethodName)) ∈ lw_all := lw_g (lw_at lw_m2 68 rfl) rfl
theorem q438 : (Jvm.Cond.static ({ cls := "LongYears", name := "in", desc := "(JJJ)Z" } : Jvm.MethodName)) ∈ lw_all := lw_g (lw_at lw_m2 69 rfl) rfl
theorem q439 : (Jvm.Cond.code ({ cls := "LongYears", name := "in", desc := "(JJJ)Z" } : Jvm.MethodName) prog_1_method_1_code (6 : Nat) (Option.some Jvm.ClassFile.FieldType.boolean)) ∈ lw_all := lw_g (lw_at lw_m2 70 rfl) rfl
theorem q440 : (Jvm.Cond.methodLink "LongYears" (103 : Nat) ({ cls := "LongYears$Reader", name := "read", desc := "(I)LLongYears$Realm;" } : Jvm.MethodName)) ∈ lw_all := lw_g (lw_at lw_m2 71 rfl) rfl
theorem q462 : (Jvm.Cond.laysStatic "LongYears" "NAMES" "[Ljava/lang/String;") ∈ lw_tbl := lw_at lw_m2 93 rfl
theorem q645 : (Jvm.Cond.fieldLinkNest "LongYears" (109 : Nat) "LongYears$Fault" "kind" "I" "LongYears") ∈ lw_tbl := lw_at lw_m3 36 rfl
theorem q647 : (Jvm.Cond.fieldLinkNest "LongYears" (112 : Nat) "LongYears$Fault" "place" "I" "LongYears") ∈ lw_tbl := lw_at lw_m3 38 rfl
theorem q713 : (Jvm.Cond.fieldLinkNest "LongYears" (188 : Nat) "LongYears$Land" "length" "I" "LongYears") ∈ lw_tbl := lw_at lw_m3 104 rfl
theorem q715 : (Jvm.Cond.fieldLinkNest "LongYears" (191 : Nat) "LongYears$Land" "growth" "I" "LongYears") ∈ lw_tbl := lw_at lw_m3 106 rfl
theorem q717 : (Jvm.Cond.fieldLinkNest "LongYears" (194 : Nat) "LongYears$Land" "from" "I" "LongYears") ∈ lw_tbl := lw_at lw_m3 108 rfl
theorem q759 : (Jvm.Cond.selects "LongYears" ({ cls := "java/lang/Object", name := "getClass", desc := "()Ljava/lang/Class;" } : Jvm.MethodName) ({ cls := "java/lang/Object", name := "getClass", desc := "()Ljava/lang/Class;" } : Jvm.MethodName)) ∈ lw_all := lw_g (lw_at lw_m3 150 rfl) rfl
theorem q837 : (Jvm.Cond.fieldLinkNest "LongYears" (276 : Nat) "LongYears$Person" "born" "J" "LongYears") ∈ lw_tbl := lw_at lw_m3 228 rfl
theorem q840 : (Jvm.Cond.fieldLinkNest "LongYears" (280 : Nat) "LongYears$Person" "died" "J" "LongYears") ∈ lw_tbl := lw_at lw_m3 231 rfl
theorem q865 : (Jvm.Cond.fieldLink "LongYears" (328 : Nat) "LongYears$Deed" "count" "J") ∈ lw_all := lw_g (lw_at lw_m4 16 rfl) rfl
theorem q872 : (Jvm.Cond.fieldLinkNest "LongYears" (335 : Nat) "LongYears$Deed" "pay" "I" "LongYears") ∈ lw_tbl := lw_at lw_m4 23 rfl
theorem q1015 : (Jvm.Cond.fieldLinkNest "LongYears" (239 : Nat) "LongYears$Feast" "rule" "LLongYears$Part;" "LongYears") ∈ lw_tbl := lw_at lw_m4 166 rfl
theorem q1020 : (Jvm.Cond.methodLink "LongYears" (118 : Nat) ({ cls := "java/util/ArrayList", name := "size", desc := "()I" } : Jvm.MethodName)) ∈ lw_all := lw_g (lw_at lw_m4 171 rfl) rfl
theorem q1021 : (Jvm.Cond.methodLink "LongYears" (127 : Nat) ({ cls := "java/util/ArrayList", name := "get", desc := "(I)Ljava/lang/Object;" } : Jvm.MethodName)) ∈ lw_all := lw_g (lw_at lw_m4 172 rfl) rfl
theorem q1022 : (Jvm.Cond.methodLink "LongYears" (131 : Nat) ({ cls := "LongYears$Note", name := "become", desc := "(LLongYears$Note;)V" } : Jvm.MethodName)) ∈ lw_all := lw_g (lw_at lw_m4 173 rfl) rfl
theorem q1026 : (Jvm.Cond.methodLink "LongYears" (145 : Nat) ({ cls := "LongYears", name := "forgetRows", desc := "()V" } : Jvm.MethodName)) ∈ lw_all := lw_g (lw_at lw_m4 177 rfl) rfl
theorem q1027 : (Jvm.Cond.privateMethod ({ cls := "LongYears", name := "forgetRows", desc := "()V" } : Jvm.MethodName)) ∈ lw_tbl := lw_at lw_m4 178 rfl
theorem q1028 : (Jvm.Cond.instanceMethod ({ cls := "LongYears", name := "forgetRows", desc := "()V" } : Jvm.MethodName)) ∈ lw_all := lw_g (lw_at lw_m4 179 rfl) rfl
theorem q1029 : (Jvm.Cond.code ({ cls := "LongYears", name := "forgetRows", desc := "()V" } : Jvm.MethodName) prog_1_method_41_code (2 : Nat) (Option.none : Option Jvm.ClassFile.FieldType)) ∈ lw_all := lw_g (lw_at lw_m4 180 rfl) rfl
theorem q1031 : (Jvm.Cond.instanceMethod ({ cls := "LongYears", name := "fault", desc := "(I)I" } : Jvm.MethodName)) ∈ lw_all := lw_g (lw_at lw_m4 182 rfl) rfl
theorem q1032 : (Jvm.Cond.selects "LongYears" ({ cls := "LongYears", name := "fault", desc := "(I)I" } : Jvm.MethodName) ({ cls := "LongYears", name := "fault", desc := "(I)I" } : Jvm.MethodName)) ∈ lw_all := lw_g (lw_at lw_m4 183 rfl) rfl
theorem q1033 : (Jvm.Cond.code ({ cls := "LongYears", name := "fault", desc := "(I)I" } : Jvm.MethodName) prog_1_method_7_code (2 : Nat) (Option.some Jvm.ClassFile.FieldType.int)) ∈ lw_all := lw_g (lw_at lw_m4 184 rfl) rfl
theorem q1035 : (Jvm.Cond.instanceMethod ({ cls := "LongYears", name := "named", desc := "(II)I" } : Jvm.MethodName)) ∈ lw_all := lw_g (lw_at lw_m4 186 rfl) rfl
theorem q1036 : (Jvm.Cond.selects "LongYears" ({ cls := "LongYears", name := "named", desc := "(II)I" } : Jvm.MethodName) ({ cls := "LongYears", name := "named", desc := "(II)I" } : Jvm.MethodName)) ∈ lw_all := lw_g (lw_at lw_m4 187 rfl) rfl
theorem q1037 : (Jvm.Cond.code ({ cls := "LongYears", name := "named", desc := "(II)I" } : Jvm.MethodName) prog_1_method_8_code (3 : Nat) (Option.some Jvm.ClassFile.FieldType.int)) ∈ lw_all := lw_g (lw_at lw_m4 188 rfl) rfl
theorem q1038 : (Jvm.Cond.methodLink "LongYears" (154 : Nat) ({ cls := "LongYears$Named", name := "find", desc := "(Ljava/util/ArrayList;I)I" } : Jvm.MethodName)) ∈ lw_all := lw_g (lw_at lw_m4 189 rfl) rfl
theorem q1040 : (Jvm.Cond.instanceMethod ({ cls := "LongYears", name := "length", desc := "(II)J" } : Jvm.MethodName)) ∈ lw_all := lw_g (lw_at lw_m4 191 rfl) rfl
theorem q1041 : (Jvm.Cond.selects "LongYears" ({ cls := "LongYears", name := "length", desc := "(II)J" } : Jvm.MethodName) ({ cls := "LongYears", name := "length", desc := "(II)J" } : Jvm.MethodName)) ∈ lw_all := lw_g (lw_at lw_m4 192 rfl) rfl
theorem q1042 : (Jvm.Cond.code ({ cls := "LongYears", name := "length", desc := "(II)J" } : Jvm.MethodName) prog_1_method_16_code (3 : Nat) (Option.some Jvm.ClassFile.FieldType.long)) ∈ lw_all := lw_g (lw_at lw_m4 193 rfl) rfl
theorem q1043 : (Jvm.Cond.methodLink "LongYears" (200 : Nat) ({ cls := "LongYears", name := "isYear", desc := "(II)Z" } : Jvm.MethodName)) ∈ lw_all := lw_g (lw_at lw_m4 194 rfl) rfl
theorem q1044 : (Jvm.Cond.privateMethod ({ cls := "LongYears", name := "isYear", desc := "(II)Z" } : Jvm.MethodName)) ∈ lw_tbl := lw_at lw_m4 195 rfl
theorem q1045 : (Jvm.Cond.instanceMethod ({ cls := "LongYears", name := "isYear", desc := "(II)Z" } : Jvm.MethodName)) ∈ lw_all := lw_g (lw_at lw_m4 196 rfl) rfl
theorem q1046 : (Jvm.Cond.code ({ cls := "LongYears", name := "isYear", desc := "(II)Z" } : Jvm.MethodName) prog_1_method_14_code (3 : Nat) (Option.some Jvm.ClassFile.FieldType.boolean)) ∈ lw_all := lw_g (lw_at lw_m4 197 rfl) rfl
theorem q1047 : (Jvm.Cond.methodLink "LongYears" (171 : Nat) ({ cls := "LongYears", name := "isLand", desc := "(I)Z" } : Jvm.MethodName)) ∈ lw_all := lw_g (lw_at lw_m4 198 rfl) rfl
theorem q1048 : (Jvm.Cond.privateMethod ({ cls := "LongYears", name := "isLand", desc := "(I)Z" } : Jvm.MethodName)) ∈ lw_tbl := lw_at lw_m4 199 rfl
theorem q1049 : (Jvm.Cond.instanceMethod ({ cls := "LongYears", name := "isLand", desc := "(I)Z" } : Jvm.MethodName)) ∈ lw_all := lw_g (lw_at lw_m4 200 rfl) rfl
theorem q1050 : (Jvm.Cond.code ({ cls := "LongYears", name := "isLand", desc := "(I)Z" } : Jvm.MethodName) prog_1_method_9_code (2 : Nat) (Option.some Jvm.ClassFile.FieldType.boolean)) ∈ lw_all := lw_g (lw_at lw_m4 201 rfl) rfl
theorem q1051 : (Jvm.Cond.constantLong "LongYears" (175 : Nat) (1000000000 : Int64)) ∈ lw_all := lw_g (lw_at lw_m4 202 rfl) rfl
theorem q1052 : (Jvm.Cond.methodLink "LongYears" (177 : Nat) ({ cls := "LongYears", name := "land", desc := "(I)LLongYears$Land;" } : Jvm.MethodName)) ∈ lw_all := lw_g (lw_at lw_m4 203 rfl) rfl
theorem q1053 : (Jvm.Cond.privateMethod ({ cls := "LongYears", name := "land", desc := "(I)LLongYears$Land;" } : Jvm.MethodName)) ∈ lw_tbl := lw_at lw_m4 204 rfl
theorem q1054 : (Jvm.Cond.instanceMethod ({ cls := "LongYears", name := "land", desc := "(I)LLongYears$Land;" } : Jvm.MethodName)) ∈ lw_all := lw_g (lw_at lw_m4 205 rfl) rfl
theorem q1055 : (Jvm.Cond.code ({ cls := "LongYears", name := "land", desc := "(I)LLongYears$Land;" } : Jvm.MethodName) prog_1_method_10_code (2 : Nat) (Option.some (Jvm.ClassFile.FieldType.object "LongYears$Land"))) ∈ lw_all := lw_g (lw_at lw_m4 206 rfl) rfl
theorem q1056 : (Jvm.Cond.classLink "LongYears" (169 : Nat) "LongYears$Land") ∈ lw_all := lw_g (lw_at lw_m4 207 rfl) rfl
theorem q1057 : (Jvm.Cond.methodLink "LongYears" (181 : Nat) ({ cls := "LongYears$Land", name := "has", desc := "(J)Z" } : Jvm.MethodName)) ∈ lw_all := lw_g (lw_at lw_m4 208 rfl) rfl
theorem q1058 : (Jvm.Cond.methodLink "LongYears" (204 : Nat) ({ cls := "LongYears$Land", name := "length", desc := "(J)J" } : Jvm.MethodName)) ∈ lw_all := lw_g (lw_at lw_m4 209 rfl) rfl
theorem q1059 : (Jvm.Cond.constantLong "LongYears" (207 : Nat) (-1 : Int64)) ∈ lw_all := lw_g (lw_at lw_m4 210 rfl) rfl
theorem q1061 : (Jvm.Cond.instanceMethod ({ cls := "LongYears", name := "date", desc := "(IJI)J" } : Jvm.MethodName)) ∈ lw_all := lw_g (lw_at lw_m4 212 rfl) rfl
theorem q1062 : (Jvm.Cond.selects "LongYears" ({ cls := "LongYears", name := "date", desc := "(IJI)J" } : Jvm.MethodName) ({ cls := "LongYears", name := "date", desc := "(IJI)J" } : Jvm.MethodName)) ∈ lw_all := lw_g (lw_at lw_m4 213 rfl) rfl
theorem q1063 : (Jvm.Cond.code ({ cls := "LongYears", name := "date", desc := "(IJI)J" } : Jvm.MethodName) prog_1_method_17_code (7 : Nat) (Option.some Jvm.ClassFile.FieldType.long)) ∈ lw_all := lw_g (lw_at lw_m4 214 rfl) rfl
theorem q1064 : (Jvm.Cond.methodLink "LongYears" (209 : Nat) ({ cls := "LongYears", name := "isCount", desc := "(J)Z" } : Jvm.MethodName)) ∈ lw_all := lw_g (lw_at lw_m4 215 rfl) rfl
theorem q1065 : (Jvm.Cond.static ({ cls := "LongYears", name := "isCount", desc := "(J)Z" } : Jvm.MethodName)) ∈ lw_all := lw_g (lw_at lw_m4 216 rfl) rfl
theorem q1066 : (Jvm.Cond.code ({ cls := "LongYears", name := "isCount", desc := "(J)Z" } : Jvm.MethodName) prog_1_method_13_code (2 : Nat) (Option.some Jvm.ClassFile.FieldType.boolean)) ∈ lw_all := lw_g (lw_at lw_m4 217 rfl) rfl
theorem q1067 : (Jvm.Cond.constantLong "LongYears" (5 : Nat) (1000000000000 : Int64)) ∈ lw_all := lw_g (lw_at lw_m4 218 rfl) rfl
theorem q1068 : (Jvm.Cond.methodLink "LongYears" (212 : Nat) ({ cls := "LongYears$Land", name := "year", desc := "(J)J" } : Jvm.MethodName)) ∈ lw_all := lw_g (lw_at lw_m4 219 rfl) rfl
theorem q1074 : (Jvm.Cond.methodLink "LongYears" (215 : Nat) ({ cls := "LongYears$Land", name := "day", desc := "(J)J" } : Jvm.MethodName)) ∈ lw_all := lw_g (lw_at lw_m4 225 rfl) rfl
theorem q1080 : (Jvm.Cond.instanceMethod ({ cls := "LongYears", name := "count", desc := "(IIJ)J" } : Jvm.MethodName)) ∈ lw_all := lw_g (lw_at lw_m4 231 rfl) rfl
theorem q1081 : (Jvm.Cond.selects "LongYears" ({ cls := "LongYears", name := "count", desc := "(IIJ)J" } : Jvm.MethodName) ({ cls := "LongYears", name := "count", desc := "(IIJ)J" } : Jvm.MethodName)) ∈ lw_all := lw_g (lw_at lw_m4 232 rfl) rfl
theorem q1082 : (Jvm.Cond.code ({ cls := "LongYears", name := "count", desc := "(IIJ)J" } : Jvm.MethodName) prog_1_method_18_code (5 : Nat) (Option.some Jvm.ClassFile.FieldType.long)) ∈ lw_all := lw_g (lw_at lw_m4 233 rfl) rfl
theorem q1083 : (Jvm.Cond.methodLink "LongYears" (218 : Nat) ({ cls := "LongYears$Land", name := "start", desc := "(J)J" } : Jvm.MethodName)) ∈ lw_all := lw_g (lw_at lw_m4 234 rfl) rfl
theorem q1084 : (Jvm.Cond.methodLink "LongYears" (221 : Nat) ({ cls := "LongYears$Deed", name := "counted", desc := "(J)J" } : Jvm.MethodName)) ∈ lw_all := lw_g (lw_at lw_m4 235 rfl) rfl
theorem q1090 : (Jvm.Cond.instanceMethod ({ cls := "LongYears", name := "round", desc := "(JI)I" } : Jvm.MethodName)) ∈ lw_all := lw_g (lw_at lw_m5 1 rfl) rfl
theorem q1091 : (Jvm.Cond.selects "LongYears" ({ cls := "LongYears", name := "round", desc := "(JI)I" } : Jvm.MethodName) ({ cls := "LongYears", name := "round", desc := "(JI)I" } : Jvm.MethodName)) ∈ lw_all := lw_g (lw_at lw_m5 2 rfl) rfl
theorem q1092 : (Jvm.Cond.code ({ cls := "LongYears", name := "round", desc := "(JI)I" } : Jvm.MethodName) prog_1_method_19_code (4 : Nat) (Option.some Jvm.ClassFile.FieldType.int)) ∈ lw_all := lw_g (lw_at lw_m5 3 rfl) rfl
theorem q1093 : (Jvm.Cond.methodLink "LongYears" (226 : Nat) ({ cls := "LongYears$Realm", name := "week", desc := "(J)I" } : Jvm.MethodName)) ∈ lw_all := lw_g (lw_at lw_m5 4 rfl) rfl
theorem q1097 : (Jvm.Cond.methodLink "LongYears" (230 : Nat) ({ cls := "LongYears$Realm", name := "moon", desc := "(J)I" } : Jvm.MethodName)) ∈ lw_all := lw_g (lw_at lw_m5 8 rfl) rfl
theorem q1102 : (Jvm.Cond.methodLink "LongYears" (233 : Nat) ({ cls := "LongYears$Realm", name := "season", desc := "(J)I" } : Jvm.MethodName)) ∈ lw_all := lw_g (lw_at lw_m5 13 rfl) rfl
theorem q1108 : (Jvm.Cond.instanceMethod ({ cls := "LongYears", name := "feast", desc := "(IJ)I" } : Jvm.MethodName)) ∈ lw_all := lw_g (lw_at lw_m5 19 rfl) rfl
theorem q1109 : (Jvm.Cond.selects "LongYears" ({ cls := "LongYears", name := "feast", desc := "(IJ)I" } : Jvm.MethodName) ({ cls := "LongYears", name := "feast", desc := "(IJ)I" } : Jvm.MethodName)) ∈ lw_all := lw_g (lw_at lw_m5 20 rfl) rfl
theorem q1110 : (Jvm.Cond.code ({ cls := "LongYears", name := "feast", desc := "(IJ)I" } : Jvm.MethodName) prog_1_method_23_code (4 : Nat) (Option.some Jvm.ClassFile.FieldType.int)) ∈ lw_all := lw_g (lw_at lw_m5 21 rfl) rfl
theorem q1111 : (Jvm.Cond.methodLink "LongYears" (265 : Nat) ({ cls := "LongYears", name := "isFeast", desc := "(I)Z" } : Jvm.MethodName)) ∈ lw_all := lw_g (lw_at lw_m5 22 rfl) rfl
theorem q1112 : (Jvm.Cond.privateMethod ({ cls := "LongYears", name := "isFeast", desc := "(I)Z" } : Jvm.MethodName)) ∈ lw_tbl := lw_at lw_m5 23 rfl
theorem q1113 : (Jvm.Cond.instanceMethod ({ cls := "LongYears", name := "isFeast", desc := "(I)Z" } : Jvm.MethodName)) ∈ lw_all := lw_g (lw_at lw_m5 24 rfl) rfl
theorem q1114 : (Jvm.Cond.code ({ cls := "LongYears", name := "isFeast", desc := "(I)Z" } : Jvm.MethodName) prog_1_method_11_code (2 : Nat) (Option.some Jvm.ClassFile.FieldType.boolean)) ∈ lw_all := lw_g (lw_at lw_m5 25 rfl) rfl
theorem q1115 : (Jvm.Cond.methodLink "LongYears" (259 : Nat) ({ cls := "LongYears", name := "isFestive", desc := "(IJ)Z" } : Jvm.MethodName)) ∈ lw_all := lw_g (lw_at lw_m5 26 rfl) rfl
theorem q1116 : (Jvm.Cond.privateMethod ({ cls := "LongYears", name := "isFestive", desc := "(IJ)Z" } : Jvm.MethodName)) ∈ lw_tbl := lw_at lw_m5 27 rfl
theorem q1117 : (Jvm.Cond.instanceMethod ({ cls := "LongYears", name := "isFestive", desc := "(IJ)Z" } : Jvm.MethodName)) ∈ lw_all := lw_g (lw_at lw_m5 28 rfl) rfl
theorem q1118 : (Jvm.Cond.code ({ cls := "LongYears", name := "isFestive", desc := "(IJ)Z" } : Jvm.MethodName) prog_1_method_21_code (6 : Nat) (Option.some Jvm.ClassFile.FieldType.boolean)) ∈ lw_all := lw_g (lw_at lw_m5 29 rfl) rfl
theorem q1119 : (Jvm.Cond.methodLink "LongYears" (253 : Nat) ({ cls := "LongYears", name := "ruled", desc := "(IJ)J" } : Jvm.MethodName)) ∈ lw_all := lw_g (lw_at lw_m5 30 rfl) rfl
theorem q1120 : (Jvm.Cond.privateMethod ({ cls := "LongYears", name := "ruled", desc := "(IJ)J" } : Jvm.MethodName)) ∈ lw_tbl := lw_at lw_m5 31 rfl
theorem q1121 : (Jvm.Cond.instanceMethod ({ cls := "LongYears", name := "ruled", desc := "(IJ)J" } : Jvm.MethodName)) ∈ lw_all := lw_g (lw_at lw_m5 32 rfl) rfl
theorem q1122 : (Jvm.Cond.codeWith ({ cls := "LongYears", name := "ruled", desc := "(IJ)J" } : Jvm.MethodName) prog_1_method_20_code (7 : Nat) (Option.some Jvm.ClassFile.FieldType.long) [((138 : Nat), (162 : Nat), (163 : Nat), (249 : Nat))]) ∈ lw_all := lw_g (lw_at lw_m5 33 rfl) rfl
theorem q1123 : (Jvm.Cond.classLink "LongYears" (249 : Nat) "LongYears$Trouble") ∈ lw_all := lw_g (lw_at lw_m5 34 rfl) rfl
theorem q1124 : (Jvm.Cond.methodLink "LongYears" (236 : Nat) ({ cls := "LongYears$Realm", name := "year", desc := "(J)J" } : Jvm.MethodName)) ∈ lw_all := lw_g (lw_at lw_m5 35 rfl) rfl
theorem q1133 : (Jvm.Cond.classLink "LongYears" (237 : Nat) "LongYears$Feast") ∈ lw_all := lw_g (lw_at lw_m5 44 rfl) rfl
theorem q1134 : (Jvm.Cond.methodLink "LongYears" (243 : Nat) ({ cls := "LongYears$Part", name := "of", desc := "([J)J" } : Jvm.MethodName)) ∈ lw_all := lw_g (lw_at lw_m5 45 rfl) rfl
theorem q1141 : (Jvm.Cond.static ({ cls := "LongYears", name := "sure", desc := "(J)J" } : Jvm.MethodName)) ∈ lw_all := lw_g (lw_at lw_m5 52 rfl) rfl
theorem q1142 : (Jvm.Cond.code ({ cls := "LongYears", name := "sure", desc := "(J)J" } : Jvm.MethodName) prog_1_method_2_code (2 : Nat) (Option.some Jvm.ClassFile.FieldType.long)) ∈ lw_all := lw_g (lw_at lw_m5 53 rfl) rfl
theorem q1143 : (Jvm.Cond.constantLong "LongYears" (7 : Nat) (-1000000000000 : Int64)) ∈ lw_all := lw_g (lw_at lw_m5 54 rfl) rfl
theorem q1144 : (Jvm.Cond.fieldLink "LongYears" (9 : Nat) "LongYears" "TROUBLE" "LLongYears$Trouble;") ∈ lw_all := lw_g (lw_at lw_m5 55 rfl) rfl
theorem q1145 : (Jvm.Cond.laysStatic "LongYears" "TROUBLE" "LLongYears$Trouble;") ∈ lw_tbl := lw_at lw_m5 56 rfl
theorem q1172 : (Jvm.Cond.constantLong "LongYears" (251 : Nat) (-9223372036854775808 : Int64)) ∈ lw_all := lw_g (lw_at lw_m5 83 rfl) rfl
theorem q1174 : (Jvm.Cond.instanceMethod ({ cls := "LongYears", name := "festive", desc := "(IJ)J" } : Jvm.MethodName)) ∈ lw_all := lw_g (lw_at lw_m5 85 rfl) rfl
theorem q1175 : (Jvm.Cond.selects "LongYears" ({ cls := "LongYears", name := "festive", desc := "(IJ)J" } : Jvm.MethodName) ({ cls := "LongYears", name := "festive", desc := "(IJ)J" } : Jvm.MethodName)) ∈ lw_all := lw_g (lw_at lw_m5 86 rfl) rfl
theorem q1176 : (Jvm.Cond.code ({ cls := "LongYears", name := "festive", desc := "(IJ)J" } : Jvm.MethodName) prog_1_method_24_code (4 : Nat) (Option.some Jvm.ClassFile.FieldType.long)) ∈ lw_all := lw_g (lw_at lw_m5 87 rfl) rfl
theorem q1177 : (Jvm.Cond.methodLink "LongYears" (268 : Nat) ({ cls := "LongYears", name := "firstFeast", desc := "(IJ)J" } : Jvm.MethodName)) ∈ lw_all := lw_g (lw_at lw_m5 88 rfl) rfl
theorem q1178 : (Jvm.Cond.privateMethod ({ cls := "LongYears", name := "firstFeast", desc := "(IJ)J" } : Jvm.MethodName)) ∈ lw_tbl := lw_at lw_m5 89 rfl
theorem q1179 : (Jvm.Cond.instanceMethod ({ cls := "LongYears", name := "firstFeast", desc := "(IJ)J" } : Jvm.MethodName)) ∈ lw_all := lw_g (lw_at lw_m5 90 rfl) rfl
theorem q1180 : (Jvm.Cond.code ({ cls := "LongYears", name := "firstFeast", desc := "(IJ)J" } : Jvm.MethodName) prog_1_method_22_code (6 : Nat) (Option.some Jvm.ClassFile.FieldType.long)) ∈ lw_all := lw_g (lw_at lw_m5 91 rfl) rfl
theorem q1181 : (Jvm.Cond.constantLong "LongYears" (257 : Nat) (20000 : Int64)) ∈ lw_all := lw_g (lw_at lw_m5 92 rfl) rfl
theorem q1182 : (Jvm.Cond.constantLong "LongYears" (263 : Nat) (-2 : Int64)) ∈ lw_all := lw_g (lw_at lw_m5 93 rfl) rfl
theorem q1184 : (Jvm.Cond.instanceMethod ({ cls := "LongYears", name := "rule", desc := "(IJ)J" } : Jvm.MethodName)) ∈ lw_all := lw_g (lw_at lw_m5 95 rfl) rfl
theorem q1185 : (Jvm.Cond.selects "LongYears" ({ cls := "LongYears", name := "rule", desc := "(IJ)J" } : Jvm.MethodName) ({ cls := "LongYears", name := "rule", desc := "(IJ)J" } : Jvm.MethodName)) ∈ lw_all := lw_g (lw_at lw_m5 96 rfl) rfl
theorem q1186 : (Jvm.Cond.code ({ cls := "LongYears", name := "rule", desc := "(IJ)J" } : Jvm.MethodName) prog_1_method_25_code (4 : Nat) (Option.some Jvm.ClassFile.FieldType.long)) ∈ lw_all := lw_g (lw_at lw_m5 97 rfl) rfl
theorem q1188 : (Jvm.Cond.instanceMethod ({ cls := "LongYears", name := "life", desc := "(II)J" } : Jvm.MethodName)) ∈ lw_all := lw_g (lw_at lw_m5 99 rfl) rfl
theorem q1189 : (Jvm.Cond.selects "LongYears" ({ cls := "LongYears", name := "life", desc := "(II)J" } : Jvm.MethodName) ({ cls := "LongYears", name := "life", desc := "(II)J" } : Jvm.MethodName)) ∈ lw_all := lw_g (lw_at lw_m5 100 rfl) rfl
theorem q1190 : (Jvm.Cond.code ({ cls := "LongYears", name := "life", desc := "(II)J" } : Jvm.MethodName) prog_1_method_26_code (3 : Nat) (Option.some Jvm.ClassFile.FieldType.long)) ∈ lw_all := lw_g (lw_at lw_m5 101 rfl) rfl
theorem q1191 : (Jvm.Cond.methodLink "LongYears" (271 : Nat) ({ cls := "LongYears", name := "isPerson", desc := "(I)Z" } : Jvm.MethodName)) ∈ lw_all := lw_g (lw_at lw_m5 102 rfl) rfl
theorem q1192 : (Jvm.Cond.privateMethod ({ cls := "LongYears", name := "isPerson", desc := "(I)Z" } : Jvm.MethodName)) ∈ lw_tbl := lw_at lw_m5 103 rfl
theorem q1193 : (Jvm.Cond.instanceMethod ({ cls := "LongYears", name := "isPerson", desc := "(I)Z" } : Jvm.MethodName)) ∈ lw_all := lw_g (lw_at lw_m5 104 rfl) rfl
theorem q1194 : (Jvm.Cond.code ({ cls := "LongYears", name := "isPerson", desc := "(I)Z" } : Jvm.MethodName) prog_1_method_12_code (2 : Nat) (Option.some Jvm.ClassFile.FieldType.boolean)) ∈ lw_all := lw_g (lw_at lw_m5 105 rfl) rfl
theorem q1195 : (Jvm.Cond.classLink "LongYears" (274 : Nat) "LongYears$Person") ∈ lw_all := lw_g (lw_at lw_m5 106 rfl) rfl
theorem q1197 : (Jvm.Cond.instanceMethod ({ cls := "LongYears", name := "age", desc := "(IJI)J" } : Jvm.MethodName)) ∈ lw_all := lw_g (lw_at lw_m5 108 rfl) rfl
theorem q1198 : (Jvm.Cond.selects "LongYears" ({ cls := "LongYears", name := "age", desc := "(IJI)J" } : Jvm.MethodName) ({ cls := "LongYears", name := "age", desc := "(IJI)J" } : Jvm.MethodName)) ∈ lw_all := lw_g (lw_at lw_m5 109 rfl) rfl
theorem q1199 : (Jvm.Cond.code ({ cls := "LongYears", name := "age", desc := "(IJI)J" } : Jvm.MethodName) prog_1_method_27_code (16 : Nat) (Option.some Jvm.ClassFile.FieldType.long)) ∈ lw_all := lw_g (lw_at lw_m5 110 rfl) rfl
theorem q1200 : (Jvm.Cond.methodLink "LongYears" (283 : Nat) ({ cls := "LongYears$Land", name := "lastWith", desc := "(J)J" } : Jvm.MethodName)) ∈ lw_all := lw_g (lw_at lw_m5 111 rfl) rfl
theorem q1204 : (Jvm.Cond.methodLink "LongYears" (286 : Nat) ({ cls := "LongYears$Land", name := "last", desc := "()J" } : Jvm.MethodName)) ∈ lw_all := lw_g (lw_at lw_m5 115 rfl) rfl
theorem q1205 : (Jvm.Cond.methodLink "LongYears" (290 : Nat) ({ cls := "java/lang/Math", name := "min", desc := "(JJ)J" } : Jvm.MethodName)) ∈ lw_all := lw_g (lw_at lw_m5 116 rfl) rfl
theorem q1206 : (Jvm.Cond.methodLink "LongYears" (296 : Nat) ({ cls := "java/lang/Math", name := "max", desc := "(JJ)J" } : Jvm.MethodName)) ∈ lw_all := lw_g (lw_at lw_m5 117 rfl) rfl
theorem q1210 : (Jvm.Cond.instanceMethod ({ cls := "LongYears", name := "elder", desc := "(II)I" } : Jvm.MethodName)) ∈ lw_all := lw_g (lw_at lw_m5 121 rfl) rfl
theorem q1211 : (Jvm.Cond.selects "LongYears" ({ cls := "LongYears", name := "elder", desc := "(II)I" } : Jvm.MethodName) ({ cls := "LongYears", name := "elder", desc := "(II)I" } : Jvm.MethodName)) ∈ lw_all := lw_g (lw_at lw_m5 122 rfl) rfl
theorem q1212 : (Jvm.Cond.code ({ cls := "LongYears", name := "elder", desc := "(II)I" } : Jvm.MethodName) prog_1_method_28_code (3 : Nat) (Option.some Jvm.ClassFile.FieldType.int)) ∈ lw_all := lw_g (lw_at lw_m5 123 rfl) rfl
theorem q1214 : (Jvm.Cond.instanceMethod ({ cls := "LongYears", name := "often", desc := "(IIIJ)J" } : Jvm.MethodName)) ∈ lw_all := lw_g (lw_at lw_m5 125 rfl) rfl
theorem q1215 : (Jvm.Cond.selects "LongYears" ({ cls := "LongYears", name := "often", desc := "(IIIJ)J" } : Jvm.MethodName) ({ cls := "LongYears", name := "often", desc := "(IIIJ)J" } : Jvm.MethodName)) ∈ lw_all := lw_g (lw_at lw_m5 126 rfl) rfl
theorem q1216 : (Jvm.Cond.code ({ cls := "LongYears", name := "often", desc := "(IIIJ)J" } : Jvm.MethodName) prog_1_method_29_code (11 : Nat) (Option.some Jvm.ClassFile.FieldType.long)) ∈ lw_all := lw_g (lw_at lw_m5 127 rfl) rfl
theorem q1217 : (Jvm.Cond.constantLong "LongYears" (299 : Nat) (99000000000 : Int64)) ∈ lw_all := lw_g (lw_at lw_m5 128 rfl) rfl
theorem q1218 : (Jvm.Cond.constantLong "LongYears" (301 : Nat) (9223372036854775807 : Int64)) ∈ lw_all := lw_g (lw_at lw_m5 129 rfl) rfl
theorem q1219 : (Jvm.Cond.methodLink "LongYears" (303 : Nat) ({ cls := "LongYears$Land", name := "firstWith", desc := "(J)J" } : Jvm.MethodName)) ∈ lw_all := lw_g (lw_at lw_m5 130 rfl) rfl
theorem q1224 : (Jvm.Cond.instanceMethod ({ cls := "LongYears", name := "springs", desc := "(II)J" } : Jvm.MethodName)) ∈ lw_all := lw_g (lw_at lw_m5 135 rfl) rfl
theorem q1225 : (Jvm.Cond.selects "LongYears" ({ cls := "LongYears", name := "springs", desc := "(II)J" } : Jvm.MethodName) ({ cls := "LongYears", name := "springs", desc := "(II)J" } : Jvm.MethodName)) ∈ lw_all := lw_g (lw_at lw_m5 136 rfl) rfl
theorem q1226 : (Jvm.Cond.code ({ cls := "LongYears", name := "springs", desc := "(II)J" } : Jvm.MethodName) prog_1_method_32_code (3 : Nat) (Option.some Jvm.ClassFile.FieldType.long)) ∈ lw_all := lw_g (lw_at lw_m5 137 rfl) rfl
theorem q1227 : (Jvm.Cond.methodLink "LongYears" (309 : Nat) ({ cls := "LongYears", name := "isBegun", desc := "(IJ)Z" } : Jvm.MethodName)) ∈ lw_all := lw_g (lw_at lw_m5 138 rfl) rfl
theorem q1228 : (Jvm.Cond.privateMethod ({ cls := "LongYears", name := "isBegun", desc := "(IJ)Z" } : Jvm.MethodName)) ∈ lw_tbl := lw_at lw_m5 139 rfl
theorem q1229 : (Jvm.Cond.instanceMethod ({ cls := "LongYears", name := "isBegun", desc := "(IJ)Z" } : Jvm.MethodName)) ∈ lw_all := lw_g (lw_at lw_m5 140 rfl) rfl
theorem q1230 : (Jvm.Cond.code ({ cls := "LongYears", name := "isBegun", desc := "(IJ)Z" } : Jvm.MethodName) prog_1_method_30_code (4 : Nat) (Option.some Jvm.ClassFile.FieldType.boolean)) ∈ lw_all := lw_g (lw_at lw_m5 141 rfl) rfl
theorem q1231 : (Jvm.Cond.methodLink "LongYears" (312 : Nat) ({ cls := "LongYears", name := "springsIn", desc := "(LLongYears$Land;J)J" } : Jvm.MethodName)) ∈ lw_all := lw_g (lw_at lw_m5 142 rfl) rfl
theorem q1232 : (Jvm.Cond.privateMethod ({ cls := "LongYears", name := "springsIn", desc := "(LLongYears$Land;J)J" } : Jvm.MethodName)) ∈ lw_tbl := lw_at lw_m5 143 rfl
theorem q1233 : (Jvm.Cond.instanceMethod ({ cls := "LongYears", name := "springsIn", desc := "(LLongYears$Land;J)J" } : Jvm.MethodName)) ∈ lw_all := lw_g (lw_at lw_m5 144 rfl) rfl
theorem q1234 : (Jvm.Cond.code ({ cls := "LongYears", name := "springsIn", desc := "(LLongYears$Land;J)J" } : Jvm.MethodName) prog_1_method_31_code (6 : Nat) (Option.some Jvm.ClassFile.FieldType.long)) ∈ lw_all := lw_g (lw_at lw_m5 145 rfl) rfl
theorem q1235 : (Jvm.Cond.methodLink "LongYears" (306 : Nat) ({ cls := "LongYears$Realm", name := "springs", desc := "(J)J" } : Jvm.MethodName)) ∈ lw_all := lw_g (lw_at lw_m5 146 rfl) rfl
theorem q1243 : (Jvm.Cond.instanceMethod ({ cls := "LongYears", name := "many", desc := "(III)I" } : Jvm.MethodName)) ∈ lw_all := lw_g (lw_at lw_m5 154 rfl) rfl
theorem q1244 : (Jvm.Cond.selects "LongYears" ({ cls := "LongYears", name := "many", desc := "(III)I" } : Jvm.MethodName) ({ cls := "LongYears", name := "many", desc := "(III)I" } : Jvm.MethodName)) ∈ lw_all := lw_g (lw_at lw_m5 155 rfl) rfl
theorem q1245 : (Jvm.Cond.code ({ cls := "LongYears", name := "many", desc := "(III)I" } : Jvm.MethodName) prog_1_method_33_code (6 : Nat) (Option.some Jvm.ClassFile.FieldType.int)) ∈ lw_all := lw_g (lw_at lw_m5 156 rfl) rfl
theorem q1246 : (Jvm.Cond.constantLong "LongYears" (316 : Nat) (99 : Int64)) ∈ lw_all := lw_g (lw_at lw_m5 157 rfl) rfl
theorem q1247 : (Jvm.Cond.constantLong "LongYears" (318 : Nat) (1000 : Int64)) ∈ lw_all := lw_g (lw_at lw_m5 158 rfl) rfl
theorem q1249 : (Jvm.Cond.instanceMethod ({ cls := "LongYears", name := "next", desc := "(JIII)J" } : Jvm.MethodName)) ∈ lw_all := lw_g (lw_at lw_m5 160 rfl) rfl
theorem q1250 : (Jvm.Cond.selects "LongYears" ({ cls := "LongYears", name := "next", desc := "(JIII)J" } : Jvm.MethodName) ({ cls := "LongYears", name := "next", desc := "(JIII)J" } : Jvm.MethodName)) ∈ lw_all := lw_g (lw_at lw_m5 161 rfl) rfl
theorem q1251 : (Jvm.Cond.code ({ cls := "LongYears", name := "next", desc := "(JIII)J" } : Jvm.MethodName) prog_1_method_34_code (10 : Nat) (Option.some Jvm.ClassFile.FieldType.long)) ∈ lw_all := lw_g (lw_at lw_m5 162 rfl) rfl
theorem q1252 : (Jvm.Cond.constantLong "LongYears" (320 : Nat) (99999 : Int64)) ∈ lw_all := lw_g (lw_at lw_m5 163 rfl) rfl
theorem q1253 : (Jvm.Cond.constantLong "LongYears" (324 : Nat) (7 : Int64)) ∈ lw_all := lw_g (lw_at lw_m5 164 rfl) rfl
theorem q1255 : (Jvm.Cond.instanceMethod ({ cls := "LongYears", name := "alike", desc := "(IIJZ)J" } : Jvm.MethodName)) ∈ lw_all := lw_g (lw_at lw_m5 166 rfl) rfl
theorem q1256 : (Jvm.Cond.selects "LongYears" ({ cls := "LongYears", name := "alike", desc := "(IIJZ)J" } : Jvm.MethodName) ({ cls := "LongYears", name := "alike", desc := "(IIJZ)J" } : Jvm.MethodName)) ∈ lw_all := lw_g (lw_at lw_m5 167 rfl) rfl
theorem q1257 : (Jvm.Cond.code ({ cls := "LongYears", name := "alike", desc := "(IIJZ)J" } : Jvm.MethodName) prog_1_method_35_code (14 : Nat) (Option.some Jvm.ClassFile.FieldType.long)) ∈ lw_all := lw_g (lw_at lw_m5 168 rfl) rfl
theorem q1259 : (Jvm.Cond.instanceMethod ({ cls := "LongYears", name := "deed", desc := "(III)J" } : Jvm.MethodName)) ∈ lw_all := lw_g (lw_at lw_m5 170 rfl) rfl
theorem q1260 : (Jvm.Cond.selects "LongYears" ({ cls := "LongYears", name := "deed", desc := "(III)J" } : Jvm.MethodName) ({ cls := "LongYears", name := "deed", desc := "(III)J" } : Jvm.MethodName)) ∈ lw_all := lw_g (lw_at lw_m5 171 rfl) rfl
theorem q1261 : (Jvm.Cond.code ({ cls := "LongYears", name := "deed", desc := "(III)J" } : Jvm.MethodName) prog_1_method_36_code (7 : Nat) (Option.some Jvm.ClassFile.FieldType.long)) ∈ lw_all := lw_g (lw_at lw_m5 172 rfl) rfl
theorem q1262 : (Jvm.Cond.constantLong "LongYears" (326 : Nat) (2 : Int64)) ∈ lw_all := lw_g (lw_at lw_m5 173 rfl) rfl
theorem q1263 : (Jvm.Cond.classLink "LongYears" (222 : Nat) "LongYears$Deed") ∈ lw_all := lw_g (lw_at lw_m5 174 rfl) rfl
theorem q1264 : (Jvm.Cond.methodLink "LongYears" (331 : Nat) ({ cls := "LongYears$Deed", name := "due", desc := "(LLongYears;LLongYears$Land;)J" } : Jvm.MethodName)) ∈ lw_all := lw_g (lw_at lw_m5 175 rfl) rfl
theorem q1285 : (Jvm.Cond.methodLink "LongYears" (338 : Nat) ({ cls := "LongYears$Land", name := "ended", desc := "(J)J" } : Jvm.MethodName)) ∈ lw_all := lw_g (lw_at lw_m5 196 rfl) rfl
theorem q1291 : (Jvm.Cond.instanceMethod ({ cls := "LongYears", name := "ends", desc := "(IJI)I" } : Jvm.MethodName)) ∈ lw_all := lw_g (lw_at lw_m5 202 rfl) rfl
theorem q1292 : (Jvm.Cond.selects "LongYears" ({ cls := "LongYears", name := "ends", desc := "(IJI)I" } : Jvm.MethodName) ({ cls := "LongYears", name := "ends", desc := "(IJI)I" } : Jvm.MethodName)) ∈ lw_all := lw_g (lw_at lw_m5 203 rfl) rfl
theorem q1293 : (Jvm.Cond.code ({ cls := "LongYears", name := "ends", desc := "(IJI)I" } : Jvm.MethodName) prog_1_method_37_code (5 : Nat) (Option.some Jvm.ClassFile.FieldType.int)) ∈ lw_all := lw_g (lw_at lw_m5 204 rfl) rfl
theorem q1295 : (Jvm.Cond.instanceMethod ({ cls := "LongYears", name := "hire", desc := "(IJII)J" } : Jvm.MethodName)) ∈ lw_all := lw_g (lw_at lw_m5 206 rfl) rfl
theorem q1296 : (Jvm.Cond.selects "LongYears" ({ cls := "LongYears", name := "hire", desc := "(IJII)J" } : Jvm.MethodName) ({ cls := "LongYears", name := "hire", desc := "(IJII)J" } : Jvm.MethodName)) ∈ lw_all := lw_g (lw_at lw_m5 207 rfl) rfl
theorem q1297 : (Jvm.Cond.code ({ cls := "LongYears", name := "hire", desc := "(IJII)J" } : Jvm.MethodName) prog_1_method_38_code (12 : Nat) (Option.some Jvm.ClassFile.FieldType.long)) ∈ lw_all := lw_g (lw_at lw_m5 208 rfl) rfl
theorem q1298 : (Jvm.Cond.constantLong "LongYears" (341 : Nat) (999 : Int64)) ∈ lw_all := lw_g (lw_at lw_m5 209 rfl) rfl
theorem q1299 : (Jvm.Cond.methodLink "LongYears" (343 : Nat) ({ cls := "LongYears", name := "ends", desc := "(IJI)I" } : Jvm.MethodName)) ∈ lw_all := lw_g (lw_at lw_m5 210 rfl) rfl
theorem q1301 : (Jvm.Cond.instanceMethod ({ cls := "LongYears", name := "parts", desc := "(III)I" } : Jvm.MethodName)) ∈ lw_all := lw_g (lw_at lw_m5 212 rfl) rfl
theorem q1302 : (Jvm.Cond.selects "LongYears" ({ cls := "LongYears", name := "parts", desc := "(III)I" } : Jvm.MethodName) ({ cls := "LongYears", name := "parts", desc := "(III)I" } : Jvm.MethodName)) ∈ lw_all := lw_g (lw_at lw_m5 213 rfl) rfl
theorem q1303 : (Jvm.Cond.code ({ cls := "LongYears", name := "parts", desc := "(III)I" } : Jvm.MethodName) prog_1_method_39_code (7 : Nat) (Option.some Jvm.ClassFile.FieldType.int)) ∈ lw_all := lw_g (lw_at lw_m5 214 rfl) rfl
theorem q1305 : (Jvm.Cond.instanceMethod ({ cls := "LongYears", name := "months", desc := "(III)I" } : Jvm.MethodName)) ∈ lw_all := lw_g (lw_at lw_m5 216 rfl) rfl
theorem q1306 : (Jvm.Cond.selects "LongYears" ({ cls := "LongYears", name := "months", desc := "(III)I" } : Jvm.MethodName) ({ cls := "LongYears", name := "months", desc := "(III)I" } : Jvm.MethodName)) ∈ lw_all := lw_g (lw_at lw_m5 217 rfl) rfl
theorem q1307 : (Jvm.Cond.code ({ cls := "LongYears", name := "months", desc := "(III)I" } : Jvm.MethodName) prog_1_method_40_code (6 : Nat) (Option.some Jvm.ClassFile.FieldType.int)) ∈ lw_all := lw_g (lw_at lw_m5 218 rfl) rfl
theorem q1309 : (Jvm.Cond.instanceMethod ({ cls := "LongYears", name := "note", desc := "()I" } : Jvm.MethodName)) ∈ lw_all := lw_g (lw_at lw_m5 220 rfl) rfl
theorem q1310 : (Jvm.Cond.selects "LongYears" ({ cls := "LongYears", name := "note", desc := "()I" } : Jvm.MethodName) ({ cls := "LongYears", name := "note", desc := "()I" } : Jvm.MethodName)) ∈ lw_all := lw_g (lw_at lw_m5 221 rfl) rfl
theorem q1311 : (Jvm.Cond.code ({ cls := "LongYears", name := "note", desc := "()I" } : Jvm.MethodName) prog_1_method_52_code (1 : Nat) (Option.some Jvm.ClassFile.FieldType.int)) ∈ lw_all := lw_g (lw_at lw_m5 222 rfl) rfl
theorem q1313 : (Jvm.Cond.instanceMethod ({ cls := "LongYears", name := "says", desc := "(III)Z" } : Jvm.MethodName)) ∈ lw_all := lw_g (lw_at lw_m5 224 rfl) rfl
theorem q1314 : (Jvm.Cond.selects "LongYears" ({ cls := "LongYears", name := "says", desc := "(III)Z" } : Jvm.MethodName) ({ cls := "LongYears", name := "says", desc := "(III)Z" } : Jvm.MethodName)) ∈ lw_all := lw_g (lw_at lw_m5 225 rfl) rfl
theorem q1315 : (Jvm.Cond.code ({ cls := "LongYears", name := "says", desc := "(III)Z" } : Jvm.MethodName) prog_1_method_54_code (4 : Nat) (Option.some Jvm.ClassFile.FieldType.boolean)) ∈ lw_all := lw_g (lw_at lw_m5 226 rfl) rfl
theorem q1316 : (Jvm.Cond.methodLink "LongYears" (400 : Nat) ({ cls := "LongYears", name := "isSaying", desc := "(III)Z" } : Jvm.MethodName)) ∈ lw_all := lw_g (lw_at lw_m5 227 rfl) rfl
theorem q1317 : (Jvm.Cond.privateMethod ({ cls := "LongYears", name := "isSaying", desc := "(III)Z" } : Jvm.MethodName)) ∈ lw_tbl := lw_at lw_m5 228 rfl
theorem q1318 : (Jvm.Cond.instanceMethod ({ cls := "LongYears", name := "isSaying", desc := "(III)Z" } : Jvm.MethodName)) ∈ lw_all := lw_g (lw_at lw_m5 229 rfl) rfl
theorem q1319 : (Jvm.Cond.code ({ cls := "LongYears", name := "isSaying", desc := "(III)Z" } : Jvm.MethodName) prog_1_method_53_code (4 : Nat) (Option.some Jvm.ClassFile.FieldType.boolean)) ∈ lw_all := lw_g (lw_at lw_m5 230 rfl) rfl
theorem q1320 : (Jvm.Cond.constantLong "LongYears" (394 : Nat) (9999 : Int64)) ∈ lw_all := lw_g (lw_at lw_m5 231 rfl) rfl
theorem q1321 : (Jvm.Cond.constantLong "LongYears" (396 : Nat) (3 : Int64)) ∈ lw_all := lw_g (lw_at lw_m5 232 rfl) rfl
theorem q1322 : (Jvm.Cond.constantLong "LongYears" (398 : Nat) (-9999 : Int64)) ∈ lw_all := lw_g (lw_at lw_m5 233 rfl) rfl
theorem q1323 : (Jvm.Cond.methodLink "LongYears" (347 : Nat) ({ cls := "LongYears$Note", name := "has", desc := "(I)Z" } : Jvm.MethodName)) ∈ lw_all := lw_g (lw_at lw_m5 234 rfl) rfl
theorem q1324 : (Jvm.Cond.methodLink "LongYears" (403 : Nat) ({ cls := "LongYears$Note", name := "say", desc := "(III)V" } : Jvm.MethodName)) ∈ lw_all := lw_g (lw_at lw_m5 235 rfl) rfl
theorem q1326 : (Jvm.Cond.instanceMethod ({ cls := "LongYears", name := "undo", desc := "()I" } : Jvm.MethodName)) ∈ lw_all := lw_g (lw_at lw_m5 237 rfl) rfl
theorem q1327 : (Jvm.Cond.selects "LongYears" ({ cls := "LongYears", name := "undo", desc := "()I" } : Jvm.MethodName) ({ cls := "LongYears", name := "undo", desc := "()I" } : Jvm.MethodName)) ∈ lw_all := lw_g (lw_at lw_m5 238 rfl) rfl
theorem q1328 : (Jvm.Cond.code ({ cls := "LongYears", name := "undo", desc := "()I" } : Jvm.MethodName) prog_1_method_55_code (1 : Nat) (Option.some Jvm.ClassFile.FieldType.int)) ∈ lw_all := lw_g (lw_at lw_m5 239 rfl) rfl
theorem q1329 : (Jvm.Cond.methodLink "LongYears" (407 : Nat) ({ cls := "java/lang/Math", name := "max", desc := "(II)I" } : Jvm.MethodName)) ∈ lw_all := lw_g (lw_at lw_m6 0 rfl) rfl
theorem q1331 : (Jvm.Cond.instanceMethod ({ cls := "LongYears", name := "alone", desc := "(II)I" } : Jvm.MethodName)) ∈ lw_all := lw_g (lw_at lw_m6 2 rfl) rfl
theorem q1332 : (Jvm.Cond.selects "LongYears" ({ cls := "LongYears", name := "alone", desc := "(II)I" } : Jvm.MethodName) ({ cls := "LongYears", name := "alone", desc := "(II)I" } : Jvm.MethodName)) ∈ lw_all := lw_g (lw_at lw_m6 3 rfl) rfl
theorem q1333 : (Jvm.Cond.code ({ cls := "LongYears", name := "alone", desc := "(II)I" } : Jvm.MethodName) prog_1_method_56_code (3 : Nat) (Option.some Jvm.ClassFile.FieldType.int)) ∈ lw_all := lw_g (lw_at lw_m6 4 rfl) rfl
theorem q1334 : (Jvm.Cond.methodLink "LongYears" (410 : Nat) ({ cls := "LongYears", name := "isNote", desc := "(I)Z" } : Jvm.MethodName)) ∈ lw_all := lw_g (lw_at lw_m6 5 rfl) rfl
theorem q1335 : (Jvm.Cond.privateMethod ({ cls := "LongYears", name := "isNote", desc := "(I)Z" } : Jvm.MethodName)) ∈ lw_tbl := lw_at lw_m6 6 rfl
theorem q1336 : (Jvm.Cond.instanceMethod ({ cls := "LongYears", name := "isNote", desc := "(I)Z" } : Jvm.MethodName)) ∈ lw_all := lw_g (lw_at lw_m6 7 rfl) rfl
theorem q1337 : (Jvm.Cond.code ({ cls := "LongYears", name := "isNote", desc := "(I)Z" } : Jvm.MethodName) prog_1_method_51_code (2 : Nat) (Option.some Jvm.ClassFile.FieldType.boolean)) ∈ lw_all := lw_g (lw_at lw_m6 8 rfl) rfl
theorem q1338 : (Jvm.Cond.methodLink "LongYears" (385 : Nat) ({ cls := "LongYears", name := "link", desc := "(I)V" } : Jvm.MethodName)) ∈ lw_all := lw_g (lw_at lw_m6 9 rfl) rfl
theorem q1339 : (Jvm.Cond.privateMethod ({ cls := "LongYears", name := "link", desc := "(I)V" } : Jvm.MethodName)) ∈ lw_tbl := lw_at lw_m6 10 rfl
theorem q1340 : (Jvm.Cond.instanceMethod ({ cls := "LongYears", name := "link", desc := "(I)V" } : Jvm.MethodName)) ∈ lw_all := lw_g (lw_at lw_m6 11 rfl) rfl
theorem q1341 : (Jvm.Cond.code ({ cls := "LongYears", name := "link", desc := "(I)V" } : Jvm.MethodName) prog_1_method_45_code (3 : Nat) (Option.none : Option Jvm.ClassFile.FieldType)) ∈ lw_all := lw_g (lw_at lw_m6 12 rfl) rfl
theorem q1342 : (Jvm.Cond.methodLink "LongYears" (413 : Nat) ({ cls := "LongYears", name := "fit", desc := "(II)I" } : Jvm.MethodName)) ∈ lw_all := lw_g (lw_at lw_m6 13 rfl) rfl
theorem q1343 : (Jvm.Cond.privateMethod ({ cls := "LongYears", name := "fit", desc := "(II)I" } : Jvm.MethodName)) ∈ lw_tbl := lw_at lw_m6 14 rfl
theorem q1344 : (Jvm.Cond.instanceMethod ({ cls := "LongYears", name := "fit", desc := "(II)I" } : Jvm.MethodName)) ∈ lw_all := lw_g (lw_at lw_m6 15 rfl) rfl
theorem q1345 : (Jvm.Cond.code ({ cls := "LongYears", name := "fit", desc := "(II)I" } : Jvm.MethodName) prog_1_method_47_code (4 : Nat) (Option.some Jvm.ClassFile.FieldType.int)) ∈ lw_all := lw_g (lw_at lw_m6 16 rfl) rfl
theorem q1346 : (Jvm.Cond.methodLink "LongYears" (381 : Nat) ({ cls := "LongYears", name := "holds", desc := "(III)Z" } : Jvm.MethodName)) ∈ lw_all := lw_g (lw_at lw_m6 17 rfl) rfl
theorem q1347 : (Jvm.Cond.privateMethod ({ cls := "LongYears", name := "holds", desc := "(III)Z" } : Jvm.MethodName)) ∈ lw_tbl := lw_at lw_m6 18 rfl
theorem q1348 : (Jvm.Cond.instanceMethod ({ cls := "LongYears", name := "holds", desc := "(III)Z" } : Jvm.MethodName)) ∈ lw_all := lw_g (lw_at lw_m6 19 rfl) rfl
theorem q1349 : (Jvm.Cond.code ({ cls := "LongYears", name := "holds", desc := "(III)Z" } : Jvm.MethodName) prog_1_method_46_code (5 : Nat) (Option.some Jvm.ClassFile.FieldType.boolean)) ∈ lw_all := lw_g (lw_at lw_m6 20 rfl) rfl
theorem q1350 : (Jvm.Cond.methodLink "LongYears" (369 : Nat) ({ cls := "LongYears", name := "can", desc := "(IJ)Z" } : Jvm.MethodName)) ∈ lw_all := lw_g (lw_at lw_m6 21 rfl) rfl
theorem q1351 : (Jvm.Cond.privateMethod ({ cls := "LongYears", name := "can", desc := "(IJ)Z" } : Jvm.MethodName)) ∈ lw_tbl := lw_at lw_m6 22 rfl
theorem q1352 : (Jvm.Cond.instanceMethod ({ cls := "LongYears", name := "can", desc := "(IJ)Z" } : Jvm.MethodName)) ∈ lw_all := lw_g (lw_at lw_m6 23 rfl) rfl
theorem q1353 : (Jvm.Cond.code ({ cls := "LongYears", name := "can", desc := "(IJ)Z" } : Jvm.MethodName) prog_1_method_43_code (4 : Nat) (Option.some Jvm.ClassFile.FieldType.boolean)) ∈ lw_all := lw_g (lw_at lw_m6 24 rfl) rfl
theorem q1354 : (Jvm.Cond.constantLong "LongYears" (358 : Nat) (19999 : Int64)) ∈ lw_all := lw_g (lw_at lw_m6 25 rfl) rfl
theorem q1355 : (Jvm.Cond.methodLink "LongYears" (360 : Nat) ({ cls := "LongYears", name := "lay", desc := "(I)V" } : Jvm.MethodName)) ∈ lw_all := lw_g (lw_at lw_m6 26 rfl) rfl
theorem q1356 : (Jvm.Cond.privateMethod ({ cls := "LongYears", name := "lay", desc := "(I)V" } : Jvm.MethodName)) ∈ lw_tbl := lw_at lw_m6 27 rfl
theorem q1357 : (Jvm.Cond.instanceMethod ({ cls := "LongYears", name := "lay", desc := "(I)V" } : Jvm.MethodName)) ∈ lw_all := lw_g (lw_at lw_m6 28 rfl) rfl
theorem q1358 : (Jvm.Cond.code ({ cls := "LongYears", name := "lay", desc := "(I)V" } : Jvm.MethodName) prog_1_method_44_code (3 : Nat) (Option.none : Option Jvm.ClassFile.FieldType)) ∈ lw_all := lw_g (lw_at lw_m6 29 rfl) rfl
theorem q1359 : (Jvm.Cond.methodLink "LongYears" (365 : Nat) ({ cls := "LongYears", name := "isSaid", desc := "(LLongYears$Note;I)Z" } : Jvm.MethodName)) ∈ lw_all := lw_g (lw_at lw_m6 30 rfl) rfl
theorem q1360 : (Jvm.Cond.privateMethod ({ cls := "LongYears", name := "isSaid", desc := "(LLongYears$Note;I)Z" } : Jvm.MethodName)) ∈ lw_tbl := lw_at lw_m6 31 rfl
theorem q1361 : (Jvm.Cond.instanceMethod ({ cls := "LongYears", name := "isSaid", desc := "(LLongYears$Note;I)Z" } : Jvm.MethodName)) ∈ lw_all := lw_g (lw_at lw_m6 32 rfl) rfl
theorem q1362 : (Jvm.Cond.code ({ cls := "LongYears", name := "isSaid", desc := "(LLongYears$Note;I)Z" } : Jvm.MethodName) prog_1_method_42_code (5 : Nat) (Option.some Jvm.ClassFile.FieldType.boolean)) ∈ lw_all := lw_g (lw_at lw_m6 33 rfl) rfl
theorem q1363 : (Jvm.Cond.methodLink "LongYears" (355 : Nat) ({ cls := "LongYears$Person", name := "isAlive", desc := "(J)Z" } : Jvm.MethodName)) ∈ lw_all := lw_g (lw_at lw_m6 34 rfl) rfl
theorem q1367 : (Jvm.Cond.constantLong "LongYears" (363 : Nat) (63 : Int64)) ∈ lw_all := lw_g (lw_at lw_m6 38 rfl) rfl
theorem q1369 : (Jvm.Cond.instanceMethod ({ cls := "LongYears", name := "fits", desc := "(II)I" } : Jvm.MethodName)) ∈ lw_all := lw_g (lw_at lw_m6 40 rfl) rfl
theorem q1370 : (Jvm.Cond.selects "LongYears" ({ cls := "LongYears", name := "fits", desc := "(II)I" } : Jvm.MethodName) ({ cls := "LongYears", name := "fits", desc := "(II)I" } : Jvm.MethodName)) ∈ lw_all := lw_g (lw_at lw_m6 41 rfl) rfl
theorem q1371 : (Jvm.Cond.code ({ cls := "LongYears", name := "fits", desc := "(II)I" } : Jvm.MethodName) prog_1_method_57_code (3 : Nat) (Option.some Jvm.ClassFile.FieldType.int)) ∈ lw_all := lw_g (lw_at lw_m6 42 rfl) rfl
theorem q1372 : (Jvm.Cond.methodLink "LongYears" (416 : Nat) ({ cls := "LongYears", name := "all", desc := "()I" } : Jvm.MethodName)) ∈ lw_all := lw_g (lw_at lw_m6 43 rfl) rfl
theorem q1373 : (Jvm.Cond.privateMethod ({ cls := "LongYears", name := "all", desc := "()I" } : Jvm.MethodName)) ∈ lw_tbl := lw_at lw_m6 44 rfl
theorem q1374 : (Jvm.Cond.instanceMethod ({ cls := "LongYears", name := "all", desc := "()I" } : Jvm.MethodName)) ∈ lw_all := lw_g (lw_at lw_m6 45 rfl) rfl
theorem q1375 : (Jvm.Cond.code ({ cls := "LongYears", name := "all", desc := "()I" } : Jvm.MethodName) prog_1_method_50_code (1 : Nat) (Option.some Jvm.ClassFile.FieldType.int)) ∈ lw_all := lw_g (lw_at lw_m6 46 rfl) rfl
theorem q1376 : (Jvm.Cond.methodLink "LongYears" (419 : Nat) ({ cls := "LongYears", name := "holdsAll", desc := "(I)Z" } : Jvm.MethodName)) ∈ lw_all := lw_g (lw_at lw_m6 47 rfl) rfl
theorem q1377 : (Jvm.Cond.privateMethod ({ cls := "LongYears", name := "holdsAll", desc := "(I)Z" } : Jvm.MethodName)) ∈ lw_tbl := lw_at lw_m6 48 rfl
theorem q1378 : (Jvm.Cond.instanceMethod ({ cls := "LongYears", name := "holdsAll", desc := "(I)Z" } : Jvm.MethodName)) ∈ lw_all := lw_g (lw_at lw_m6 49 rfl) rfl
theorem q1379 : (Jvm.Cond.code ({ cls := "LongYears", name := "holdsAll", desc := "(I)Z" } : Jvm.MethodName) prog_1_method_48_code (3 : Nat) (Option.some Jvm.ClassFile.FieldType.boolean)) ∈ lw_all := lw_g (lw_at lw_m6 50 rfl) rfl
theorem q1380 : (Jvm.Cond.methodLink "LongYears" (388 : Nat) ({ cls := "LongYears", name := "isFit", desc := "(II)Z" } : Jvm.MethodName)) ∈ lw_all := lw_g (lw_at lw_m6 51 rfl) rfl
theorem q1381 : (Jvm.Cond.privateMethod ({ cls := "LongYears", name := "isFit", desc := "(II)Z" } : Jvm.MethodName)) ∈ lw_tbl := lw_at lw_m6 52 rfl
theorem q1382 : (Jvm.Cond.instanceMethod ({ cls := "LongYears", name := "isFit", desc := "(II)Z" } : Jvm.MethodName)) ∈ lw_all := lw_g (lw_at lw_m6 53 rfl) rfl
theorem q1383 : (Jvm.Cond.code ({ cls := "LongYears", name := "isFit", desc := "(II)Z" } : Jvm.MethodName) prog_1_method_49_code (4 : Nat) (Option.some Jvm.ClassFile.FieldType.boolean)) ∈ lw_all := lw_g (lw_at lw_m6 54 rfl) rfl
theorem q1385 : (Jvm.Cond.instanceMethod ({ cls := "LongYears", name := "gap", desc := "()I" } : Jvm.MethodName)) ∈ lw_all := lw_g (lw_at lw_m6 56 rfl) rfl
theorem q1386 : (Jvm.Cond.selects "LongYears" ({ cls := "LongYears", name := "gap", desc := "()I" } : Jvm.MethodName) ({ cls := "LongYears", name := "gap", desc := "()I" } : Jvm.MethodName)) ∈ lw_all := lw_g (lw_at lw_m6 57 rfl) rfl
theorem q1387 : (Jvm.Cond.code ({ cls := "LongYears", name := "gap", desc := "()I" } : Jvm.MethodName) prog_1_method_59_code (3 : Nat) (Option.some Jvm.ClassFile.FieldType.int)) ∈ lw_all := lw_g (lw_at lw_m6 58 rfl) rfl
theorem q1388 : (Jvm.Cond.methodLink "LongYears" (422 : Nat) ({ cls := "java/lang/Integer", name := "bitCount", desc := "(I)I" } : Jvm.MethodName)) ∈ lw_all := lw_g (lw_at lw_m6 59 rfl) rfl
theorem q1394 : (Jvm.Cond.methodLink "LongYears" (428 : Nat) ({ cls := "LongYears", name := "isOne", desc := "(I)Z" } : Jvm.MethodName)) ∈ lw_all := lw_g (lw_at lw_m6 65 rfl) rfl
theorem q1395 : (Jvm.Cond.privateMethod ({ cls := "LongYears", name := "isOne", desc := "(I)Z" } : Jvm.MethodName)) ∈ lw_tbl := lw_at lw_m6 66 rfl
theorem q1396 : (Jvm.Cond.instanceMethod ({ cls := "LongYears", name := "isOne", desc := "(I)Z" } : Jvm.MethodName)) ∈ lw_all := lw_g (lw_at lw_m6 67 rfl) rfl
theorem q1397 : (Jvm.Cond.code ({ cls := "LongYears", name := "isOne", desc := "(I)Z" } : Jvm.MethodName) prog_1_method_58_code (4 : Nat) (Option.some Jvm.ClassFile.FieldType.boolean)) ∈ lw_all := lw_g (lw_at lw_m6 68 rfl) rfl
theorem q1399 : (Jvm.Cond.instanceMethod ({ cls := "LongYears", name := "told", desc := "(II)I" } : Jvm.MethodName)) ∈ lw_all := lw_g (lw_at lw_m6 70 rfl) rfl
theorem q1400 : (Jvm.Cond.selects "LongYears" ({ cls := "LongYears", name := "told", desc := "(II)I" } : Jvm.MethodName) ({ cls := "LongYears", name := "told", desc := "(II)I" } : Jvm.MethodName)) ∈ lw_all := lw_g (lw_at lw_m6 71 rfl) rfl
theorem q1401 : (Jvm.Cond.code ({ cls := "LongYears", name := "told", desc := "(II)I" } : Jvm.MethodName) prog_1_method_60_code (3 : Nat) (Option.some Jvm.ClassFile.FieldType.int)) ∈ lw_all := lw_g (lw_at lw_m6 72 rfl) rfl
theorem q1403 : (Jvm.Cond.instanceMethod ({ cls := "LongYears", name := "judged", desc := "()I" } : Jvm.MethodName)) ∈ lw_all := lw_g (lw_at lw_m6 74 rfl) rfl
theorem q1404 : (Jvm.Cond.selects "LongYears" ({ cls := "LongYears", name := "judged", desc := "()I" } : Jvm.MethodName) ({ cls := "LongYears", name := "judged", desc := "()I" } : Jvm.MethodName)) ∈ lw_all := lw_g (lw_at lw_m6 75 rfl) rfl
theorem q1405 : (Jvm.Cond.code ({ cls := "LongYears", name := "judged", desc := "()I" } : Jvm.MethodName) prog_1_method_62_code (2 : Nat) (Option.some Jvm.ClassFile.FieldType.int)) ∈ lw_all := lw_g (lw_at lw_m6 76 rfl) rfl
theorem q1406 : (Jvm.Cond.methodLink "LongYears" (431 : Nat) ({ cls := "LongYears", name := "isTrue", desc := "(I)Z" } : Jvm.MethodName)) ∈ lw_all := lw_g (lw_at lw_m6 77 rfl) rfl
theorem q1407 : (Jvm.Cond.privateMethod ({ cls := "LongYears", name := "isTrue", desc := "(I)Z" } : Jvm.MethodName)) ∈ lw_tbl := lw_at lw_m6 78 rfl
theorem q1408 : (Jvm.Cond.instanceMethod ({ cls := "LongYears", name := "isTrue", desc := "(I)Z" } : Jvm.MethodName)) ∈ lw_all := lw_g (lw_at lw_m6 79 rfl) rfl
theorem q1409 : (Jvm.Cond.code ({ cls := "LongYears", name := "isTrue", desc := "(I)Z" } : Jvm.MethodName) prog_1_method_61_code (4 : Nat) (Option.some Jvm.ClassFile.FieldType.boolean)) ∈ lw_all := lw_g (lw_at lw_m6 80 rfl) rfl
theorem q1411 : (Jvm.Cond.instanceMethod ({ cls := "LongYears", name := "forget", desc := "()I" } : Jvm.MethodName)) ∈ lw_all := lw_g (lw_at lw_m6 82 rfl) rfl
theorem q1412 : (Jvm.Cond.selects "LongYears" ({ cls := "LongYears", name := "forget", desc := "()I" } : Jvm.MethodName) ({ cls := "LongYears", name := "forget", desc := "()I" } : Jvm.MethodName)) ∈ lw_all := lw_g (lw_at lw_m6 83 rfl) rfl
theorem q1413 : (Jvm.Cond.code ({ cls := "LongYears", name := "forget", desc := "()I" } : Jvm.MethodName) prog_1_method_63_code (2 : Nat) (Option.some Jvm.ClassFile.FieldType.int)) ∈ lw_all := lw_g (lw_at lw_m6 84 rfl) rfl
theorem q1415 : (Jvm.Cond.instanceMethod ({ cls := "LongYears", name := "keep", desc := "()I" } : Jvm.MethodName)) ∈ lw_all := lw_g (lw_at lw_m6 86 rfl) rfl
theorem q1416 : (Jvm.Cond.selects "LongYears" ({ cls := "LongYears", name := "keep", desc := "()I" } : Jvm.MethodName) ({ cls := "LongYears", name := "keep", desc := "()I" } : Jvm.MethodName)) ∈ lw_all := lw_g (lw_at lw_m6 87 rfl) rfl
theorem q1417 : (Jvm.Cond.code ({ cls := "LongYears", name := "keep", desc := "()I" } : Jvm.MethodName) prog_1_method_64_code (2 : Nat) (Option.some Jvm.ClassFile.FieldType.int)) ∈ lw_all := lw_g (lw_at lw_m6 88 rfl) rfl
theorem q1419 : (Jvm.Cond.instanceMethod ({ cls := "LongYears", name := "back", desc := "()I" } : Jvm.MethodName)) ∈ lw_all := lw_g (lw_at lw_m6 90 rfl) rfl
theorem q1420 : (Jvm.Cond.selects "LongYears" ({ cls := "LongYears", name := "back", desc := "()I" } : Jvm.MethodName) ({ cls := "LongYears", name := "back", desc := "()I" } : Jvm.MethodName)) ∈ lw_all := lw_g (lw_at lw_m6 91 rfl) rfl
theorem q1421 : (Jvm.Cond.code ({ cls := "LongYears", name := "back", desc := "()I" } : Jvm.MethodName) prog_1_method_65_code (2 : Nat) (Option.some Jvm.ClassFile.FieldType.int)) ∈ lw_all := lw_g (lw_at lw_m6 92 rfl) rfl
theorem q1423 : (Jvm.Cond.instanceMethod ({ cls := "LongYears", name := "size", desc := "(I)I" } : Jvm.MethodName)) ∈ lw_all := lw_g (lw_at lw_m6 94 rfl) rfl
theorem q1424 : (Jvm.Cond.selects "LongYears" ({ cls := "LongYears", name := "size", desc := "(I)I" } : Jvm.MethodName) ({ cls := "LongYears", name := "size", desc := "(I)I" } : Jvm.MethodName)) ∈ lw_all := lw_g (lw_at lw_m6 95 rfl) rfl
theorem q1425 : (Jvm.Cond.code ({ cls := "LongYears", name := "size", desc := "(I)I" } : Jvm.MethodName) prog_1_method_66_code (2 : Nat) (Option.some Jvm.ClassFile.FieldType.int)) ∈ lw_all := lw_g (lw_at lw_m6 96 rfl) rfl
theorem q1465 : (Jvm.Cond.instanceMethod ({ cls := "LongYears", name := "look", desc := "(II)I" } : Jvm.MethodName)) ∈ lw_all := lw_g (lw_at lw_m6 136 rfl) rfl
theorem q1466 : (Jvm.Cond.selects "LongYears" ({ cls := "LongYears", name := "look", desc := "(II)I" } : Jvm.MethodName) ({ cls := "LongYears", name := "look", desc := "(II)I" } : Jvm.MethodName)) ∈ lw_all := lw_g (lw_at lw_m6 137 rfl) rfl
theorem q1467 : (Jvm.Cond.code ({ cls := "LongYears", name := "look", desc := "(II)I" } : Jvm.MethodName) prog_1_method_15_code (3 : Nat) (Option.some Jvm.ClassFile.FieldType.int)) ∈ lw_all := lw_g (lw_at lw_m6 138 rfl) rfl
theorem q1468 : (Jvm.Cond.classLink "LongYears" (185 : Nat) "java/lang/IndexOutOfBoundsException") ∈ lw_all := lw_g (lw_at lw_m6 139 rfl) rfl
theorem q1477 : (Jvm.Cond.methodLink "LongYears" (187 : Nat) ({ cls := "java/lang/IndexOutOfBoundsException", name := "<init>", desc := "()V" } : Jvm.MethodName)) ∈ lw_all := lw_g (lw_at lw_m6 148 rfl) rfl
theorem q1489 : (Jvm.Cond.classLink "LongYears" (197 : Nat) "java/util/NoSuchElementException") ∈ lw_all := lw_g (lw_at lw_m6 160 rfl) rfl
theorem q1498 : (Jvm.Cond.methodLink "LongYears" (199 : Nat) ({ cls := "java/util/NoSuchElementException", name := "<init>", desc := "()V" } : Jvm.MethodName)) ∈ lw_all := lw_g (lw_at lw_m6 169 rfl) rfl
theorem q2244 : (Jvm.Cond.castable "LongYears" "java/lang/Object") ∈ lw_tbl := lw_at lw_m9 195 rfl
theorem q2278 : (Jvm.Cond.stringRef "LongYears" (446 : Nat) "land") ∈ lw_tbl := lw_at lw_m9 229 rfl
theorem q2279 : (Jvm.Cond.stringRef "LongYears" (447 : Nat) "person") ∈ lw_tbl := lw_at lw_m9 230 rfl
theorem q2280 : (Jvm.Cond.stringRef "LongYears" (449 : Nat) "deed") ∈ lw_tbl := lw_at lw_m9 231 rfl
theorem q2281 : (Jvm.Cond.stringRef "LongYears" (451 : Nat) "note") ∈ lw_tbl := lw_at lw_m9 232 rfl
theorem q2282 : (Jvm.Cond.stringRef "LongYears" (453 : Nat) "sun") ∈ lw_tbl := lw_at lw_m9 233 rfl
theorem q2283 : (Jvm.Cond.stringRef "LongYears" (455 : Nat) "feast") ∈ lw_tbl := lw_at lw_m9 234 rfl
theorem q2284 : (Jvm.Cond.stringRef "LongYears" (457 : Nat) "week") ∈ lw_tbl := lw_at lw_m9 235 rfl
theorem q2285 : (Jvm.Cond.stringRef "LongYears" (458 : Nat) "moon") ∈ lw_tbl := lw_at lw_m9 236 rfl
theorem q2286 : (Jvm.Cond.stringRef "LongYears" (459 : Nat) "from") ∈ lw_tbl := lw_at lw_m9 237 rfl
theorem q2287 : (Jvm.Cond.stringRef "LongYears" (460 : Nat) "died") ∈ lw_tbl := lw_at lw_m9 238 rfl
theorem q2288 : (Jvm.Cond.stringRef "LongYears" (461 : Nat) "years") ∈ lw_tbl := lw_at lw_m9 239 rfl
theorem q2289 : (Jvm.Cond.stringRef "LongYears" (463 : Nat) "days") ∈ lw_tbl := lw_at lw_m10 0 rfl
theorem q2290 : (Jvm.Cond.stringRef "LongYears" (465 : Nat) "till") ∈ lw_tbl := lw_at lw_m10 1 rfl
theorem q2291 : (Jvm.Cond.stringRef "LongYears" (467 : Nat) "pay") ∈ lw_tbl := lw_at lw_m10 2 rfl
theorem q2292 : (Jvm.Cond.stringRef "LongYears" (468 : Nat) "alive") ∈ lw_tbl := lw_at lw_m10 3 rfl
theorem q2293 : (Jvm.Cond.stringRef "LongYears" (470 : Nat) "after") ∈ lw_tbl := lw_at lw_m10 4 rfl
theorem q2294 : (Jvm.Cond.stringRef "LongYears" (472 : Nat) "or") ∈ lw_tbl := lw_at lw_m10 5 rfl
theorem q2295 : (Jvm.Cond.stringRef "LongYears" (474 : Nat) "and") ∈ lw_tbl := lw_at lw_m10 6 rfl
theorem q2296 : (Jvm.Cond.stringRef "LongYears" (476 : Nat) "not") ∈ lw_tbl := lw_at lw_m10 7 rfl
theorem q2297 : (Jvm.Cond.stringRef "LongYears" (478 : Nat) "day") ∈ lw_tbl := lw_at lw_m10 8 rfl
theorem q2298 : (Jvm.Cond.stringRef "LongYears" (479 : Nat) "year") ∈ lw_tbl := lw_at lw_m10 9 rfl
theorem q2299 : (Jvm.Cond.stringRef "LongYears" (480 : Nat) "season") ∈ lw_tbl := lw_at lw_m10 10 rfl
theorem q2300 : (Jvm.Cond.stringRef "LongYears" (481 : Nat) "length") ∈ lw_tbl := lw_at lw_m10 11 rfl
theorem q131 : (Jvm.Cond.initialized "LongYears$Reader") ∈ lw_all := lw_g (lw_at lw_m1 2 rfl) rfl
theorem q177 : (Jvm.Cond.instantiable "LongYears$Reader" (9 : Nat)) ∈ lw_all := lw_g (lw_at lw_m1 48 rfl) rfl
theorem q179 : (Jvm.Cond.instanceMethod ({ cls := "LongYears$Reader", name := "<init>", desc := "(LLongYears;)V" } : Jvm.MethodName)) ∈ lw_all := lw_g (lw_at lw_m1 50 rfl) rfl
theorem q180 : (Jvm.Cond.code ({ cls := "LongYears$Reader", name := "<init>", desc := "(LLongYears;)V" } : Jvm.MethodName) prog_14_method_1_code (2 : Nat) (Option.none : Option Jvm.ClassFile.FieldType)) ∈ lw_all := lw_g (lw_at lw_m1 51 rfl) rfl
theorem q181 : (Jvm.Cond.methodLink "LongYears$Reader" (9 : Nat) ({ cls := "java/lang/Object", name := "<init>", desc := "()V" } : Jvm.MethodName)) ∈ lw_all := lw_g (lw_at lw_m1 52 rfl) rfl
theorem q182 : (Jvm.Cond.fieldLink "LongYears$Reader" (15 : Nat) "LongYears$Reader" "at" "I") ∈ lw_all := lw_g (lw_at lw_m1 53 rfl) rfl
theorem q183 : (Jvm.Cond.fieldLink "LongYears$Reader" (19 : Nat) "LongYears$Reader" "size" "I") ∈ lw_all := lw_g (lw_at lw_m1 54 rfl) rfl
theorem q184 : (Jvm.Cond.fieldLink "LongYears$Reader" (30 : Nat) "LongYears$Reader" "place" "I") ∈ lw_all := lw_g (lw_at lw_m1 55 rfl) rfl
theorem q185 : (Jvm.Cond.fieldLink "LongYears$Reader" (33 : Nat) "LongYears$Reader" "sort" "I") ∈ lw_all := lw_g (lw_at lw_m1 56 rfl) rfl
theorem q186 : (Jvm.Cond.fieldLink "LongYears$Reader" (47 : Nat) "LongYears$Reader" "value" "I") ∈ lw_all := lw_g (lw_at lw_m1 57 rfl) rfl
theorem q187 : (Jvm.Cond.fieldLink "LongYears$Reader" (106 : Nat) "LongYears$Reader" "open" "I") ∈ lw_all := lw_g (lw_at lw_m1 58 rfl) rfl
theorem q188 : (Jvm.Cond.fieldLink "LongYears$Reader" (109 : Nat) "LongYears$Reader" "told" "I") ∈ lw_all := lw_g (lw_at lw_m1 59 rfl) rfl
theorem q189 : (Jvm.Cond.fieldLink "LongYears$Reader" (115 : Nat) "LongYears$Reader" "made" "LLongYears$Realm;") ∈ lw_all := lw_g (lw_at lw_m1 60 rfl) rfl
theorem q190 : (Jvm.Cond.fieldLink "LongYears$Reader" (3 : Nat) "LongYears$Reader" "this$0" "LLongYears;") ∈ lw_all := lw_g (lw_at lw_m1 61 rfl) rfl
theorem q191 : (Jvm.Cond.lays "LongYears$Reader" "LongYears$Reader" "at" "I") ∈ lw_all := lw_g (lw_at lw_m1 62 rfl) rfl
theorem q192 : (Jvm.Cond.soleField "LongYears$Reader" "at") ∈ lw_all := lw_g (lw_at lw_m1 63 rfl) rfl
theorem q193 : (Jvm.Cond.lays "LongYears$Reader" "LongYears$Reader" "size" "I") ∈ lw_all := lw_g (lw_at lw_m1 64 rfl) rfl
theorem q194 : (Jvm.Cond.soleField "LongYears$Reader" "size") ∈ lw_all := lw_g (lw_at lw_m1 65 rfl) rfl
theorem q195 : (Jvm.Cond.lays "LongYears$Reader" "LongYears$Reader" "place" "I") ∈ lw_all := lw_g (lw_at lw_m1 66 rfl) rfl
theorem q196 : (Jvm.Cond.soleField "LongYears$Reader" "place") ∈ lw_all := lw_g (lw_at lw_m1 67 rfl) rfl
theorem q197 : (Jvm.Cond.lays "LongYears$Reader" "LongYears$Reader" "sort" "I") ∈ lw_all := lw_g (lw_at lw_m1 68 rfl) rfl
theorem q198 : (Jvm.Cond.soleField "LongYears$Reader" "sort") ∈ lw_all := lw_g (lw_at lw_m1 69 rfl) rfl
theorem q199 : (Jvm.Cond.lays "LongYears$Reader" "LongYears$Reader" "value" "I") ∈ lw_all := lw_g (lw_at lw_m1 70 rfl) rfl
theorem q200 : (Jvm.Cond.soleField "LongYears$Reader" "value") ∈ lw_all := lw_g (lw_at lw_m1 71 rfl) rfl
theorem q201 : (Jvm.Cond.lays "LongYears$Reader" "LongYears$Reader" "open" "I") ∈ lw_all := lw_g (lw_at lw_m1 72 rfl) rfl
theorem q202 : (Jvm.Cond.soleField "LongYears$Reader" "open") ∈ lw_all := lw_g (lw_at lw_m1 73 rfl) rfl
theorem q203 : (Jvm.Cond.lays "LongYears$Reader" "LongYears$Reader" "told" "I") ∈ lw_all := lw_g (lw_at lw_m1 74 rfl) rfl
theorem q204 : (Jvm.Cond.soleField "LongYears$Reader" "told") ∈ lw_all := lw_g (lw_at lw_m1 75 rfl) rfl
theorem q205 : (Jvm.Cond.lays "LongYears$Reader" "LongYears$Reader" "made" "LLongYears$Realm;") ∈ lw_all := lw_g (lw_at lw_m1 76 rfl) rfl
theorem q206 : (Jvm.Cond.soleField "LongYears$Reader" "made") ∈ lw_all := lw_g (lw_at lw_m1 77 rfl) rfl
theorem q207 : (Jvm.Cond.laysFinal "LongYears$Reader" "LongYears$Reader" "this$0" "LLongYears;") ∈ lw_all := lw_g (lw_at lw_m1 78 rfl) rfl
theorem q208 : (Jvm.Cond.soleField "LongYears$Reader" "this$0") ∈ lw_all := lw_g (lw_at lw_m1 79 rfl) rfl
theorem q209 : (Jvm.Cond.superclass "LongYears$Reader" "java/lang/Object") ∈ lw_all := lw_g (lw_at lw_m1 80 rfl) rfl
theorem q249 : (Jvm.Cond.fieldLinkNest "LongYears$Reader" (126 : Nat) "LongYears$Realm" "lands" "Ljava/util/ArrayList;" "LongYears") ∈ lw_tbl := lw_at lw_m1 120 rfl
theorem q252 : (Jvm.Cond.fieldLinkNest "LongYears$Reader" (143 : Nat) "LongYears$Realm" "feasts" "Ljava/util/ArrayList;" "LongYears") ∈ lw_tbl := lw_at lw_m1 123 rfl
theorem q255 : (Jvm.Cond.fieldLinkNest "LongYears$Reader" (134 : Nat) "LongYears$Realm" "people" "Ljava/util/ArrayList;" "LongYears") ∈ lw_tbl := lw_at lw_m1 126 rfl
theorem q258 : (Jvm.Cond.fieldLinkNest "LongYears$Reader" (137 : Nat) "LongYears$Realm" "deeds" "Ljava/util/ArrayList;" "LongYears") ∈ lw_tbl := lw_at lw_m1 129 rfl
theorem q261 : (Jvm.Cond.fieldLinkNest "LongYears$Reader" (140 : Nat) "LongYears$Realm" "notes" "Ljava/util/ArrayList;" "LongYears") ∈ lw_tbl := lw_at lw_m1 132 rfl
theorem q263 : (Jvm.Cond.fieldLinkNest "LongYears$Reader" (187 : Nat) "LongYears$Realm" "week" "I" "LongYears") ∈ lw_tbl := lw_at lw_m1 134 rfl
theorem q266 : (Jvm.Cond.fieldLinkNest "LongYears$Reader" (190 : Nat) "LongYears$Realm" "weekAt" "I" "LongYears") ∈ lw_tbl := lw_at lw_m1 137 rfl
theorem q268 : (Jvm.Cond.fieldLinkNest "LongYears$Reader" (199 : Nat) "LongYears$Realm" "moonAt" "I" "LongYears") ∈ lw_tbl := lw_at lw_m1 139 rfl
theorem q270 : (Jvm.Cond.fieldLinkNest "LongYears$Reader" (196 : Nat) "LongYears$Realm" "moonBy" "I" "LongYears") ∈ lw_tbl := lw_at lw_m1 141 rfl
theorem q272 : (Jvm.Cond.fieldLinkNest "LongYears$Reader" (167 : Nat) "LongYears$Realm" "sunBy" "I" "LongYears") ∈ lw_tbl := lw_at lw_m1 143 rfl
theorem q273 : (Jvm.Cond.fieldLinkNest "LongYears$Reader" (278 : Nat) "LongYears$Realm" "knots" "I" "LongYears") ∈ lw_tbl := lw_at lw_m1 144 rfl
theorem q276 : (Jvm.Cond.fieldLinkNest "LongYears$Reader" (202 : Nat) "LongYears$Realm" "lines" "I" "LongYears") ∈ lw_tbl := lw_at lw_m1 147 rfl
theorem q278 : (Jvm.Cond.fieldLinkNest "LongYears$Reader" (193 : Nat) "LongYears$Realm" "moon" "J" "LongYears") ∈ lw_tbl := lw_at lw_m1 149 rfl
theorem q280 : (Jvm.Cond.fieldLinkNest "LongYears$Reader" (158 : Nat) "LongYears$Realm" "sun" "J" "LongYears") ∈ lw_tbl := lw_at lw_m1 151 rfl
theorem q341 : (Jvm.Cond.fieldLinkNest "LongYears$Reader" (22 : Nat) "LongYears" "tape" "[B" "LongYears") ∈ lw_tbl := lw_at lw_m1 212 rfl
theorem q441 : (Jvm.Cond.instanceMethod ({ cls := "LongYears$Reader", name := "read", desc := "(I)LLongYears$Realm;" } : Jvm.MethodName)) ∈ lw_all := lw_g (lw_at lw_m2 72 rfl) rfl
theorem q442 : (Jvm.Cond.selects "LongYears$Reader" ({ cls := "LongYears$Reader", name := "read", desc := "(I)LLongYears$Realm;" } : Jvm.MethodName) ({ cls := "LongYears$Reader", name := "read", desc := "(I)LLongYears$Realm;" } : Jvm.MethodName)) ∈ lw_all := lw_g (lw_at lw_m2 73 rfl) rfl
theorem q443 : (Jvm.Cond.code ({ cls := "LongYears$Reader", name := "read", desc := "(I)LLongYears$Realm;" } : Jvm.MethodName) prog_14_method_14_code (2 : Nat) (Option.some (Jvm.ClassFile.FieldType.object "LongYears$Realm"))) ∈ lw_all := lw_g (lw_at lw_m2 74 rfl) rfl
theorem q444 : (Jvm.Cond.classLink "LongYears$Reader" (112 : Nat) "LongYears$Realm") ∈ lw_all := lw_g (lw_at lw_m2 75 rfl) rfl
theorem q445 : (Jvm.Cond.methodLinkNest "LongYears$Reader" (114 : Nat) ({ cls := "LongYears$Realm", name := "<init>", desc := "()V" } : Jvm.MethodName) "LongYears") ∈ lw_tbl := lw_at lw_m2 76 rfl
theorem q446 : (Jvm.Cond.methodLink "LongYears$Reader" (89 : Nat) ({ cls := "LongYears$Reader", name := "next", desc := "()V" } : Jvm.MethodName)) ∈ lw_all := lw_g (lw_at lw_m2 77 rfl) rfl
theorem q447 : (Jvm.Cond.privateMethod ({ cls := "LongYears$Reader", name := "next", desc := "()V" } : Jvm.MethodName)) ∈ lw_tbl := lw_at lw_m2 78 rfl
theorem q448 : (Jvm.Cond.instanceMethod ({ cls := "LongYears$Reader", name := "next", desc := "()V" } : Jvm.MethodName)) ∈ lw_all := lw_g (lw_at lw_m2 79 rfl) rfl
theorem q449 : (Jvm.Cond.code ({ cls := "LongYears$Reader", name := "next", desc := "()V" } : Jvm.MethodName) prog_14_method_3_code (1 : Nat) (Option.none : Option Jvm.ClassFile.FieldType)) ∈ lw_all := lw_g (lw_at lw_m2 80 rfl) rfl
theorem q450 : (Jvm.Cond.methodLink "LongYears$Reader" (26 : Nat) ({ cls := "LongYears$Reader", name := "here", desc := "()I" } : Jvm.MethodName)) ∈ lw_all := lw_g (lw_at lw_m2 81 rfl) rfl
theorem q451 : (Jvm.Cond.privateMethod ({ cls := "LongYears$Reader", name := "here", desc := "()I" } : Jvm.MethodName)) ∈ lw_tbl := lw_at lw_m2 82 rfl
theorem q452 : (Jvm.Cond.instanceMethod ({ cls := "LongYears$Reader", name := "here", desc := "()I" } : Jvm.MethodName)) ∈ lw_all := lw_g (lw_at lw_m2 83 rfl) rfl
theorem q453 : (Jvm.Cond.code ({ cls := "LongYears$Reader", name := "here", desc := "()I" } : Jvm.MethodName) prog_14_method_2_code (1 : Nat) (Option.some Jvm.ClassFile.FieldType.int)) ∈ lw_all := lw_g (lw_at lw_m2 84 rfl) rfl
theorem q454 : (Jvm.Cond.constantLong "LongYears$Reader" (36 : Nat) (97 : Int64)) ∈ lw_all := lw_g (lw_at lw_m2 85 rfl) rfl
theorem q455 : (Jvm.Cond.constantLong "LongYears$Reader" (38 : Nat) (122 : Int64)) ∈ lw_all := lw_g (lw_at lw_m2 86 rfl) rfl
theorem q456 : (Jvm.Cond.methodLinkNest "LongYears$Reader" (40 : Nat) ({ cls := "LongYears", name := "in", desc := "(JJJ)Z" } : Jvm.MethodName) "LongYears") ∈ lw_tbl := lw_at lw_m2 87 rfl
theorem q457 : (Jvm.Cond.methodLink "LongYears$Reader" (44 : Nat) ({ cls := "LongYears$Reader", name := "word", desc := "()I" } : Jvm.MethodName)) ∈ lw_all := lw_g (lw_at lw_m2 88 rfl) rfl
theorem q458 : (Jvm.Cond.privateMethod ({ cls := "LongYears$Reader", name := "word", desc := "()I" } : Jvm.MethodName)) ∈ lw_tbl := lw_at lw_m2 89 rfl
theorem q459 : (Jvm.Cond.instanceMethod ({ cls := "LongYears$Reader", name := "word", desc := "()I" } : Jvm.MethodName)) ∈ lw_all := lw_g (lw_at lw_m2 90 rfl) rfl
theorem q460 : (Jvm.Cond.code ({ cls := "LongYears$Reader", name := "word", desc := "()I" } : Jvm.MethodName) prog_14_method_5_code (3 : Nat) (Option.some Jvm.ClassFile.FieldType.int)) ∈ lw_all := lw_g (lw_at lw_m2 91 rfl) rfl
theorem q461 : (Jvm.Cond.fieldLinkNest "LongYears$Reader" (69 : Nat) "LongYears" "NAMES" "[Ljava/lang/String;" "LongYears") ∈ lw_tbl := lw_at lw_m2 92 rfl
theorem q463 : (Jvm.Cond.methodLink "LongYears$Reader" (73 : Nat) ({ cls := "java/lang/String", name := "length", desc := "()I" } : Jvm.MethodName)) ∈ lw_all := lw_g (lw_at lw_m2 94 rfl) rfl
theorem q473 : (Jvm.Cond.methodLink "LongYears$Reader" (76 : Nat) ({ cls := "java/lang/String", name := "charAt", desc := "(I)C" } : Jvm.MethodName)) ∈ lw_all := lw_g (lw_at lw_m2 104 rfl) rfl
theorem q511 : (Jvm.Cond.methodLink "LongYears$Reader" (50 : Nat) ({ cls := "LongYears$Reader", name := "name", desc := "()V" } : Jvm.MethodName)) ∈ lw_all := lw_g (lw_at lw_m2 142 rfl) rfl
theorem q512 : (Jvm.Cond.privateMethod ({ cls := "LongYears$Reader", name := "name", desc := "()V" } : Jvm.MethodName)) ∈ lw_tbl := lw_at lw_m2 143 rfl
theorem q513 : (Jvm.Cond.instanceMethod ({ cls := "LongYears$Reader", name := "name", desc := "()V" } : Jvm.MethodName)) ∈ lw_all := lw_g (lw_at lw_m2 144 rfl) rfl
theorem q514 : (Jvm.Cond.code ({ cls := "LongYears$Reader", name := "name", desc := "()V" } : Jvm.MethodName) prog_14_method_6_code (2 : Nat) (Option.none : Option Jvm.ClassFile.FieldType)) ∈ lw_all := lw_g (lw_at lw_m2 145 rfl) rfl
theorem q515 : (Jvm.Cond.constantLong "LongYears$Reader" (53 : Nat) (48 : Int64)) ∈ lw_all := lw_g (lw_at lw_m2 146 rfl) rfl
theorem q516 : (Jvm.Cond.constantLong "LongYears$Reader" (55 : Nat) (57 : Int64)) ∈ lw_all := lw_g (lw_at lw_m2 147 rfl) rfl
theorem q517 : (Jvm.Cond.constant "LongYears$Reader" (57 : Nat) (99999 : Int32)) ∈ lw_all := lw_g (lw_at lw_m2 148 rfl) rfl
theorem q518 : (Jvm.Cond.methodLink "LongYears$Reader" (58 : Nat) ({ cls := "LongYears$Reader", name := "sign", desc := "()V" } : Jvm.MethodName)) ∈ lw_all := lw_g (lw_at lw_m2 149 rfl) rfl
theorem q519 : (Jvm.Cond.privateMethod ({ cls := "LongYears$Reader", name := "sign", desc := "()V" } : Jvm.MethodName)) ∈ lw_tbl := lw_at lw_m2 150 rfl
theorem q520 : (Jvm.Cond.instanceMethod ({ cls := "LongYears$Reader", name := "sign", desc := "()V" } : Jvm.MethodName)) ∈ lw_all := lw_g (lw_at lw_m2 151 rfl) rfl
theorem q521 : (Jvm.Cond.code ({ cls := "LongYears$Reader", name := "sign", desc := "()V" } : Jvm.MethodName) prog_14_method_4_code (2 : Nat) (Option.none : Option Jvm.ClassFile.FieldType)) ∈ lw_all := lw_g (lw_at lw_m2 152 rfl) rfl
theorem q522 : (Jvm.Cond.stringRef "LongYears$Reader" (61 : Nat) ";()+-*/%<=>") ∈ lw_tbl := lw_at lw_m2 153 rfl
theorem q523 : (Jvm.Cond.methodLink "LongYears$Reader" (63 : Nat) ({ cls := "java/lang/String", name := "indexOf", desc := "(I)I" } : Jvm.MethodName)) ∈ lw_all := lw_g (lw_at lw_m2 154 rfl) rfl
theorem q582 : (Jvm.Cond.methodLink "LongYears$Reader" (119 : Nat) ({ cls := "LongYears$Reader", name := "line", desc := "()V" } : Jvm.MethodName)) ∈ lw_all := lw_g (lw_at lw_m2 213 rfl) rfl
theorem q583 : (Jvm.Cond.privateMethod ({ cls := "LongYears$Reader", name := "line", desc := "()V" } : Jvm.MethodName)) ∈ lw_tbl := lw_at lw_m2 214 rfl
theorem q584 : (Jvm.Cond.instanceMethod ({ cls := "LongYears$Reader", name := "line", desc := "()V" } : Jvm.MethodName)) ∈ lw_all := lw_g (lw_at lw_m2 215 rfl) rfl
theorem q585 : (Jvm.Cond.code ({ cls := "LongYears$Reader", name := "line", desc := "()V" } : Jvm.MethodName) prog_14_method_15_code (2 : Nat) (Option.none : Option Jvm.ClassFile.FieldType)) ∈ lw_all := lw_g (lw_at lw_m2 216 rfl) rfl
theorem q586 : (Jvm.Cond.methodLink "LongYears$Reader" (122 : Nat) ({ cls := "LongYears$Reader", name := "isWord", desc := "(II)Z" } : Jvm.MethodName)) ∈ lw_all := lw_g (lw_at lw_m2 217 rfl) rfl
theorem q587 : (Jvm.Cond.privateMethod ({ cls := "LongYears$Reader", name := "isWord", desc := "(II)Z" } : Jvm.MethodName)) ∈ lw_tbl := lw_at lw_m2 218 rfl
theorem q588 : (Jvm.Cond.instanceMethod ({ cls := "LongYears$Reader", name := "isWord", desc := "(II)Z" } : Jvm.MethodName)) ∈ lw_all := lw_g (lw_at lw_m2 219 rfl) rfl
theorem q589 : (Jvm.Cond.code ({ cls := "LongYears$Reader", name := "isWord", desc := "(II)Z" } : Jvm.MethodName) prog_14_method_8_code (3 : Nat) (Option.some Jvm.ClassFile.FieldType.boolean)) ∈ lw_all := lw_g (lw_at lw_m2 220 rfl) rfl
theorem q590 : (Jvm.Cond.methodLink "LongYears$Reader" (85 : Nat) ({ cls := "LongYears$Reader", name := "wrong", desc := "(I)LLongYears$Fault;" } : Jvm.MethodName)) ∈ lw_all := lw_g (lw_at lw_m2 221 rfl) rfl
theorem q591 : (Jvm.Cond.privateMethod ({ cls := "LongYears$Reader", name := "wrong", desc := "(I)LLongYears$Fault;" } : Jvm.MethodName)) ∈ lw_tbl := lw_at lw_m2 222 rfl
theorem q592 : (Jvm.Cond.instanceMethod ({ cls := "LongYears$Reader", name := "wrong", desc := "(I)LLongYears$Fault;" } : Jvm.MethodName)) ∈ lw_all := lw_g (lw_at lw_m2 223 rfl) rfl
theorem q593 : (Jvm.Cond.code ({ cls := "LongYears$Reader", name := "wrong", desc := "(I)LLongYears$Fault;" } : Jvm.MethodName) prog_14_method_7_code (2 : Nat) (Option.some (Jvm.ClassFile.FieldType.object "LongYears$Fault"))) ∈ lw_all := lw_g (lw_at lw_m2 224 rfl) rfl
theorem q594 : (Jvm.Cond.classLink "LongYears$Reader" (80 : Nat) "LongYears$Fault") ∈ lw_all := lw_g (lw_at lw_m2 225 rfl) rfl
theorem q635 : (Jvm.Cond.methodLink "LongYears$Reader" (82 : Nat) ({ cls := "LongYears$Fault", name := "<init>", desc := "(II)V" } : Jvm.MethodName)) ∈ lw_all := lw_g (lw_at lw_m3 26 rfl) rfl
theorem q665 : (Jvm.Cond.methodLink "LongYears$Reader" (130 : Nat) ({ cls := "java/util/ArrayList", name := "size", desc := "()I" } : Jvm.MethodName)) ∈ lw_all := lw_g (lw_at lw_m3 56 rfl) rfl
theorem q669 : (Jvm.Cond.methodLink "LongYears$Reader" (146 : Nat) ({ cls := "LongYears$Reader", name := "land", desc := "()V" } : Jvm.MethodName)) ∈ lw_all := lw_g (lw_at lw_m3 60 rfl) rfl
theorem q670 : (Jvm.Cond.privateMethod ({ cls := "LongYears$Reader", name := "land", desc := "()V" } : Jvm.MethodName)) ∈ lw_tbl := lw_at lw_m3 61 rfl
theorem q671 : (Jvm.Cond.instanceMethod ({ cls := "LongYears$Reader", name := "land", desc := "()V" } : Jvm.MethodName)) ∈ lw_all := lw_g (lw_at lw_m3 62 rfl) rfl
theorem q672 : (Jvm.Cond.code ({ cls := "LongYears$Reader", name := "land", desc := "()V" } : Jvm.MethodName) prog_14_method_16_code (2 : Nat) (Option.none : Option Jvm.ClassFile.FieldType)) ∈ lw_all := lw_g (lw_at lw_m3 63 rfl) rfl
theorem q673 : (Jvm.Cond.classLink "LongYears$Reader" (205 : Nat) "LongYears$Land") ∈ lw_all := lw_g (lw_at lw_m3 64 rfl) rfl
theorem q675 : (Jvm.Cond.methodLink "LongYears$Reader" (172 : Nat) ({ cls := "LongYears$Reader", name := "fresh", desc := "(Ljava/util/ArrayList;)I" } : Jvm.MethodName)) ∈ lw_all := lw_g (lw_at lw_m3 66 rfl) rfl
theorem q676 : (Jvm.Cond.privateMethod ({ cls := "LongYears$Reader", name := "fresh", desc := "(Ljava/util/ArrayList;)I" } : Jvm.MethodName)) ∈ lw_tbl := lw_at lw_m3 67 rfl
theorem q677 : (Jvm.Cond.instanceMethod ({ cls := "LongYears$Reader", name := "fresh", desc := "(Ljava/util/ArrayList;)I" } : Jvm.MethodName)) ∈ lw_all := lw_g (lw_at lw_m3 68 rfl) rfl
theorem q678 : (Jvm.Cond.code ({ cls := "LongYears$Reader", name := "fresh", desc := "(Ljava/util/ArrayList;)I" } : Jvm.MethodName) prog_14_method_12_code (3 : Nat) (Option.some Jvm.ClassFile.FieldType.int)) ∈ lw_all := lw_g (lw_at lw_m3 69 rfl) rfl
theorem q679 : (Jvm.Cond.methodLink "LongYears$Reader" (100 : Nat) ({ cls := "LongYears$Named", name := "find", desc := "(Ljava/util/ArrayList;I)I" } : Jvm.MethodName)) ∈ lw_all := lw_g (lw_at lw_m3 70 rfl) rfl
theorem q696 : (Jvm.Cond.methodLink "LongYears$Reader" (96 : Nat) ({ cls := "LongYears$Reader", name := "number", desc := "(II)I" } : Jvm.MethodName)) ∈ lw_all := lw_g (lw_at lw_m3 87 rfl) rfl
theorem q697 : (Jvm.Cond.privateMethod ({ cls := "LongYears$Reader", name := "number", desc := "(II)I" } : Jvm.MethodName)) ∈ lw_tbl := lw_at lw_m3 88 rfl
theorem q698 : (Jvm.Cond.instanceMethod ({ cls := "LongYears$Reader", name := "number", desc := "(II)I" } : Jvm.MethodName)) ∈ lw_all := lw_g (lw_at lw_m3 89 rfl) rfl
theorem q699 : (Jvm.Cond.code ({ cls := "LongYears$Reader", name := "number", desc := "(II)I" } : Jvm.MethodName) prog_14_method_10_code (4 : Nat) (Option.some Jvm.ClassFile.FieldType.int)) ∈ lw_all := lw_g (lw_at lw_m3 90 rfl) rfl
theorem q700 : (Jvm.Cond.methodLink "LongYears$Reader" (207 : Nat) ({ cls := "LongYears$Reader", name := "signed", desc := "(I)I" } : Jvm.MethodName)) ∈ lw_all := lw_g (lw_at lw_m3 91 rfl) rfl
theorem q701 : (Jvm.Cond.privateMethod ({ cls := "LongYears$Reader", name := "signed", desc := "(I)I" } : Jvm.MethodName)) ∈ lw_tbl := lw_at lw_m3 92 rfl
theorem q702 : (Jvm.Cond.instanceMethod ({ cls := "LongYears$Reader", name := "signed", desc := "(I)I" } : Jvm.MethodName)) ∈ lw_all := lw_g (lw_at lw_m3 93 rfl) rfl
theorem q703 : (Jvm.Cond.code ({ cls := "LongYears$Reader", name := "signed", desc := "(I)I" } : Jvm.MethodName) prog_14_method_11_code (4 : Nat) (Option.some Jvm.ClassFile.FieldType.int)) ∈ lw_all := lw_g (lw_at lw_m3 94 rfl) rfl
theorem q704 : (Jvm.Cond.methodLink "LongYears$Reader" (92 : Nat) ({ cls := "LongYears$Reader", name := "isSign", desc := "(I)Z" } : Jvm.MethodName)) ∈ lw_all := lw_g (lw_at lw_m3 95 rfl) rfl
theorem q705 : (Jvm.Cond.privateMethod ({ cls := "LongYears$Reader", name := "isSign", desc := "(I)Z" } : Jvm.MethodName)) ∈ lw_tbl := lw_at lw_m3 96 rfl
theorem q706 : (Jvm.Cond.instanceMethod ({ cls := "LongYears$Reader", name := "isSign", desc := "(I)Z" } : Jvm.MethodName)) ∈ lw_all := lw_g (lw_at lw_m3 97 rfl) rfl
theorem q707 : (Jvm.Cond.code ({ cls := "LongYears$Reader", name := "isSign", desc := "(I)Z" } : Jvm.MethodName) prog_14_method_9_code (2 : Nat) (Option.some Jvm.ClassFile.FieldType.boolean)) ∈ lw_all := lw_g (lw_at lw_m3 98 rfl) rfl
theorem q708 : (Jvm.Cond.methodLink "LongYears$Reader" (210 : Nat) ({ cls := "LongYears$Land", name := "<init>", desc := "(III)V" } : Jvm.MethodName)) ∈ lw_all := lw_g (lw_at lw_m3 99 rfl) rfl
theorem q718 : (Jvm.Cond.fieldLinkNest "LongYears$Reader" (213 : Nat) "LongYears$Land" "from" "I" "LongYears") ∈ lw_tbl := lw_at lw_m3 109 rfl
theorem q727 : (Jvm.Cond.methodLink "LongYears$Reader" (183 : Nat) ({ cls := "java/util/ArrayList", name := "add", desc := "(Ljava/lang/Object;)Z" } : Jvm.MethodName)) ∈ lw_all := lw_g (lw_at lw_m3 118 rfl) rfl
theorem q770 : (Jvm.Cond.selects "LongYears$Reader" ({ cls := "java/lang/Object", name := "getClass", desc := "()Ljava/lang/Class;" } : Jvm.MethodName) ({ cls := "java/lang/Object", name := "getClass", desc := "()Ljava/lang/Class;" } : Jvm.MethodName)) ∈ lw_all := lw_g (lw_at lw_m3 161 rfl) rfl
theorem q791 : (Jvm.Cond.methodLink "LongYears$Reader" (149 : Nat) ({ cls := "LongYears$Reader", name := "person", desc := "()V" } : Jvm.MethodName)) ∈ lw_all := lw_g (lw_at lw_m3 182 rfl) rfl
theorem q792 : (Jvm.Cond.privateMethod ({ cls := "LongYears$Reader", name := "person", desc := "()V" } : Jvm.MethodName)) ∈ lw_tbl := lw_at lw_m3 183 rfl
theorem q793 : (Jvm.Cond.instanceMethod ({ cls := "LongYears$Reader", name := "person", desc := "()V" } : Jvm.MethodName)) ∈ lw_all := lw_g (lw_at lw_m3 184 rfl) rfl
theorem q794 : (Jvm.Cond.code ({ cls := "LongYears$Reader", name := "person", desc := "()V" } : Jvm.MethodName) prog_14_method_18_code (3 : Nat) (Option.none : Option Jvm.ClassFile.FieldType)) ∈ lw_all := lw_g (lw_at lw_m3 185 rfl) rfl
theorem q795 : (Jvm.Cond.classLink "LongYears$Reader" (234 : Nat) "LongYears$Person") ∈ lw_all := lw_g (lw_at lw_m3 186 rfl) rfl
theorem q797 : (Jvm.Cond.methodLink "LongYears$Reader" (236 : Nat) ({ cls := "LongYears$Reader", name := "date", desc := "(J)J" } : Jvm.MethodName)) ∈ lw_all := lw_g (lw_at lw_m3 188 rfl) rfl
theorem q798 : (Jvm.Cond.privateMethod ({ cls := "LongYears$Reader", name := "date", desc := "(J)J" } : Jvm.MethodName)) ∈ lw_tbl := lw_at lw_m3 189 rfl
theorem q799 : (Jvm.Cond.instanceMethod ({ cls := "LongYears$Reader", name := "date", desc := "(J)J" } : Jvm.MethodName)) ∈ lw_all := lw_g (lw_at lw_m3 190 rfl) rfl
theorem q800 : (Jvm.Cond.code ({ cls := "LongYears$Reader", name := "date", desc := "(J)J" } : Jvm.MethodName) prog_14_method_17_code (7 : Nat) (Option.some Jvm.ClassFile.FieldType.long)) ∈ lw_all := lw_g (lw_at lw_m3 191 rfl) rfl
theorem q801 : (Jvm.Cond.methodLink "LongYears$Reader" (216 : Nat) ({ cls := "java/util/ArrayList", name := "isEmpty", desc := "()Z" } : Jvm.MethodName)) ∈ lw_all := lw_g (lw_at lw_m3 192 rfl) rfl
theorem q805 : (Jvm.Cond.methodLink "LongYears$Reader" (220 : Nat) ({ cls := "java/util/ArrayList", name := "get", desc := "(I)Ljava/lang/Object;" } : Jvm.MethodName)) ∈ lw_all := lw_g (lw_at lw_m3 196 rfl) rfl
theorem q806 : (Jvm.Cond.methodLink "LongYears$Reader" (224 : Nat) ({ cls := "LongYears$Land", name := "has", desc := "(J)Z" } : Jvm.MethodName)) ∈ lw_all := lw_g (lw_at lw_m3 197 rfl) rfl
theorem q815 : (Jvm.Cond.methodLink "LongYears$Reader" (228 : Nat) ({ cls := "LongYears$Land", name := "length", desc := "(J)J" } : Jvm.MethodName)) ∈ lw_all := lw_g (lw_at lw_m3 206 rfl) rfl
theorem q819 : (Jvm.Cond.methodLink "LongYears$Reader" (231 : Nat) ({ cls := "LongYears$Land", name := "start", desc := "(J)J" } : Jvm.MethodName)) ∈ lw_all := lw_g (lw_at lw_m3 210 rfl) rfl
theorem q830 : (Jvm.Cond.methodLink "LongYears$Reader" (239 : Nat) ({ cls := "LongYears$Person", name := "<init>", desc := "(IJ)V" } : Jvm.MethodName)) ∈ lw_all := lw_g (lw_at lw_m3 221 rfl) rfl
theorem q836 : (Jvm.Cond.fieldLinkNest "LongYears$Reader" (242 : Nat) "LongYears$Person" "born" "J" "LongYears") ∈ lw_tbl := lw_at lw_m3 227 rfl
theorem q839 : (Jvm.Cond.fieldLinkNest "LongYears$Reader" (245 : Nat) "LongYears$Person" "died" "J" "LongYears") ∈ lw_tbl := lw_at lw_m3 230 rfl
theorem q847 : (Jvm.Cond.methodLink "LongYears$Reader" (152 : Nat) ({ cls := "LongYears$Reader", name := "deed", desc := "()V" } : Jvm.MethodName)) ∈ lw_all := lw_g (lw_at lw_m3 238 rfl) rfl
theorem q848 : (Jvm.Cond.privateMethod ({ cls := "LongYears$Reader", name := "deed", desc := "()V" } : Jvm.MethodName)) ∈ lw_tbl := lw_at lw_m3 239 rfl
theorem q849 : (Jvm.Cond.instanceMethod ({ cls := "LongYears$Reader", name := "deed", desc := "()V" } : Jvm.MethodName)) ∈ lw_all := lw_g (lw_at lw_m4 0 rfl) rfl
theorem q850 : (Jvm.Cond.code ({ cls := "LongYears$Reader", name := "deed", desc := "()V" } : Jvm.MethodName) prog_14_method_19_code (6 : Nat) (Option.none : Option Jvm.ClassFile.FieldType)) ∈ lw_all := lw_g (lw_at lw_m4 1 rfl) rfl
theorem q851 : (Jvm.Cond.classLink "LongYears$Reader" (248 : Nat) "LongYears$Yearly") ∈ lw_all := lw_g (lw_at lw_m4 2 rfl) rfl
theorem q853 : (Jvm.Cond.methodLink "LongYears$Reader" (250 : Nat) ({ cls := "LongYears$Yearly", name := "<init>", desc := "(IJI)V" } : Jvm.MethodName)) ∈ lw_all := lw_g (lw_at lw_m4 4 rfl) rfl
theorem q871 : (Jvm.Cond.fieldLinkNest "LongYears$Reader" (262 : Nat) "LongYears$Deed" "pay" "I" "LongYears") ∈ lw_tbl := lw_at lw_m4 22 rfl
theorem q881 : (Jvm.Cond.classLink "LongYears$Reader" (253 : Nat) "LongYears$Deed") ∈ lw_all := lw_g (lw_at lw_m4 32 rfl) rfl
theorem q883 : (Jvm.Cond.methodLink "LongYears$Reader" (255 : Nat) ({ cls := "LongYears$Deed", name := "<init>", desc := "(IJI)V" } : Jvm.MethodName)) ∈ lw_all := lw_g (lw_at lw_m4 34 rfl) rfl
theorem q889 : (Jvm.Cond.classLink "LongYears$Reader" (256 : Nat) "LongYears$Festive") ∈ lw_all := lw_g (lw_at lw_m4 40 rfl) rfl
theorem q891 : (Jvm.Cond.methodLink "LongYears$Reader" (258 : Nat) ({ cls := "LongYears$Reader", name := "ahead", desc := "(Ljava/util/ArrayList;)I" } : Jvm.MethodName)) ∈ lw_all := lw_g (lw_at lw_m4 42 rfl) rfl
theorem q892 : (Jvm.Cond.privateMethod ({ cls := "LongYears$Reader", name := "ahead", desc := "(Ljava/util/ArrayList;)I" } : Jvm.MethodName)) ∈ lw_tbl := lw_at lw_m4 43 rfl
theorem q893 : (Jvm.Cond.instanceMethod ({ cls := "LongYears$Reader", name := "ahead", desc := "(Ljava/util/ArrayList;)I" } : Jvm.MethodName)) ∈ lw_all := lw_g (lw_at lw_m4 44 rfl) rfl
theorem q894 : (Jvm.Cond.code ({ cls := "LongYears$Reader", name := "ahead", desc := "(Ljava/util/ArrayList;)I" } : Jvm.MethodName) prog_14_method_13_code (3 : Nat) (Option.some Jvm.ClassFile.FieldType.int)) ∈ lw_all := lw_g (lw_at lw_m4 45 rfl) rfl
theorem q895 : (Jvm.Cond.methodLink "LongYears$Reader" (261 : Nat) ({ cls := "LongYears$Festive", name := "<init>", desc := "(IJI)V" } : Jvm.MethodName)) ∈ lw_all := lw_g (lw_at lw_m4 46 rfl) rfl
theorem q904 : (Jvm.Cond.methodLink "LongYears$Reader" (155 : Nat) ({ cls := "LongYears$Reader", name := "note", desc := "()V" } : Jvm.MethodName)) ∈ lw_all := lw_g (lw_at lw_m4 55 rfl) rfl
theorem q905 : (Jvm.Cond.privateMethod ({ cls := "LongYears$Reader", name := "note", desc := "()V" } : Jvm.MethodName)) ∈ lw_tbl := lw_at lw_m4 56 rfl
theorem q906 : (Jvm.Cond.instanceMethod ({ cls := "LongYears$Reader", name := "note", desc := "()V" } : Jvm.MethodName)) ∈ lw_all := lw_g (lw_at lw_m4 57 rfl) rfl
theorem q907 : (Jvm.Cond.code ({ cls := "LongYears$Reader", name := "note", desc := "()V" } : Jvm.MethodName) prog_14_method_21_code (5 : Nat) (Option.none : Option Jvm.ClassFile.FieldType)) ∈ lw_all := lw_g (lw_at lw_m4 58 rfl) rfl
theorem q908 : (Jvm.Cond.classLink "LongYears$Reader" (265 : Nat) "LongYears$Note") ∈ lw_all := lw_g (lw_at lw_m4 59 rfl) rfl
theorem q909 : (Jvm.Cond.methodLink "LongYears$Reader" (267 : Nat) ({ cls := "LongYears$Note", name := "<init>", desc := "(I)V" } : Jvm.MethodName)) ∈ lw_all := lw_g (lw_at lw_m4 60 rfl) rfl
theorem q910 : (Jvm.Cond.methodLink "LongYears$Reader" (270 : Nat) ({ cls := "LongYears$Reader", name := "sayingAtHand", desc := "()I" } : Jvm.MethodName)) ∈ lw_all := lw_g (lw_at lw_m4 61 rfl) rfl
theorem q911 : (Jvm.Cond.privateMethod ({ cls := "LongYears$Reader", name := "sayingAtHand", desc := "()I" } : Jvm.MethodName)) ∈ lw_tbl := lw_at lw_m4 62 rfl
theorem q912 : (Jvm.Cond.instanceMethod ({ cls := "LongYears$Reader", name := "sayingAtHand", desc := "()I" } : Jvm.MethodName)) ∈ lw_all := lw_g (lw_at lw_m4 63 rfl) rfl
theorem q913 : (Jvm.Cond.code ({ cls := "LongYears$Reader", name := "sayingAtHand", desc := "()I" } : Jvm.MethodName) prog_14_method_20_code (1 : Nat) (Option.some Jvm.ClassFile.FieldType.int)) ∈ lw_all := lw_g (lw_at lw_m4 64 rfl) rfl
theorem q914 : (Jvm.Cond.methodLink "LongYears$Reader" (273 : Nat) ({ cls := "LongYears$Note", name := "has", desc := "(I)Z" } : Jvm.MethodName)) ∈ lw_all := lw_g (lw_at lw_m4 65 rfl) rfl
theorem q918 : (Jvm.Cond.methodLink "LongYears$Reader" (275 : Nat) ({ cls := "LongYears$Note", name := "say", desc := "(III)V" } : Jvm.MethodName)) ∈ lw_all := lw_g (lw_at lw_m4 69 rfl) rfl
theorem q922 : (Jvm.Cond.methodLink "LongYears$Reader" (162 : Nat) ({ cls := "java/lang/Math", name := "min", desc := "(II)I" } : Jvm.MethodName)) ∈ lw_all := lw_g (lw_at lw_m4 73 rfl) rfl
theorem q923 : (Jvm.Cond.classLink "LongYears$Reader" (170 : Nat) "LongYears$Feast") ∈ lw_all := lw_g (lw_at lw_m4 74 rfl) rfl
theorem q925 : (Jvm.Cond.methodLink "LongYears$Reader" (176 : Nat) ({ cls := "LongYears$Reader", name := "or", desc := "()LLongYears$Part;" } : Jvm.MethodName)) ∈ lw_all := lw_g (lw_at lw_m4 76 rfl) rfl
theorem q926 : (Jvm.Cond.privateMethod ({ cls := "LongYears$Reader", name := "or", desc := "()LLongYears$Part;" } : Jvm.MethodName)) ∈ lw_tbl := lw_at lw_m4 77 rfl
theorem q927 : (Jvm.Cond.instanceMethod ({ cls := "LongYears$Reader", name := "or", desc := "()LLongYears$Part;" } : Jvm.MethodName)) ∈ lw_all := lw_g (lw_at lw_m4 78 rfl) rfl
theorem q928 : (Jvm.Cond.code ({ cls := "LongYears$Reader", name := "or", desc := "()LLongYears$Part;" } : Jvm.MethodName) prog_14_method_23_code (3 : Nat) (Option.some (Jvm.ClassFile.FieldType.object "LongYears$Part"))) ∈ lw_all := lw_g (lw_at lw_m4 79 rfl) rfl
theorem q929 : (Jvm.Cond.methodLink "LongYears$Reader" (281 : Nat) ({ cls := "LongYears$Reader", name := "and", desc := "()LLongYears$Part;" } : Jvm.MethodName)) ∈ lw_all := lw_g (lw_at lw_m4 80 rfl) rfl
theorem q930 : (Jvm.Cond.privateMethod ({ cls := "LongYears$Reader", name := "and", desc := "()LLongYears$Part;" } : Jvm.MethodName)) ∈ lw_tbl := lw_at lw_m4 81 rfl
theorem q931 : (Jvm.Cond.instanceMethod ({ cls := "LongYears$Reader", name := "and", desc := "()LLongYears$Part;" } : Jvm.MethodName)) ∈ lw_all := lw_g (lw_at lw_m4 82 rfl) rfl
theorem q932 : (Jvm.Cond.code ({ cls := "LongYears$Reader", name := "and", desc := "()LLongYears$Part;" } : Jvm.MethodName) prog_14_method_24_code (3 : Nat) (Option.some (Jvm.ClassFile.FieldType.object "LongYears$Part"))) ∈ lw_all := lw_g (lw_at lw_m4 83 rfl) rfl
theorem q933 : (Jvm.Cond.methodLink "LongYears$Reader" (292 : Nat) ({ cls := "LongYears$Reader", name := "not", desc := "()LLongYears$Part;" } : Jvm.MethodName)) ∈ lw_all := lw_g (lw_at lw_m4 84 rfl) rfl
theorem q934 : (Jvm.Cond.privateMethod ({ cls := "LongYears$Reader", name := "not", desc := "()LLongYears$Part;" } : Jvm.MethodName)) ∈ lw_tbl := lw_at lw_m4 85 rfl
theorem q935 : (Jvm.Cond.instanceMethod ({ cls := "LongYears$Reader", name := "not", desc := "()LLongYears$Part;" } : Jvm.MethodName)) ∈ lw_all := lw_g (lw_at lw_m4 86 rfl) rfl
theorem q936 : (Jvm.Cond.code ({ cls := "LongYears$Reader", name := "not", desc := "()LLongYears$Part;" } : Jvm.MethodName) prog_14_method_25_code (1 : Nat) (Option.some (Jvm.ClassFile.FieldType.object "LongYears$Part"))) ∈ lw_all := lw_g (lw_at lw_m4 87 rfl) rfl
theorem q937 : (Jvm.Cond.methodLink "LongYears$Reader" (295 : Nat) ({ cls := "LongYears$Reader", name := "compare", desc := "()LLongYears$Part;" } : Jvm.MethodName)) ∈ lw_all := lw_g (lw_at lw_m4 88 rfl) rfl
theorem q938 : (Jvm.Cond.privateMethod ({ cls := "LongYears$Reader", name := "compare", desc := "()LLongYears$Part;" } : Jvm.MethodName)) ∈ lw_tbl := lw_at lw_m4 89 rfl
theorem q939 : (Jvm.Cond.instanceMethod ({ cls := "LongYears$Reader", name := "compare", desc := "()LLongYears$Part;" } : Jvm.MethodName)) ∈ lw_all := lw_g (lw_at lw_m4 90 rfl) rfl
theorem q940 : (Jvm.Cond.code ({ cls := "LongYears$Reader", name := "compare", desc := "()LLongYears$Part;" } : Jvm.MethodName) prog_14_method_26_code (3 : Nat) (Option.some (Jvm.ClassFile.FieldType.object "LongYears$Part"))) ∈ lw_all := lw_g (lw_at lw_m4 91 rfl) rfl
theorem q941 : (Jvm.Cond.methodLink "LongYears$Reader" (303 : Nat) ({ cls := "LongYears$Reader", name := "sum", desc := "()LLongYears$Part;" } : Jvm.MethodName)) ∈ lw_all := lw_g (lw_at lw_m4 92 rfl) rfl
theorem q942 : (Jvm.Cond.privateMethod ({ cls := "LongYears$Reader", name := "sum", desc := "()LLongYears$Part;" } : Jvm.MethodName)) ∈ lw_tbl := lw_at lw_m4 93 rfl
theorem q943 : (Jvm.Cond.instanceMethod ({ cls := "LongYears$Reader", name := "sum", desc := "()LLongYears$Part;" } : Jvm.MethodName)) ∈ lw_all := lw_g (lw_at lw_m4 94 rfl) rfl
theorem q944 : (Jvm.Cond.code ({ cls := "LongYears$Reader", name := "sum", desc := "()LLongYears$Part;" } : Jvm.MethodName) prog_14_method_27_code (3 : Nat) (Option.some (Jvm.ClassFile.FieldType.object "LongYears$Part"))) ∈ lw_all := lw_g (lw_at lw_m4 95 rfl) rfl
theorem q945 : (Jvm.Cond.methodLink "LongYears$Reader" (306 : Nat) ({ cls := "LongYears$Reader", name := "product", desc := "()LLongYears$Part;" } : Jvm.MethodName)) ∈ lw_all := lw_g (lw_at lw_m4 96 rfl) rfl
theorem q946 : (Jvm.Cond.privateMethod ({ cls := "LongYears$Reader", name := "product", desc := "()LLongYears$Part;" } : Jvm.MethodName)) ∈ lw_tbl := lw_at lw_m4 97 rfl
theorem q947 : (Jvm.Cond.instanceMethod ({ cls := "LongYears$Reader", name := "product", desc := "()LLongYears$Part;" } : Jvm.MethodName)) ∈ lw_all := lw_g (lw_at lw_m4 98 rfl) rfl
theorem q948 : (Jvm.Cond.code ({ cls := "LongYears$Reader", name := "product", desc := "()LLongYears$Part;" } : Jvm.MethodName) prog_14_method_28_code (3 : Nat) (Option.some (Jvm.ClassFile.FieldType.object "LongYears$Part"))) ∈ lw_all := lw_g (lw_at lw_m4 99 rfl) rfl
theorem q949 : (Jvm.Cond.methodLink "LongYears$Reader" (309 : Nat) ({ cls := "LongYears$Reader", name := "one", desc := "()LLongYears$Part;" } : Jvm.MethodName)) ∈ lw_all := lw_g (lw_at lw_m4 100 rfl) rfl
theorem q950 : (Jvm.Cond.privateMethod ({ cls := "LongYears$Reader", name := "one", desc := "()LLongYears$Part;" } : Jvm.MethodName)) ∈ lw_tbl := lw_at lw_m4 101 rfl
theorem q951 : (Jvm.Cond.instanceMethod ({ cls := "LongYears$Reader", name := "one", desc := "()LLongYears$Part;" } : Jvm.MethodName)) ∈ lw_all := lw_g (lw_at lw_m4 102 rfl) rfl
theorem q952 : (Jvm.Cond.code ({ cls := "LongYears$Reader", name := "one", desc := "()LLongYears$Part;" } : Jvm.MethodName) prog_14_method_29_code (2 : Nat) (Option.some (Jvm.ClassFile.FieldType.object "LongYears$Part"))) ∈ lw_all := lw_g (lw_at lw_m4 103 rfl) rfl
theorem q953 : (Jvm.Cond.classLink "LongYears$Reader" (312 : Nat) "LongYears$Number") ∈ lw_all := lw_g (lw_at lw_m4 104 rfl) rfl
theorem q955 : (Jvm.Cond.methodLink "LongYears$Reader" (284 : Nat) ({ cls := "LongYears$Reader", name := "knot", desc := "()I" } : Jvm.MethodName)) ∈ lw_all := lw_g (lw_at lw_m4 106 rfl) rfl
theorem q956 : (Jvm.Cond.privateMethod ({ cls := "LongYears$Reader", name := "knot", desc := "()I" } : Jvm.MethodName)) ∈ lw_tbl := lw_at lw_m4 107 rfl
theorem q957 : (Jvm.Cond.instanceMethod ({ cls := "LongYears$Reader", name := "knot", desc := "()I" } : Jvm.MethodName)) ∈ lw_all := lw_g (lw_at lw_m4 108 rfl) rfl
theorem q958 : (Jvm.Cond.code ({ cls := "LongYears$Reader", name := "knot", desc := "()I" } : Jvm.MethodName) prog_14_method_22_code (2 : Nat) (Option.some Jvm.ClassFile.FieldType.int)) ∈ lw_all := lw_g (lw_at lw_m4 109 rfl) rfl
theorem q959 : (Jvm.Cond.methodLink "LongYears$Reader" (314 : Nat) ({ cls := "LongYears$Number", name := "<init>", desc := "(I)V" } : Jvm.MethodName)) ∈ lw_all := lw_g (lw_at lw_m4 110 rfl) rfl
theorem q970 : (Jvm.Cond.methodLink "LongYears$Reader" (315 : Nat) ({ cls := "LongYears$Reader", name := "nameAtHand", desc := "()I" } : Jvm.MethodName)) ∈ lw_all := lw_g (lw_at lw_m4 121 rfl) rfl
theorem q971 : (Jvm.Cond.privateMethod ({ cls := "LongYears$Reader", name := "nameAtHand", desc := "()I" } : Jvm.MethodName)) ∈ lw_tbl := lw_at lw_m4 122 rfl
theorem q972 : (Jvm.Cond.instanceMethod ({ cls := "LongYears$Reader", name := "nameAtHand", desc := "()I" } : Jvm.MethodName)) ∈ lw_all := lw_g (lw_at lw_m4 123 rfl) rfl
theorem q973 : (Jvm.Cond.code ({ cls := "LongYears$Reader", name := "nameAtHand", desc := "()I" } : Jvm.MethodName) prog_14_method_30_code (1 : Nat) (Option.some Jvm.ClassFile.FieldType.int)) ∈ lw_all := lw_g (lw_at lw_m4 124 rfl) rfl
theorem q974 : (Jvm.Cond.classLink "LongYears$Reader" (318 : Nat) "LongYears$Name") ∈ lw_all := lw_g (lw_at lw_m4 125 rfl) rfl
theorem q976 : (Jvm.Cond.methodLink "LongYears$Reader" (320 : Nat) ({ cls := "LongYears$Name", name := "<init>", desc := "(I)V" } : Jvm.MethodName)) ∈ lw_all := lw_g (lw_at lw_m4 127 rfl) rfl
theorem q984 : (Jvm.Cond.classLink "LongYears$Reader" (287 : Nat) "LongYears$Two") ∈ lw_all := lw_g (lw_at lw_m4 135 rfl) rfl
theorem q986 : (Jvm.Cond.methodLink "LongYears$Reader" (289 : Nat) ({ cls := "LongYears$Two", name := "<init>", desc := "(ILLongYears$Part;LLongYears$Part;)V" } : Jvm.MethodName)) ∈ lw_all := lw_g (lw_at lw_m4 137 rfl) rfl
theorem q1005 : (Jvm.Cond.classLink "LongYears$Reader" (298 : Nat) "LongYears$Not") ∈ lw_all := lw_g (lw_at lw_m4 156 rfl) rfl
theorem q1007 : (Jvm.Cond.methodLink "LongYears$Reader" (300 : Nat) ({ cls := "LongYears$Not", name := "<init>", desc := "(LLongYears$Part;)V" } : Jvm.MethodName)) ∈ lw_all := lw_g (lw_at lw_m4 158 rfl) rfl
theorem q1010 : (Jvm.Cond.methodLink "LongYears$Reader" (180 : Nat) ({ cls := "LongYears$Feast", name := "<init>", desc := "(ILLongYears$Part;)V" } : Jvm.MethodName)) ∈ lw_all := lw_g (lw_at lw_m4 161 rfl) rfl
theorem q2245 : (Jvm.Cond.castable "LongYears$Reader" "java/lang/Object") ∈ lw_tbl := lw_at lw_m9 196 rfl
theorem q132 : (Jvm.Cond.initialized "LongYears$Realm") ∈ lw_all := lw_g (lw_at lw_m1 3 rfl) rfl
theorem q212 : (Jvm.Cond.instantiable "LongYears$Realm" (14 : Nat)) ∈ lw_all := lw_g (lw_at lw_m1 83 rfl) rfl
theorem q214 : (Jvm.Cond.instanceMethod ({ cls := "LongYears$Realm", name := "<init>", desc := "()V" } : Jvm.MethodName)) ∈ lw_all := lw_g (lw_at lw_m1 85 rfl) rfl
theorem q215 : (Jvm.Cond.code ({ cls := "LongYears$Realm", name := "<init>", desc := "()V" } : Jvm.MethodName) prog_15_method_1_code (1 : Nat) (Option.none : Option Jvm.ClassFile.FieldType)) ∈ lw_all := lw_g (lw_at lw_m1 86 rfl) rfl
theorem q216 : (Jvm.Cond.methodLink "LongYears$Realm" (3 : Nat) ({ cls := "java/lang/Object", name := "<init>", desc := "()V" } : Jvm.MethodName)) ∈ lw_all := lw_g (lw_at lw_m1 87 rfl) rfl
theorem q217 : (Jvm.Cond.classLink "LongYears$Realm" (9 : Nat) "java/util/ArrayList") ∈ lw_all := lw_g (lw_at lw_m1 88 rfl) rfl
theorem q219 : (Jvm.Cond.methodLink "LongYears$Realm" (11 : Nat) ({ cls := "java/util/ArrayList", name := "<init>", desc := "(I)V" } : Jvm.MethodName)) ∈ lw_all := lw_g (lw_at lw_m1 90 rfl) rfl
theorem q245 : (Jvm.Cond.constantLong "LongYears$Realm" (42 : Nat) (59 : Int64)) ∈ lw_all := lw_g (lw_at lw_m1 116 rfl) rfl
theorem q246 : (Jvm.Cond.constantLong "LongYears$Realm" (48 : Nat) (1461 : Int64)) ∈ lw_all := lw_g (lw_at lw_m1 117 rfl) rfl
theorem q247 : (Jvm.Cond.fieldLink "LongYears$Realm" (14 : Nat) "LongYears$Realm" "lands" "Ljava/util/ArrayList;") ∈ lw_all := lw_g (lw_at lw_m1 118 rfl) rfl
theorem q250 : (Jvm.Cond.fieldLink "LongYears$Realm" (20 : Nat) "LongYears$Realm" "feasts" "Ljava/util/ArrayList;") ∈ lw_all := lw_g (lw_at lw_m1 121 rfl) rfl
theorem q253 : (Jvm.Cond.fieldLink "LongYears$Realm" (23 : Nat) "LongYears$Realm" "people" "Ljava/util/ArrayList;") ∈ lw_all := lw_g (lw_at lw_m1 124 rfl) rfl
theorem q256 : (Jvm.Cond.fieldLink "LongYears$Realm" (26 : Nat) "LongYears$Realm" "deeds" "Ljava/util/ArrayList;") ∈ lw_all := lw_g (lw_at lw_m1 127 rfl) rfl
theorem q259 : (Jvm.Cond.fieldLink "LongYears$Realm" (29 : Nat) "LongYears$Realm" "notes" "Ljava/util/ArrayList;") ∈ lw_all := lw_g (lw_at lw_m1 130 rfl) rfl
theorem q262 : (Jvm.Cond.fieldLink "LongYears$Realm" (32 : Nat) "LongYears$Realm" "week" "I") ∈ lw_all := lw_g (lw_at lw_m1 133 rfl) rfl
theorem q265 : (Jvm.Cond.fieldLink "LongYears$Realm" (53 : Nat) "LongYears$Realm" "weekAt" "I") ∈ lw_all := lw_g (lw_at lw_m1 136 rfl) rfl
theorem q267 : (Jvm.Cond.fieldLink "LongYears$Realm" (56 : Nat) "LongYears$Realm" "moonAt" "I") ∈ lw_all := lw_g (lw_at lw_m1 138 rfl) rfl
theorem q269 : (Jvm.Cond.fieldLink "LongYears$Realm" (36 : Nat) "LongYears$Realm" "moonBy" "I") ∈ lw_all := lw_g (lw_at lw_m1 140 rfl) rfl
theorem q271 : (Jvm.Cond.fieldLink "LongYears$Realm" (39 : Nat) "LongYears$Realm" "sunBy" "I") ∈ lw_all := lw_g (lw_at lw_m1 142 rfl) rfl
theorem q277 : (Jvm.Cond.fieldLink "LongYears$Realm" (44 : Nat) "LongYears$Realm" "moon" "J") ∈ lw_all := lw_g (lw_at lw_m1 148 rfl) rfl
theorem q279 : (Jvm.Cond.fieldLink "LongYears$Realm" (50 : Nat) "LongYears$Realm" "sun" "J") ∈ lw_all := lw_g (lw_at lw_m1 150 rfl) rfl
theorem q281 : (Jvm.Cond.laysFinal "LongYears$Realm" "LongYears$Realm" "lands" "Ljava/util/ArrayList;") ∈ lw_all := lw_g (lw_at lw_m1 152 rfl) rfl
theorem q282 : (Jvm.Cond.soleField "LongYears$Realm" "lands") ∈ lw_all := lw_g (lw_at lw_m1 153 rfl) rfl
theorem q283 : (Jvm.Cond.laysFinal "LongYears$Realm" "LongYears$Realm" "feasts" "Ljava/util/ArrayList;") ∈ lw_all := lw_g (lw_at lw_m1 154 rfl) rfl
theorem q284 : (Jvm.Cond.soleField "LongYears$Realm" "feasts") ∈ lw_all := lw_g (lw_at lw_m1 155 rfl) rfl
theorem q285 : (Jvm.Cond.laysFinal "LongYears$Realm" "LongYears$Realm" "people" "Ljava/util/ArrayList;") ∈ lw_all := lw_g (lw_at lw_m1 156 rfl) rfl
theorem q286 : (Jvm.Cond.soleField "LongYears$Realm" "people") ∈ lw_all := lw_g (lw_at lw_m1 157 rfl) rfl
theorem q287 : (Jvm.Cond.laysFinal "LongYears$Realm" "LongYears$Realm" "deeds" "Ljava/util/ArrayList;") ∈ lw_all := lw_g (lw_at lw_m1 158 rfl) rfl
theorem q288 : (Jvm.Cond.soleField "LongYears$Realm" "deeds") ∈ lw_all := lw_g (lw_at lw_m1 159 rfl) rfl
theorem q289 : (Jvm.Cond.laysFinal "LongYears$Realm" "LongYears$Realm" "notes" "Ljava/util/ArrayList;") ∈ lw_all := lw_g (lw_at lw_m1 160 rfl) rfl
theorem q290 : (Jvm.Cond.soleField "LongYears$Realm" "notes") ∈ lw_all := lw_g (lw_at lw_m1 161 rfl) rfl
theorem q291 : (Jvm.Cond.lays "LongYears$Realm" "LongYears$Realm" "week" "I") ∈ lw_all := lw_g (lw_at lw_m1 162 rfl) rfl
theorem q292 : (Jvm.Cond.soleField "LongYears$Realm" "week") ∈ lw_all := lw_g (lw_at lw_m1 163 rfl) rfl
theorem q293 : (Jvm.Cond.lays "LongYears$Realm" "LongYears$Realm" "weekAt" "I") ∈ lw_all := lw_g (lw_at lw_m1 164 rfl) rfl
theorem q294 : (Jvm.Cond.soleField "LongYears$Realm" "weekAt") ∈ lw_all := lw_g (lw_at lw_m1 165 rfl) rfl
theorem q295 : (Jvm.Cond.lays "LongYears$Realm" "LongYears$Realm" "moonAt" "I") ∈ lw_all := lw_g (lw_at lw_m1 166 rfl) rfl
theorem q296 : (Jvm.Cond.soleField "LongYears$Realm" "moonAt") ∈ lw_all := lw_g (lw_at lw_m1 167 rfl) rfl
theorem q297 : (Jvm.Cond.lays "LongYears$Realm" "LongYears$Realm" "moonBy" "I") ∈ lw_all := lw_g (lw_at lw_m1 168 rfl) rfl
theorem q298 : (Jvm.Cond.soleField "LongYears$Realm" "moonBy") ∈ lw_all := lw_g (lw_at lw_m1 169 rfl) rfl
theorem q299 : (Jvm.Cond.lays "LongYears$Realm" "LongYears$Realm" "sunBy" "I") ∈ lw_all := lw_g (lw_at lw_m1 170 rfl) rfl
theorem q300 : (Jvm.Cond.soleField "LongYears$Realm" "sunBy") ∈ lw_all := lw_g (lw_at lw_m1 171 rfl) rfl
theorem q301 : (Jvm.Cond.lays "LongYears$Realm" "LongYears$Realm" "knots" "I") ∈ lw_all := lw_g (lw_at lw_m1 172 rfl) rfl
theorem q302 : (Jvm.Cond.soleField "LongYears$Realm" "knots") ∈ lw_all := lw_g (lw_at lw_m1 173 rfl) rfl
theorem q303 : (Jvm.Cond.lays "LongYears$Realm" "LongYears$Realm" "lines" "I") ∈ lw_all := lw_g (lw_at lw_m1 174 rfl) rfl
theorem q304 : (Jvm.Cond.soleField "LongYears$Realm" "lines") ∈ lw_all := lw_g (lw_at lw_m1 175 rfl) rfl
theorem q305 : (Jvm.Cond.lays "LongYears$Realm" "LongYears$Realm" "moon" "J") ∈ lw_all := lw_g (lw_at lw_m1 176 rfl) rfl
theorem q306 : (Jvm.Cond.soleField "LongYears$Realm" "moon") ∈ lw_all := lw_g (lw_at lw_m1 177 rfl) rfl
theorem q307 : (Jvm.Cond.lays "LongYears$Realm" "LongYears$Realm" "sun" "J") ∈ lw_all := lw_g (lw_at lw_m1 178 rfl) rfl
theorem q308 : (Jvm.Cond.soleField "LongYears$Realm" "sun") ∈ lw_all := lw_g (lw_at lw_m1 179 rfl) rfl
theorem q309 : (Jvm.Cond.superclass "LongYears$Realm" "java/lang/Object") ∈ lw_all := lw_g (lw_at lw_m1 180 rfl) rfl
theorem q771 : (Jvm.Cond.selects "LongYears$Realm" ({ cls := "java/lang/Object", name := "getClass", desc := "()Ljava/lang/Class;" } : Jvm.MethodName) ({ cls := "java/lang/Object", name := "getClass", desc := "()Ljava/lang/Class;" } : Jvm.MethodName)) ∈ lw_all := lw_g (lw_at lw_m3 162 rfl) rfl
theorem q1094 : (Jvm.Cond.instanceMethod ({ cls := "LongYears$Realm", name := "week", desc := "(J)I" } : Jvm.MethodName)) ∈ lw_all := lw_g (lw_at lw_m5 5 rfl) rfl
theorem q1095 : (Jvm.Cond.selects "LongYears$Realm" ({ cls := "LongYears$Realm", name := "week", desc := "(J)I" } : Jvm.MethodName) ({ cls := "LongYears$Realm", name := "week", desc := "(J)I" } : Jvm.MethodName)) ∈ lw_all := lw_g (lw_at lw_m5 6 rfl) rfl
theorem q1096 : (Jvm.Cond.code ({ cls := "LongYears$Realm", name := "week", desc := "(J)I" } : Jvm.MethodName) prog_15_method_2_code (3 : Nat) (Option.some Jvm.ClassFile.FieldType.int)) ∈ lw_all := lw_g (lw_at lw_m5 7 rfl) rfl
theorem q1098 : (Jvm.Cond.instanceMethod ({ cls := "LongYears$Realm", name := "moon", desc := "(J)I" } : Jvm.MethodName)) ∈ lw_all := lw_g (lw_at lw_m5 9 rfl) rfl
theorem q1099 : (Jvm.Cond.selects "LongYears$Realm" ({ cls := "LongYears$Realm", name := "moon", desc := "(J)I" } : Jvm.MethodName) ({ cls := "LongYears$Realm", name := "moon", desc := "(J)I" } : Jvm.MethodName)) ∈ lw_all := lw_g (lw_at lw_m5 10 rfl) rfl
theorem q1100 : (Jvm.Cond.code ({ cls := "LongYears$Realm", name := "moon", desc := "(J)I" } : Jvm.MethodName) prog_15_method_3_code (3 : Nat) (Option.some Jvm.ClassFile.FieldType.int)) ∈ lw_all := lw_g (lw_at lw_m5 11 rfl) rfl
theorem q1101 : (Jvm.Cond.constantLong "LongYears$Realm" (59 : Nat) (8 : Int64)) ∈ lw_all := lw_g (lw_at lw_m5 12 rfl) rfl
theorem q1103 : (Jvm.Cond.instanceMethod ({ cls := "LongYears$Realm", name := "season", desc := "(J)I" } : Jvm.MethodName)) ∈ lw_all := lw_g (lw_at lw_m5 14 rfl) rfl
theorem q1104 : (Jvm.Cond.selects "LongYears$Realm" ({ cls := "LongYears$Realm", name := "season", desc := "(J)I" } : Jvm.MethodName) ({ cls := "LongYears$Realm", name := "season", desc := "(J)I" } : Jvm.MethodName)) ∈ lw_all := lw_g (lw_at lw_m5 15 rfl) rfl
theorem q1105 : (Jvm.Cond.code ({ cls := "LongYears$Realm", name := "season", desc := "(J)I" } : Jvm.MethodName) prog_15_method_4_code (3 : Nat) (Option.some Jvm.ClassFile.FieldType.int)) ∈ lw_all := lw_g (lw_at lw_m5 16 rfl) rfl
theorem q1106 : (Jvm.Cond.constantLong "LongYears$Realm" (61 : Nat) (4 : Int64)) ∈ lw_all := lw_g (lw_at lw_m5 17 rfl) rfl
theorem q1125 : (Jvm.Cond.instanceMethod ({ cls := "LongYears$Realm", name := "year", desc := "(J)J" } : Jvm.MethodName)) ∈ lw_all := lw_g (lw_at lw_m5 36 rfl) rfl
theorem q1126 : (Jvm.Cond.selects "LongYears$Realm" ({ cls := "LongYears$Realm", name := "year", desc := "(J)J" } : Jvm.MethodName) ({ cls := "LongYears$Realm", name := "year", desc := "(J)J" } : Jvm.MethodName)) ∈ lw_all := lw_g (lw_at lw_m5 37 rfl) rfl
theorem q1127 : (Jvm.Cond.code ({ cls := "LongYears$Realm", name := "year", desc := "(J)J" } : Jvm.MethodName) prog_15_method_6_code (3 : Nat) (Option.some Jvm.ClassFile.FieldType.long)) ∈ lw_all := lw_g (lw_at lw_m5 38 rfl) rfl
theorem q1128 : (Jvm.Cond.methodLink "LongYears$Realm" (69 : Nat) ({ cls := "java/util/ArrayList", name := "isEmpty", desc := "()Z" } : Jvm.MethodName)) ∈ lw_all := lw_g (lw_at lw_m5 39 rfl) rfl
theorem q1129 : (Jvm.Cond.constantLong "LongYears$Realm" (73 : Nat) (-1 : Int64)) ∈ lw_all := lw_g (lw_at lw_m5 40 rfl) rfl
theorem q1130 : (Jvm.Cond.methodLink "LongYears$Realm" (75 : Nat) ({ cls := "java/util/ArrayList", name := "get", desc := "(I)Ljava/lang/Object;" } : Jvm.MethodName)) ∈ lw_all := lw_g (lw_at lw_m5 41 rfl) rfl
theorem q1131 : (Jvm.Cond.classLink "LongYears$Realm" (79 : Nat) "LongYears$Land") ∈ lw_all := lw_g (lw_at lw_m5 42 rfl) rfl
theorem q1132 : (Jvm.Cond.methodLink "LongYears$Realm" (81 : Nat) ({ cls := "LongYears$Land", name := "year", desc := "(J)J" } : Jvm.MethodName)) ∈ lw_all := lw_g (lw_at lw_m5 43 rfl) rfl
theorem q1236 : (Jvm.Cond.instanceMethod ({ cls := "LongYears$Realm", name := "springs", desc := "(J)J" } : Jvm.MethodName)) ∈ lw_all := lw_g (lw_at lw_m5 147 rfl) rfl
theorem q1237 : (Jvm.Cond.selects "LongYears$Realm" ({ cls := "LongYears$Realm", name := "springs", desc := "(J)J" } : Jvm.MethodName) ({ cls := "LongYears$Realm", name := "springs", desc := "(J)J" } : Jvm.MethodName)) ∈ lw_all := lw_g (lw_at lw_m5 148 rfl) rfl
theorem q1238 : (Jvm.Cond.code ({ cls := "LongYears$Realm", name := "springs", desc := "(J)J" } : Jvm.MethodName) prog_15_method_5_code (3 : Nat) (Option.some Jvm.ClassFile.FieldType.long)) ∈ lw_all := lw_g (lw_at lw_m5 149 rfl) rfl
theorem q1239 : (Jvm.Cond.methodLink "LongYears$Realm" (63 : Nat) ({ cls := "java/lang/Math", name := "floorDiv", desc := "(JJ)J" } : Jvm.MethodName)) ∈ lw_all := lw_g (lw_at lw_m5 150 rfl) rfl
theorem q2246 : (Jvm.Cond.castable "LongYears$Realm" "java/lang/Object") ∈ lw_tbl := lw_at lw_m9 197 rfl
theorem q136 : (Jvm.Cond.initialized "LongYears$Named") ∈ lw_all := lw_g (lw_at lw_m1 7 rfl) rfl
theorem q319 : (Jvm.Cond.instanceMethod ({ cls := "LongYears$Named", name := "<init>", desc := "(I)V" } : Jvm.MethodName)) ∈ lw_all := lw_g (lw_at lw_m1 190 rfl) rfl
theorem q320 : (Jvm.Cond.code ({ cls := "LongYears$Named", name := "<init>", desc := "(I)V" } : Jvm.MethodName) prog_8_method_1_code (2 : Nat) (Option.none : Option Jvm.ClassFile.FieldType)) ∈ lw_all := lw_g (lw_at lw_m1 191 rfl) rfl
theorem q321 : (Jvm.Cond.methodLink "LongYears$Named" (3 : Nat) ({ cls := "java/lang/Object", name := "<init>", desc := "()V" } : Jvm.MethodName)) ∈ lw_all := lw_g (lw_at lw_m1 192 rfl) rfl
theorem q328 : (Jvm.Cond.fieldLink "LongYears$Named" (9 : Nat) "LongYears$Named" "name" "I") ∈ lw_all := lw_g (lw_at lw_m1 199 rfl) rfl
theorem q336 : (Jvm.Cond.soleField "LongYears$Named" "name") ∈ lw_all := lw_g (lw_at lw_m1 207 rfl) rfl
theorem q680 : (Jvm.Cond.static ({ cls := "LongYears$Named", name := "find", desc := "(Ljava/util/ArrayList;I)I" } : Jvm.MethodName)) ∈ lw_all := lw_g (lw_at lw_m3 71 rfl) rfl
theorem q681 : (Jvm.Cond.code ({ cls := "LongYears$Named", name := "find", desc := "(Ljava/util/ArrayList;I)I" } : Jvm.MethodName) prog_8_method_2_code (3 : Nat) (Option.some Jvm.ClassFile.FieldType.int)) ∈ lw_all := lw_g (lw_at lw_m3 72 rfl) rfl
theorem q682 : (Jvm.Cond.methodLink "LongYears$Named" (15 : Nat) ({ cls := "java/util/ArrayList", name := "size", desc := "()I" } : Jvm.MethodName)) ∈ lw_all := lw_g (lw_at lw_m3 73 rfl) rfl
theorem q683 : (Jvm.Cond.methodLink "LongYears$Named" (21 : Nat) ({ cls := "java/util/ArrayList", name := "get", desc := "(I)Ljava/lang/Object;" } : Jvm.MethodName)) ∈ lw_all := lw_g (lw_at lw_m3 74 rfl) rfl
theorem q695 : (Jvm.Cond.classLink "LongYears$Named" (10 : Nat) "LongYears$Named") ∈ lw_all := lw_g (lw_at lw_m3 86 rfl) rfl
theorem q137 : (Jvm.Cond.initialized "LongYears$Note") ∈ lw_all := lw_g (lw_at lw_m1 8 rfl) rfl
theorem q314 : (Jvm.Cond.instantiable "LongYears$Note" (4 : Nat)) ∈ lw_all := lw_g (lw_at lw_m1 185 rfl) rfl
theorem q316 : (Jvm.Cond.instanceMethod ({ cls := "LongYears$Note", name := "<init>", desc := "(I)V" } : Jvm.MethodName)) ∈ lw_all := lw_g (lw_at lw_m1 187 rfl) rfl
theorem q317 : (Jvm.Cond.code ({ cls := "LongYears$Note", name := "<init>", desc := "(I)V" } : Jvm.MethodName) prog_10_method_1_code (2 : Nat) (Option.none : Option Jvm.ClassFile.FieldType)) ∈ lw_all := lw_g (lw_at lw_m1 188 rfl) rfl
theorem q318 : (Jvm.Cond.methodLink "LongYears$Note" (3 : Nat) ({ cls := "LongYears$Named", name := "<init>", desc := "(I)V" } : Jvm.MethodName)) ∈ lw_all := lw_g (lw_at lw_m1 189 rfl) rfl
theorem q322 : (Jvm.Cond.fieldLink "LongYears$Note" (18 : Nat) "LongYears$Note" "words" "I") ∈ lw_all := lw_g (lw_at lw_m1 193 rfl) rfl
theorem q324 : (Jvm.Cond.fieldLink "LongYears$Note" (9 : Nat) "LongYears$Note" "a" "[I") ∈ lw_all := lw_g (lw_at lw_m1 195 rfl) rfl
theorem q326 : (Jvm.Cond.fieldLink "LongYears$Note" (15 : Nat) "LongYears$Note" "b" "[I") ∈ lw_all := lw_g (lw_at lw_m1 197 rfl) rfl
theorem q329 : (Jvm.Cond.lays "LongYears$Note" "LongYears$Note" "words" "I") ∈ lw_all := lw_g (lw_at lw_m1 200 rfl) rfl
theorem q330 : (Jvm.Cond.soleField "LongYears$Note" "words") ∈ lw_all := lw_g (lw_at lw_m1 201 rfl) rfl
theorem q331 : (Jvm.Cond.laysFinal "LongYears$Note" "LongYears$Note" "a" "[I") ∈ lw_all := lw_g (lw_at lw_m1 202 rfl) rfl
theorem q332 : (Jvm.Cond.soleField "LongYears$Note" "a") ∈ lw_all := lw_g (lw_at lw_m1 203 rfl) rfl
theorem q333 : (Jvm.Cond.laysFinal "LongYears$Note" "LongYears$Note" "b" "[I") ∈ lw_all := lw_g (lw_at lw_m1 204 rfl) rfl
theorem q334 : (Jvm.Cond.soleField "LongYears$Note" "b") ∈ lw_all := lw_g (lw_at lw_m1 205 rfl) rfl
theorem q335 : (Jvm.Cond.laysFinal "LongYears$Note" "LongYears$Named" "name" "I") ∈ lw_all := lw_g (lw_at lw_m1 206 rfl) rfl
theorem q337 : (Jvm.Cond.superclass "LongYears$Note" "LongYears$Named") ∈ lw_all := lw_g (lw_at lw_m1 208 rfl) rfl
theorem q767 : (Jvm.Cond.selects "LongYears$Note" ({ cls := "java/lang/Object", name := "getClass", desc := "()Ljava/lang/Class;" } : Jvm.MethodName) ({ cls := "java/lang/Object", name := "getClass", desc := "()Ljava/lang/Class;" } : Jvm.MethodName)) ∈ lw_all := lw_g (lw_at lw_m3 158 rfl) rfl
theorem q915 : (Jvm.Cond.instanceMethod ({ cls := "LongYears$Note", name := "has", desc := "(I)Z" } : Jvm.MethodName)) ∈ lw_all := lw_g (lw_at lw_m4 66 rfl) rfl
theorem q916 : (Jvm.Cond.selects "LongYears$Note" ({ cls := "LongYears$Note", name := "has", desc := "(I)Z" } : Jvm.MethodName) ({ cls := "LongYears$Note", name := "has", desc := "(I)Z" } : Jvm.MethodName)) ∈ lw_all := lw_g (lw_at lw_m4 67 rfl) rfl
theorem q917 : (Jvm.Cond.code ({ cls := "LongYears$Note", name := "has", desc := "(I)Z" } : Jvm.MethodName) prog_10_method_3_code (2 : Nat) (Option.some Jvm.ClassFile.FieldType.boolean)) ∈ lw_all := lw_g (lw_at lw_m4 68 rfl) rfl
theorem q919 : (Jvm.Cond.instanceMethod ({ cls := "LongYears$Note", name := "say", desc := "(III)V" } : Jvm.MethodName)) ∈ lw_all := lw_g (lw_at lw_m4 70 rfl) rfl
theorem q920 : (Jvm.Cond.selects "LongYears$Note" ({ cls := "LongYears$Note", name := "say", desc := "(III)V" } : Jvm.MethodName) ({ cls := "LongYears$Note", name := "say", desc := "(III)V" } : Jvm.MethodName)) ∈ lw_all := lw_g (lw_at lw_m4 71 rfl) rfl
theorem q921 : (Jvm.Cond.code ({ cls := "LongYears$Note", name := "say", desc := "(III)V" } : Jvm.MethodName) prog_10_method_4_code (4 : Nat) (Option.none : Option Jvm.ClassFile.FieldType)) ∈ lw_all := lw_g (lw_at lw_m4 72 rfl) rfl
theorem q1023 : (Jvm.Cond.instanceMethod ({ cls := "LongYears$Note", name := "become", desc := "(LLongYears$Note;)V" } : Jvm.MethodName)) ∈ lw_all := lw_g (lw_at lw_m4 174 rfl) rfl
theorem q1024 : (Jvm.Cond.selects "LongYears$Note" ({ cls := "LongYears$Note", name := "become", desc := "(LLongYears$Note;)V" } : Jvm.MethodName) ({ cls := "LongYears$Note", name := "become", desc := "(LLongYears$Note;)V" } : Jvm.MethodName)) ∈ lw_all := lw_g (lw_at lw_m4 175 rfl) rfl
theorem q1025 : (Jvm.Cond.code ({ cls := "LongYears$Note", name := "become", desc := "(LLongYears$Note;)V" } : Jvm.MethodName) prog_10_method_2_code (3 : Nat) (Option.none : Option Jvm.ClassFile.FieldType)) ∈ lw_all := lw_g (lw_at lw_m4 176 rfl) rfl
theorem q2237 : (Jvm.Cond.castable "LongYears$Note" "LongYears$Named") ∈ lw_tbl := lw_at lw_m9 188 rfl
theorem q2242 : (Jvm.Cond.castable "LongYears$Note" "java/lang/Object") ∈ lw_tbl := lw_at lw_m9 193 rfl
theorem q138 : (Jvm.Cond.initialized "LongYearsModel") ∈ lw_all := lw_g (lw_at lw_m1 9 rfl) rfl
theorem q775 : (Jvm.Cond.selects "LongYearsModel" ({ cls := "java/lang/Object", name := "getClass", desc := "()Ljava/lang/Class;" } : Jvm.MethodName) ({ cls := "java/lang/Object", name := "getClass", desc := "()Ljava/lang/Class;" } : Jvm.MethodName)) ∈ lw_all := lw_g (lw_at lw_m3 166 rfl) rfl
theorem q1505 : (Jvm.Cond.instantiable "LongYearsModel" (76 : Nat)) ∈ lw_all := lw_g (lw_at lw_m6 176 rfl) rfl
theorem q1507 : (Jvm.Cond.instanceMethod ({ cls := "LongYearsModel", name := "<init>", desc := "()V" } : Jvm.MethodName)) ∈ lw_all := lw_g (lw_at lw_m6 178 rfl) rfl
theorem q1508 : (Jvm.Cond.code ({ cls := "LongYearsModel", name := "<init>", desc := "()V" } : Jvm.MethodName) prog_20_method_1_code (1 : Nat) (Option.none : Option Jvm.ClassFile.FieldType)) ∈ lw_all := lw_g (lw_at lw_m6 179 rfl) rfl
theorem q1509 : (Jvm.Cond.methodLink "LongYearsModel" (1 : Nat) ({ cls := "java/lang/Object", name := "<init>", desc := "()V" } : Jvm.MethodName)) ∈ lw_all := lw_g (lw_at lw_m6 180 rfl) rfl
theorem q1510 : (Jvm.Cond.constant "LongYearsModel" (87 : Nat) (240000 : Int32)) ∈ lw_all := lw_g (lw_at lw_m6 181 rfl) rfl
theorem q1511 : (Jvm.Cond.methodLink "LongYearsModel" (113 : Nat) ({ cls := "LongYearsModel", name := "plain", desc := "()V" } : Jvm.MethodName)) ∈ lw_all := lw_g (lw_at lw_m6 182 rfl) rfl
theorem q1512 : (Jvm.Cond.privateMethod ({ cls := "LongYearsModel", name := "plain", desc := "()V" } : Jvm.MethodName)) ∈ lw_tbl := lw_at lw_m6 183 rfl
theorem q1513 : (Jvm.Cond.instanceMethod ({ cls := "LongYearsModel", name := "plain", desc := "()V" } : Jvm.MethodName)) ∈ lw_all := lw_g (lw_at lw_m6 184 rfl) rfl
theorem q1514 : (Jvm.Cond.code ({ cls := "LongYearsModel", name := "plain", desc := "()V" } : Jvm.MethodName) prog_20_method_19_code (1 : Nat) (Option.none : Option Jvm.ClassFile.FieldType)) ∈ lw_all := lw_g (lw_at lw_m6 185 rfl) rfl
theorem q1515 : (Jvm.Cond.methodLink "LongYearsModel" (116 : Nat) ({ cls := "LongYearsModel", name := "keepText", desc := "()V" } : Jvm.MethodName)) ∈ lw_all := lw_g (lw_at lw_m6 186 rfl) rfl
theorem q1516 : (Jvm.Cond.privateMethod ({ cls := "LongYearsModel", name := "keepText", desc := "()V" } : Jvm.MethodName)) ∈ lw_tbl := lw_at lw_m6 187 rfl
theorem q1517 : (Jvm.Cond.instanceMethod ({ cls := "LongYearsModel", name := "keepText", desc := "()V" } : Jvm.MethodName)) ∈ lw_all := lw_g (lw_at lw_m6 188 rfl) rfl
theorem q1518 : (Jvm.Cond.code ({ cls := "LongYearsModel", name := "keepText", desc := "()V" } : Jvm.MethodName) prog_20_method_22_code (1 : Nat) (Option.none : Option Jvm.ClassFile.FieldType)) ∈ lw_all := lw_g (lw_at lw_m6 189 rfl) rfl
theorem q1519 : (Jvm.Cond.methodLink "LongYearsModel" (235 : Nat) ({ cls := "LongYearsModel", name := "copies", desc := "([II)V" } : Jvm.MethodName)) ∈ lw_all := lw_g (lw_at lw_m6 190 rfl) rfl
theorem q1520 : (Jvm.Cond.static ({ cls := "LongYearsModel", name := "copies", desc := "([II)V" } : Jvm.MethodName)) ∈ lw_all := lw_g (lw_at lw_m6 191 rfl) rfl
theorem q1521 : (Jvm.Cond.code ({ cls := "LongYearsModel", name := "copies", desc := "([II)V" } : Jvm.MethodName) prog_20_method_20_code (3 : Nat) (Option.none : Option Jvm.ClassFile.FieldType)) ∈ lw_all := lw_g (lw_at lw_m6 192 rfl) rfl
theorem q1522 : (Jvm.Cond.methodLink "LongYearsModel" (239 : Nat) ({ cls := "LongYearsModel", name := "copiesLong", desc := "([JI)V" } : Jvm.MethodName)) ∈ lw_all := lw_g (lw_at lw_m6 193 rfl) rfl
theorem q1523 : (Jvm.Cond.static ({ cls := "LongYearsModel", name := "copiesLong", desc := "([JI)V" } : Jvm.MethodName)) ∈ lw_all := lw_g (lw_at lw_m6 194 rfl) rfl
theorem q1524 : (Jvm.Cond.code ({ cls := "LongYearsModel", name := "copiesLong", desc := "([JI)V" } : Jvm.MethodName) prog_20_method_21_code (3 : Nat) (Option.none : Option Jvm.ClassFile.FieldType)) ∈ lw_all := lw_g (lw_at lw_m6 195 rfl) rfl
theorem q1525 : (Jvm.Cond.fieldLink "LongYearsModel" (7 : Nat) "LongYearsModel" "tape" "[I") ∈ lw_all := lw_g (lw_at lw_m6 196 rfl) rfl
theorem q1526 : (Jvm.Cond.fieldLink "LongYearsModel" (122 : Nat) "LongYearsModel" "tapeSize" "I") ∈ lw_all := lw_g (lw_at lw_m6 197 rfl) rfl
theorem q1527 : (Jvm.Cond.fieldLink "LongYearsModel" (119 : Nat) "LongYearsModel" "thrown" "I") ∈ lw_all := lw_g (lw_at lw_m6 198 rfl) rfl
theorem q1528 : (Jvm.Cond.fieldLink "LongYearsModel" (13 : Nat) "LongYearsModel" "words" "[I") ∈ lw_all := lw_g (lw_at lw_m6 199 rfl) rfl
theorem q1529 : (Jvm.Cond.fieldLink "LongYearsModel" (127 : Nat) "LongYearsModel" "fault" "I") ∈ lw_all := lw_g (lw_at lw_m6 200 rfl) rfl
theorem q1530 : (Jvm.Cond.fieldLink "LongYearsModel" (16 : Nat) "LongYearsModel" "faultPlace" "I") ∈ lw_all := lw_g (lw_at lw_m6 201 rfl) rfl
theorem q1531 : (Jvm.Cond.fieldLink "LongYearsModel" (133 : Nat) "LongYearsModel" "stop" "I") ∈ lw_all := lw_g (lw_at lw_m6 202 rfl) rfl
theorem q1532 : (Jvm.Cond.fieldLink "LongYearsModel" (136 : Nat) "LongYearsModel" "next" "I") ∈ lw_all := lw_g (lw_at lw_m6 203 rfl) rfl
theorem q1533 : (Jvm.Cond.fieldLink "LongYearsModel" (139 : Nat) "LongYearsModel" "kind" "I") ∈ lw_all := lw_g (lw_at lw_m6 204 rfl) rfl
theorem q1534 : (Jvm.Cond.fieldLink "LongYearsModel" (150 : Nat) "LongYearsModel" "which" "I") ∈ lw_all := lw_g (lw_at lw_m6 205 rfl) rfl
theorem q1535 : (Jvm.Cond.fieldLink "LongYearsModel" (130 : Nat) "LongYearsModel" "at" "I") ∈ lw_all := lw_g (lw_at lw_m6 206 rfl) rfl
theorem q1536 : (Jvm.Cond.fieldLink "LongYearsModel" (170 : Nat) "LongYearsModel" "got" "I") ∈ lw_all := lw_g (lw_at lw_m6 207 rfl) rfl
theorem q1537 : (Jvm.Cond.fieldLink "LongYearsModel" (217 : Nat) "LongYearsModel" "lands" "I") ∈ lw_all := lw_g (lw_at lw_m6 208 rfl) rfl
theorem q1538 : (Jvm.Cond.fieldLink "LongYearsModel" (220 : Nat) "LongYearsModel" "feasts" "I") ∈ lw_all := lw_g (lw_at lw_m6 209 rfl) rfl
theorem q1539 : (Jvm.Cond.fieldLink "LongYearsModel" (223 : Nat) "LongYearsModel" "people" "I") ∈ lw_all := lw_g (lw_at lw_m6 210 rfl) rfl
theorem q1540 : (Jvm.Cond.fieldLink "LongYearsModel" (226 : Nat) "LongYearsModel" "deeds" "I") ∈ lw_all := lw_g (lw_at lw_m6 211 rfl) rfl
theorem q1541 : (Jvm.Cond.fieldLink "LongYearsModel" (229 : Nat) "LongYearsModel" "notes" "I") ∈ lw_all := lw_g (lw_at lw_m6 212 rfl) rfl
theorem q1542 : (Jvm.Cond.fieldLink "LongYearsModel" (232 : Nat) "LongYearsModel" "knots" "I") ∈ lw_all := lw_g (lw_at lw_m6 213 rfl) rfl
theorem q1543 : (Jvm.Cond.fieldLink "LongYearsModel" (186 : Nat) "LongYearsModel" "landsRead" "I") ∈ lw_all := lw_g (lw_at lw_m6 214 rfl) rfl
theorem q1544 : (Jvm.Cond.fieldLink "LongYearsModel" (189 : Nat) "LongYearsModel" "feastsRead" "I") ∈ lw_all := lw_g (lw_at lw_m6 215 rfl) rfl
theorem q1545 : (Jvm.Cond.fieldLink "LongYearsModel" (192 : Nat) "LongYearsModel" "peopleRead" "I") ∈ lw_all := lw_g (lw_at lw_m6 216 rfl) rfl
theorem q1546 : (Jvm.Cond.fieldLink "LongYearsModel" (195 : Nat) "LongYearsModel" "deedsRead" "I") ∈ lw_all := lw_g (lw_at lw_m6 217 rfl) rfl
theorem q1547 : (Jvm.Cond.fieldLink "LongYearsModel" (198 : Nat) "LongYearsModel" "notesRead" "I") ∈ lw_all := lw_g (lw_at lw_m6 218 rfl) rfl
theorem q1548 : (Jvm.Cond.fieldLink "LongYearsModel" (201 : Nat) "LongYearsModel" "knotsRead" "I") ∈ lw_all := lw_g (lw_at lw_m6 219 rfl) rfl
theorem q1549 : (Jvm.Cond.fieldLink "LongYearsModel" (20 : Nat) "LongYearsModel" "sky" "[I") ∈ lw_all := lw_g (lw_at lw_m6 220 rfl) rfl
theorem q1550 : (Jvm.Cond.fieldLink "LongYearsModel" (207 : Nat) "LongYearsModel" "weekTold" "Z") ∈ lw_all := lw_g (lw_at lw_m6 221 rfl) rfl
theorem q1551 : (Jvm.Cond.fieldLink "LongYearsModel" (211 : Nat) "LongYearsModel" "moonTold" "Z") ∈ lw_all := lw_g (lw_at lw_m6 222 rfl) rfl
theorem q1552 : (Jvm.Cond.fieldLink "LongYearsModel" (214 : Nat) "LongYearsModel" "sunTold" "Z") ∈ lw_all := lw_g (lw_at lw_m6 223 rfl) rfl
theorem q1553 : (Jvm.Cond.fieldLink "LongYearsModel" (23 : Nat) "LongYearsModel" "landName" "[I") ∈ lw_all := lw_g (lw_at lw_m6 224 rfl) rfl
theorem q1554 : (Jvm.Cond.fieldLink "LongYearsModel" (26 : Nat) "LongYearsModel" "landHas" "[I") ∈ lw_all := lw_g (lw_at lw_m6 225 rfl) rfl
theorem q1555 : (Jvm.Cond.fieldLink "LongYearsModel" (29 : Nat) "LongYearsModel" "feastName" "[I") ∈ lw_all := lw_g (lw_at lw_m6 226 rfl) rfl
theorem q1556 : (Jvm.Cond.fieldLink "LongYearsModel" (32 : Nat) "LongYearsModel" "first" "[I") ∈ lw_all := lw_g (lw_at lw_m6 227 rfl) rfl
theorem q1557 : (Jvm.Cond.fieldLink "LongYearsModel" (35 : Nat) "LongYearsModel" "last" "[I") ∈ lw_all := lw_g (lw_at lw_m6 228 rfl) rfl
theorem q1558 : (Jvm.Cond.fieldLink "LongYearsModel" (38 : Nat) "LongYearsModel" "personName" "[I") ∈ lw_all := lw_g (lw_at lw_m6 229 rfl) rfl
theorem q1559 : (Jvm.Cond.fieldLink "LongYearsModel" (41 : Nat) "LongYearsModel" "born" "[J") ∈ lw_all := lw_g (lw_at lw_m6 230 rfl) rfl
theorem q1560 : (Jvm.Cond.fieldLink "LongYearsModel" (45 : Nat) "LongYearsModel" "died" "[J") ∈ lw_all := lw_g (lw_at lw_m6 231 rfl) rfl
theorem q1561 : (Jvm.Cond.fieldLink "LongYearsModel" (48 : Nat) "LongYearsModel" "deedName" "[I") ∈ lw_all := lw_g (lw_at lw_m6 232 rfl) rfl
theorem q1562 : (Jvm.Cond.fieldLink "LongYearsModel" (51 : Nat) "LongYearsModel" "deedOn" "[J") ∈ lw_all := lw_g (lw_at lw_m6 233 rfl) rfl
theorem q1563 : (Jvm.Cond.fieldLink "LongYearsModel" (54 : Nat) "LongYearsModel" "deedHas" "[I") ∈ lw_all := lw_g (lw_at lw_m6 234 rfl) rfl
theorem q1564 : (Jvm.Cond.fieldLink "LongYearsModel" (57 : Nat) "LongYearsModel" "noteName" "[I") ∈ lw_all := lw_g (lw_at lw_m6 235 rfl) rfl
theorem q1565 : (Jvm.Cond.fieldLink "LongYearsModel" (60 : Nat) "LongYearsModel" "noteHas" "[I") ∈ lw_all := lw_g (lw_at lw_m6 236 rfl) rfl
theorem q1566 : (Jvm.Cond.fieldLink "LongYearsModel" (63 : Nat) "LongYearsModel" "knot" "[I") ∈ lw_all := lw_g (lw_at lw_m6 237 rfl) rfl
theorem q1567 : (Jvm.Cond.fieldLink "LongYearsModel" (66 : Nat) "LongYearsModel" "part" "[I") ∈ lw_all := lw_g (lw_at lw_m6 238 rfl) rfl
theorem q1568 : (Jvm.Cond.fieldLink "LongYearsModel" (69 : Nat) "LongYearsModel" "other" "[I") ∈ lw_all := lw_g (lw_at lw_m6 239 rfl) rfl
theorem q1569 : (Jvm.Cond.fieldLink "LongYearsModel" (279 : Nat) "LongYearsModel" "gotCount" "J") ∈ lw_all := lw_g (lw_at lw_m7 0 rfl) rfl
theorem q1570 : (Jvm.Cond.fieldLink "LongYearsModel" (72 : Nat) "LongYearsModel" "wait" "[I") ∈ lw_all := lw_g (lw_at lw_m7 1 rfl) rfl
theorem q1571 : (Jvm.Cond.fieldLink "LongYearsModel" (75 : Nat) "LongYearsModel" "held" "[I") ∈ lw_all := lw_g (lw_at lw_m7 2 rfl) rfl
theorem q1572 : (Jvm.Cond.fieldLink "LongYearsModel" (333 : Nat) "LongYearsModel" "waits" "I") ∈ lw_all := lw_g (lw_at lw_m7 3 rfl) rfl
theorem q1573 : (Jvm.Cond.fieldLink "LongYearsModel" (330 : Nat) "LongYearsModel" "helds" "I") ∈ lw_all := lw_g (lw_at lw_m7 4 rfl) rfl
theorem q1574 : (Jvm.Cond.fieldLink "LongYearsModel" (347 : Nat) "LongYearsModel" "brackets" "I") ∈ lw_all := lw_g (lw_at lw_m7 5 rfl) rfl
theorem q1575 : (Jvm.Cond.fieldLink "LongYearsModel" (204 : Nat) "LongYearsModel" "counted" "I") ∈ lw_all := lw_g (lw_at lw_m7 6 rfl) rfl
theorem q1576 : (Jvm.Cond.fieldLink "LongYearsModel" (363 : Nat) "LongYearsModel" "wants" "Z") ∈ lw_all := lw_g (lw_at lw_m7 7 rfl) rfl
theorem q1577 : (Jvm.Cond.fieldLink "LongYearsModel" (354 : Nat) "LongYearsModel" "mayNot" "Z") ∈ lw_all := lw_g (lw_at lw_m7 8 rfl) rfl
theorem q1578 : (Jvm.Cond.fieldLink "LongYearsModel" (396 : Nat) "LongYearsModel" "gotYear" "J") ∈ lw_all := lw_g (lw_at lw_m7 9 rfl) rfl
theorem q1579 : (Jvm.Cond.fieldLink "LongYearsModel" (399 : Nat) "LongYearsModel" "gotDay" "J") ∈ lw_all := lw_g (lw_at lw_m7 10 rfl) rfl
theorem q1580 : (Jvm.Cond.fieldLink "LongYearsModel" (78 : Nat) "LongYearsModel" "names" "[J") ∈ lw_all := lw_g (lw_at lw_m7 11 rfl) rfl
theorem q1581 : (Jvm.Cond.fieldLink "LongYearsModel" (81 : Nat) "LongYearsModel" "value" "[J") ∈ lw_all := lw_g (lw_at lw_m7 12 rfl) rfl
theorem q1582 : (Jvm.Cond.fieldLink "LongYearsModel" (428 : Nat) "LongYearsModel" "isError" "Z") ∈ lw_all := lw_g (lw_at lw_m7 13 rfl) rfl
theorem q1583 : (Jvm.Cond.fieldLink "LongYearsModel" (243 : Nat) "LongYearsModel" "named1" "I") ∈ lw_all := lw_g (lw_at lw_m7 14 rfl) rfl
theorem q1584 : (Jvm.Cond.fieldLink "LongYearsModel" (249 : Nat) "LongYearsModel" "undos" "I") ∈ lw_all := lw_g (lw_at lw_m7 15 rfl) rfl
theorem q1585 : (Jvm.Cond.fieldLink "LongYearsModel" (84 : Nat) "LongYearsModel" "undo" "[I") ∈ lw_all := lw_g (lw_at lw_m7 16 rfl) rfl
theorem q1586 : (Jvm.Cond.fieldLink "LongYearsModel" (88 : Nat) "LongYearsModel" "can" "[Z") ∈ lw_all := lw_g (lw_at lw_m7 17 rfl) rfl
theorem q1587 : (Jvm.Cond.fieldLink "LongYearsModel" (497 : Nat) "LongYearsModel" "manyGot" "I") ∈ lw_all := lw_g (lw_at lw_m7 18 rfl) rfl
theorem q1588 : (Jvm.Cond.fieldLink "LongYearsModel" (500 : Nat) "LongYearsModel" "firstGot" "I") ∈ lw_all := lw_g (lw_at lw_m7 19 rfl) rfl
theorem q1589 : (Jvm.Cond.fieldLink "LongYearsModel" (503 : Nat) "LongYearsModel" "lastGot" "I") ∈ lw_all := lw_g (lw_at lw_m7 20 rfl) rfl
theorem q1590 : (Jvm.Cond.fieldLink "LongYearsModel" (92 : Nat) "LongYearsModel" "root" "[I") ∈ lw_all := lw_g (lw_at lw_m7 21 rfl) rfl
theorem q1591 : (Jvm.Cond.fieldLink "LongYearsModel" (95 : Nat) "LongYearsModel" "off" "[I") ∈ lw_all := lw_g (lw_at lw_m7 22 rfl) rfl
theorem q1592 : (Jvm.Cond.fieldLink "LongYearsModel" (246 : Nat) "LongYearsModel" "tolds" "I") ∈ lw_all := lw_g (lw_at lw_m7 23 rfl) rfl
theorem q1593 : (Jvm.Cond.fieldLink "LongYearsModel" (98 : Nat) "LongYearsModel" "toldNote" "[I") ∈ lw_all := lw_g (lw_at lw_m7 24 rfl) rfl
theorem q1594 : (Jvm.Cond.fieldLink "LongYearsModel" (101 : Nat) "LongYearsModel" "toldCount" "[I") ∈ lw_all := lw_g (lw_at lw_m7 25 rfl) rfl
theorem q1595 : (Jvm.Cond.fieldLink "LongYearsModel" (252 : Nat) "LongYearsModel" "hasImage" "Z") ∈ lw_all := lw_g (lw_at lw_m7 26 rfl) rfl
theorem q1596 : (Jvm.Cond.fieldLink "LongYearsModel" (540 : Nat) "LongYearsModel" "keptNotes" "I") ∈ lw_all := lw_g (lw_at lw_m7 27 rfl) rfl
theorem q1597 : (Jvm.Cond.fieldLink "LongYearsModel" (543 : Nat) "LongYearsModel" "keptTolds" "I") ∈ lw_all := lw_g (lw_at lw_m7 28 rfl) rfl
theorem q1598 : (Jvm.Cond.fieldLink "LongYearsModel" (104 : Nat) "LongYearsModel" "keptHas" "[I") ∈ lw_all := lw_g (lw_at lw_m7 29 rfl) rfl
theorem q1599 : (Jvm.Cond.fieldLink "LongYearsModel" (107 : Nat) "LongYearsModel" "keptNote" "[I") ∈ lw_all := lw_g (lw_at lw_m7 30 rfl) rfl
theorem q1600 : (Jvm.Cond.fieldLink "LongYearsModel" (110 : Nat) "LongYearsModel" "keptCount" "[I") ∈ lw_all := lw_g (lw_at lw_m7 31 rfl) rfl
theorem q1601 : (Jvm.Cond.laysFinal "LongYearsModel" "LongYearsModel" "tape" "[I") ∈ lw_all := lw_g (lw_at lw_m7 32 rfl) rfl
theorem q1602 : (Jvm.Cond.soleField "LongYearsModel" "tape") ∈ lw_all := lw_g (lw_at lw_m7 33 rfl) rfl
theorem q1603 : (Jvm.Cond.lays "LongYearsModel" "LongYearsModel" "tapeSize" "I") ∈ lw_all := lw_g (lw_at lw_m7 34 rfl) rfl
theorem q1604 : (Jvm.Cond.soleField "LongYearsModel" "tapeSize") ∈ lw_all := lw_g (lw_at lw_m7 35 rfl) rfl
theorem q1605 : (Jvm.Cond.lays "LongYearsModel" "LongYearsModel" "thrown" "I") ∈ lw_all := lw_g (lw_at lw_m7 36 rfl) rfl
theorem q1606 : (Jvm.Cond.soleField "LongYearsModel" "thrown") ∈ lw_all := lw_g (lw_at lw_m7 37 rfl) rfl
theorem q1607 : (Jvm.Cond.laysFinal "LongYearsModel" "LongYearsModel" "words" "[I") ∈ lw_all := lw_g (lw_at lw_m7 38 rfl) rfl
theorem q1608 : (Jvm.Cond.soleField "LongYearsModel" "words") ∈ lw_all := lw_g (lw_at lw_m7 39 rfl) rfl
theorem q1609 : (Jvm.Cond.lays "LongYearsModel" "LongYearsModel" "fault" "I") ∈ lw_all := lw_g (lw_at lw_m7 40 rfl) rfl
theorem q1610 : (Jvm.Cond.soleField "LongYearsModel" "fault") ∈ lw_all := lw_g (lw_at lw_m7 41 rfl) rfl
theorem q1611 : (Jvm.Cond.lays "LongYearsModel" "LongYearsModel" "faultPlace" "I") ∈ lw_all := lw_g (lw_at lw_m7 42 rfl) rfl
theorem q1612 : (Jvm.Cond.soleField "LongYearsModel" "faultPlace") ∈ lw_all := lw_g (lw_at lw_m7 43 rfl) rfl
theorem q1613 : (Jvm.Cond.lays "LongYearsModel" "LongYearsModel" "stop" "I") ∈ lw_all := lw_g (lw_at lw_m7 44 rfl) rfl
theorem q1614 : (Jvm.Cond.soleField "LongYearsModel" "stop") ∈ lw_all := lw_g (lw_at lw_m7 45 rfl) rfl
theorem q1615 : (Jvm.Cond.lays "LongYearsModel" "LongYearsModel" "next" "I") ∈ lw_all := lw_g (lw_at lw_m7 46 rfl) rfl
theorem q1616 : (Jvm.Cond.soleField "LongYearsModel" "next") ∈ lw_all := lw_g (lw_at lw_m7 47 rfl) rfl
theorem q1617 : (Jvm.Cond.lays "LongYearsModel" "LongYearsModel" "kind" "I") ∈ lw_all := lw_g (lw_at lw_m7 48 rfl) rfl
theorem q1618 : (Jvm.Cond.soleField "LongYearsModel" "kind") ∈ lw_all := lw_g (lw_at lw_m7 49 rfl) rfl
theorem q1619 : (Jvm.Cond.lays "LongYearsModel" "LongYearsModel" "which" "I") ∈ lw_all := lw_g (lw_at lw_m7 50 rfl) rfl
theorem q1620 : (Jvm.Cond.soleField "LongYearsModel" "which") ∈ lw_all := lw_g (lw_at lw_m7 51 rfl) rfl
theorem q1621 : (Jvm.Cond.lays "LongYearsModel" "LongYearsModel" "at" "I") ∈ lw_all := lw_g (lw_at lw_m7 52 rfl) rfl
theorem q1622 : (Jvm.Cond.soleField "LongYearsModel" "at") ∈ lw_all := lw_g (lw_at lw_m7 53 rfl) rfl
theorem q1623 : (Jvm.Cond.lays "LongYearsModel" "LongYearsModel" "got" "I") ∈ lw_all := lw_g (lw_at lw_m7 54 rfl) rfl
theorem q1624 : (Jvm.Cond.soleField "LongYearsModel" "got") ∈ lw_all := lw_g (lw_at lw_m7 55 rfl) rfl
theorem q1625 : (Jvm.Cond.lays "LongYearsModel" "LongYearsModel" "lands" "I") ∈ lw_all := lw_g (lw_at lw_m7 56 rfl) rfl
theorem q1626 : (Jvm.Cond.soleField "LongYearsModel" "lands") ∈ lw_all := lw_g (lw_at lw_m7 57 rfl) rfl
theorem q1627 : (Jvm.Cond.lays "LongYearsModel" "LongYearsModel" "feasts" "I") ∈ lw_all := lw_g (lw_at lw_m7 58 rfl) rfl
theorem q1628 : (Jvm.Cond.soleField "LongYearsModel" "feasts") ∈ lw_all := lw_g (lw_at lw_m7 59 rfl) rfl
theorem q1629 : (Jvm.Cond.lays "LongYearsModel" "LongYearsModel" "people" "I") ∈ lw_all := lw_g (lw_at lw_m7 60 rfl) rfl
theorem q1630 : (Jvm.Cond.soleField "LongYearsModel" "people") ∈ lw_all := lw_g (lw_at lw_m7 61 rfl) rfl
theorem q1631 : (Jvm.Cond.lays "LongYearsModel" "LongYearsModel" "deeds" "I") ∈ lw_all := lw_g (lw_at lw_m7 62 rfl) rfl
theorem q1632 : (Jvm.Cond.soleField "LongYearsModel" "deeds") ∈ lw_all := lw_g (lw_at lw_m7 63 rfl) rfl
theorem q1633 : (Jvm.Cond.lays "LongYearsModel" "LongYearsModel" "notes" "I") ∈ lw_all := lw_g (lw_at lw_m7 64 rfl) rfl
theorem q1634 : (Jvm.Cond.soleField "LongYearsModel" "notes") ∈ lw_all := lw_g (lw_at lw_m7 65 rfl) rfl
theorem q1635 : (Jvm.Cond.lays "LongYearsModel" "LongYearsModel" "knots" "I") ∈ lw_all := lw_g (lw_at lw_m7 66 rfl) rfl
theorem q1636 : (Jvm.Cond.soleField "LongYearsModel" "knots") ∈ lw_all := lw_g (lw_at lw_m7 67 rfl) rfl
theorem q1637 : (Jvm.Cond.lays "LongYearsModel" "LongYearsModel" "landsRead" "I") ∈ lw_all := lw_g (lw_at lw_m7 68 rfl) rfl
theorem q1638 : (Jvm.Cond.soleField "LongYearsModel" "landsRead") ∈ lw_all := lw_g (lw_at lw_m7 69 rfl) rfl
theorem q1639 : (Jvm.Cond.lays "LongYearsModel" "LongYearsModel" "feastsRead" "I") ∈ lw_all := lw_g (lw_at lw_m7 70 rfl) rfl
theorem q1640 : (Jvm.Cond.soleField "LongYearsModel" "feastsRead") ∈ lw_all := lw_g (lw_at lw_m7 71 rfl) rfl
theorem q1641 : (Jvm.Cond.lays "LongYearsModel" "LongYearsModel" "peopleRead" "I") ∈ lw_all := lw_g (lw_at lw_m7 72 rfl) rfl
theorem q1642 : (Jvm.Cond.soleField "LongYearsModel" "peopleRead") ∈ lw_all := lw_g (lw_at lw_m7 73 rfl) rfl
theorem q1643 : (Jvm.Cond.lays "LongYearsModel" "LongYearsModel" "deedsRead" "I") ∈ lw_all := lw_g (lw_at lw_m7 74 rfl) rfl
theorem q1644 : (Jvm.Cond.soleField "LongYearsModel" "deedsRead") ∈ lw_all := lw_g (lw_at lw_m7 75 rfl) rfl
theorem q1645 : (Jvm.Cond.lays "LongYearsModel" "LongYearsModel" "notesRead" "I") ∈ lw_all := lw_g (lw_at lw_m7 76 rfl) rfl
theorem q1646 : (Jvm.Cond.soleField "LongYearsModel" "notesRead") ∈ lw_all := lw_g (lw_at lw_m7 77 rfl) rfl
theorem q1647 : (Jvm.Cond.lays "LongYearsModel" "LongYearsModel" "knotsRead" "I") ∈ lw_all := lw_g (lw_at lw_m7 78 rfl) rfl
theorem q1648 : (Jvm.Cond.soleField "LongYearsModel" "knotsRead") ∈ lw_all := lw_g (lw_at lw_m7 79 rfl) rfl
theorem q1649 : (Jvm.Cond.laysFinal "LongYearsModel" "LongYearsModel" "sky" "[I") ∈ lw_all := lw_g (lw_at lw_m7 80 rfl) rfl
theorem q1650 : (Jvm.Cond.soleField "LongYearsModel" "sky") ∈ lw_all := lw_g (lw_at lw_m7 81 rfl) rfl
theorem q1651 : (Jvm.Cond.lays "LongYearsModel" "LongYearsModel" "weekTold" "Z") ∈ lw_all := lw_g (lw_at lw_m7 82 rfl) rfl
theorem q1652 : (Jvm.Cond.soleField "LongYearsModel" "weekTold") ∈ lw_all := lw_g (lw_at lw_m7 83 rfl) rfl
theorem q1653 : (Jvm.Cond.lays "LongYearsModel" "LongYearsModel" "moonTold" "Z") ∈ lw_all := lw_g (lw_at lw_m7 84 rfl) rfl
theorem q1654 : (Jvm.Cond.soleField "LongYearsModel" "moonTold") ∈ lw_all := lw_g (lw_at lw_m7 85 rfl) rfl
theorem q1655 : (Jvm.Cond.lays "LongYearsModel" "LongYearsModel" "sunTold" "Z") ∈ lw_all := lw_g (lw_at lw_m7 86 rfl) rfl
theorem q1656 : (Jvm.Cond.soleField "LongYearsModel" "sunTold") ∈ lw_all := lw_g (lw_at lw_m7 87 rfl) rfl
theorem q1657 : (Jvm.Cond.laysFinal "LongYearsModel" "LongYearsModel" "landName" "[I") ∈ lw_all := lw_g (lw_at lw_m7 88 rfl) rfl
theorem q1658 : (Jvm.Cond.soleField "LongYearsModel" "landName") ∈ lw_all := lw_g (lw_at lw_m7 89 rfl) rfl
theorem q1659 : (Jvm.Cond.laysFinal "LongYearsModel" "LongYearsModel" "landHas" "[I") ∈ lw_all := lw_g (lw_at lw_m7 90 rfl) rfl
theorem q1660 : (Jvm.Cond.soleField "LongYearsModel" "landHas") ∈ lw_all := lw_g (lw_at lw_m7 91 rfl) rfl
theorem q1661 : (Jvm.Cond.laysFinal "LongYearsModel" "LongYearsModel" "feastName" "[I") ∈ lw_all := lw_g (lw_at lw_m7 92 rfl) rfl
theorem q1662 : (Jvm.Cond.soleField "LongYearsModel" "feastName") ∈ lw_all := lw_g (lw_at lw_m7 93 rfl) rfl
theorem q1663 : (Jvm.Cond.laysFinal "LongYearsModel" "LongYearsModel" "first" "[I") ∈ lw_all := lw_g (lw_at lw_m7 94 rfl) rfl
theorem q1664 : (Jvm.Cond.soleField "LongYearsModel" "first") ∈ lw_all := lw_g (lw_at lw_m7 95 rfl) rfl
theorem q1665 : (Jvm.Cond.laysFinal "LongYearsModel" "LongYearsModel" "last" "[I") ∈ lw_all := lw_g (lw_at lw_m7 96 rfl) rfl
theorem q1666 : (Jvm.Cond.soleField "LongYearsModel" "last") ∈ lw_all := lw_g (lw_at lw_m7 97 rfl) rfl
theorem q1667 : (Jvm.Cond.laysFinal "LongYearsModel" "LongYearsModel" "personName" "[I") ∈ lw_all := lw_g (lw_at lw_m7 98 rfl) rfl
theorem q1668 : (Jvm.Cond.soleField "LongYearsModel" "personName") ∈ lw_all := lw_g (lw_at lw_m7 99 rfl) rfl
theorem q1669 : (Jvm.Cond.laysFinal "LongYearsModel" "LongYearsModel" "born" "[J") ∈ lw_all := lw_g (lw_at lw_m7 100 rfl) rfl
theorem q1670 : (Jvm.Cond.soleField "LongYearsModel" "born") ∈ lw_all := lw_g (lw_at lw_m7 101 rfl) rfl
theorem q1671 : (Jvm.Cond.laysFinal "LongYearsModel" "LongYearsModel" "died" "[J") ∈ lw_all := lw_g (lw_at lw_m7 102 rfl) rfl
theorem q1672 : (Jvm.Cond.soleField "LongYearsModel" "died") ∈ lw_all := lw_g (lw_at lw_m7 103 rfl) rfl
theorem q1673 : (Jvm.Cond.laysFinal "LongYearsModel" "LongYearsModel" "deedName" "[I") ∈ lw_all := lw_g (lw_at lw_m7 104 rfl) rfl
theorem q1674 : (Jvm.Cond.soleField "LongYearsModel" "deedName") ∈ lw_all := lw_g (lw_at lw_m7 105 rfl) rfl
theorem q1675 : (Jvm.Cond.laysFinal "LongYearsModel" "LongYearsModel" "deedOn" "[J") ∈ lw_all := lw_g (lw_at lw_m7 106 rfl) rfl
theorem q1676 : (Jvm.Cond.soleField "LongYearsModel" "deedOn") ∈ lw_all := lw_g (lw_at lw_m7 107 rfl) rfl
theorem q1677 : (Jvm.Cond.laysFinal "LongYearsModel" "LongYearsModel" "deedHas" "[I") ∈ lw_all := lw_g (lw_at lw_m7 108 rfl) rfl
theorem q1678 : (Jvm.Cond.soleField "LongYearsModel" "deedHas") ∈ lw_all := lw_g (lw_at lw_m7 109 rfl) rfl
theorem q1679 : (Jvm.Cond.laysFinal "LongYearsModel" "LongYearsModel" "noteName" "[I") ∈ lw_all := lw_g (lw_at lw_m7 110 rfl) rfl
theorem q1680 : (Jvm.Cond.soleField "LongYearsModel" "noteName") ∈ lw_all := lw_g (lw_at lw_m7 111 rfl) rfl
theorem q1681 : (Jvm.Cond.laysFinal "LongYearsModel" "LongYearsModel" "noteHas" "[I") ∈ lw_all := lw_g (lw_at lw_m7 112 rfl) rfl
theorem q1682 : (Jvm.Cond.soleField "LongYearsModel" "noteHas") ∈ lw_all := lw_g (lw_at lw_m7 113 rfl) rfl
theorem q1683 : (Jvm.Cond.laysFinal "LongYearsModel" "LongYearsModel" "knot" "[I") ∈ lw_all := lw_g (lw_at lw_m7 114 rfl) rfl
theorem q1684 : (Jvm.Cond.soleField "LongYearsModel" "knot") ∈ lw_all := lw_g (lw_at lw_m7 115 rfl) rfl
theorem q1685 : (Jvm.Cond.laysFinal "LongYearsModel" "LongYearsModel" "part" "[I") ∈ lw_all := lw_g (lw_at lw_m7 116 rfl) rfl
theorem q1686 : (Jvm.Cond.soleField "LongYearsModel" "part") ∈ lw_all := lw_g (lw_at lw_m7 117 rfl) rfl
theorem q1687 : (Jvm.Cond.laysFinal "LongYearsModel" "LongYearsModel" "other" "[I") ∈ lw_all := lw_g (lw_at lw_m7 118 rfl) rfl
theorem q1688 : (Jvm.Cond.soleField "LongYearsModel" "other") ∈ lw_all := lw_g (lw_at lw_m7 119 rfl) rfl
theorem q1689 : (Jvm.Cond.lays "LongYearsModel" "LongYearsModel" "gotCount" "J") ∈ lw_all := lw_g (lw_at lw_m7 120 rfl) rfl
theorem q1690 : (Jvm.Cond.soleField "LongYearsModel" "gotCount") ∈ lw_all := lw_g (lw_at lw_m7 121 rfl) rfl
theorem q1691 : (Jvm.Cond.laysFinal "LongYearsModel" "LongYearsModel" "wait" "[I") ∈ lw_all := lw_g (lw_at lw_m7 122 rfl) rfl
theorem q1692 : (Jvm.Cond.soleField "LongYearsModel" "wait") ∈ lw_all := lw_g (lw_at lw_m7 123 rfl) rfl
theorem q1693 : (Jvm.Cond.laysFinal "LongYearsModel" "LongYearsModel" "held" "[I") ∈ lw_all := lw_g (lw_at lw_m7 124 rfl) rfl
theorem q1694 : (Jvm.Cond.soleField "LongYearsModel" "held") ∈ lw_all := lw_g (lw_at lw_m7 125 rfl) rfl
theorem q1695 : (Jvm.Cond.lays "LongYearsModel" "LongYearsModel" "waits" "I") ∈ lw_all := lw_g (lw_at lw_m7 126 rfl) rfl
theorem q1696 : (Jvm.Cond.soleField "LongYearsModel" "waits") ∈ lw_all := lw_g (lw_at lw_m7 127 rfl) rfl
theorem q1697 : (Jvm.Cond.lays "LongYearsModel" "LongYearsModel" "helds" "I") ∈ lw_all := lw_g (lw_at lw_m7 128 rfl) rfl
theorem q1698 : (Jvm.Cond.soleField "LongYearsModel" "helds") ∈ lw_all := lw_g (lw_at lw_m7 129 rfl) rfl
theorem q1699 : (Jvm.Cond.lays "LongYearsModel" "LongYearsModel" "brackets" "I") ∈ lw_all := lw_g (lw_at lw_m7 130 rfl) rfl
theorem q1700 : (Jvm.Cond.soleField "LongYearsModel" "brackets") ∈ lw_all := lw_g (lw_at lw_m7 131 rfl) rfl
theorem q1701 : (Jvm.Cond.lays "LongYearsModel" "LongYearsModel" "counted" "I") ∈ lw_all := lw_g (lw_at lw_m7 132 rfl) rfl
theorem q1702 : (Jvm.Cond.soleField "LongYearsModel" "counted") ∈ lw_all := lw_g (lw_at lw_m7 133 rfl) rfl
theorem q1703 : (Jvm.Cond.lays "LongYearsModel" "LongYearsModel" "wants" "Z") ∈ lw_all := lw_g (lw_at lw_m7 134 rfl) rfl
theorem q1704 : (Jvm.Cond.soleField "LongYearsModel" "wants") ∈ lw_all := lw_g (lw_at lw_m7 135 rfl) rfl
theorem q1705 : (Jvm.Cond.lays "LongYearsModel" "LongYearsModel" "mayNot" "Z") ∈ lw_all := lw_g (lw_at lw_m7 136 rfl) rfl
theorem q1706 : (Jvm.Cond.soleField "LongYearsModel" "mayNot") ∈ lw_all := lw_g (lw_at lw_m7 137 rfl) rfl
theorem q1707 : (Jvm.Cond.lays "LongYearsModel" "LongYearsModel" "gotYear" "J") ∈ lw_all := lw_g (lw_at lw_m7 138 rfl) rfl
theorem q1708 : (Jvm.Cond.soleField "LongYearsModel" "gotYear") ∈ lw_all := lw_g (lw_at lw_m7 139 rfl) rfl
theorem q1709 : (Jvm.Cond.lays "LongYearsModel" "LongYearsModel" "gotDay" "J") ∈ lw_all := lw_g (lw_at lw_m7 140 rfl) rfl
theorem q1710 : (Jvm.Cond.soleField "LongYearsModel" "gotDay") ∈ lw_all := lw_g (lw_at lw_m7 141 rfl) rfl
theorem q1711 : (Jvm.Cond.laysFinal "LongYearsModel" "LongYearsModel" "names" "[J") ∈ lw_all := lw_g (lw_at lw_m7 142 rfl) rfl
theorem q1712 : (Jvm.Cond.soleField "LongYearsModel" "names") ∈ lw_all := lw_g (lw_at lw_m7 143 rfl) rfl
theorem q1713 : (Jvm.Cond.laysFinal "LongYearsModel" "LongYearsModel" "value" "[J") ∈ lw_all := lw_g (lw_at lw_m7 144 rfl) rfl
theorem q1714 : (Jvm.Cond.soleField "LongYearsModel" "value") ∈ lw_all := lw_g (lw_at lw_m7 145 rfl) rfl
theorem q1715 : (Jvm.Cond.lays "LongYearsModel" "LongYearsModel" "isError" "Z") ∈ lw_all := lw_g (lw_at lw_m7 146 rfl) rfl
theorem q1716 : (Jvm.Cond.soleField "LongYearsModel" "isError") ∈ lw_all := lw_g (lw_at lw_m7 147 rfl) rfl
theorem q1717 : (Jvm.Cond.lays "LongYearsModel" "LongYearsModel" "named1" "I") ∈ lw_all := lw_g (lw_at lw_m7 148 rfl) rfl
theorem q1718 : (Jvm.Cond.soleField "LongYearsModel" "named1") ∈ lw_all := lw_g (lw_at lw_m7 149 rfl) rfl
theorem q1719 : (Jvm.Cond.lays "LongYearsModel" "LongYearsModel" "undos" "I") ∈ lw_all := lw_g (lw_at lw_m7 150 rfl) rfl
theorem q1720 : (Jvm.Cond.soleField "LongYearsModel" "undos") ∈ lw_all := lw_g (lw_at lw_m7 151 rfl) rfl
theorem q1721 : (Jvm.Cond.laysFinal "LongYearsModel" "LongYearsModel" "undo" "[I") ∈ lw_all := lw_g (lw_at lw_m7 152 rfl) rfl
theorem q1722 : (Jvm.Cond.soleField "LongYearsModel" "undo") ∈ lw_all := lw_g (lw_at lw_m7 153 rfl) rfl
theorem q1723 : (Jvm.Cond.laysFinal "LongYearsModel" "LongYearsModel" "can" "[Z") ∈ lw_all := lw_g (lw_at lw_m7 154 rfl) rfl
theorem q1724 : (Jvm.Cond.soleField "LongYearsModel" "can") ∈ lw_all := lw_g (lw_at lw_m7 155 rfl) rfl
theorem q1725 : (Jvm.Cond.lays "LongYearsModel" "LongYearsModel" "manyGot" "I") ∈ lw_all := lw_g (lw_at lw_m7 156 rfl) rfl
theorem q1726 : (Jvm.Cond.soleField "LongYearsModel" "manyGot") ∈ lw_all := lw_g (lw_at lw_m7 157 rfl) rfl
theorem q1727 : (Jvm.Cond.lays "LongYearsModel" "LongYearsModel" "firstGot" "I") ∈ lw_all := lw_g (lw_at lw_m7 158 rfl) rfl
theorem q1728 : (Jvm.Cond.soleField "LongYearsModel" "firstGot") ∈ lw_all := lw_g (lw_at lw_m7 159 rfl) rfl
theorem q1729 : (Jvm.Cond.lays "LongYearsModel" "LongYearsModel" "lastGot" "I") ∈ lw_all := lw_g (lw_at lw_m7 160 rfl) rfl
theorem q1730 : (Jvm.Cond.soleField "LongYearsModel" "lastGot") ∈ lw_all := lw_g (lw_at lw_m7 161 rfl) rfl
theorem q1731 : (Jvm.Cond.laysFinal "LongYearsModel" "LongYearsModel" "root" "[I") ∈ lw_all := lw_g (lw_at lw_m7 162 rfl) rfl
theorem q1732 : (Jvm.Cond.soleField "LongYearsModel" "root") ∈ lw_all := lw_g (lw_at lw_m7 163 rfl) rfl
theorem q1733 : (Jvm.Cond.laysFinal "LongYearsModel" "LongYearsModel" "off" "[I") ∈ lw_all := lw_g (lw_at lw_m7 164 rfl) rfl
theorem q1734 : (Jvm.Cond.soleField "LongYearsModel" "off") ∈ lw_all := lw_g (lw_at lw_m7 165 rfl) rfl
theorem q1735 : (Jvm.Cond.lays "LongYearsModel" "LongYearsModel" "tolds" "I") ∈ lw_all := lw_g (lw_at lw_m7 166 rfl) rfl
theorem q1736 : (Jvm.Cond.soleField "LongYearsModel" "tolds") ∈ lw_all := lw_g (lw_at lw_m7 167 rfl) rfl
theorem q1737 : (Jvm.Cond.laysFinal "LongYearsModel" "LongYearsModel" "toldNote" "[I") ∈ lw_all := lw_g (lw_at lw_m7 168 rfl) rfl
theorem q1738 : (Jvm.Cond.soleField "LongYearsModel" "toldNote") ∈ lw_all := lw_g (lw_at lw_m7 169 rfl) rfl
theorem q1739 : (Jvm.Cond.laysFinal "LongYearsModel" "LongYearsModel" "toldCount" "[I") ∈ lw_all := lw_g (lw_at lw_m7 170 rfl) rfl
theorem q1740 : (Jvm.Cond.soleField "LongYearsModel" "toldCount") ∈ lw_all := lw_g (lw_at lw_m7 171 rfl) rfl
theorem q1741 : (Jvm.Cond.lays "LongYearsModel" "LongYearsModel" "hasImage" "Z") ∈ lw_all := lw_g (lw_at lw_m7 172 rfl) rfl
theorem q1742 : (Jvm.Cond.soleField "LongYearsModel" "hasImage") ∈ lw_all := lw_g (lw_at lw_m7 173 rfl) rfl
theorem q1743 : (Jvm.Cond.lays "LongYearsModel" "LongYearsModel" "keptNotes" "I") ∈ lw_all := lw_g (lw_at lw_m7 174 rfl) rfl
theorem q1744 : (Jvm.Cond.soleField "LongYearsModel" "keptNotes") ∈ lw_all := lw_g (lw_at lw_m7 175 rfl) rfl
theorem q1745 : (Jvm.Cond.lays "LongYearsModel" "LongYearsModel" "keptTolds" "I") ∈ lw_all := lw_g (lw_at lw_m7 176 rfl) rfl
theorem q1746 : (Jvm.Cond.soleField "LongYearsModel" "keptTolds") ∈ lw_all := lw_g (lw_at lw_m7 177 rfl) rfl
theorem q1747 : (Jvm.Cond.laysFinal "LongYearsModel" "LongYearsModel" "keptHas" "[I") ∈ lw_all := lw_g (lw_at lw_m7 178 rfl) rfl
theorem q1748 : (Jvm.Cond.soleField "LongYearsModel" "keptHas") ∈ lw_all := lw_g (lw_at lw_m7 179 rfl) rfl
theorem q1749 : (Jvm.Cond.laysFinal "LongYearsModel" "LongYearsModel" "keptNote" "[I") ∈ lw_all := lw_g (lw_at lw_m7 180 rfl) rfl
theorem q1750 : (Jvm.Cond.soleField "LongYearsModel" "keptNote") ∈ lw_all := lw_g (lw_at lw_m7 181 rfl) rfl
theorem q1751 : (Jvm.Cond.laysFinal "LongYearsModel" "LongYearsModel" "keptCount" "[I") ∈ lw_all := lw_g (lw_at lw_m7 182 rfl) rfl
theorem q1752 : (Jvm.Cond.soleField "LongYearsModel" "keptCount") ∈ lw_all := lw_g (lw_at lw_m7 183 rfl) rfl
theorem q1753 : (Jvm.Cond.superclass "LongYearsModel" "java/lang/Object") ∈ lw_all := lw_g (lw_at lw_m7 184 rfl) rfl
theorem q1755 : (Jvm.Cond.instanceMethod ({ cls := "LongYearsModel", name := "thrown", desc := "()I" } : Jvm.MethodName)) ∈ lw_all := lw_g (lw_at lw_m7 186 rfl) rfl
theorem q1756 : (Jvm.Cond.selects "LongYearsModel" ({ cls := "LongYearsModel", name := "thrown", desc := "()I" } : Jvm.MethodName) ({ cls := "LongYearsModel", name := "thrown", desc := "()I" } : Jvm.MethodName)) ∈ lw_all := lw_g (lw_at lw_m7 187 rfl) rfl
theorem q1757 : (Jvm.Cond.code ({ cls := "LongYearsModel", name := "thrown", desc := "()I" } : Jvm.MethodName) prog_20_method_2_code (1 : Nat) (Option.some Jvm.ClassFile.FieldType.int)) ∈ lw_all := lw_g (lw_at lw_m7 188 rfl) rfl
theorem q1759 : (Jvm.Cond.instanceMethod ({ cls := "LongYearsModel", name := "feed", desc := "(IIIII)I" } : Jvm.MethodName)) ∈ lw_all := lw_g (lw_at lw_m7 190 rfl) rfl
theorem q1760 : (Jvm.Cond.selects "LongYearsModel" ({ cls := "LongYearsModel", name := "feed", desc := "(IIIII)I" } : Jvm.MethodName) ({ cls := "LongYearsModel", name := "feed", desc := "(IIIII)I" } : Jvm.MethodName)) ∈ lw_all := lw_g (lw_at lw_m7 191 rfl) rfl
theorem q1761 : (Jvm.Cond.code ({ cls := "LongYearsModel", name := "feed", desc := "(IIIII)I" } : Jvm.MethodName) prog_20_method_3_code (8 : Nat) (Option.some Jvm.ClassFile.FieldType.int)) ∈ lw_all := lw_g (lw_at lw_m7 192 rfl) rfl
theorem q1763 : (Jvm.Cond.instanceMethod ({ cls := "LongYearsModel", name := "text", desc := "(I)I" } : Jvm.MethodName)) ∈ lw_all := lw_g (lw_at lw_m7 194 rfl) rfl
theorem q1764 : (Jvm.Cond.selects "LongYearsModel" ({ cls := "LongYearsModel", name := "text", desc := "(I)I" } : Jvm.MethodName) ({ cls := "LongYearsModel", name := "text", desc := "(I)I" } : Jvm.MethodName)) ∈ lw_all := lw_g (lw_at lw_m7 195 rfl) rfl
theorem q1765 : (Jvm.Cond.code ({ cls := "LongYearsModel", name := "text", desc := "(I)I" } : Jvm.MethodName) prog_20_method_39_code (3 : Nat) (Option.some Jvm.ClassFile.FieldType.int)) ∈ lw_all := lw_g (lw_at lw_m7 196 rfl) rfl
theorem q1766 : (Jvm.Cond.methodLink "LongYearsModel" (173 : Nat) ({ cls := "LongYearsModel", name := "token", desc := "()V" } : Jvm.MethodName)) ∈ lw_all := lw_g (lw_at lw_m7 197 rfl) rfl
theorem q1767 : (Jvm.Cond.privateMethod ({ cls := "LongYearsModel", name := "token", desc := "()V" } : Jvm.MethodName)) ∈ lw_tbl := lw_at lw_m7 198 rfl
theorem q1768 : (Jvm.Cond.instanceMethod ({ cls := "LongYearsModel", name := "token", desc := "()V" } : Jvm.MethodName)) ∈ lw_all := lw_g (lw_at lw_m7 199 rfl) rfl
theorem q1769 : (Jvm.Cond.code ({ cls := "LongYearsModel", name := "token", desc := "()V" } : Jvm.MethodName) prog_20_method_11_code (1 : Nat) (Option.none : Option Jvm.ClassFile.FieldType)) ∈ lw_all := lw_g (lw_at lw_m7 200 rfl) rfl
theorem q1770 : (Jvm.Cond.methodLink "LongYearsModel" (142 : Nat) ({ cls := "LongYearsModel", name := "isSmall", desc := "(I)Z" } : Jvm.MethodName)) ∈ lw_all := lw_g (lw_at lw_m7 201 rfl) rfl
theorem q1771 : (Jvm.Cond.privateMethod ({ cls := "LongYearsModel", name := "isSmall", desc := "(I)Z" } : Jvm.MethodName)) ∈ lw_tbl := lw_at lw_m7 202 rfl
theorem q1772 : (Jvm.Cond.instanceMethod ({ cls := "LongYearsModel", name := "isSmall", desc := "(I)Z" } : Jvm.MethodName)) ∈ lw_all := lw_g (lw_at lw_m7 203 rfl) rfl
theorem q1773 : (Jvm.Cond.code ({ cls := "LongYearsModel", name := "isSmall", desc := "(I)Z" } : Jvm.MethodName) prog_20_method_9_code (2 : Nat) (Option.some Jvm.ClassFile.FieldType.boolean)) ∈ lw_all := lw_g (lw_at lw_m7 204 rfl) rfl
theorem q1774 : (Jvm.Cond.methodLink "LongYearsModel" (146 : Nat) ({ cls := "LongYearsModel", name := "wordAt", desc := "(II)I" } : Jvm.MethodName)) ∈ lw_all := lw_g (lw_at lw_m7 205 rfl) rfl
theorem q1775 : (Jvm.Cond.privateMethod ({ cls := "LongYearsModel", name := "wordAt", desc := "(II)I" } : Jvm.MethodName)) ∈ lw_tbl := lw_at lw_m7 206 rfl
theorem q1776 : (Jvm.Cond.instanceMethod ({ cls := "LongYearsModel", name := "wordAt", desc := "(II)I" } : Jvm.MethodName)) ∈ lw_all := lw_g (lw_at lw_m7 207 rfl) rfl
theorem q1777 : (Jvm.Cond.code ({ cls := "LongYearsModel", name := "wordAt", desc := "(II)I" } : Jvm.MethodName) prog_20_method_8_code (8 : Nat) (Option.some Jvm.ClassFile.FieldType.int)) ∈ lw_all := lw_g (lw_at lw_m7 208 rfl) rfl
theorem q1778 : (Jvm.Cond.methodLink "LongYearsModel" (153 : Nat) ({ cls := "LongYearsModel", name := "packed", desc := "(II)I" } : Jvm.MethodName)) ∈ lw_all := lw_g (lw_at lw_m7 209 rfl) rfl
theorem q1779 : (Jvm.Cond.privateMethod ({ cls := "LongYearsModel", name := "packed", desc := "(II)I" } : Jvm.MethodName)) ∈ lw_tbl := lw_at lw_m7 210 rfl
theorem q1780 : (Jvm.Cond.instanceMethod ({ cls := "LongYearsModel", name := "packed", desc := "(II)I" } : Jvm.MethodName)) ∈ lw_all := lw_g (lw_at lw_m7 211 rfl) rfl
theorem q1781 : (Jvm.Cond.code ({ cls := "LongYearsModel", name := "packed", desc := "(II)I" } : Jvm.MethodName) prog_20_method_13_code (5 : Nat) (Option.some Jvm.ClassFile.FieldType.int)) ∈ lw_all := lw_g (lw_at lw_m7 212 rfl) rfl
theorem q1782 : (Jvm.Cond.methodLink "LongYearsModel" (156 : Nat) ({ cls := "LongYearsModel", name := "isDigit", desc := "(I)Z" } : Jvm.MethodName)) ∈ lw_all := lw_g (lw_at lw_m7 213 rfl) rfl
theorem q1783 : (Jvm.Cond.privateMethod ({ cls := "LongYearsModel", name := "isDigit", desc := "(I)Z" } : Jvm.MethodName)) ∈ lw_tbl := lw_at lw_m7 214 rfl
theorem q1784 : (Jvm.Cond.instanceMethod ({ cls := "LongYearsModel", name := "isDigit", desc := "(I)Z" } : Jvm.MethodName)) ∈ lw_all := lw_g (lw_at lw_m7 215 rfl) rfl
theorem q1785 : (Jvm.Cond.code ({ cls := "LongYearsModel", name := "isDigit", desc := "(I)Z" } : Jvm.MethodName) prog_20_method_10_code (2 : Nat) (Option.some Jvm.ClassFile.FieldType.boolean)) ∈ lw_all := lw_g (lw_at lw_m7 216 rfl) rfl
theorem q1786 : (Jvm.Cond.constant "LongYearsModel" (159 : Nat) (99999 : Int32)) ∈ lw_all := lw_g (lw_at lw_m7 217 rfl) rfl
theorem q1787 : (Jvm.Cond.methodLink "LongYearsModel" (160 : Nat) ({ cls := "LongYearsModel", name := "signToken", desc := "()V" } : Jvm.MethodName)) ∈ lw_all := lw_g (lw_at lw_m7 218 rfl) rfl
theorem q1788 : (Jvm.Cond.privateMethod ({ cls := "LongYearsModel", name := "signToken", desc := "()V" } : Jvm.MethodName)) ∈ lw_tbl := lw_at lw_m7 219 rfl
theorem q1789 : (Jvm.Cond.instanceMethod ({ cls := "LongYearsModel", name := "signToken", desc := "()V" } : Jvm.MethodName)) ∈ lw_all := lw_g (lw_at lw_m7 220 rfl) rfl
theorem q1790 : (Jvm.Cond.code ({ cls := "LongYearsModel", name := "signToken", desc := "()V" } : Jvm.MethodName) prog_20_method_12_code (4 : Nat) (Option.none : Option Jvm.ClassFile.FieldType)) ∈ lw_all := lw_g (lw_at lw_m7 221 rfl) rfl
theorem q1791 : (Jvm.Cond.methodLink "LongYearsModel" (327 : Nat) ({ cls := "LongYearsModel", name := "lineRead", desc := "()Z" } : Jvm.MethodName)) ∈ lw_all := lw_g (lw_at lw_m7 222 rfl) rfl
theorem q1792 : (Jvm.Cond.privateMethod ({ cls := "LongYearsModel", name := "lineRead", desc := "()Z" } : Jvm.MethodName)) ∈ lw_tbl := lw_at lw_m7 223 rfl
theorem q1793 : (Jvm.Cond.instanceMethod ({ cls := "LongYearsModel", name := "lineRead", desc := "()Z" } : Jvm.MethodName)) ∈ lw_all := lw_g (lw_at lw_m7 224 rfl) rfl
theorem q1794 : (Jvm.Cond.code ({ cls := "LongYearsModel", name := "lineRead", desc := "()Z" } : Jvm.MethodName) prog_20_method_38_code (2 : Nat) (Option.some Jvm.ClassFile.FieldType.boolean)) ∈ lw_all := lw_g (lw_at lw_m7 225 rfl) rfl
theorem q1795 : (Jvm.Cond.methodLink "LongYearsModel" (163 : Nat) ({ cls := "LongYearsModel", name := "wrong", desc := "(I)Z" } : Jvm.MethodName)) ∈ lw_all := lw_g (lw_at lw_m7 226 rfl) rfl
theorem q1796 : (Jvm.Cond.privateMethod ({ cls := "LongYearsModel", name := "wrong", desc := "(I)Z" } : Jvm.MethodName)) ∈ lw_tbl := lw_at lw_m7 227 rfl
theorem q1797 : (Jvm.Cond.instanceMethod ({ cls := "LongYearsModel", name := "wrong", desc := "(I)Z" } : Jvm.MethodName)) ∈ lw_all := lw_g (lw_at lw_m7 228 rfl) rfl
theorem q1798 : (Jvm.Cond.code ({ cls := "LongYearsModel", name := "wrong", desc := "(I)Z" } : Jvm.MethodName) prog_20_method_7_code (2 : Nat) (Option.some Jvm.ClassFile.FieldType.boolean)) ∈ lw_all := lw_g (lw_at lw_m7 229 rfl) rfl
theorem q1799 : (Jvm.Cond.methodLink "LongYearsModel" (303 : Nat) ({ cls := "LongYearsModel", name := "landLine", desc := "()Z" } : Jvm.MethodName)) ∈ lw_all := lw_g (lw_at lw_m7 230 rfl) rfl
theorem q1800 : (Jvm.Cond.privateMethod ({ cls := "LongYearsModel", name := "landLine", desc := "()Z" } : Jvm.MethodName)) ∈ lw_tbl := lw_at lw_m7 231 rfl
theorem q1801 : (Jvm.Cond.instanceMethod ({ cls := "LongYearsModel", name := "landLine", desc := "()Z" } : Jvm.MethodName)) ∈ lw_all := lw_g (lw_at lw_m7 232 rfl) rfl
theorem q1802 : (Jvm.Cond.code ({ cls := "LongYearsModel", name := "landLine", desc := "()Z" } : Jvm.MethodName) prog_20_method_26_code (2 : Nat) (Option.some Jvm.ClassFile.FieldType.boolean)) ∈ lw_all := lw_g (lw_at lw_m7 233 rfl) rfl
theorem q1803 : (Jvm.Cond.methodLink "LongYearsModel" (259 : Nat) ({ cls := "LongYearsModel", name := "newName", desc := "([III)Z" } : Jvm.MethodName)) ∈ lw_all := lw_g (lw_at lw_m7 234 rfl) rfl
theorem q1804 : (Jvm.Cond.privateMethod ({ cls := "LongYearsModel", name := "newName", desc := "([III)Z" } : Jvm.MethodName)) ∈ lw_tbl := lw_at lw_m7 235 rfl
theorem q1805 : (Jvm.Cond.instanceMethod ({ cls := "LongYearsModel", name := "newName", desc := "([III)Z" } : Jvm.MethodName)) ∈ lw_all := lw_g (lw_at lw_m7 236 rfl) rfl
theorem q1806 : (Jvm.Cond.code ({ cls := "LongYearsModel", name := "newName", desc := "([III)Z" } : Jvm.MethodName) prog_20_method_24_code (4 : Nat) (Option.some Jvm.ClassFile.FieldType.boolean)) ∈ lw_all := lw_g (lw_at lw_m7 237 rfl) rfl
theorem q1807 : (Jvm.Cond.methodLink "LongYearsModel" (255 : Nat) ({ cls := "LongYearsModel", name := "find", desc := "([IIII)I" } : Jvm.MethodName)) ∈ lw_all := lw_g (lw_at lw_m7 238 rfl) rfl
theorem q1808 : (Jvm.Cond.static ({ cls := "LongYearsModel", name := "find", desc := "([IIII)I" } : Jvm.MethodName)) ∈ lw_all := lw_g (lw_at lw_m7 239 rfl) rfl
theorem q1809 : (Jvm.Cond.code ({ cls := "LongYearsModel", name := "find", desc := "([IIII)I" } : Jvm.MethodName) prog_20_method_23_code (5 : Nat) (Option.some Jvm.ClassFile.FieldType.int)) ∈ lw_all := lw_g (lw_at lw_m8 0 rfl) rfl
theorem q1810 : (Jvm.Cond.methodLink "LongYearsModel" (179 : Nat) ({ cls := "LongYearsModel", name := "number", desc := "(II)Z" } : Jvm.MethodName)) ∈ lw_all := lw_g (lw_at lw_m8 1 rfl) rfl
theorem q1811 : (Jvm.Cond.privateMethod ({ cls := "LongYearsModel", name := "number", desc := "(II)Z" } : Jvm.MethodName)) ∈ lw_tbl := lw_at lw_m8 2 rfl
theorem q1812 : (Jvm.Cond.instanceMethod ({ cls := "LongYearsModel", name := "number", desc := "(II)Z" } : Jvm.MethodName)) ∈ lw_all := lw_g (lw_at lw_m8 3 rfl) rfl
theorem q1813 : (Jvm.Cond.code ({ cls := "LongYearsModel", name := "number", desc := "(II)Z" } : Jvm.MethodName) prog_20_method_16_code (3 : Nat) (Option.some Jvm.ClassFile.FieldType.boolean)) ∈ lw_all := lw_g (lw_at lw_m8 4 rfl) rfl
theorem q1814 : (Jvm.Cond.methodLink "LongYearsModel" (166 : Nat) ({ cls := "LongYearsModel", name := "isIn", desc := "(III)Z" } : Jvm.MethodName)) ∈ lw_all := lw_g (lw_at lw_m8 5 rfl) rfl
theorem q1815 : (Jvm.Cond.static ({ cls := "LongYearsModel", name := "isIn", desc := "(III)Z" } : Jvm.MethodName)) ∈ lw_all := lw_g (lw_at lw_m8 6 rfl) rfl
theorem q1816 : (Jvm.Cond.code ({ cls := "LongYearsModel", name := "isIn", desc := "(III)Z" } : Jvm.MethodName) prog_20_method_4_code (3 : Nat) (Option.some Jvm.ClassFile.FieldType.boolean)) ∈ lw_all := lw_g (lw_at lw_m8 7 rfl) rfl
theorem q1817 : (Jvm.Cond.methodLink "LongYearsModel" (263 : Nat) ({ cls := "LongYearsModel", name := "signed", desc := "(I)Z" } : Jvm.MethodName)) ∈ lw_all := lw_g (lw_at lw_m8 8 rfl) rfl
theorem q1818 : (Jvm.Cond.privateMethod ({ cls := "LongYearsModel", name := "signed", desc := "(I)Z" } : Jvm.MethodName)) ∈ lw_tbl := lw_at lw_m8 9 rfl
theorem q1819 : (Jvm.Cond.instanceMethod ({ cls := "LongYearsModel", name := "signed", desc := "(I)Z" } : Jvm.MethodName)) ∈ lw_all := lw_g (lw_at lw_m8 10 rfl) rfl
theorem q1820 : (Jvm.Cond.code ({ cls := "LongYearsModel", name := "signed", desc := "(I)Z" } : Jvm.MethodName) prog_20_method_17_code (3 : Nat) (Option.some Jvm.ClassFile.FieldType.boolean)) ∈ lw_all := lw_g (lw_at lw_m8 11 rfl) rfl
theorem q1821 : (Jvm.Cond.methodLink "LongYearsModel" (176 : Nat) ({ cls := "LongYearsModel", name := "isSign", desc := "(I)Z" } : Jvm.MethodName)) ∈ lw_all := lw_g (lw_at lw_m8 12 rfl) rfl
theorem q1822 : (Jvm.Cond.privateMethod ({ cls := "LongYearsModel", name := "isSign", desc := "(I)Z" } : Jvm.MethodName)) ∈ lw_tbl := lw_at lw_m8 13 rfl
theorem q1823 : (Jvm.Cond.instanceMethod ({ cls := "LongYearsModel", name := "isSign", desc := "(I)Z" } : Jvm.MethodName)) ∈ lw_all := lw_g (lw_at lw_m8 14 rfl) rfl
theorem q1824 : (Jvm.Cond.code ({ cls := "LongYearsModel", name := "isSign", desc := "(I)Z" } : Jvm.MethodName) prog_20_method_15_code (2 : Nat) (Option.some Jvm.ClassFile.FieldType.boolean)) ∈ lw_all := lw_g (lw_at lw_m8 15 rfl) rfl
theorem q1825 : (Jvm.Cond.methodLink "LongYearsModel" (183 : Nat) ({ cls := "LongYearsModel", name := "isKey", desc := "(I)Z" } : Jvm.MethodName)) ∈ lw_all := lw_g (lw_at lw_m8 16 rfl) rfl
theorem q1826 : (Jvm.Cond.privateMethod ({ cls := "LongYearsModel", name := "isKey", desc := "(I)Z" } : Jvm.MethodName)) ∈ lw_tbl := lw_at lw_m8 17 rfl
theorem q1827 : (Jvm.Cond.instanceMethod ({ cls := "LongYearsModel", name := "isKey", desc := "(I)Z" } : Jvm.MethodName)) ∈ lw_all := lw_g (lw_at lw_m8 18 rfl) rfl
theorem q1828 : (Jvm.Cond.code ({ cls := "LongYearsModel", name := "isKey", desc := "(I)Z" } : Jvm.MethodName) prog_20_method_14_code (2 : Nat) (Option.some Jvm.ClassFile.FieldType.boolean)) ∈ lw_all := lw_g (lw_at lw_m8 19 rfl) rfl
theorem q1829 : (Jvm.Cond.methodLink "LongYearsModel" (306 : Nat) ({ cls := "LongYearsModel", name := "feastLine", desc := "()Z" } : Jvm.MethodName)) ∈ lw_all := lw_g (lw_at lw_m8 20 rfl) rfl
theorem q1830 : (Jvm.Cond.privateMethod ({ cls := "LongYearsModel", name := "feastLine", desc := "()Z" } : Jvm.MethodName)) ∈ lw_tbl := lw_at lw_m8 21 rfl
theorem q1831 : (Jvm.Cond.instanceMethod ({ cls := "LongYearsModel", name := "feastLine", desc := "()Z" } : Jvm.MethodName)) ∈ lw_all := lw_g (lw_at lw_m8 22 rfl) rfl
theorem q1832 : (Jvm.Cond.code ({ cls := "LongYearsModel", name := "feastLine", desc := "()Z" } : Jvm.MethodName) prog_20_method_31_code (1 : Nat) (Option.some Jvm.ClassFile.FieldType.boolean)) ∈ lw_all := lw_g (lw_at lw_m8 23 rfl) rfl
theorem q1833 : (Jvm.Cond.methodLink "LongYearsModel" (269 : Nat) ({ cls := "LongYearsModel", name := "sumRead", desc := "()Z" } : Jvm.MethodName)) ∈ lw_all := lw_g (lw_at lw_m8 24 rfl) rfl
theorem q1834 : (Jvm.Cond.privateMethod ({ cls := "LongYearsModel", name := "sumRead", desc := "()Z" } : Jvm.MethodName)) ∈ lw_tbl := lw_at lw_m8 25 rfl
theorem q1835 : (Jvm.Cond.instanceMethod ({ cls := "LongYearsModel", name := "sumRead", desc := "()Z" } : Jvm.MethodName)) ∈ lw_all := lw_g (lw_at lw_m8 26 rfl) rfl
theorem q1836 : (Jvm.Cond.code ({ cls := "LongYearsModel", name := "sumRead", desc := "()Z" } : Jvm.MethodName) prog_20_method_51_code (1 : Nat) (Option.some Jvm.ClassFile.FieldType.boolean)) ∈ lw_all := lw_g (lw_at lw_m8 27 rfl) rfl
theorem q1837 : (Jvm.Cond.methodLink "LongYearsModel" (369 : Nat) ({ cls := "LongYearsModel", name := "leafRead", desc := "()Z" } : Jvm.MethodName)) ∈ lw_all := lw_g (lw_at lw_m8 28 rfl) rfl
theorem q1838 : (Jvm.Cond.privateMethod ({ cls := "LongYearsModel", name := "leafRead", desc := "()Z" } : Jvm.MethodName)) ∈ lw_tbl := lw_at lw_m8 29 rfl
theorem q1839 : (Jvm.Cond.instanceMethod ({ cls := "LongYearsModel", name := "leafRead", desc := "()Z" } : Jvm.MethodName)) ∈ lw_all := lw_g (lw_at lw_m8 30 rfl) rfl
theorem q1840 : (Jvm.Cond.code ({ cls := "LongYearsModel", name := "leafRead", desc := "()Z" } : Jvm.MethodName) prog_20_method_49_code (2 : Nat) (Option.some Jvm.ClassFile.FieldType.boolean)) ∈ lw_all := lw_g (lw_at lw_m8 31 rfl) rfl
theorem q1841 : (Jvm.Cond.methodLink "LongYearsModel" (350 : Nat) ({ cls := "LongYearsModel", name := "waitsFor", desc := "(I)V" } : Jvm.MethodName)) ∈ lw_all := lw_g (lw_at lw_m8 32 rfl) rfl
theorem q1842 : (Jvm.Cond.privateMethod ({ cls := "LongYearsModel", name := "waitsFor", desc := "(I)V" } : Jvm.MethodName)) ∈ lw_tbl := lw_at lw_m8 33 rfl
theorem q1843 : (Jvm.Cond.instanceMethod ({ cls := "LongYearsModel", name := "waitsFor", desc := "(I)V" } : Jvm.MethodName)) ∈ lw_all := lw_g (lw_at lw_m8 34 rfl) rfl
theorem q1844 : (Jvm.Cond.code ({ cls := "LongYearsModel", name := "waitsFor", desc := "(I)V" } : Jvm.MethodName) prog_20_method_47_code (2 : Nat) (Option.none : Option Jvm.ClassFile.FieldType)) ∈ lw_all := lw_g (lw_at lw_m8 35 rfl) rfl
theorem q1845 : (Jvm.Cond.methodLink "LongYearsModel" (357 : Nat) ({ cls := "LongYearsModel", name := "isCounted", desc := "()Z" } : Jvm.MethodName)) ∈ lw_all := lw_g (lw_at lw_m8 36 rfl) rfl
theorem q1846 : (Jvm.Cond.privateMethod ({ cls := "LongYearsModel", name := "isCounted", desc := "()Z" } : Jvm.MethodName)) ∈ lw_tbl := lw_at lw_m8 37 rfl
theorem q1847 : (Jvm.Cond.instanceMethod ({ cls := "LongYearsModel", name := "isCounted", desc := "()Z" } : Jvm.MethodName)) ∈ lw_all := lw_g (lw_at lw_m8 38 rfl) rfl
theorem q1848 : (Jvm.Cond.code ({ cls := "LongYearsModel", name := "isCounted", desc := "()Z" } : Jvm.MethodName) prog_20_method_46_code (1 : Nat) (Option.some Jvm.ClassFile.FieldType.boolean)) ∈ lw_all := lw_g (lw_at lw_m8 39 rfl) rfl
theorem q1849 : (Jvm.Cond.methodLink "LongYearsModel" (360 : Nat) ({ cls := "LongYearsModel", name := "nameMet", desc := "()I" } : Jvm.MethodName)) ∈ lw_all := lw_g (lw_at lw_m8 40 rfl) rfl
theorem q1850 : (Jvm.Cond.privateMethod ({ cls := "LongYearsModel", name := "nameMet", desc := "()I" } : Jvm.MethodName)) ∈ lw_tbl := lw_at lw_m8 41 rfl
theorem q1851 : (Jvm.Cond.instanceMethod ({ cls := "LongYearsModel", name := "nameMet", desc := "()I" } : Jvm.MethodName)) ∈ lw_all := lw_g (lw_at lw_m8 42 rfl) rfl
theorem q1852 : (Jvm.Cond.code ({ cls := "LongYearsModel", name := "nameMet", desc := "()I" } : Jvm.MethodName) prog_20_method_48_code (1 : Nat) (Option.some Jvm.ClassFile.FieldType.int)) ∈ lw_all := lw_g (lw_at lw_m8 43 rfl) rfl
theorem q1853 : (Jvm.Cond.methodLink "LongYearsModel" (343 : Nat) ({ cls := "LongYearsModel", name := "grown", desc := "(III)V" } : Jvm.MethodName)) ∈ lw_all := lw_g (lw_at lw_m8 44 rfl) rfl
theorem q1854 : (Jvm.Cond.privateMethod ({ cls := "LongYearsModel", name := "grown", desc := "(III)V" } : Jvm.MethodName)) ∈ lw_tbl := lw_at lw_m8 45 rfl
theorem q1855 : (Jvm.Cond.instanceMethod ({ cls := "LongYearsModel", name := "grown", desc := "(III)V" } : Jvm.MethodName)) ∈ lw_all := lw_g (lw_at lw_m8 46 rfl) rfl
theorem q1856 : (Jvm.Cond.code ({ cls := "LongYearsModel", name := "grown", desc := "(III)V" } : Jvm.MethodName) prog_20_method_43_code (4 : Nat) (Option.none : Option Jvm.ClassFile.FieldType)) ∈ lw_all := lw_g (lw_at lw_m8 47 rfl) rfl
theorem q1857 : (Jvm.Cond.methodLink "LongYearsModel" (372 : Nat) ({ cls := "LongYearsModel", name := "signs", desc := "()Z" } : Jvm.MethodName)) ∈ lw_all := lw_g (lw_at lw_m8 48 rfl) rfl
theorem q1858 : (Jvm.Cond.privateMethod ({ cls := "LongYearsModel", name := "signs", desc := "()Z" } : Jvm.MethodName)) ∈ lw_tbl := lw_at lw_m8 49 rfl
theorem q1859 : (Jvm.Cond.instanceMethod ({ cls := "LongYearsModel", name := "signs", desc := "()Z" } : Jvm.MethodName)) ∈ lw_all := lw_g (lw_at lw_m8 50 rfl) rfl
theorem q1860 : (Jvm.Cond.code ({ cls := "LongYearsModel", name := "signs", desc := "()Z" } : Jvm.MethodName) prog_20_method_50_code (2 : Nat) (Option.some Jvm.ClassFile.FieldType.boolean)) ∈ lw_all := lw_g (lw_at lw_m8 51 rfl) rfl
theorem q1861 : (Jvm.Cond.methodLink "LongYearsModel" (366 : Nat) ({ cls := "LongYearsModel", name := "bind", desc := "(I)V" } : Jvm.MethodName)) ∈ lw_all := lw_g (lw_at lw_m8 52 rfl) rfl
theorem q1862 : (Jvm.Cond.privateMethod ({ cls := "LongYearsModel", name := "bind", desc := "(I)V" } : Jvm.MethodName)) ∈ lw_tbl := lw_at lw_m8 53 rfl
theorem q1863 : (Jvm.Cond.instanceMethod ({ cls := "LongYearsModel", name := "bind", desc := "(I)V" } : Jvm.MethodName)) ∈ lw_all := lw_g (lw_at lw_m8 54 rfl) rfl
theorem q1864 : (Jvm.Cond.code ({ cls := "LongYearsModel", name := "bind", desc := "(I)V" } : Jvm.MethodName) prog_20_method_45_code (5 : Nat) (Option.none : Option Jvm.ClassFile.FieldType)) ∈ lw_all := lw_g (lw_at lw_m8 55 rfl) rfl
theorem q1865 : (Jvm.Cond.methodLink "LongYearsModel" (336 : Nat) ({ cls := "LongYearsModel", name := "rank", desc := "(I)I" } : Jvm.MethodName)) ∈ lw_all := lw_g (lw_at lw_m8 56 rfl) rfl
theorem q1866 : (Jvm.Cond.static ({ cls := "LongYearsModel", name := "rank", desc := "(I)I" } : Jvm.MethodName)) ∈ lw_all := lw_g (lw_at lw_m8 57 rfl) rfl
theorem q1867 : (Jvm.Cond.code ({ cls := "LongYearsModel", name := "rank", desc := "(I)I" } : Jvm.MethodName) prog_20_method_42_code (1 : Nat) (Option.some Jvm.ClassFile.FieldType.int)) ∈ lw_all := lw_g (lw_at lw_m8 58 rfl) rfl
theorem q1868 : (Jvm.Cond.methodLink "LongYearsModel" (340 : Nat) ({ cls := "LongYearsModel", name := "dropHeld", desc := "()I" } : Jvm.MethodName)) ∈ lw_all := lw_g (lw_at lw_m8 59 rfl) rfl
theorem q1869 : (Jvm.Cond.privateMethod ({ cls := "LongYearsModel", name := "dropHeld", desc := "()I" } : Jvm.MethodName)) ∈ lw_tbl := lw_at lw_m8 60 rfl
theorem q1870 : (Jvm.Cond.instanceMethod ({ cls := "LongYearsModel", name := "dropHeld", desc := "()I" } : Jvm.MethodName)) ∈ lw_all := lw_g (lw_at lw_m8 61 rfl) rfl
theorem q1871 : (Jvm.Cond.code ({ cls := "LongYearsModel", name := "dropHeld", desc := "()I" } : Jvm.MethodName) prog_20_method_44_code (1 : Nat) (Option.some Jvm.ClassFile.FieldType.int)) ∈ lw_all := lw_g (lw_at lw_m8 62 rfl) rfl
theorem q1872 : (Jvm.Cond.methodLink "LongYearsModel" (309 : Nat) ({ cls := "LongYearsModel", name := "personLine", desc := "()Z" } : Jvm.MethodName)) ∈ lw_all := lw_g (lw_at lw_m8 63 rfl) rfl
theorem q1873 : (Jvm.Cond.privateMethod ({ cls := "LongYearsModel", name := "personLine", desc := "()Z" } : Jvm.MethodName)) ∈ lw_tbl := lw_at lw_m8 64 rfl
theorem q1874 : (Jvm.Cond.instanceMethod ({ cls := "LongYearsModel", name := "personLine", desc := "()Z" } : Jvm.MethodName)) ∈ lw_all := lw_g (lw_at lw_m8 65 rfl) rfl
theorem q1875 : (Jvm.Cond.code ({ cls := "LongYearsModel", name := "personLine", desc := "()Z" } : Jvm.MethodName) prog_20_method_33_code (1 : Nat) (Option.some Jvm.ClassFile.FieldType.boolean)) ∈ lw_all := lw_g (lw_at lw_m8 66 rfl) rfl
theorem q1876 : (Jvm.Cond.methodLink "LongYearsModel" (283 : Nat) ({ cls := "LongYearsModel", name := "dateRead", desc := "(J)Z" } : Jvm.MethodName)) ∈ lw_all := lw_g (lw_at lw_m8 67 rfl) rfl
theorem q1877 : (Jvm.Cond.privateMethod ({ cls := "LongYearsModel", name := "dateRead", desc := "(J)Z" } : Jvm.MethodName)) ∈ lw_tbl := lw_at lw_m8 68 rfl
theorem q1878 : (Jvm.Cond.instanceMethod ({ cls := "LongYearsModel", name := "dateRead", desc := "(J)Z" } : Jvm.MethodName)) ∈ lw_all := lw_g (lw_at lw_m8 69 rfl) rfl
theorem q1879 : (Jvm.Cond.code ({ cls := "LongYearsModel", name := "dateRead", desc := "(J)Z" } : Jvm.MethodName) prog_20_method_32_code (5 : Nat) (Option.some Jvm.ClassFile.FieldType.boolean)) ∈ lw_all := lw_g (lw_at lw_m8 70 rfl) rfl
theorem q1880 : (Jvm.Cond.constantLong "LongYearsModel" (273 : Nat) (-1 : Int64)) ∈ lw_all := lw_g (lw_at lw_m8 71 rfl) rfl
theorem q1881 : (Jvm.Cond.methodLink "LongYearsModel" (275 : Nat) ({ cls := "LongYearsModel", name := "countOf", desc := "(IJJ)J" } : Jvm.MethodName)) ∈ lw_all := lw_g (lw_at lw_m8 72 rfl) rfl
theorem q1882 : (Jvm.Cond.privateMethod ({ cls := "LongYearsModel", name := "countOf", desc := "(IJJ)J" } : Jvm.MethodName)) ∈ lw_tbl := lw_at lw_m8 73 rfl
theorem q1883 : (Jvm.Cond.instanceMethod ({ cls := "LongYearsModel", name := "countOf", desc := "(IJJ)J" } : Jvm.MethodName)) ∈ lw_all := lw_g (lw_at lw_m8 74 rfl) rfl
theorem q1884 : (Jvm.Cond.code ({ cls := "LongYearsModel", name := "countOf", desc := "(IJJ)J" } : Jvm.MethodName) prog_20_method_56_code (8 : Nat) (Option.some Jvm.ClassFile.FieldType.long)) ∈ lw_all := lw_g (lw_at lw_m8 75 rfl) rfl
theorem q1885 : (Jvm.Cond.methodLink "LongYearsModel" (385 : Nat) ({ cls := "LongYearsModel", name := "isYear", desc := "(IJ)Z" } : Jvm.MethodName)) ∈ lw_all := lw_g (lw_at lw_m8 76 rfl) rfl
theorem q1886 : (Jvm.Cond.privateMethod ({ cls := "LongYearsModel", name := "isYear", desc := "(IJ)Z" } : Jvm.MethodName)) ∈ lw_tbl := lw_at lw_m8 77 rfl
theorem q1887 : (Jvm.Cond.instanceMethod ({ cls := "LongYearsModel", name := "isYear", desc := "(IJ)Z" } : Jvm.MethodName)) ∈ lw_all := lw_g (lw_at lw_m8 78 rfl) rfl
theorem q1888 : (Jvm.Cond.code ({ cls := "LongYearsModel", name := "isYear", desc := "(IJ)Z" } : Jvm.MethodName) prog_20_method_53_code (4 : Nat) (Option.some Jvm.ClassFile.FieldType.boolean)) ∈ lw_all := lw_g (lw_at lw_m8 79 rfl) rfl
theorem q1889 : (Jvm.Cond.methodLink "LongYearsModel" (375 : Nat) ({ cls := "LongYearsModel", name := "lengthOf", desc := "(IJ)J" } : Jvm.MethodName)) ∈ lw_all := lw_g (lw_at lw_m8 80 rfl) rfl
theorem q1890 : (Jvm.Cond.privateMethod ({ cls := "LongYearsModel", name := "lengthOf", desc := "(IJ)J" } : Jvm.MethodName)) ∈ lw_tbl := lw_at lw_m8 81 rfl
theorem q1891 : (Jvm.Cond.instanceMethod ({ cls := "LongYearsModel", name := "lengthOf", desc := "(IJ)J" } : Jvm.MethodName)) ∈ lw_all := lw_g (lw_at lw_m8 82 rfl) rfl
theorem q1892 : (Jvm.Cond.code ({ cls := "LongYearsModel", name := "lengthOf", desc := "(IJ)J" } : Jvm.MethodName) prog_20_method_52_code (4 : Nat) (Option.some Jvm.ClassFile.FieldType.long)) ∈ lw_all := lw_g (lw_at lw_m8 83 rfl) rfl
theorem q1893 : (Jvm.Cond.methodLink "LongYearsModel" (389 : Nat) ({ cls := "LongYearsModel", name := "beginOf", desc := "(IJ)J" } : Jvm.MethodName)) ∈ lw_all := lw_g (lw_at lw_m8 84 rfl) rfl
theorem q1894 : (Jvm.Cond.privateMethod ({ cls := "LongYearsModel", name := "beginOf", desc := "(IJ)J" } : Jvm.MethodName)) ∈ lw_tbl := lw_at lw_m8 85 rfl
theorem q1895 : (Jvm.Cond.instanceMethod ({ cls := "LongYearsModel", name := "beginOf", desc := "(IJ)J" } : Jvm.MethodName)) ∈ lw_all := lw_g (lw_at lw_m8 86 rfl) rfl
theorem q1896 : (Jvm.Cond.code ({ cls := "LongYearsModel", name := "beginOf", desc := "(IJ)J" } : Jvm.MethodName) prog_20_method_54_code (6 : Nat) (Option.some Jvm.ClassFile.FieldType.long)) ∈ lw_all := lw_g (lw_at lw_m8 87 rfl) rfl
theorem q1897 : (Jvm.Cond.constantLong "LongYearsModel" (379 : Nat) (3000000 : Int64)) ∈ lw_all := lw_g (lw_at lw_m8 88 rfl) rfl
theorem q1898 : (Jvm.Cond.constantLong "LongYearsModel" (381 : Nat) (1000000000001 : Int64)) ∈ lw_all := lw_g (lw_at lw_m8 89 rfl) rfl
theorem q1899 : (Jvm.Cond.constantLong "LongYearsModel" (383 : Nat) (2 : Int64)) ∈ lw_all := lw_g (lw_at lw_m8 90 rfl) rfl
theorem q1900 : (Jvm.Cond.constantLong "LongYearsModel" (125 : Nat) (1000000000000 : Int64)) ∈ lw_all := lw_g (lw_at lw_m8 91 rfl) rfl
theorem q1901 : (Jvm.Cond.methodLink "LongYearsModel" (312 : Nat) ({ cls := "LongYearsModel", name := "deedLine", desc := "()Z" } : Jvm.MethodName)) ∈ lw_all := lw_g (lw_at lw_m8 92 rfl) rfl
theorem q1902 : (Jvm.Cond.privateMethod ({ cls := "LongYearsModel", name := "deedLine", desc := "()Z" } : Jvm.MethodName)) ∈ lw_tbl := lw_at lw_m8 93 rfl
theorem q1903 : (Jvm.Cond.instanceMethod ({ cls := "LongYearsModel", name := "deedLine", desc := "()Z" } : Jvm.MethodName)) ∈ lw_all := lw_g (lw_at lw_m8 94 rfl) rfl
theorem q1904 : (Jvm.Cond.code ({ cls := "LongYearsModel", name := "deedLine", desc := "()Z" } : Jvm.MethodName) prog_20_method_34_code (3 : Nat) (Option.some Jvm.ClassFile.FieldType.boolean)) ∈ lw_all := lw_g (lw_at lw_m8 95 rfl) rfl
theorem q1905 : (Jvm.Cond.methodLink "LongYearsModel" (287 : Nat) ({ cls := "LongYearsModel", name := "oldName", desc := "([III)Z" } : Jvm.MethodName)) ∈ lw_all := lw_g (lw_at lw_m8 96 rfl) rfl
theorem q1906 : (Jvm.Cond.privateMethod ({ cls := "LongYearsModel", name := "oldName", desc := "([III)Z" } : Jvm.MethodName)) ∈ lw_tbl := lw_at lw_m8 97 rfl
theorem q1907 : (Jvm.Cond.instanceMethod ({ cls := "LongYearsModel", name := "oldName", desc := "([III)Z" } : Jvm.MethodName)) ∈ lw_all := lw_g (lw_at lw_m8 98 rfl) rfl
theorem q1908 : (Jvm.Cond.code ({ cls := "LongYearsModel", name := "oldName", desc := "([III)Z" } : Jvm.MethodName) prog_20_method_25_code (5 : Nat) (Option.some Jvm.ClassFile.FieldType.boolean)) ∈ lw_all := lw_g (lw_at lw_m8 99 rfl) rfl
theorem q1909 : (Jvm.Cond.methodLink "LongYearsModel" (290 : Nat) ({ cls := "LongYearsModel", name := "keyRead", desc := "(I)Z" } : Jvm.MethodName)) ∈ lw_all := lw_g (lw_at lw_m8 100 rfl) rfl
theorem q1910 : (Jvm.Cond.privateMethod ({ cls := "LongYearsModel", name := "keyRead", desc := "(I)Z" } : Jvm.MethodName)) ∈ lw_tbl := lw_at lw_m8 101 rfl
theorem q1911 : (Jvm.Cond.instanceMethod ({ cls := "LongYearsModel", name := "keyRead", desc := "(I)Z" } : Jvm.MethodName)) ∈ lw_all := lw_g (lw_at lw_m8 102 rfl) rfl
theorem q1912 : (Jvm.Cond.code ({ cls := "LongYearsModel", name := "keyRead", desc := "(I)Z" } : Jvm.MethodName) prog_20_method_18_code (2 : Nat) (Option.some Jvm.ClassFile.FieldType.boolean)) ∈ lw_all := lw_g (lw_at lw_m8 103 rfl) rfl
theorem q1913 : (Jvm.Cond.methodLink "LongYearsModel" (315 : Nat) ({ cls := "LongYearsModel", name := "noteLine", desc := "()Z" } : Jvm.MethodName)) ∈ lw_all := lw_g (lw_at lw_m8 104 rfl) rfl
theorem q1914 : (Jvm.Cond.privateMethod ({ cls := "LongYearsModel", name := "noteLine", desc := "()Z" } : Jvm.MethodName)) ∈ lw_tbl := lw_at lw_m8 105 rfl
theorem q1915 : (Jvm.Cond.instanceMethod ({ cls := "LongYearsModel", name := "noteLine", desc := "()Z" } : Jvm.MethodName)) ∈ lw_all := lw_g (lw_at lw_m8 106 rfl) rfl
theorem q1916 : (Jvm.Cond.code ({ cls := "LongYearsModel", name := "noteLine", desc := "()Z" } : Jvm.MethodName) prog_20_method_36_code (3 : Nat) (Option.some Jvm.ClassFile.FieldType.boolean)) ∈ lw_all := lw_g (lw_at lw_m8 107 rfl) rfl
theorem q1917 : (Jvm.Cond.methodLink "LongYearsModel" (293 : Nat) ({ cls := "LongYearsModel", name := "noteWord", desc := "()I" } : Jvm.MethodName)) ∈ lw_all := lw_g (lw_at lw_m8 108 rfl) rfl
theorem q1918 : (Jvm.Cond.privateMethod ({ cls := "LongYearsModel", name := "noteWord", desc := "()I" } : Jvm.MethodName)) ∈ lw_tbl := lw_at lw_m8 109 rfl
theorem q1919 : (Jvm.Cond.instanceMethod ({ cls := "LongYearsModel", name := "noteWord", desc := "()I" } : Jvm.MethodName)) ∈ lw_all := lw_g (lw_at lw_m8 110 rfl) rfl
theorem q1920 : (Jvm.Cond.code ({ cls := "LongYearsModel", name := "noteWord", desc := "()I" } : Jvm.MethodName) prog_20_method_35_code (1 : Nat) (Option.some Jvm.ClassFile.FieldType.int)) ∈ lw_all := lw_g (lw_at lw_m8 111 rfl) rfl
theorem q1921 : (Jvm.Cond.methodLink "LongYearsModel" (297 : Nat) ({ cls := "LongYearsModel", name := "isOf", desc := "(II)Z" } : Jvm.MethodName)) ∈ lw_all := lw_g (lw_at lw_m8 112 rfl) rfl
theorem q1922 : (Jvm.Cond.static ({ cls := "LongYearsModel", name := "isOf", desc := "(II)Z" } : Jvm.MethodName)) ∈ lw_all := lw_g (lw_at lw_m8 113 rfl) rfl
theorem q1923 : (Jvm.Cond.code ({ cls := "LongYearsModel", name := "isOf", desc := "(II)Z" } : Jvm.MethodName) prog_20_method_5_code (2 : Nat) (Option.some Jvm.ClassFile.FieldType.boolean)) ∈ lw_all := lw_g (lw_at lw_m8 114 rfl) rfl
theorem q1924 : (Jvm.Cond.methodLink "LongYearsModel" (300 : Nat) ({ cls := "LongYearsModel", name := "saysRead", desc := "(II)Z" } : Jvm.MethodName)) ∈ lw_all := lw_g (lw_at lw_m8 115 rfl) rfl
theorem q1925 : (Jvm.Cond.privateMethod ({ cls := "LongYearsModel", name := "saysRead", desc := "(II)Z" } : Jvm.MethodName)) ∈ lw_tbl := lw_at lw_m8 116 rfl
theorem q1926 : (Jvm.Cond.instanceMethod ({ cls := "LongYearsModel", name := "saysRead", desc := "(II)Z" } : Jvm.MethodName)) ∈ lw_all := lw_g (lw_at lw_m8 117 rfl) rfl
theorem q1927 : (Jvm.Cond.code ({ cls := "LongYearsModel", name := "saysRead", desc := "(II)Z" } : Jvm.MethodName) prog_20_method_37_code (4 : Nat) (Option.some Jvm.ClassFile.FieldType.boolean)) ∈ lw_all := lw_g (lw_at lw_m8 118 rfl) rfl
theorem q1928 : (Jvm.Cond.methodLink "LongYearsModel" (318 : Nat) ({ cls := "LongYearsModel", name := "sunLine", desc := "()Z" } : Jvm.MethodName)) ∈ lw_all := lw_g (lw_at lw_m8 119 rfl) rfl
theorem q1929 : (Jvm.Cond.privateMethod ({ cls := "LongYearsModel", name := "sunLine", desc := "()Z" } : Jvm.MethodName)) ∈ lw_tbl := lw_at lw_m8 120 rfl
theorem q1930 : (Jvm.Cond.instanceMethod ({ cls := "LongYearsModel", name := "sunLine", desc := "()Z" } : Jvm.MethodName)) ∈ lw_all := lw_g (lw_at lw_m8 121 rfl) rfl
theorem q1931 : (Jvm.Cond.code ({ cls := "LongYearsModel", name := "sunLine", desc := "()Z" } : Jvm.MethodName) prog_20_method_30_code (1 : Nat) (Option.some Jvm.ClassFile.FieldType.boolean)) ∈ lw_all := lw_g (lw_at lw_m8 122 rfl) rfl
theorem q1932 : (Jvm.Cond.methodLink "LongYearsModel" (266 : Nat) ({ cls := "LongYearsModel", name := "roundRead", desc := "(I)Z" } : Jvm.MethodName)) ∈ lw_all := lw_g (lw_at lw_m8 123 rfl) rfl
theorem q1933 : (Jvm.Cond.privateMethod ({ cls := "LongYearsModel", name := "roundRead", desc := "(I)Z" } : Jvm.MethodName)) ∈ lw_tbl := lw_at lw_m8 124 rfl
theorem q1934 : (Jvm.Cond.instanceMethod ({ cls := "LongYearsModel", name := "roundRead", desc := "(I)Z" } : Jvm.MethodName)) ∈ lw_all := lw_g (lw_at lw_m8 125 rfl) rfl
theorem q1935 : (Jvm.Cond.code ({ cls := "LongYearsModel", name := "roundRead", desc := "(I)Z" } : Jvm.MethodName) prog_20_method_28_code (2 : Nat) (Option.some Jvm.ClassFile.FieldType.boolean)) ∈ lw_all := lw_g (lw_at lw_m8 126 rfl) rfl
theorem q1936 : (Jvm.Cond.methodLink "LongYearsModel" (321 : Nat) ({ cls := "LongYearsModel", name := "weekLine", desc := "()Z" } : Jvm.MethodName)) ∈ lw_all := lw_g (lw_at lw_m8 127 rfl) rfl
theorem q1937 : (Jvm.Cond.privateMethod ({ cls := "LongYearsModel", name := "weekLine", desc := "()Z" } : Jvm.MethodName)) ∈ lw_tbl := lw_at lw_m8 128 rfl
theorem q1938 : (Jvm.Cond.instanceMethod ({ cls := "LongYearsModel", name := "weekLine", desc := "()Z" } : Jvm.MethodName)) ∈ lw_all := lw_g (lw_at lw_m8 129 rfl) rfl
theorem q1939 : (Jvm.Cond.code ({ cls := "LongYearsModel", name := "weekLine", desc := "()Z" } : Jvm.MethodName) prog_20_method_27_code (1 : Nat) (Option.some Jvm.ClassFile.FieldType.boolean)) ∈ lw_all := lw_g (lw_at lw_m8 130 rfl) rfl
theorem q1940 : (Jvm.Cond.methodLink "LongYearsModel" (324 : Nat) ({ cls := "LongYearsModel", name := "moonLine", desc := "()Z" } : Jvm.MethodName)) ∈ lw_all := lw_g (lw_at lw_m8 131 rfl) rfl
theorem q1941 : (Jvm.Cond.privateMethod ({ cls := "LongYearsModel", name := "moonLine", desc := "()Z" } : Jvm.MethodName)) ∈ lw_tbl := lw_at lw_m8 132 rfl
theorem q1942 : (Jvm.Cond.instanceMethod ({ cls := "LongYearsModel", name := "moonLine", desc := "()Z" } : Jvm.MethodName)) ∈ lw_all := lw_g (lw_at lw_m8 133 rfl) rfl
theorem q1943 : (Jvm.Cond.code ({ cls := "LongYearsModel", name := "moonLine", desc := "()Z" } : Jvm.MethodName) prog_20_method_29_code (1 : Nat) (Option.some Jvm.ClassFile.FieldType.boolean)) ∈ lw_all := lw_g (lw_at lw_m8 134 rfl) rfl
theorem q1945 : (Jvm.Cond.instanceMethod ({ cls := "LongYearsModel", name := "fault", desc := "(I)I" } : Jvm.MethodName)) ∈ lw_all := lw_g (lw_at lw_m8 136 rfl) rfl
theorem q1946 : (Jvm.Cond.selects "LongYearsModel" ({ cls := "LongYearsModel", name := "fault", desc := "(I)I" } : Jvm.MethodName) ({ cls := "LongYearsModel", name := "fault", desc := "(I)I" } : Jvm.MethodName)) ∈ lw_all := lw_g (lw_at lw_m8 137 rfl) rfl
theorem q1947 : (Jvm.Cond.code ({ cls := "LongYearsModel", name := "fault", desc := "(I)I" } : Jvm.MethodName) prog_20_method_40_code (2 : Nat) (Option.some Jvm.ClassFile.FieldType.int)) ∈ lw_all := lw_g (lw_at lw_m8 138 rfl) rfl
theorem q1949 : (Jvm.Cond.instanceMethod ({ cls := "LongYearsModel", name := "named", desc := "(II)I" } : Jvm.MethodName)) ∈ lw_all := lw_g (lw_at lw_m8 140 rfl) rfl
theorem q1950 : (Jvm.Cond.selects "LongYearsModel" ({ cls := "LongYearsModel", name := "named", desc := "(II)I" } : Jvm.MethodName) ({ cls := "LongYearsModel", name := "named", desc := "(II)I" } : Jvm.MethodName)) ∈ lw_all := lw_g (lw_at lw_m8 141 rfl) rfl
theorem q1951 : (Jvm.Cond.code ({ cls := "LongYearsModel", name := "named", desc := "(II)I" } : Jvm.MethodName) prog_20_method_41_code (3 : Nat) (Option.some Jvm.ClassFile.FieldType.int)) ∈ lw_all := lw_g (lw_at lw_m8 142 rfl) rfl
theorem q1953 : (Jvm.Cond.instanceMethod ({ cls := "LongYearsModel", name := "look", desc := "(II)I" } : Jvm.MethodName)) ∈ lw_all := lw_g (lw_at lw_m8 144 rfl) rfl
theorem q1954 : (Jvm.Cond.selects "LongYearsModel" ({ cls := "LongYearsModel", name := "look", desc := "(II)I" } : Jvm.MethodName) ({ cls := "LongYearsModel", name := "look", desc := "(II)I" } : Jvm.MethodName)) ∈ lw_all := lw_g (lw_at lw_m8 145 rfl) rfl
theorem q1955 : (Jvm.Cond.code ({ cls := "LongYearsModel", name := "look", desc := "(II)I" } : Jvm.MethodName) prog_20_method_61_code (3 : Nat) (Option.some Jvm.ClassFile.FieldType.int)) ∈ lw_all := lw_g (lw_at lw_m8 146 rfl) rfl
theorem q1956 : (Jvm.Cond.methodLink "LongYearsModel" (404 : Nat) ({ cls := "LongYearsModel", name := "isLand", desc := "(I)Z" } : Jvm.MethodName)) ∈ lw_all := lw_g (lw_at lw_m8 147 rfl) rfl
theorem q1957 : (Jvm.Cond.privateMethod ({ cls := "LongYearsModel", name := "isLand", desc := "(I)Z" } : Jvm.MethodName)) ∈ lw_tbl := lw_at lw_m8 148 rfl
theorem q1958 : (Jvm.Cond.instanceMethod ({ cls := "LongYearsModel", name := "isLand", desc := "(I)Z" } : Jvm.MethodName)) ∈ lw_all := lw_g (lw_at lw_m8 149 rfl) rfl
theorem q1959 : (Jvm.Cond.code ({ cls := "LongYearsModel", name := "isLand", desc := "(I)Z" } : Jvm.MethodName) prog_20_method_58_code (2 : Nat) (Option.some Jvm.ClassFile.FieldType.boolean)) ∈ lw_all := lw_g (lw_at lw_m8 150 rfl) rfl
theorem q1960 : (Jvm.Cond.methodLink "LongYearsModel" (407 : Nat) ({ cls := "LongYearsModel", name := "fails", desc := "(I)I" } : Jvm.MethodName)) ∈ lw_all := lw_g (lw_at lw_m8 151 rfl) rfl
theorem q1961 : (Jvm.Cond.privateMethod ({ cls := "LongYearsModel", name := "fails", desc := "(I)I" } : Jvm.MethodName)) ∈ lw_tbl := lw_at lw_m8 152 rfl
theorem q1962 : (Jvm.Cond.instanceMethod ({ cls := "LongYearsModel", name := "fails", desc := "(I)I" } : Jvm.MethodName)) ∈ lw_all := lw_g (lw_at lw_m8 153 rfl) rfl
theorem q1963 : (Jvm.Cond.code ({ cls := "LongYearsModel", name := "fails", desc := "(I)I" } : Jvm.MethodName) prog_20_method_60_code (2 : Nat) (Option.some Jvm.ClassFile.FieldType.int)) ∈ lw_all := lw_g (lw_at lw_m8 154 rfl) rfl
theorem q1965 : (Jvm.Cond.instanceMethod ({ cls := "LongYearsModel", name := "length", desc := "(II)J" } : Jvm.MethodName)) ∈ lw_all := lw_g (lw_at lw_m8 156 rfl) rfl
theorem q1966 : (Jvm.Cond.selects "LongYearsModel" ({ cls := "LongYearsModel", name := "length", desc := "(II)J" } : Jvm.MethodName) ({ cls := "LongYearsModel", name := "length", desc := "(II)J" } : Jvm.MethodName)) ∈ lw_all := lw_g (lw_at lw_m8 157 rfl) rfl
theorem q1967 : (Jvm.Cond.code ({ cls := "LongYearsModel", name := "length", desc := "(II)J" } : Jvm.MethodName) prog_20_method_62_code (3 : Nat) (Option.some Jvm.ClassFile.FieldType.long)) ∈ lw_all := lw_g (lw_at lw_m8 158 rfl) rfl
theorem q1968 : (Jvm.Cond.methodLink "LongYearsModel" (410 : Nat) ({ cls := "LongYearsModel", name := "isAsked", desc := "(IJ)Z" } : Jvm.MethodName)) ∈ lw_all := lw_g (lw_at lw_m8 159 rfl) rfl
theorem q1969 : (Jvm.Cond.privateMethod ({ cls := "LongYearsModel", name := "isAsked", desc := "(IJ)Z" } : Jvm.MethodName)) ∈ lw_tbl := lw_at lw_m8 160 rfl
theorem q1970 : (Jvm.Cond.instanceMethod ({ cls := "LongYearsModel", name := "isAsked", desc := "(IJ)Z" } : Jvm.MethodName)) ∈ lw_all := lw_g (lw_at lw_m8 161 rfl) rfl
theorem q1971 : (Jvm.Cond.code ({ cls := "LongYearsModel", name := "isAsked", desc := "(IJ)Z" } : Jvm.MethodName) prog_20_method_59_code (4 : Nat) (Option.some Jvm.ClassFile.FieldType.boolean)) ∈ lw_all := lw_g (lw_at lw_m8 162 rfl) rfl
theorem q1972 : (Jvm.Cond.constantLong "LongYearsModel" (402 : Nat) (1000000000 : Int64)) ∈ lw_all := lw_g (lw_at lw_m8 163 rfl) rfl
theorem q1974 : (Jvm.Cond.instanceMethod ({ cls := "LongYearsModel", name := "date", desc := "(IJI)J" } : Jvm.MethodName)) ∈ lw_all := lw_g (lw_at lw_m8 165 rfl) rfl
theorem q1975 : (Jvm.Cond.selects "LongYearsModel" ({ cls := "LongYearsModel", name := "date", desc := "(IJI)J" } : Jvm.MethodName) ({ cls := "LongYearsModel", name := "date", desc := "(IJI)J" } : Jvm.MethodName)) ∈ lw_all := lw_g (lw_at lw_m8 166 rfl) rfl
theorem q1976 : (Jvm.Cond.code ({ cls := "LongYearsModel", name := "date", desc := "(IJI)J" } : Jvm.MethodName) prog_20_method_63_code (5 : Nat) (Option.some Jvm.ClassFile.FieldType.long)) ∈ lw_all := lw_g (lw_at lw_m8 167 rfl) rfl
theorem q1977 : (Jvm.Cond.methodLink "LongYearsModel" (413 : Nat) ({ cls := "LongYearsModel", name := "isCount", desc := "(J)Z" } : Jvm.MethodName)) ∈ lw_all := lw_g (lw_at lw_m8 168 rfl) rfl
theorem q1978 : (Jvm.Cond.static ({ cls := "LongYearsModel", name := "isCount", desc := "(J)Z" } : Jvm.MethodName)) ∈ lw_all := lw_g (lw_at lw_m8 169 rfl) rfl
theorem q1979 : (Jvm.Cond.code ({ cls := "LongYearsModel", name := "isCount", desc := "(J)Z" } : Jvm.MethodName) prog_20_method_6_code (2 : Nat) (Option.some Jvm.ClassFile.FieldType.boolean)) ∈ lw_all := lw_g (lw_at lw_m8 170 rfl) rfl
theorem q1980 : (Jvm.Cond.methodLink "LongYearsModel" (416 : Nat) ({ cls := "LongYearsModel", name := "date1", desc := "(IJ)Z" } : Jvm.MethodName)) ∈ lw_all := lw_g (lw_at lw_m8 171 rfl) rfl
theorem q1981 : (Jvm.Cond.privateMethod ({ cls := "LongYearsModel", name := "date1", desc := "(IJ)Z" } : Jvm.MethodName)) ∈ lw_tbl := lw_at lw_m8 172 rfl
theorem q1982 : (Jvm.Cond.instanceMethod ({ cls := "LongYearsModel", name := "date1", desc := "(IJ)Z" } : Jvm.MethodName)) ∈ lw_all := lw_g (lw_at lw_m8 173 rfl) rfl
theorem q1983 : (Jvm.Cond.code ({ cls := "LongYearsModel", name := "date1", desc := "(IJ)Z" } : Jvm.MethodName) prog_20_method_57_code (12 : Nat) (Option.some Jvm.ClassFile.FieldType.boolean)) ∈ lw_all := lw_g (lw_at lw_m8 174 rfl) rfl
theorem q1984 : (Jvm.Cond.methodLink "LongYearsModel" (392 : Nat) ({ cls := "LongYearsModel", name := "endYear", desc := "(I)J" } : Jvm.MethodName)) ∈ lw_all := lw_g (lw_at lw_m8 175 rfl) rfl
theorem q1985 : (Jvm.Cond.privateMethod ({ cls := "LongYearsModel", name := "endYear", desc := "(I)J" } : Jvm.MethodName)) ∈ lw_tbl := lw_at lw_m8 176 rfl
theorem q1986 : (Jvm.Cond.instanceMethod ({ cls := "LongYearsModel", name := "endYear", desc := "(I)J" } : Jvm.MethodName)) ∈ lw_all := lw_g (lw_at lw_m8 177 rfl) rfl
theorem q1987 : (Jvm.Cond.code ({ cls := "LongYearsModel", name := "endYear", desc := "(I)J" } : Jvm.MethodName) prog_20_method_55_code (2 : Nat) (Option.some Jvm.ClassFile.FieldType.long)) ∈ lw_all := lw_g (lw_at lw_m8 178 rfl) rfl
theorem q1989 : (Jvm.Cond.instanceMethod ({ cls := "LongYearsModel", name := "count", desc := "(IIJ)J" } : Jvm.MethodName)) ∈ lw_all := lw_g (lw_at lw_m8 180 rfl) rfl
theorem q1990 : (Jvm.Cond.selects "LongYearsModel" ({ cls := "LongYearsModel", name := "count", desc := "(IIJ)J" } : Jvm.MethodName) ({ cls := "LongYearsModel", name := "count", desc := "(IIJ)J" } : Jvm.MethodName)) ∈ lw_all := lw_g (lw_at lw_m8 181 rfl) rfl
theorem q1991 : (Jvm.Cond.code ({ cls := "LongYearsModel", name := "count", desc := "(IIJ)J" } : Jvm.MethodName) prog_20_method_64_code (5 : Nat) (Option.some Jvm.ClassFile.FieldType.long)) ∈ lw_all := lw_g (lw_at lw_m8 182 rfl) rfl
theorem q1992 : (Jvm.Cond.constant "LongYearsModel" (419 : Nat) (1000000000 : Int32)) ∈ lw_all := lw_g (lw_at lw_m8 183 rfl) rfl
theorem q1994 : (Jvm.Cond.instanceMethod ({ cls := "LongYearsModel", name := "round", desc := "(JI)I" } : Jvm.MethodName)) ∈ lw_all := lw_g (lw_at lw_m8 185 rfl) rfl
theorem q1995 : (Jvm.Cond.selects "LongYearsModel" ({ cls := "LongYearsModel", name := "round", desc := "(JI)I" } : Jvm.MethodName) ({ cls := "LongYearsModel", name := "round", desc := "(JI)I" } : Jvm.MethodName)) ∈ lw_all := lw_g (lw_at lw_m8 186 rfl) rfl
theorem q1996 : (Jvm.Cond.code ({ cls := "LongYearsModel", name := "round", desc := "(JI)I" } : Jvm.MethodName) prog_20_method_66_code (4 : Nat) (Option.some Jvm.ClassFile.FieldType.int)) ∈ lw_all := lw_g (lw_at lw_m8 187 rfl) rfl
theorem q1997 : (Jvm.Cond.methodLink "LongYearsModel" (424 : Nat) ({ cls := "LongYearsModel", name := "roundOf", desc := "(JI)I" } : Jvm.MethodName)) ∈ lw_all := lw_g (lw_at lw_m8 188 rfl) rfl
theorem q1998 : (Jvm.Cond.privateMethod ({ cls := "LongYearsModel", name := "roundOf", desc := "(JI)I" } : Jvm.MethodName)) ∈ lw_tbl := lw_at lw_m8 189 rfl
theorem q1999 : (Jvm.Cond.instanceMethod ({ cls := "LongYearsModel", name := "roundOf", desc := "(JI)I" } : Jvm.MethodName)) ∈ lw_all := lw_g (lw_at lw_m8 190 rfl) rfl
theorem q2000 : (Jvm.Cond.code ({ cls := "LongYearsModel", name := "roundOf", desc := "(JI)I" } : Jvm.MethodName) prog_20_method_65_code (4 : Nat) (Option.some Jvm.ClassFile.FieldType.int)) ∈ lw_all := lw_g (lw_at lw_m8 191 rfl) rfl
theorem q2001 : (Jvm.Cond.constantLong "LongYearsModel" (420 : Nat) (8 : Int64)) ∈ lw_all := lw_g (lw_at lw_m8 192 rfl) rfl
theorem q2002 : (Jvm.Cond.constantLong "LongYearsModel" (422 : Nat) (4 : Int64)) ∈ lw_all := lw_g (lw_at lw_m8 193 rfl) rfl
theorem q2004 : (Jvm.Cond.instanceMethod ({ cls := "LongYearsModel", name := "feast", desc := "(IJ)I" } : Jvm.MethodName)) ∈ lw_all := lw_g (lw_at lw_m8 195 rfl) rfl
theorem q2005 : (Jvm.Cond.selects "LongYearsModel" ({ cls := "LongYearsModel", name := "feast", desc := "(IJ)I" } : Jvm.MethodName) ({ cls := "LongYearsModel", name := "feast", desc := "(IJ)I" } : Jvm.MethodName)) ∈ lw_all := lw_g (lw_at lw_m8 196 rfl) rfl
theorem q2006 : (Jvm.Cond.code ({ cls := "LongYearsModel", name := "feast", desc := "(IJ)I" } : Jvm.MethodName) prog_20_method_73_code (4 : Nat) (Option.some Jvm.ClassFile.FieldType.int)) ∈ lw_all := lw_g (lw_at lw_m8 197 rfl) rfl
theorem q2007 : (Jvm.Cond.methodLink "LongYearsModel" (448 : Nat) ({ cls := "LongYearsModel", name := "isFeast", desc := "(I)Z" } : Jvm.MethodName)) ∈ lw_all := lw_g (lw_at lw_m8 198 rfl) rfl
theorem q2008 : (Jvm.Cond.privateMethod ({ cls := "LongYearsModel", name := "isFeast", desc := "(I)Z" } : Jvm.MethodName)) ∈ lw_tbl := lw_at lw_m8 199 rfl
theorem q2009 : (Jvm.Cond.instanceMethod ({ cls := "LongYearsModel", name := "isFeast", desc := "(I)Z" } : Jvm.MethodName)) ∈ lw_all := lw_g (lw_at lw_m8 200 rfl) rfl
theorem q2010 : (Jvm.Cond.code ({ cls := "LongYearsModel", name := "isFeast", desc := "(I)Z" } : Jvm.MethodName) prog_20_method_72_code (2 : Nat) (Option.some Jvm.ClassFile.FieldType.boolean)) ∈ lw_all := lw_g (lw_at lw_m8 201 rfl) rfl
theorem q2011 : (Jvm.Cond.methodLink "LongYearsModel" (451 : Nat) ({ cls := "LongYearsModel", name := "sumOf", desc := "(IJ)J" } : Jvm.MethodName)) ∈ lw_all := lw_g (lw_at lw_m8 202 rfl) rfl
theorem q2012 : (Jvm.Cond.privateMethod ({ cls := "LongYearsModel", name := "sumOf", desc := "(IJ)J" } : Jvm.MethodName)) ∈ lw_tbl := lw_at lw_m8 203 rfl
theorem q2013 : (Jvm.Cond.instanceMethod ({ cls := "LongYearsModel", name := "sumOf", desc := "(IJ)J" } : Jvm.MethodName)) ∈ lw_all := lw_g (lw_at lw_m8 204 rfl) rfl
theorem q2014 : (Jvm.Cond.code ({ cls := "LongYearsModel", name := "sumOf", desc := "(IJ)J" } : Jvm.MethodName) prog_20_method_71_code (6 : Nat) (Option.some Jvm.ClassFile.FieldType.long)) ∈ lw_all := lw_g (lw_at lw_m8 205 rfl) rfl
theorem q2015 : (Jvm.Cond.methodLink "LongYearsModel" (445 : Nat) ({ cls := "LongYearsModel", name := "valueOf", desc := "(I)J" } : Jvm.MethodName)) ∈ lw_all := lw_g (lw_at lw_m8 206 rfl) rfl
theorem q2016 : (Jvm.Cond.privateMethod ({ cls := "LongYearsModel", name := "valueOf", desc := "(I)J" } : Jvm.MethodName)) ∈ lw_tbl := lw_at lw_m8 207 rfl
theorem q2017 : (Jvm.Cond.instanceMethod ({ cls := "LongYearsModel", name := "valueOf", desc := "(I)J" } : Jvm.MethodName)) ∈ lw_all := lw_g (lw_at lw_m8 208 rfl) rfl
theorem q2018 : (Jvm.Cond.code ({ cls := "LongYearsModel", name := "valueOf", desc := "(I)J" } : Jvm.MethodName) prog_20_method_70_code (6 : Nat) (Option.some Jvm.ClassFile.FieldType.long)) ∈ lw_all := lw_g (lw_at lw_m8 209 rfl) rfl
theorem q2019 : (Jvm.Cond.methodLink "LongYearsModel" (433 : Nat) ({ cls := "LongYearsModel", name := "bounded", desc := "(J)J" } : Jvm.MethodName)) ∈ lw_all := lw_g (lw_at lw_m8 210 rfl) rfl
theorem q2020 : (Jvm.Cond.privateMethod ({ cls := "LongYearsModel", name := "bounded", desc := "(J)J" } : Jvm.MethodName)) ∈ lw_tbl := lw_at lw_m8 211 rfl
theorem q2021 : (Jvm.Cond.instanceMethod ({ cls := "LongYearsModel", name := "bounded", desc := "(J)J" } : Jvm.MethodName)) ∈ lw_all := lw_g (lw_at lw_m8 212 rfl) rfl
theorem q2022 : (Jvm.Cond.code ({ cls := "LongYearsModel", name := "bounded", desc := "(J)J" } : Jvm.MethodName) prog_20_method_67_code (3 : Nat) (Option.some Jvm.ClassFile.FieldType.long)) ∈ lw_all := lw_g (lw_at lw_m8 213 rfl) rfl
theorem q2023 : (Jvm.Cond.constantLong "LongYearsModel" (431 : Nat) (-1000000000000 : Int64)) ∈ lw_all := lw_g (lw_at lw_m8 214 rfl) rfl
theorem q2024 : (Jvm.Cond.methodLink "LongYearsModel" (437 : Nat) ({ cls := "LongYearsModel", name := "times", desc := "(JJ)J" } : Jvm.MethodName)) ∈ lw_all := lw_g (lw_at lw_m8 215 rfl) rfl
theorem q2025 : (Jvm.Cond.privateMethod ({ cls := "LongYearsModel", name := "times", desc := "(JJ)J" } : Jvm.MethodName)) ∈ lw_tbl := lw_at lw_m8 216 rfl
theorem q2026 : (Jvm.Cond.instanceMethod ({ cls := "LongYearsModel", name := "times", desc := "(JJ)J" } : Jvm.MethodName)) ∈ lw_all := lw_g (lw_at lw_m8 217 rfl) rfl
theorem q2027 : (Jvm.Cond.code ({ cls := "LongYearsModel", name := "times", desc := "(JJ)J" } : Jvm.MethodName) prog_20_method_69_code (6 : Nat) (Option.some Jvm.ClassFile.FieldType.long)) ∈ lw_all := lw_g (lw_at lw_m8 218 rfl) rfl
theorem q2028 : (Jvm.Cond.methodLink "LongYearsModel" (441 : Nat) ({ cls := "LongYearsModel", name := "compares", desc := "(IJJ)Z" } : Jvm.MethodName)) ∈ lw_all := lw_g (lw_at lw_m8 219 rfl) rfl
theorem q2029 : (Jvm.Cond.static ({ cls := "LongYearsModel", name := "compares", desc := "(IJJ)Z" } : Jvm.MethodName)) ∈ lw_all := lw_g (lw_at lw_m8 220 rfl) rfl
theorem q2030 : (Jvm.Cond.code ({ cls := "LongYearsModel", name := "compares", desc := "(IJJ)Z" } : Jvm.MethodName) prog_20_method_68_code (5 : Nat) (Option.some Jvm.ClassFile.FieldType.boolean)) ∈ lw_all := lw_g (lw_at lw_m8 221 rfl) rfl
theorem q2032 : (Jvm.Cond.instanceMethod ({ cls := "LongYearsModel", name := "festive", desc := "(IJ)J" } : Jvm.MethodName)) ∈ lw_all := lw_g (lw_at lw_m8 223 rfl) rfl
theorem q2033 : (Jvm.Cond.selects "LongYearsModel" ({ cls := "LongYearsModel", name := "festive", desc := "(IJ)J" } : Jvm.MethodName) ({ cls := "LongYearsModel", name := "festive", desc := "(IJ)J" } : Jvm.MethodName)) ∈ lw_all := lw_g (lw_at lw_m8 224 rfl) rfl
theorem q2034 : (Jvm.Cond.code ({ cls := "LongYearsModel", name := "festive", desc := "(IJ)J" } : Jvm.MethodName) prog_20_method_75_code (4 : Nat) (Option.some Jvm.ClassFile.FieldType.long)) ∈ lw_all := lw_g (lw_at lw_m8 225 rfl) rfl
theorem q2035 : (Jvm.Cond.methodLink "LongYearsModel" (458 : Nat) ({ cls := "LongYearsModel", name := "festiveOf", desc := "(IJ)J" } : Jvm.MethodName)) ∈ lw_all := lw_g (lw_at lw_m8 226 rfl) rfl
theorem q2036 : (Jvm.Cond.privateMethod ({ cls := "LongYearsModel", name := "festiveOf", desc := "(IJ)J" } : Jvm.MethodName)) ∈ lw_tbl := lw_at lw_m8 227 rfl
theorem q2037 : (Jvm.Cond.instanceMethod ({ cls := "LongYearsModel", name := "festiveOf", desc := "(IJ)J" } : Jvm.MethodName)) ∈ lw_all := lw_g (lw_at lw_m8 228 rfl) rfl
theorem q2038 : (Jvm.Cond.code ({ cls := "LongYearsModel", name := "festiveOf", desc := "(IJ)J" } : Jvm.MethodName) prog_20_method_74_code (6 : Nat) (Option.some Jvm.ClassFile.FieldType.long)) ∈ lw_all := lw_g (lw_at lw_m8 229 rfl) rfl
theorem q2039 : (Jvm.Cond.constantLong "LongYearsModel" (454 : Nat) (20000 : Int64)) ∈ lw_all := lw_g (lw_at lw_m8 230 rfl) rfl
theorem q2040 : (Jvm.Cond.constantLong "LongYearsModel" (456 : Nat) (-2 : Int64)) ∈ lw_all := lw_g (lw_at lw_m8 231 rfl) rfl
theorem q2042 : (Jvm.Cond.instanceMethod ({ cls := "LongYearsModel", name := "rule", desc := "(IJ)J" } : Jvm.MethodName)) ∈ lw_all := lw_g (lw_at lw_m8 233 rfl) rfl
theorem q2043 : (Jvm.Cond.selects "LongYearsModel" ({ cls := "LongYearsModel", name := "rule", desc := "(IJ)J" } : Jvm.MethodName) ({ cls := "LongYearsModel", name := "rule", desc := "(IJ)J" } : Jvm.MethodName)) ∈ lw_all := lw_g (lw_at lw_m8 234 rfl) rfl
theorem q2044 : (Jvm.Cond.code ({ cls := "LongYearsModel", name := "rule", desc := "(IJ)J" } : Jvm.MethodName) prog_20_method_76_code (6 : Nat) (Option.some Jvm.ClassFile.FieldType.long)) ∈ lw_all := lw_g (lw_at lw_m8 235 rfl) rfl
theorem q2045 : (Jvm.Cond.constantLong "LongYearsModel" (461 : Nat) (-9223372036854775808 : Int64)) ∈ lw_all := lw_g (lw_at lw_m8 236 rfl) rfl
theorem q2047 : (Jvm.Cond.instanceMethod ({ cls := "LongYearsModel", name := "life", desc := "(II)J" } : Jvm.MethodName)) ∈ lw_all := lw_g (lw_at lw_m8 238 rfl) rfl
theorem q2048 : (Jvm.Cond.selects "LongYearsModel" ({ cls := "LongYearsModel", name := "life", desc := "(II)J" } : Jvm.MethodName) ({ cls := "LongYearsModel", name := "life", desc := "(II)J" } : Jvm.MethodName)) ∈ lw_all := lw_g (lw_at lw_m8 239 rfl) rfl
theorem q2049 : (Jvm.Cond.code ({ cls := "LongYearsModel", name := "life", desc := "(II)J" } : Jvm.MethodName) prog_20_method_78_code (3 : Nat) (Option.some Jvm.ClassFile.FieldType.long)) ∈ lw_all := lw_g (lw_at lw_m9 0 rfl) rfl
theorem q2050 : (Jvm.Cond.methodLink "LongYearsModel" (463 : Nat) ({ cls := "LongYearsModel", name := "isPerson", desc := "(I)Z" } : Jvm.MethodName)) ∈ lw_all := lw_g (lw_at lw_m9 1 rfl) rfl
theorem q2051 : (Jvm.Cond.privateMethod ({ cls := "LongYearsModel", name := "isPerson", desc := "(I)Z" } : Jvm.MethodName)) ∈ lw_tbl := lw_at lw_m9 2 rfl
theorem q2052 : (Jvm.Cond.instanceMethod ({ cls := "LongYearsModel", name := "isPerson", desc := "(I)Z" } : Jvm.MethodName)) ∈ lw_all := lw_g (lw_at lw_m9 3 rfl) rfl
theorem q2053 : (Jvm.Cond.code ({ cls := "LongYearsModel", name := "isPerson", desc := "(I)Z" } : Jvm.MethodName) prog_20_method_77_code (2 : Nat) (Option.some Jvm.ClassFile.FieldType.boolean)) ∈ lw_all := lw_g (lw_at lw_m9 4 rfl) rfl
theorem q2055 : (Jvm.Cond.instanceMethod ({ cls := "LongYearsModel", name := "age", desc := "(IJI)J" } : Jvm.MethodName)) ∈ lw_all := lw_g (lw_at lw_m9 6 rfl) rfl
theorem q2056 : (Jvm.Cond.selects "LongYearsModel" ({ cls := "LongYearsModel", name := "age", desc := "(IJI)J" } : Jvm.MethodName) ({ cls := "LongYearsModel", name := "age", desc := "(IJI)J" } : Jvm.MethodName)) ∈ lw_all := lw_g (lw_at lw_m9 7 rfl) rfl
theorem q2057 : (Jvm.Cond.code ({ cls := "LongYearsModel", name := "age", desc := "(IJI)J" } : Jvm.MethodName) prog_20_method_79_code (16 : Nat) (Option.some Jvm.ClassFile.FieldType.long)) ∈ lw_all := lw_g (lw_at lw_m9 8 rfl) rfl
theorem q2059 : (Jvm.Cond.instanceMethod ({ cls := "LongYearsModel", name := "elder", desc := "(II)I" } : Jvm.MethodName)) ∈ lw_all := lw_g (lw_at lw_m9 10 rfl) rfl
theorem q2060 : (Jvm.Cond.selects "LongYearsModel" ({ cls := "LongYearsModel", name := "elder", desc := "(II)I" } : Jvm.MethodName) ({ cls := "LongYearsModel", name := "elder", desc := "(II)I" } : Jvm.MethodName)) ∈ lw_all := lw_g (lw_at lw_m9 11 rfl) rfl
theorem q2061 : (Jvm.Cond.code ({ cls := "LongYearsModel", name := "elder", desc := "(II)I" } : Jvm.MethodName) prog_20_method_80_code (3 : Nat) (Option.some Jvm.ClassFile.FieldType.int)) ∈ lw_all := lw_g (lw_at lw_m9 12 rfl) rfl
theorem q2063 : (Jvm.Cond.instanceMethod ({ cls := "LongYearsModel", name := "often", desc := "(IIIJ)J" } : Jvm.MethodName)) ∈ lw_all := lw_g (lw_at lw_m9 14 rfl) rfl
theorem q2064 : (Jvm.Cond.selects "LongYearsModel" ({ cls := "LongYearsModel", name := "often", desc := "(IIIJ)J" } : Jvm.MethodName) ({ cls := "LongYearsModel", name := "often", desc := "(IIIJ)J" } : Jvm.MethodName)) ∈ lw_all := lw_g (lw_at lw_m9 15 rfl) rfl
theorem q2065 : (Jvm.Cond.code ({ cls := "LongYearsModel", name := "often", desc := "(IIIJ)J" } : Jvm.MethodName) prog_20_method_81_code (16 : Nat) (Option.some Jvm.ClassFile.FieldType.long)) ∈ lw_all := lw_g (lw_at lw_m9 16 rfl) rfl
theorem q2067 : (Jvm.Cond.instanceMethod ({ cls := "LongYearsModel", name := "springs", desc := "(II)J" } : Jvm.MethodName)) ∈ lw_all := lw_g (lw_at lw_m9 18 rfl) rfl
theorem q2068 : (Jvm.Cond.selects "LongYearsModel" ({ cls := "LongYearsModel", name := "springs", desc := "(II)J" } : Jvm.MethodName) ({ cls := "LongYearsModel", name := "springs", desc := "(II)J" } : Jvm.MethodName)) ∈ lw_all := lw_g (lw_at lw_m9 19 rfl) rfl
theorem q2069 : (Jvm.Cond.code ({ cls := "LongYearsModel", name := "springs", desc := "(II)J" } : Jvm.MethodName) prog_20_method_85_code (3 : Nat) (Option.some Jvm.ClassFile.FieldType.long)) ∈ lw_all := lw_g (lw_at lw_m9 20 rfl) rfl
theorem q2070 : (Jvm.Cond.methodLink "LongYearsModel" (469 : Nat) ({ cls := "LongYearsModel", name := "begins", desc := "(IJ)Z" } : Jvm.MethodName)) ∈ lw_all := lw_g (lw_at lw_m9 21 rfl) rfl
theorem q2071 : (Jvm.Cond.privateMethod ({ cls := "LongYearsModel", name := "begins", desc := "(IJ)Z" } : Jvm.MethodName)) ∈ lw_tbl := lw_at lw_m9 22 rfl
theorem q2072 : (Jvm.Cond.instanceMethod ({ cls := "LongYearsModel", name := "begins", desc := "(IJ)Z" } : Jvm.MethodName)) ∈ lw_all := lw_g (lw_at lw_m9 23 rfl) rfl
theorem q2073 : (Jvm.Cond.code ({ cls := "LongYearsModel", name := "begins", desc := "(IJ)Z" } : Jvm.MethodName) prog_20_method_83_code (4 : Nat) (Option.some Jvm.ClassFile.FieldType.boolean)) ∈ lw_all := lw_g (lw_at lw_m9 24 rfl) rfl
theorem q2074 : (Jvm.Cond.methodLink "LongYearsModel" (472 : Nat) ({ cls := "LongYearsModel", name := "springsOf", desc := "(IJ)J" } : Jvm.MethodName)) ∈ lw_all := lw_g (lw_at lw_m9 25 rfl) rfl
theorem q2075 : (Jvm.Cond.privateMethod ({ cls := "LongYearsModel", name := "springsOf", desc := "(IJ)J" } : Jvm.MethodName)) ∈ lw_tbl := lw_at lw_m9 26 rfl
theorem q2076 : (Jvm.Cond.instanceMethod ({ cls := "LongYearsModel", name := "springsOf", desc := "(IJ)J" } : Jvm.MethodName)) ∈ lw_all := lw_g (lw_at lw_m9 27 rfl) rfl
theorem q2077 : (Jvm.Cond.code ({ cls := "LongYearsModel", name := "springsOf", desc := "(IJ)J" } : Jvm.MethodName) prog_20_method_84_code (8 : Nat) (Option.some Jvm.ClassFile.FieldType.long)) ∈ lw_all := lw_g (lw_at lw_m9 28 rfl) rfl
theorem q2078 : (Jvm.Cond.methodLink "LongYearsModel" (466 : Nat) ({ cls := "LongYearsModel", name := "floor", desc := "(JJ)J" } : Jvm.MethodName)) ∈ lw_all := lw_g (lw_at lw_m9 29 rfl) rfl
theorem q2079 : (Jvm.Cond.static ({ cls := "LongYearsModel", name := "floor", desc := "(JJ)J" } : Jvm.MethodName)) ∈ lw_all := lw_g (lw_at lw_m9 30 rfl) rfl
theorem q2080 : (Jvm.Cond.code ({ cls := "LongYearsModel", name := "floor", desc := "(JJ)J" } : Jvm.MethodName) prog_20_method_82_code (4 : Nat) (Option.some Jvm.ClassFile.FieldType.long)) ∈ lw_all := lw_g (lw_at lw_m9 31 rfl) rfl
theorem q2082 : (Jvm.Cond.instanceMethod ({ cls := "LongYearsModel", name := "many", desc := "(III)I" } : Jvm.MethodName)) ∈ lw_all := lw_g (lw_at lw_m9 33 rfl) rfl
theorem q2083 : (Jvm.Cond.selects "LongYearsModel" ({ cls := "LongYearsModel", name := "many", desc := "(III)I" } : Jvm.MethodName) ({ cls := "LongYearsModel", name := "many", desc := "(III)I" } : Jvm.MethodName)) ∈ lw_all := lw_g (lw_at lw_m9 34 rfl) rfl
theorem q2084 : (Jvm.Cond.code ({ cls := "LongYearsModel", name := "many", desc := "(III)I" } : Jvm.MethodName) prog_20_method_86_code (6 : Nat) (Option.some Jvm.ClassFile.FieldType.int)) ∈ lw_all := lw_g (lw_at lw_m9 35 rfl) rfl
theorem q2085 : (Jvm.Cond.constantLong "LongYearsModel" (475 : Nat) (1000 : Int64)) ∈ lw_all := lw_g (lw_at lw_m9 36 rfl) rfl
theorem q2087 : (Jvm.Cond.instanceMethod ({ cls := "LongYearsModel", name := "next", desc := "(JIII)J" } : Jvm.MethodName)) ∈ lw_all := lw_g (lw_at lw_m9 38 rfl) rfl
theorem q2088 : (Jvm.Cond.selects "LongYearsModel" ({ cls := "LongYearsModel", name := "next", desc := "(JIII)J" } : Jvm.MethodName) ({ cls := "LongYearsModel", name := "next", desc := "(JIII)J" } : Jvm.MethodName)) ∈ lw_all := lw_g (lw_at lw_m9 39 rfl) rfl
theorem q2089 : (Jvm.Cond.code ({ cls := "LongYearsModel", name := "next", desc := "(JIII)J" } : Jvm.MethodName) prog_20_method_87_code (9 : Nat) (Option.some Jvm.ClassFile.FieldType.long)) ∈ lw_all := lw_g (lw_at lw_m9 40 rfl) rfl
theorem q2091 : (Jvm.Cond.instanceMethod ({ cls := "LongYearsModel", name := "alike", desc := "(IIJZ)J" } : Jvm.MethodName)) ∈ lw_all := lw_g (lw_at lw_m9 42 rfl) rfl
theorem q2092 : (Jvm.Cond.selects "LongYearsModel" ({ cls := "LongYearsModel", name := "alike", desc := "(IIJZ)J" } : Jvm.MethodName) ({ cls := "LongYearsModel", name := "alike", desc := "(IIJZ)J" } : Jvm.MethodName)) ∈ lw_all := lw_g (lw_at lw_m9 43 rfl) rfl
theorem q2093 : (Jvm.Cond.code ({ cls := "LongYearsModel", name := "alike", desc := "(IIJZ)J" } : Jvm.MethodName) prog_20_method_88_code (12 : Nat) (Option.some Jvm.ClassFile.FieldType.long)) ∈ lw_all := lw_g (lw_at lw_m9 44 rfl) rfl
theorem q2095 : (Jvm.Cond.instanceMethod ({ cls := "LongYearsModel", name := "deed", desc := "(III)J" } : Jvm.MethodName)) ∈ lw_all := lw_g (lw_at lw_m9 46 rfl) rfl
theorem q2096 : (Jvm.Cond.selects "LongYearsModel" ({ cls := "LongYearsModel", name := "deed", desc := "(III)J" } : Jvm.MethodName) ({ cls := "LongYearsModel", name := "deed", desc := "(III)J" } : Jvm.MethodName)) ∈ lw_all := lw_g (lw_at lw_m9 47 rfl) rfl
theorem q2097 : (Jvm.Cond.code ({ cls := "LongYearsModel", name := "deed", desc := "(III)J" } : Jvm.MethodName) prog_20_method_92_code (6 : Nat) (Option.some Jvm.ClassFile.FieldType.long)) ∈ lw_all := lw_g (lw_at lw_m9 48 rfl) rfl
theorem q2098 : (Jvm.Cond.methodLink "LongYearsModel" (480 : Nat) ({ cls := "LongYearsModel", name := "dueOf", desc := "(II)J" } : Jvm.MethodName)) ∈ lw_all := lw_g (lw_at lw_m9 49 rfl) rfl
theorem q2099 : (Jvm.Cond.privateMethod ({ cls := "LongYearsModel", name := "dueOf", desc := "(II)J" } : Jvm.MethodName)) ∈ lw_tbl := lw_at lw_m9 50 rfl
theorem q2100 : (Jvm.Cond.instanceMethod ({ cls := "LongYearsModel", name := "dueOf", desc := "(II)J" } : Jvm.MethodName)) ∈ lw_all := lw_g (lw_at lw_m9 51 rfl) rfl
theorem q2101 : (Jvm.Cond.code ({ cls := "LongYearsModel", name := "dueOf", desc := "(II)J" } : Jvm.MethodName) prog_20_method_91_code (4 : Nat) (Option.some Jvm.ClassFile.FieldType.long)) ∈ lw_all := lw_g (lw_at lw_m9 52 rfl) rfl
theorem q2102 : (Jvm.Cond.methodLink "LongYearsModel" (477 : Nat) ({ cls := "LongYearsModel", name := "yearsLater", desc := "(IJJ)J" } : Jvm.MethodName)) ∈ lw_all := lw_g (lw_at lw_m9 53 rfl) rfl
theorem q2103 : (Jvm.Cond.privateMethod ({ cls := "LongYearsModel", name := "yearsLater", desc := "(IJJ)J" } : Jvm.MethodName)) ∈ lw_tbl := lw_at lw_m9 54 rfl
theorem q2104 : (Jvm.Cond.instanceMethod ({ cls := "LongYearsModel", name := "yearsLater", desc := "(IJJ)J" } : Jvm.MethodName)) ∈ lw_all := lw_g (lw_at lw_m9 55 rfl) rfl
theorem q2105 : (Jvm.Cond.code ({ cls := "LongYearsModel", name := "yearsLater", desc := "(IJJ)J" } : Jvm.MethodName) prog_20_method_90_code (6 : Nat) (Option.some Jvm.ClassFile.FieldType.long)) ∈ lw_all := lw_g (lw_at lw_m9 56 rfl) rfl
theorem q2106 : (Jvm.Cond.methodLink "LongYearsModel" (484 : Nat) ({ cls := "LongYearsModel", name := "endedBy", desc := "(IJ)J" } : Jvm.MethodName)) ∈ lw_all := lw_g (lw_at lw_m9 57 rfl) rfl
theorem q2107 : (Jvm.Cond.privateMethod ({ cls := "LongYearsModel", name := "endedBy", desc := "(IJ)J" } : Jvm.MethodName)) ∈ lw_tbl := lw_at lw_m9 58 rfl
theorem q2108 : (Jvm.Cond.instanceMethod ({ cls := "LongYearsModel", name := "endedBy", desc := "(IJ)J" } : Jvm.MethodName)) ∈ lw_all := lw_g (lw_at lw_m9 59 rfl) rfl
theorem q2109 : (Jvm.Cond.code ({ cls := "LongYearsModel", name := "endedBy", desc := "(IJ)J" } : Jvm.MethodName) prog_20_method_89_code (4 : Nat) (Option.some Jvm.ClassFile.FieldType.long)) ∈ lw_all := lw_g (lw_at lw_m9 60 rfl) rfl
theorem q2111 : (Jvm.Cond.instanceMethod ({ cls := "LongYearsModel", name := "ends", desc := "(IJI)I" } : Jvm.MethodName)) ∈ lw_all := lw_g (lw_at lw_m9 62 rfl) rfl
theorem q2112 : (Jvm.Cond.selects "LongYearsModel" ({ cls := "LongYearsModel", name := "ends", desc := "(IJI)I" } : Jvm.MethodName) ({ cls := "LongYearsModel", name := "ends", desc := "(IJI)I" } : Jvm.MethodName)) ∈ lw_all := lw_g (lw_at lw_m9 63 rfl) rfl
theorem q2113 : (Jvm.Cond.code ({ cls := "LongYearsModel", name := "ends", desc := "(IJI)I" } : Jvm.MethodName) prog_20_method_94_code (5 : Nat) (Option.some Jvm.ClassFile.FieldType.int)) ∈ lw_all := lw_g (lw_at lw_m9 64 rfl) rfl
theorem q2114 : (Jvm.Cond.methodLink "LongYearsModel" (487 : Nat) ({ cls := "LongYearsModel", name := "isDays", desc := "(I)Z" } : Jvm.MethodName)) ∈ lw_all := lw_g (lw_at lw_m9 65 rfl) rfl
theorem q2115 : (Jvm.Cond.static ({ cls := "LongYearsModel", name := "isDays", desc := "(I)Z" } : Jvm.MethodName)) ∈ lw_all := lw_g (lw_at lw_m9 66 rfl) rfl
theorem q2116 : (Jvm.Cond.code ({ cls := "LongYearsModel", name := "isDays", desc := "(I)Z" } : Jvm.MethodName) prog_20_method_93_code (1 : Nat) (Option.some Jvm.ClassFile.FieldType.boolean)) ∈ lw_all := lw_g (lw_at lw_m9 67 rfl) rfl
theorem q2118 : (Jvm.Cond.instanceMethod ({ cls := "LongYearsModel", name := "hire", desc := "(IJII)J" } : Jvm.MethodName)) ∈ lw_all := lw_g (lw_at lw_m9 69 rfl) rfl
theorem q2119 : (Jvm.Cond.selects "LongYearsModel" ({ cls := "LongYearsModel", name := "hire", desc := "(IJII)J" } : Jvm.MethodName) ({ cls := "LongYearsModel", name := "hire", desc := "(IJII)J" } : Jvm.MethodName)) ∈ lw_all := lw_g (lw_at lw_m9 70 rfl) rfl
theorem q2120 : (Jvm.Cond.code ({ cls := "LongYearsModel", name := "hire", desc := "(IJII)J" } : Jvm.MethodName) prog_20_method_95_code (14 : Nat) (Option.some Jvm.ClassFile.FieldType.long)) ∈ lw_all := lw_g (lw_at lw_m9 71 rfl) rfl
theorem q2122 : (Jvm.Cond.instanceMethod ({ cls := "LongYearsModel", name := "parts", desc := "(III)I" } : Jvm.MethodName)) ∈ lw_all := lw_g (lw_at lw_m9 73 rfl) rfl
theorem q2123 : (Jvm.Cond.selects "LongYearsModel" ({ cls := "LongYearsModel", name := "parts", desc := "(III)I" } : Jvm.MethodName) ({ cls := "LongYearsModel", name := "parts", desc := "(III)I" } : Jvm.MethodName)) ∈ lw_all := lw_g (lw_at lw_m9 74 rfl) rfl
theorem q2124 : (Jvm.Cond.code ({ cls := "LongYearsModel", name := "parts", desc := "(III)I" } : Jvm.MethodName) prog_20_method_96_code (7 : Nat) (Option.some Jvm.ClassFile.FieldType.int)) ∈ lw_all := lw_g (lw_at lw_m9 75 rfl) rfl
theorem q2126 : (Jvm.Cond.instanceMethod ({ cls := "LongYearsModel", name := "months", desc := "(III)I" } : Jvm.MethodName)) ∈ lw_all := lw_g (lw_at lw_m9 77 rfl) rfl
theorem q2127 : (Jvm.Cond.selects "LongYearsModel" ({ cls := "LongYearsModel", name := "months", desc := "(III)I" } : Jvm.MethodName) ({ cls := "LongYearsModel", name := "months", desc := "(III)I" } : Jvm.MethodName)) ∈ lw_all := lw_g (lw_at lw_m9 78 rfl) rfl
theorem q2128 : (Jvm.Cond.code ({ cls := "LongYearsModel", name := "months", desc := "(III)I" } : Jvm.MethodName) prog_20_method_97_code (6 : Nat) (Option.some Jvm.ClassFile.FieldType.int)) ∈ lw_all := lw_g (lw_at lw_m9 79 rfl) rfl
theorem q2130 : (Jvm.Cond.instanceMethod ({ cls := "LongYearsModel", name := "note", desc := "()I" } : Jvm.MethodName)) ∈ lw_all := lw_g (lw_at lw_m9 81 rfl) rfl
theorem q2131 : (Jvm.Cond.selects "LongYearsModel" ({ cls := "LongYearsModel", name := "note", desc := "()I" } : Jvm.MethodName) ({ cls := "LongYearsModel", name := "note", desc := "()I" } : Jvm.MethodName)) ∈ lw_all := lw_g (lw_at lw_m9 82 rfl) rfl
theorem q2132 : (Jvm.Cond.code ({ cls := "LongYearsModel", name := "note", desc := "()I" } : Jvm.MethodName) prog_20_method_98_code (2 : Nat) (Option.some Jvm.ClassFile.FieldType.int)) ∈ lw_all := lw_g (lw_at lw_m9 83 rfl) rfl
theorem q2134 : (Jvm.Cond.instanceMethod ({ cls := "LongYearsModel", name := "says", desc := "(III)Z" } : Jvm.MethodName)) ∈ lw_all := lw_g (lw_at lw_m9 85 rfl) rfl
theorem q2135 : (Jvm.Cond.selects "LongYearsModel" ({ cls := "LongYearsModel", name := "says", desc := "(III)Z" } : Jvm.MethodName) ({ cls := "LongYearsModel", name := "says", desc := "(III)Z" } : Jvm.MethodName)) ∈ lw_all := lw_g (lw_at lw_m9 86 rfl) rfl
theorem q2136 : (Jvm.Cond.code ({ cls := "LongYearsModel", name := "says", desc := "(III)Z" } : Jvm.MethodName) prog_20_method_100_code (5 : Nat) (Option.some Jvm.ClassFile.FieldType.boolean)) ∈ lw_all := lw_g (lw_at lw_m9 87 rfl) rfl
theorem q2137 : (Jvm.Cond.methodLink "LongYearsModel" (490 : Nat) ({ cls := "LongYearsModel", name := "canSay", desc := "(IIII)Z" } : Jvm.MethodName)) ∈ lw_all := lw_g (lw_at lw_m9 88 rfl) rfl
theorem q2138 : (Jvm.Cond.privateMethod ({ cls := "LongYearsModel", name := "canSay", desc := "(IIII)Z" } : Jvm.MethodName)) ∈ lw_tbl := lw_at lw_m9 89 rfl
theorem q2139 : (Jvm.Cond.instanceMethod ({ cls := "LongYearsModel", name := "canSay", desc := "(IIII)Z" } : Jvm.MethodName)) ∈ lw_all := lw_g (lw_at lw_m9 90 rfl) rfl
theorem q2140 : (Jvm.Cond.code ({ cls := "LongYearsModel", name := "canSay", desc := "(IIII)Z" } : Jvm.MethodName) prog_20_method_99_code (5 : Nat) (Option.some Jvm.ClassFile.FieldType.boolean)) ∈ lw_all := lw_g (lw_at lw_m9 91 rfl) rfl
theorem q2142 : (Jvm.Cond.instanceMethod ({ cls := "LongYearsModel", name := "undo", desc := "()I" } : Jvm.MethodName)) ∈ lw_all := lw_g (lw_at lw_m9 93 rfl) rfl
theorem q2143 : (Jvm.Cond.selects "LongYearsModel" ({ cls := "LongYearsModel", name := "undo", desc := "()I" } : Jvm.MethodName) ({ cls := "LongYearsModel", name := "undo", desc := "()I" } : Jvm.MethodName)) ∈ lw_all := lw_g (lw_at lw_m9 94 rfl) rfl
theorem q2144 : (Jvm.Cond.code ({ cls := "LongYearsModel", name := "undo", desc := "()I" } : Jvm.MethodName) prog_20_method_101_code (1 : Nat) (Option.some Jvm.ClassFile.FieldType.int)) ∈ lw_all := lw_g (lw_at lw_m9 95 rfl) rfl
theorem q2146 : (Jvm.Cond.instanceMethod ({ cls := "LongYearsModel", name := "alone", desc := "(II)I" } : Jvm.MethodName)) ∈ lw_all := lw_g (lw_at lw_m9 97 rfl) rfl
theorem q2147 : (Jvm.Cond.selects "LongYearsModel" ({ cls := "LongYearsModel", name := "alone", desc := "(II)I" } : Jvm.MethodName) ({ cls := "LongYearsModel", name := "alone", desc := "(II)I" } : Jvm.MethodName)) ∈ lw_all := lw_g (lw_at lw_m9 98 rfl) rfl
theorem q2148 : (Jvm.Cond.code ({ cls := "LongYearsModel", name := "alone", desc := "(II)I" } : Jvm.MethodName) prog_20_method_106_code (4 : Nat) (Option.some Jvm.ClassFile.FieldType.int)) ∈ lw_all := lw_g (lw_at lw_m9 99 rfl) rfl
theorem q2149 : (Jvm.Cond.methodLink "LongYearsModel" (506 : Nat) ({ cls := "LongYearsModel", name := "isNote", desc := "(I)Z" } : Jvm.MethodName)) ∈ lw_all := lw_g (lw_at lw_m9 100 rfl) rfl
theorem q2150 : (Jvm.Cond.privateMethod ({ cls := "LongYearsModel", name := "isNote", desc := "(I)Z" } : Jvm.MethodName)) ∈ lw_tbl := lw_at lw_m9 101 rfl
theorem q2151 : (Jvm.Cond.instanceMethod ({ cls := "LongYearsModel", name := "isNote", desc := "(I)Z" } : Jvm.MethodName)) ∈ lw_all := lw_g (lw_at lw_m9 102 rfl) rfl
theorem q2152 : (Jvm.Cond.code ({ cls := "LongYearsModel", name := "isNote", desc := "(I)Z" } : Jvm.MethodName) prog_20_method_102_code (2 : Nat) (Option.some Jvm.ClassFile.FieldType.boolean)) ∈ lw_all := lw_g (lw_at lw_m9 103 rfl) rfl
theorem q2153 : (Jvm.Cond.methodLink "LongYearsModel" (509 : Nat) ({ cls := "LongYearsModel", name := "layCan", desc := "(I)V" } : Jvm.MethodName)) ∈ lw_all := lw_g (lw_at lw_m9 104 rfl) rfl
theorem q2154 : (Jvm.Cond.privateMethod ({ cls := "LongYearsModel", name := "layCan", desc := "(I)V" } : Jvm.MethodName)) ∈ lw_tbl := lw_at lw_m9 105 rfl
theorem q2155 : (Jvm.Cond.instanceMethod ({ cls := "LongYearsModel", name := "layCan", desc := "(I)V" } : Jvm.MethodName)) ∈ lw_all := lw_g (lw_at lw_m9 106 rfl) rfl
theorem q2156 : (Jvm.Cond.code ({ cls := "LongYearsModel", name := "layCan", desc := "(I)V" } : Jvm.MethodName) prog_20_method_104_code (3 : Nat) (Option.none : Option Jvm.ClassFile.FieldType)) ∈ lw_all := lw_g (lw_at lw_m9 107 rfl) rfl
theorem q2157 : (Jvm.Cond.methodLink "LongYearsModel" (494 : Nat) ({ cls := "LongYearsModel", name := "canBe", desc := "(II)Z" } : Jvm.MethodName)) ∈ lw_all := lw_g (lw_at lw_m9 108 rfl) rfl
theorem q2158 : (Jvm.Cond.privateMethod ({ cls := "LongYearsModel", name := "canBe", desc := "(II)Z" } : Jvm.MethodName)) ∈ lw_tbl := lw_at lw_m9 109 rfl
theorem q2159 : (Jvm.Cond.instanceMethod ({ cls := "LongYearsModel", name := "canBe", desc := "(II)Z" } : Jvm.MethodName)) ∈ lw_all := lw_g (lw_at lw_m9 110 rfl) rfl
theorem q2160 : (Jvm.Cond.code ({ cls := "LongYearsModel", name := "canBe", desc := "(II)Z" } : Jvm.MethodName) prog_20_method_103_code (5 : Nat) (Option.some Jvm.ClassFile.FieldType.boolean)) ∈ lw_all := lw_g (lw_at lw_m9 111 rfl) rfl
theorem q2161 : (Jvm.Cond.methodLink "LongYearsModel" (512 : Nat) ({ cls := "LongYearsModel", name := "told3", desc := "(I)I" } : Jvm.MethodName)) ∈ lw_all := lw_g (lw_at lw_m9 112 rfl) rfl
theorem q2162 : (Jvm.Cond.privateMethod ({ cls := "LongYearsModel", name := "told3", desc := "(I)I" } : Jvm.MethodName)) ∈ lw_tbl := lw_at lw_m9 113 rfl
theorem q2163 : (Jvm.Cond.instanceMethod ({ cls := "LongYearsModel", name := "told3", desc := "(I)I" } : Jvm.MethodName)) ∈ lw_all := lw_g (lw_at lw_m9 114 rfl) rfl
theorem q2164 : (Jvm.Cond.code ({ cls := "LongYearsModel", name := "told3", desc := "(I)I" } : Jvm.MethodName) prog_20_method_105_code (2 : Nat) (Option.some Jvm.ClassFile.FieldType.int)) ∈ lw_all := lw_g (lw_at lw_m9 115 rfl) rfl
theorem q2166 : (Jvm.Cond.instanceMethod ({ cls := "LongYearsModel", name := "fits", desc := "(II)I" } : Jvm.MethodName)) ∈ lw_all := lw_g (lw_at lw_m9 117 rfl) rfl
theorem q2167 : (Jvm.Cond.selects "LongYearsModel" ({ cls := "LongYearsModel", name := "fits", desc := "(II)I" } : Jvm.MethodName) ({ cls := "LongYearsModel", name := "fits", desc := "(II)I" } : Jvm.MethodName)) ∈ lw_all := lw_g (lw_at lw_m9 118 rfl) rfl
theorem q2168 : (Jvm.Cond.code ({ cls := "LongYearsModel", name := "fits", desc := "(II)I" } : Jvm.MethodName) prog_20_method_112_code (4 : Nat) (Option.some Jvm.ClassFile.FieldType.int)) ∈ lw_all := lw_g (lw_at lw_m9 119 rfl) rfl
theorem q2169 : (Jvm.Cond.methodLink "LongYearsModel" (518 : Nat) ({ cls := "LongYearsModel", name := "layAllCan", desc := "()V" } : Jvm.MethodName)) ∈ lw_all := lw_g (lw_at lw_m9 120 rfl) rfl
theorem q2170 : (Jvm.Cond.privateMethod ({ cls := "LongYearsModel", name := "layAllCan", desc := "()V" } : Jvm.MethodName)) ∈ lw_tbl := lw_at lw_m9 121 rfl
theorem q2171 : (Jvm.Cond.instanceMethod ({ cls := "LongYearsModel", name := "layAllCan", desc := "()V" } : Jvm.MethodName)) ∈ lw_all := lw_g (lw_at lw_m9 122 rfl) rfl
theorem q2172 : (Jvm.Cond.code ({ cls := "LongYearsModel", name := "layAllCan", desc := "()V" } : Jvm.MethodName) prog_20_method_110_code (2 : Nat) (Option.none : Option Jvm.ClassFile.FieldType)) ∈ lw_all := lw_g (lw_at lw_m9 123 rfl) rfl
theorem q2173 : (Jvm.Cond.methodLink "LongYearsModel" (521 : Nat) ({ cls := "LongYearsModel", name := "allNotes", desc := "()I" } : Jvm.MethodName)) ∈ lw_all := lw_g (lw_at lw_m9 124 rfl) rfl
theorem q2174 : (Jvm.Cond.privateMethod ({ cls := "LongYearsModel", name := "allNotes", desc := "()I" } : Jvm.MethodName)) ∈ lw_tbl := lw_at lw_m9 125 rfl
theorem q2175 : (Jvm.Cond.instanceMethod ({ cls := "LongYearsModel", name := "allNotes", desc := "()I" } : Jvm.MethodName)) ∈ lw_all := lw_g (lw_at lw_m9 126 rfl) rfl
theorem q2176 : (Jvm.Cond.code ({ cls := "LongYearsModel", name := "allNotes", desc := "()I" } : Jvm.MethodName) prog_20_method_111_code (1 : Nat) (Option.some Jvm.ClassFile.FieldType.int)) ∈ lw_all := lw_g (lw_at lw_m9 127 rfl) rfl
theorem q2177 : (Jvm.Cond.methodLink "LongYearsModel" (524 : Nat) ({ cls := "LongYearsModel", name := "layRoots", desc := "(I)V" } : Jvm.MethodName)) ∈ lw_all := lw_g (lw_at lw_m9 128 rfl) rfl
theorem q2178 : (Jvm.Cond.privateMethod ({ cls := "LongYearsModel", name := "layRoots", desc := "(I)V" } : Jvm.MethodName)) ∈ lw_tbl := lw_at lw_m9 129 rfl
theorem q2179 : (Jvm.Cond.instanceMethod ({ cls := "LongYearsModel", name := "layRoots", desc := "(I)V" } : Jvm.MethodName)) ∈ lw_all := lw_g (lw_at lw_m9 130 rfl) rfl
theorem q2180 : (Jvm.Cond.code ({ cls := "LongYearsModel", name := "layRoots", desc := "(I)V" } : Jvm.MethodName) prog_20_method_107_code (5 : Nat) (Option.none : Option Jvm.ClassFile.FieldType)) ∈ lw_all := lw_g (lw_at lw_m9 131 rfl) rfl
theorem q2181 : (Jvm.Cond.methodLink "LongYearsModel" (527 : Nat) ({ cls := "LongYearsModel", name := "layRoot", desc := "(IIZ)V" } : Jvm.MethodName)) ∈ lw_all := lw_g (lw_at lw_m9 132 rfl) rfl
theorem q2182 : (Jvm.Cond.privateMethod ({ cls := "LongYearsModel", name := "layRoot", desc := "(IIZ)V" } : Jvm.MethodName)) ∈ lw_tbl := lw_at lw_m9 133 rfl
theorem q2183 : (Jvm.Cond.instanceMethod ({ cls := "LongYearsModel", name := "layRoot", desc := "(IIZ)V" } : Jvm.MethodName)) ∈ lw_all := lw_g (lw_at lw_m9 134 rfl) rfl
theorem q2184 : (Jvm.Cond.code ({ cls := "LongYearsModel", name := "layRoot", desc := "(IIZ)V" } : Jvm.MethodName) prog_20_method_109_code (5 : Nat) (Option.none : Option Jvm.ClassFile.FieldType)) ∈ lw_all := lw_g (lw_at lw_m9 135 rfl) rfl
theorem q2185 : (Jvm.Cond.methodLink "LongYearsModel" (515 : Nat) ({ cls := "LongYearsModel", name := "allCan", desc := "(III)Z" } : Jvm.MethodName)) ∈ lw_all := lw_g (lw_at lw_m9 136 rfl) rfl
theorem q2186 : (Jvm.Cond.privateMethod ({ cls := "LongYearsModel", name := "allCan", desc := "(III)Z" } : Jvm.MethodName)) ∈ lw_tbl := lw_at lw_m9 137 rfl
theorem q2187 : (Jvm.Cond.instanceMethod ({ cls := "LongYearsModel", name := "allCan", desc := "(III)Z" } : Jvm.MethodName)) ∈ lw_all := lw_g (lw_at lw_m9 138 rfl) rfl
theorem q2188 : (Jvm.Cond.code ({ cls := "LongYearsModel", name := "allCan", desc := "(III)Z" } : Jvm.MethodName) prog_20_method_108_code (6 : Nat) (Option.some Jvm.ClassFile.FieldType.boolean)) ∈ lw_all := lw_g (lw_at lw_m9 139 rfl) rfl
theorem q2190 : (Jvm.Cond.instanceMethod ({ cls := "LongYearsModel", name := "gap", desc := "()I" } : Jvm.MethodName)) ∈ lw_all := lw_g (lw_at lw_m9 141 rfl) rfl
theorem q2191 : (Jvm.Cond.selects "LongYearsModel" ({ cls := "LongYearsModel", name := "gap", desc := "()I" } : Jvm.MethodName) ({ cls := "LongYearsModel", name := "gap", desc := "()I" } : Jvm.MethodName)) ∈ lw_all := lw_g (lw_at lw_m9 142 rfl) rfl
theorem q2192 : (Jvm.Cond.code ({ cls := "LongYearsModel", name := "gap", desc := "()I" } : Jvm.MethodName) prog_20_method_115_code (3 : Nat) (Option.some Jvm.ClassFile.FieldType.int)) ∈ lw_all := lw_g (lw_at lw_m9 143 rfl) rfl
theorem q2193 : (Jvm.Cond.methodLink "LongYearsModel" (531 : Nat) ({ cls := "LongYearsModel", name := "manyOf", desc := "(I)I" } : Jvm.MethodName)) ∈ lw_all := lw_g (lw_at lw_m9 144 rfl) rfl
theorem q2194 : (Jvm.Cond.static ({ cls := "LongYearsModel", name := "manyOf", desc := "(I)I" } : Jvm.MethodName)) ∈ lw_all := lw_g (lw_at lw_m9 145 rfl) rfl
theorem q2195 : (Jvm.Cond.code ({ cls := "LongYearsModel", name := "manyOf", desc := "(I)I" } : Jvm.MethodName) prog_20_method_114_code (3 : Nat) (Option.some Jvm.ClassFile.FieldType.int)) ∈ lw_all := lw_g (lw_at lw_m9 146 rfl) rfl
theorem q2196 : (Jvm.Cond.methodLink "LongYearsModel" (534 : Nat) ({ cls := "LongYearsModel", name := "isGap", desc := "(I)Z" } : Jvm.MethodName)) ∈ lw_all := lw_g (lw_at lw_m9 147 rfl) rfl
theorem q2197 : (Jvm.Cond.privateMethod ({ cls := "LongYearsModel", name := "isGap", desc := "(I)Z" } : Jvm.MethodName)) ∈ lw_tbl := lw_at lw_m9 148 rfl
theorem q2198 : (Jvm.Cond.instanceMethod ({ cls := "LongYearsModel", name := "isGap", desc := "(I)Z" } : Jvm.MethodName)) ∈ lw_all := lw_g (lw_at lw_m9 149 rfl) rfl
theorem q2199 : (Jvm.Cond.code ({ cls := "LongYearsModel", name := "isGap", desc := "(I)Z" } : Jvm.MethodName) prog_20_method_113_code (4 : Nat) (Option.some Jvm.ClassFile.FieldType.boolean)) ∈ lw_all := lw_g (lw_at lw_m9 150 rfl) rfl
theorem q2201 : (Jvm.Cond.instanceMethod ({ cls := "LongYearsModel", name := "told", desc := "(II)I" } : Jvm.MethodName)) ∈ lw_all := lw_g (lw_at lw_m9 152 rfl) rfl
theorem q2202 : (Jvm.Cond.selects "LongYearsModel" ({ cls := "LongYearsModel", name := "told", desc := "(II)I" } : Jvm.MethodName) ({ cls := "LongYearsModel", name := "told", desc := "(II)I" } : Jvm.MethodName)) ∈ lw_all := lw_g (lw_at lw_m9 153 rfl) rfl
theorem q2203 : (Jvm.Cond.code ({ cls := "LongYearsModel", name := "told", desc := "(II)I" } : Jvm.MethodName) prog_20_method_116_code (3 : Nat) (Option.some Jvm.ClassFile.FieldType.int)) ∈ lw_all := lw_g (lw_at lw_m9 154 rfl) rfl
theorem q2205 : (Jvm.Cond.instanceMethod ({ cls := "LongYearsModel", name := "judged", desc := "()I" } : Jvm.MethodName)) ∈ lw_all := lw_g (lw_at lw_m9 156 rfl) rfl
theorem q2206 : (Jvm.Cond.selects "LongYearsModel" ({ cls := "LongYearsModel", name := "judged", desc := "()I" } : Jvm.MethodName) ({ cls := "LongYearsModel", name := "judged", desc := "()I" } : Jvm.MethodName)) ∈ lw_all := lw_g (lw_at lw_m9 157 rfl) rfl
theorem q2207 : (Jvm.Cond.code ({ cls := "LongYearsModel", name := "judged", desc := "()I" } : Jvm.MethodName) prog_20_method_118_code (2 : Nat) (Option.some Jvm.ClassFile.FieldType.int)) ∈ lw_all := lw_g (lw_at lw_m9 158 rfl) rfl
theorem q2208 : (Jvm.Cond.methodLink "LongYearsModel" (537 : Nat) ({ cls := "LongYearsModel", name := "isSo", desc := "(I)Z" } : Jvm.MethodName)) ∈ lw_all := lw_g (lw_at lw_m9 159 rfl) rfl
theorem q2209 : (Jvm.Cond.privateMethod ({ cls := "LongYearsModel", name := "isSo", desc := "(I)Z" } : Jvm.MethodName)) ∈ lw_tbl := lw_at lw_m9 160 rfl
theorem q2210 : (Jvm.Cond.instanceMethod ({ cls := "LongYearsModel", name := "isSo", desc := "(I)Z" } : Jvm.MethodName)) ∈ lw_all := lw_g (lw_at lw_m9 161 rfl) rfl
theorem q2211 : (Jvm.Cond.code ({ cls := "LongYearsModel", name := "isSo", desc := "(I)Z" } : Jvm.MethodName) prog_20_method_117_code (5 : Nat) (Option.some Jvm.ClassFile.FieldType.boolean)) ∈ lw_all := lw_g (lw_at lw_m9 162 rfl) rfl
theorem q2213 : (Jvm.Cond.instanceMethod ({ cls := "LongYearsModel", name := "forget", desc := "()I" } : Jvm.MethodName)) ∈ lw_all := lw_g (lw_at lw_m9 164 rfl) rfl
theorem q2214 : (Jvm.Cond.selects "LongYearsModel" ({ cls := "LongYearsModel", name := "forget", desc := "()I" } : Jvm.MethodName) ({ cls := "LongYearsModel", name := "forget", desc := "()I" } : Jvm.MethodName)) ∈ lw_all := lw_g (lw_at lw_m9 165 rfl) rfl
theorem q2215 : (Jvm.Cond.code ({ cls := "LongYearsModel", name := "forget", desc := "()I" } : Jvm.MethodName) prog_20_method_119_code (2 : Nat) (Option.some Jvm.ClassFile.FieldType.int)) ∈ lw_all := lw_g (lw_at lw_m9 166 rfl) rfl
theorem q2217 : (Jvm.Cond.instanceMethod ({ cls := "LongYearsModel", name := "keep", desc := "()I" } : Jvm.MethodName)) ∈ lw_all := lw_g (lw_at lw_m9 168 rfl) rfl
theorem q2218 : (Jvm.Cond.selects "LongYearsModel" ({ cls := "LongYearsModel", name := "keep", desc := "()I" } : Jvm.MethodName) ({ cls := "LongYearsModel", name := "keep", desc := "()I" } : Jvm.MethodName)) ∈ lw_all := lw_g (lw_at lw_m9 169 rfl) rfl
theorem q2219 : (Jvm.Cond.code ({ cls := "LongYearsModel", name := "keep", desc := "()I" } : Jvm.MethodName) prog_20_method_120_code (2 : Nat) (Option.some Jvm.ClassFile.FieldType.int)) ∈ lw_all := lw_g (lw_at lw_m9 170 rfl) rfl
theorem q2221 : (Jvm.Cond.instanceMethod ({ cls := "LongYearsModel", name := "back", desc := "()I" } : Jvm.MethodName)) ∈ lw_all := lw_g (lw_at lw_m9 172 rfl) rfl
theorem q2222 : (Jvm.Cond.selects "LongYearsModel" ({ cls := "LongYearsModel", name := "back", desc := "()I" } : Jvm.MethodName) ({ cls := "LongYearsModel", name := "back", desc := "()I" } : Jvm.MethodName)) ∈ lw_all := lw_g (lw_at lw_m9 173 rfl) rfl
theorem q2223 : (Jvm.Cond.code ({ cls := "LongYearsModel", name := "back", desc := "()I" } : Jvm.MethodName) prog_20_method_121_code (2 : Nat) (Option.some Jvm.ClassFile.FieldType.int)) ∈ lw_all := lw_g (lw_at lw_m9 174 rfl) rfl
theorem q2225 : (Jvm.Cond.instanceMethod ({ cls := "LongYearsModel", name := "size", desc := "(I)I" } : Jvm.MethodName)) ∈ lw_all := lw_g (lw_at lw_m9 176 rfl) rfl
theorem q2226 : (Jvm.Cond.selects "LongYearsModel" ({ cls := "LongYearsModel", name := "size", desc := "(I)I" } : Jvm.MethodName) ({ cls := "LongYearsModel", name := "size", desc := "(I)I" } : Jvm.MethodName)) ∈ lw_all := lw_g (lw_at lw_m9 177 rfl) rfl
theorem q2227 : (Jvm.Cond.code ({ cls := "LongYearsModel", name := "size", desc := "(I)I" } : Jvm.MethodName) prog_20_method_122_code (2 : Nat) (Option.some Jvm.ClassFile.FieldType.int)) ∈ lw_all := lw_g (lw_at lw_m9 178 rfl) rfl
theorem q2248 : (Jvm.Cond.castable "LongYearsModel" "java/lang/Object") ∈ lw_tbl := lw_at lw_m9 199 rfl
theorem q147 : (Jvm.Cond.initialized "LongYears$Fault") ∈ lw_all := lw_g (lw_at lw_m1 18 rfl) rfl
theorem q595 : (Jvm.Cond.instantiable "LongYears$Fault" (8 : Nat)) ∈ lw_all := lw_g (lw_at lw_m2 226 rfl) rfl
theorem q596 : (Jvm.Cond.castable "LongYears$Fault" "LongYears$Fault") ∈ lw_tbl := lw_at lw_m2 227 rfl
theorem q601 : (Jvm.Cond.selects "LongYears$Fault" ({ cls := "java/lang/Throwable", name := "fillInStackTrace", desc := "(I)Ljava/lang/Throwable;" } : Jvm.MethodName) ({ cls := "java/lang/Throwable", name := "fillInStackTrace", desc := "(I)Ljava/lang/Throwable;" } : Jvm.MethodName)) ∈ lw_all := lw_g (lw_at lw_m2 232 rfl) rfl
theorem q602 : (Jvm.Cond.selects "LongYears$Fault" ({ cls := "java/lang/Throwable", name := "fillInStackTrace", desc := "()Ljava/lang/Throwable;" } : Jvm.MethodName) ({ cls := "java/lang/Throwable", name := "fillInStackTrace", desc := "()Ljava/lang/Throwable;" } : Jvm.MethodName)) ∈ lw_all := lw_g (lw_at lw_m2 233 rfl) rfl
theorem q603 : (Jvm.Cond.lays "LongYears$Fault" "java/lang/Throwable" "cause" "Ljava/lang/Throwable;") ∈ lw_all := lw_g (lw_at lw_m2 234 rfl) rfl
theorem q605 : (Jvm.Cond.lays "LongYears$Fault" "java/lang/Throwable" "stackTrace" "[Ljava/lang/StackTraceElement;") ∈ lw_all := lw_g (lw_at lw_m2 236 rfl) rfl
theorem q607 : (Jvm.Cond.lays "LongYears$Fault" "java/lang/Throwable" "suppressedExceptions" "Ljava/util/List;") ∈ lw_all := lw_g (lw_at lw_m2 238 rfl) rfl
theorem q609 : (Jvm.Cond.lays "LongYears$Fault" "java/lang/Throwable" "detailMessage" "Ljava/lang/String;") ∈ lw_all := lw_g (lw_at lw_m3 0 rfl) rfl
theorem q611 : (Jvm.Cond.lays "LongYears$Fault" "java/lang/Throwable" "backtrace" "Ljava/lang/Object;") ∈ lw_all := lw_g (lw_at lw_m3 2 rfl) rfl
theorem q636 : (Jvm.Cond.instanceMethod ({ cls := "LongYears$Fault", name := "<init>", desc := "(II)V" } : Jvm.MethodName)) ∈ lw_all := lw_g (lw_at lw_m3 27 rfl) rfl
theorem q637 : (Jvm.Cond.code ({ cls := "LongYears$Fault", name := "<init>", desc := "(II)V" } : Jvm.MethodName) prog_3_method_1_code (3 : Nat) (Option.none : Option Jvm.ClassFile.FieldType)) ∈ lw_all := lw_g (lw_at lw_m3 28 rfl) rfl
theorem q638 : (Jvm.Cond.methodLink "LongYears$Fault" (1 : Nat) ({ cls := "java/lang/Exception", name := "<init>", desc := "(Ljava/lang/String;Ljava/lang/Throwable;ZZ)V" } : Jvm.MethodName)) ∈ lw_all := lw_g (lw_at lw_m3 29 rfl) rfl
theorem q644 : (Jvm.Cond.fieldLink "LongYears$Fault" (7 : Nat) "LongYears$Fault" "kind" "I") ∈ lw_all := lw_g (lw_at lw_m3 35 rfl) rfl
theorem q646 : (Jvm.Cond.fieldLink "LongYears$Fault" (13 : Nat) "LongYears$Fault" "place" "I") ∈ lw_all := lw_g (lw_at lw_m3 37 rfl) rfl
theorem q653 : (Jvm.Cond.laysFinal "LongYears$Fault" "LongYears$Fault" "kind" "I") ∈ lw_all := lw_g (lw_at lw_m3 44 rfl) rfl
theorem q654 : (Jvm.Cond.soleField "LongYears$Fault" "kind") ∈ lw_all := lw_g (lw_at lw_m3 45 rfl) rfl
theorem q655 : (Jvm.Cond.laysFinal "LongYears$Fault" "LongYears$Fault" "place" "I") ∈ lw_all := lw_g (lw_at lw_m3 46 rfl) rfl
theorem q656 : (Jvm.Cond.soleField "LongYears$Fault" "place") ∈ lw_all := lw_g (lw_at lw_m3 47 rfl) rfl
theorem q661 : (Jvm.Cond.lays "LongYears$Fault" "java/lang/Throwable" "depth" "I") ∈ lw_all := lw_g (lw_at lw_m3 52 rfl) rfl
theorem q664 : (Jvm.Cond.superclass "LongYears$Fault" "java/lang/Exception") ∈ lw_all := lw_g (lw_at lw_m3 55 rfl) rfl
theorem q761 : (Jvm.Cond.selects "LongYears$Fault" ({ cls := "java/lang/Object", name := "getClass", desc := "()Ljava/lang/Class;" } : Jvm.MethodName) ({ cls := "java/lang/Object", name := "getClass", desc := "()Ljava/lang/Class;" } : Jvm.MethodName)) ∈ lw_all := lw_g (lw_at lw_m3 152 rfl) rfl
theorem q2249 : (Jvm.Cond.castable "LongYears$Fault" "java/lang/Object") ∈ lw_tbl := lw_at lw_m9 200 rfl
theorem q148 : (Jvm.Cond.initialized "LongYears$Land") ∈ lw_all := lw_g (lw_at lw_m1 19 rfl) rfl
theorem q674 : (Jvm.Cond.instantiable "LongYears$Land" (4 : Nat)) ∈ lw_all := lw_g (lw_at lw_m3 65 rfl) rfl
theorem q709 : (Jvm.Cond.instanceMethod ({ cls := "LongYears$Land", name := "<init>", desc := "(III)V" } : Jvm.MethodName)) ∈ lw_all := lw_g (lw_at lw_m3 100 rfl) rfl
theorem q710 : (Jvm.Cond.code ({ cls := "LongYears$Land", name := "<init>", desc := "(III)V" } : Jvm.MethodName) prog_6_method_1_code (4 : Nat) (Option.none : Option Jvm.ClassFile.FieldType)) ∈ lw_all := lw_g (lw_at lw_m3 101 rfl) rfl
theorem q711 : (Jvm.Cond.methodLink "LongYears$Land" (3 : Nat) ({ cls := "LongYears$Named", name := "<init>", desc := "(I)V" } : Jvm.MethodName)) ∈ lw_all := lw_g (lw_at lw_m3 102 rfl) rfl
theorem q712 : (Jvm.Cond.fieldLink "LongYears$Land" (9 : Nat) "LongYears$Land" "length" "I") ∈ lw_all := lw_g (lw_at lw_m3 103 rfl) rfl
theorem q714 : (Jvm.Cond.fieldLink "LongYears$Land" (15 : Nat) "LongYears$Land" "growth" "I") ∈ lw_all := lw_g (lw_at lw_m3 105 rfl) rfl
theorem q716 : (Jvm.Cond.fieldLink "LongYears$Land" (32 : Nat) "LongYears$Land" "from" "I") ∈ lw_all := lw_g (lw_at lw_m3 107 rfl) rfl
theorem q719 : (Jvm.Cond.laysFinal "LongYears$Land" "LongYears$Land" "length" "I") ∈ lw_all := lw_g (lw_at lw_m3 110 rfl) rfl
theorem q720 : (Jvm.Cond.soleField "LongYears$Land" "length") ∈ lw_all := lw_g (lw_at lw_m3 111 rfl) rfl
theorem q721 : (Jvm.Cond.laysFinal "LongYears$Land" "LongYears$Land" "growth" "I") ∈ lw_all := lw_g (lw_at lw_m3 112 rfl) rfl
theorem q722 : (Jvm.Cond.soleField "LongYears$Land" "growth") ∈ lw_all := lw_g (lw_at lw_m3 113 rfl) rfl
theorem q723 : (Jvm.Cond.lays "LongYears$Land" "LongYears$Land" "from" "I") ∈ lw_all := lw_g (lw_at lw_m3 114 rfl) rfl
theorem q724 : (Jvm.Cond.soleField "LongYears$Land" "from") ∈ lw_all := lw_g (lw_at lw_m3 115 rfl) rfl
theorem q725 : (Jvm.Cond.laysFinal "LongYears$Land" "LongYears$Named" "name" "I") ∈ lw_all := lw_g (lw_at lw_m3 116 rfl) rfl
theorem q726 : (Jvm.Cond.superclass "LongYears$Land" "LongYears$Named") ∈ lw_all := lw_g (lw_at lw_m3 117 rfl) rfl
theorem q764 : (Jvm.Cond.selects "LongYears$Land" ({ cls := "java/lang/Object", name := "getClass", desc := "()Ljava/lang/Class;" } : Jvm.MethodName) ({ cls := "java/lang/Object", name := "getClass", desc := "()Ljava/lang/Class;" } : Jvm.MethodName)) ∈ lw_all := lw_g (lw_at lw_m3 155 rfl) rfl
theorem q807 : (Jvm.Cond.instanceMethod ({ cls := "LongYears$Land", name := "has", desc := "(J)Z" } : Jvm.MethodName)) ∈ lw_all := lw_g (lw_at lw_m3 198 rfl) rfl
theorem q808 : (Jvm.Cond.selects "LongYears$Land" ({ cls := "LongYears$Land", name := "has", desc := "(J)Z" } : Jvm.MethodName) ({ cls := "LongYears$Land", name := "has", desc := "(J)Z" } : Jvm.MethodName)) ∈ lw_all := lw_g (lw_at lw_m3 199 rfl) rfl
theorem q809 : (Jvm.Cond.code ({ cls := "LongYears$Land", name := "has", desc := "(J)Z" } : Jvm.MethodName) prog_6_method_3_code (3 : Nat) (Option.some Jvm.ClassFile.FieldType.boolean)) ∈ lw_all := lw_g (lw_at lw_m3 200 rfl) rfl
theorem q810 : (Jvm.Cond.methodLink "LongYears$Land" (22 : Nat) ({ cls := "LongYears$Land", name := "last", desc := "()J" } : Jvm.MethodName)) ∈ lw_all := lw_g (lw_at lw_m3 201 rfl) rfl
theorem q811 : (Jvm.Cond.instanceMethod ({ cls := "LongYears$Land", name := "last", desc := "()J" } : Jvm.MethodName)) ∈ lw_all := lw_g (lw_at lw_m3 202 rfl) rfl
theorem q812 : (Jvm.Cond.selects "LongYears$Land" ({ cls := "LongYears$Land", name := "last", desc := "()J" } : Jvm.MethodName) ({ cls := "LongYears$Land", name := "last", desc := "()J" } : Jvm.MethodName)) ∈ lw_all := lw_g (lw_at lw_m3 203 rfl) rfl
theorem q813 : (Jvm.Cond.code ({ cls := "LongYears$Land", name := "last", desc := "()J" } : Jvm.MethodName) prog_6_method_2_code (1 : Nat) (Option.some Jvm.ClassFile.FieldType.long)) ∈ lw_all := lw_g (lw_at lw_m3 204 rfl) rfl
theorem q814 : (Jvm.Cond.constantLong "LongYears$Land" (20 : Nat) (9223372036854775807 : Int64)) ∈ lw_all := lw_g (lw_at lw_m3 205 rfl) rfl
theorem q816 : (Jvm.Cond.instanceMethod ({ cls := "LongYears$Land", name := "length", desc := "(J)J" } : Jvm.MethodName)) ∈ lw_all := lw_g (lw_at lw_m3 207 rfl) rfl
theorem q817 : (Jvm.Cond.selects "LongYears$Land" ({ cls := "LongYears$Land", name := "length", desc := "(J)J" } : Jvm.MethodName) ({ cls := "LongYears$Land", name := "length", desc := "(J)J" } : Jvm.MethodName)) ∈ lw_all := lw_g (lw_at lw_m3 208 rfl) rfl
theorem q818 : (Jvm.Cond.code ({ cls := "LongYears$Land", name := "length", desc := "(J)J" } : Jvm.MethodName) prog_6_method_4_code (3 : Nat) (Option.some Jvm.ClassFile.FieldType.long)) ∈ lw_all := lw_g (lw_at lw_m3 209 rfl) rfl
theorem q820 : (Jvm.Cond.instanceMethod ({ cls := "LongYears$Land", name := "start", desc := "(J)J" } : Jvm.MethodName)) ∈ lw_all := lw_g (lw_at lw_m3 211 rfl) rfl
theorem q821 : (Jvm.Cond.selects "LongYears$Land" ({ cls := "LongYears$Land", name := "start", desc := "(J)J" } : Jvm.MethodName) ({ cls := "LongYears$Land", name := "start", desc := "(J)J" } : Jvm.MethodName)) ∈ lw_all := lw_g (lw_at lw_m3 212 rfl) rfl
theorem q822 : (Jvm.Cond.code ({ cls := "LongYears$Land", name := "start", desc := "(J)J" } : Jvm.MethodName) prog_6_method_5_code (5 : Nat) (Option.some Jvm.ClassFile.FieldType.long)) ∈ lw_all := lw_g (lw_at lw_m3 213 rfl) rfl
theorem q823 : (Jvm.Cond.constantLong "LongYears$Land" (26 : Nat) (2000000 : Int64)) ∈ lw_all := lw_g (lw_at lw_m3 214 rfl) rfl
theorem q824 : (Jvm.Cond.constantLong "LongYears$Land" (28 : Nat) (1000000000000 : Int64)) ∈ lw_all := lw_g (lw_at lw_m3 215 rfl) rfl
theorem q825 : (Jvm.Cond.constantLong "LongYears$Land" (30 : Nat) (1000000000001 : Int64)) ∈ lw_all := lw_g (lw_at lw_m3 216 rfl) rfl
theorem q826 : (Jvm.Cond.constantLong "LongYears$Land" (35 : Nat) (2 : Int64)) ∈ lw_all := lw_g (lw_at lw_m3 217 rfl) rfl
theorem q827 : (Jvm.Cond.methodLink "LongYears$Land" (37 : Nat) ({ cls := "java/lang/Math", name := "min", desc := "(JJ)J" } : Jvm.MethodName)) ∈ lw_all := lw_g (lw_at lw_m3 218 rfl) rfl
theorem q1069 : (Jvm.Cond.instanceMethod ({ cls := "LongYears$Land", name := "year", desc := "(J)J" } : Jvm.MethodName)) ∈ lw_all := lw_g (lw_at lw_m4 220 rfl) rfl
theorem q1070 : (Jvm.Cond.selects "LongYears$Land" ({ cls := "LongYears$Land", name := "year", desc := "(J)J" } : Jvm.MethodName) ({ cls := "LongYears$Land", name := "year", desc := "(J)J" } : Jvm.MethodName)) ∈ lw_all := lw_g (lw_at lw_m4 221 rfl) rfl
theorem q1071 : (Jvm.Cond.code ({ cls := "LongYears$Land", name := "year", desc := "(J)J" } : Jvm.MethodName) prog_6_method_6_code (9 : Nat) (Option.some Jvm.ClassFile.FieldType.long)) ∈ lw_all := lw_g (lw_at lw_m4 222 rfl) rfl
theorem q1072 : (Jvm.Cond.methodLink "LongYears$Land" (43 : Nat) ({ cls := "LongYears$Land", name := "start", desc := "(J)J" } : Jvm.MethodName)) ∈ lw_all := lw_g (lw_at lw_m4 223 rfl) rfl
theorem q1073 : (Jvm.Cond.constantLong "LongYears$Land" (47 : Nat) (-1 : Int64)) ∈ lw_all := lw_g (lw_at lw_m4 224 rfl) rfl
theorem q1075 : (Jvm.Cond.instanceMethod ({ cls := "LongYears$Land", name := "day", desc := "(J)J" } : Jvm.MethodName)) ∈ lw_all := lw_g (lw_at lw_m4 226 rfl) rfl
theorem q1076 : (Jvm.Cond.selects "LongYears$Land" ({ cls := "LongYears$Land", name := "day", desc := "(J)J" } : Jvm.MethodName) ({ cls := "LongYears$Land", name := "day", desc := "(J)J" } : Jvm.MethodName)) ∈ lw_all := lw_g (lw_at lw_m4 227 rfl) rfl
theorem q1077 : (Jvm.Cond.code ({ cls := "LongYears$Land", name := "day", desc := "(J)J" } : Jvm.MethodName) prog_6_method_7_code (3 : Nat) (Option.some Jvm.ClassFile.FieldType.long)) ∈ lw_all := lw_g (lw_at lw_m4 228 rfl) rfl
theorem q1078 : (Jvm.Cond.methodLink "LongYears$Land" (49 : Nat) ({ cls := "LongYears$Land", name := "year", desc := "(J)J" } : Jvm.MethodName)) ∈ lw_all := lw_g (lw_at lw_m4 229 rfl) rfl
theorem q1201 : (Jvm.Cond.instanceMethod ({ cls := "LongYears$Land", name := "lastWith", desc := "(J)J" } : Jvm.MethodName)) ∈ lw_all := lw_g (lw_at lw_m5 112 rfl) rfl
theorem q1202 : (Jvm.Cond.selects "LongYears$Land" ({ cls := "LongYears$Land", name := "lastWith", desc := "(J)J" } : Jvm.MethodName) ({ cls := "LongYears$Land", name := "lastWith", desc := "(J)J" } : Jvm.MethodName)) ∈ lw_all := lw_g (lw_at lw_m5 113 rfl) rfl
theorem q1203 : (Jvm.Cond.code ({ cls := "LongYears$Land", name := "lastWith", desc := "(J)J" } : Jvm.MethodName) prog_6_method_9_code (3 : Nat) (Option.some Jvm.ClassFile.FieldType.long)) ∈ lw_all := lw_g (lw_at lw_m5 114 rfl) rfl
theorem q1220 : (Jvm.Cond.instanceMethod ({ cls := "LongYears$Land", name := "firstWith", desc := "(J)J" } : Jvm.MethodName)) ∈ lw_all := lw_g (lw_at lw_m5 131 rfl) rfl
theorem q1221 : (Jvm.Cond.selects "LongYears$Land" ({ cls := "LongYears$Land", name := "firstWith", desc := "(J)J" } : Jvm.MethodName) ({ cls := "LongYears$Land", name := "firstWith", desc := "(J)J" } : Jvm.MethodName)) ∈ lw_all := lw_g (lw_at lw_m5 132 rfl) rfl
theorem q1222 : (Jvm.Cond.code ({ cls := "LongYears$Land", name := "firstWith", desc := "(J)J" } : Jvm.MethodName) prog_6_method_10_code (3 : Nat) (Option.some Jvm.ClassFile.FieldType.long)) ∈ lw_all := lw_g (lw_at lw_m5 133 rfl) rfl
theorem q1286 : (Jvm.Cond.instanceMethod ({ cls := "LongYears$Land", name := "ended", desc := "(J)J" } : Jvm.MethodName)) ∈ lw_all := lw_g (lw_at lw_m5 197 rfl) rfl
theorem q1287 : (Jvm.Cond.selects "LongYears$Land" ({ cls := "LongYears$Land", name := "ended", desc := "(J)J" } : Jvm.MethodName) ({ cls := "LongYears$Land", name := "ended", desc := "(J)J" } : Jvm.MethodName)) ∈ lw_all := lw_g (lw_at lw_m5 198 rfl) rfl
theorem q1288 : (Jvm.Cond.code ({ cls := "LongYears$Land", name := "ended", desc := "(J)J" } : Jvm.MethodName) prog_6_method_8_code (5 : Nat) (Option.some Jvm.ClassFile.FieldType.long)) ∈ lw_all := lw_g (lw_at lw_m5 199 rfl) rfl
theorem q1289 : (Jvm.Cond.methodLink "LongYears$Land" (52 : Nat) ({ cls := "LongYears$Land", name := "length", desc := "(J)J" } : Jvm.MethodName)) ∈ lw_all := lw_g (lw_at lw_m5 200 rfl) rfl
theorem q2236 : (Jvm.Cond.castable "LongYears$Land" "LongYears$Named") ∈ lw_tbl := lw_at lw_m9 187 rfl
theorem q2250 : (Jvm.Cond.castable "LongYears$Land" "java/lang/Object") ∈ lw_tbl := lw_at lw_m9 201 rfl
theorem q153 : (Jvm.Cond.initialized "LongYears$Person") ∈ lw_all := lw_g (lw_at lw_m1 24 rfl) rfl
theorem q769 : (Jvm.Cond.selects "LongYears$Person" ({ cls := "java/lang/Object", name := "getClass", desc := "()Ljava/lang/Class;" } : Jvm.MethodName) ({ cls := "java/lang/Object", name := "getClass", desc := "()Ljava/lang/Class;" } : Jvm.MethodName)) ∈ lw_all := lw_g (lw_at lw_m3 160 rfl) rfl
theorem q796 : (Jvm.Cond.instantiable "LongYears$Person" (3 : Nat)) ∈ lw_all := lw_g (lw_at lw_m3 187 rfl) rfl
theorem q831 : (Jvm.Cond.instanceMethod ({ cls := "LongYears$Person", name := "<init>", desc := "(IJ)V" } : Jvm.MethodName)) ∈ lw_all := lw_g (lw_at lw_m3 222 rfl) rfl
theorem q832 : (Jvm.Cond.code ({ cls := "LongYears$Person", name := "<init>", desc := "(IJ)V" } : Jvm.MethodName) prog_13_method_1_code (4 : Nat) (Option.none : Option Jvm.ClassFile.FieldType)) ∈ lw_all := lw_g (lw_at lw_m3 223 rfl) rfl
theorem q833 : (Jvm.Cond.methodLink "LongYears$Person" (3 : Nat) ({ cls := "LongYears$Named", name := "<init>", desc := "(I)V" } : Jvm.MethodName)) ∈ lw_all := lw_g (lw_at lw_m3 224 rfl) rfl
theorem q834 : (Jvm.Cond.constantLong "LongYears$Person" (9 : Nat) (-1 : Int64)) ∈ lw_all := lw_g (lw_at lw_m3 225 rfl) rfl
theorem q835 : (Jvm.Cond.fieldLink "LongYears$Person" (17 : Nat) "LongYears$Person" "born" "J") ∈ lw_all := lw_g (lw_at lw_m3 226 rfl) rfl
theorem q838 : (Jvm.Cond.fieldLink "LongYears$Person" (11 : Nat) "LongYears$Person" "died" "J") ∈ lw_all := lw_g (lw_at lw_m3 229 rfl) rfl
theorem q841 : (Jvm.Cond.laysFinal "LongYears$Person" "LongYears$Person" "born" "J") ∈ lw_all := lw_g (lw_at lw_m3 232 rfl) rfl
theorem q842 : (Jvm.Cond.soleField "LongYears$Person" "born") ∈ lw_all := lw_g (lw_at lw_m3 233 rfl) rfl
theorem q843 : (Jvm.Cond.lays "LongYears$Person" "LongYears$Person" "died" "J") ∈ lw_all := lw_g (lw_at lw_m3 234 rfl) rfl
theorem q844 : (Jvm.Cond.soleField "LongYears$Person" "died") ∈ lw_all := lw_g (lw_at lw_m3 235 rfl) rfl
theorem q845 : (Jvm.Cond.laysFinal "LongYears$Person" "LongYears$Named" "name" "I") ∈ lw_all := lw_g (lw_at lw_m3 236 rfl) rfl
theorem q846 : (Jvm.Cond.superclass "LongYears$Person" "LongYears$Named") ∈ lw_all := lw_g (lw_at lw_m3 237 rfl) rfl
theorem q1364 : (Jvm.Cond.instanceMethod ({ cls := "LongYears$Person", name := "isAlive", desc := "(J)Z" } : Jvm.MethodName)) ∈ lw_all := lw_g (lw_at lw_m6 35 rfl) rfl
theorem q1365 : (Jvm.Cond.selects "LongYears$Person" ({ cls := "LongYears$Person", name := "isAlive", desc := "(J)Z" } : Jvm.MethodName) ({ cls := "LongYears$Person", name := "isAlive", desc := "(J)Z" } : Jvm.MethodName)) ∈ lw_all := lw_g (lw_at lw_m6 36 rfl) rfl
theorem q1366 : (Jvm.Cond.code ({ cls := "LongYears$Person", name := "isAlive", desc := "(J)Z" } : Jvm.MethodName) prog_13_method_2_code (3 : Nat) (Option.some Jvm.ClassFile.FieldType.boolean)) ∈ lw_all := lw_g (lw_at lw_m6 37 rfl) rfl
theorem q2238 : (Jvm.Cond.castable "LongYears$Person" "LongYears$Named") ∈ lw_tbl := lw_at lw_m9 189 rfl
theorem q2251 : (Jvm.Cond.castable "LongYears$Person" "java/lang/Object") ∈ lw_tbl := lw_at lw_m9 202 rfl
theorem q154 : (Jvm.Cond.initialized "LongYears$Deed") ∈ lw_all := lw_g (lw_at lw_m1 25 rfl) rfl
theorem q760 : (Jvm.Cond.selects "LongYears$Deed" ({ cls := "java/lang/Object", name := "getClass", desc := "()Ljava/lang/Class;" } : Jvm.MethodName) ({ cls := "java/lang/Object", name := "getClass", desc := "()Ljava/lang/Class;" } : Jvm.MethodName)) ∈ lw_all := lw_g (lw_at lw_m3 151 rfl) rfl
theorem q857 : (Jvm.Cond.instanceMethod ({ cls := "LongYears$Deed", name := "<init>", desc := "(IJI)V" } : Jvm.MethodName)) ∈ lw_all := lw_g (lw_at lw_m4 8 rfl) rfl
theorem q858 : (Jvm.Cond.code ({ cls := "LongYears$Deed", name := "<init>", desc := "(IJI)V" } : Jvm.MethodName) prog_2_method_1_code (5 : Nat) (Option.none : Option Jvm.ClassFile.FieldType)) ∈ lw_all := lw_g (lw_at lw_m4 9 rfl) rfl
theorem q859 : (Jvm.Cond.methodLink "LongYears$Deed" (3 : Nat) ({ cls := "LongYears$Named", name := "<init>", desc := "(I)V" } : Jvm.MethodName)) ∈ lw_all := lw_g (lw_at lw_m4 10 rfl) rfl
theorem q860 : (Jvm.Cond.fieldLink "LongYears$Deed" (9 : Nat) "LongYears$Deed" "count" "J") ∈ lw_all := lw_g (lw_at lw_m4 11 rfl) rfl
theorem q866 : (Jvm.Cond.fieldLink "LongYears$Deed" (15 : Nat) "LongYears$Deed" "term" "I") ∈ lw_all := lw_g (lw_at lw_m4 17 rfl) rfl
theorem q874 : (Jvm.Cond.soleField "LongYears$Deed" "count") ∈ lw_all := lw_g (lw_at lw_m4 25 rfl) rfl
theorem q876 : (Jvm.Cond.soleField "LongYears$Deed" "term") ∈ lw_all := lw_g (lw_at lw_m4 27 rfl) rfl
theorem q878 : (Jvm.Cond.soleField "LongYears$Deed" "pay") ∈ lw_all := lw_g (lw_at lw_m4 29 rfl) rfl
theorem q882 : (Jvm.Cond.instantiable "LongYears$Deed" (4 : Nat)) ∈ lw_all := lw_g (lw_at lw_m4 33 rfl) rfl
theorem q884 : (Jvm.Cond.laysFinal "LongYears$Deed" "LongYears$Deed" "count" "J") ∈ lw_all := lw_g (lw_at lw_m4 35 rfl) rfl
theorem q885 : (Jvm.Cond.laysFinal "LongYears$Deed" "LongYears$Deed" "term" "I") ∈ lw_all := lw_g (lw_at lw_m4 36 rfl) rfl
theorem q886 : (Jvm.Cond.lays "LongYears$Deed" "LongYears$Deed" "pay" "I") ∈ lw_all := lw_g (lw_at lw_m4 37 rfl) rfl
theorem q887 : (Jvm.Cond.laysFinal "LongYears$Deed" "LongYears$Named" "name" "I") ∈ lw_all := lw_g (lw_at lw_m4 38 rfl) rfl
theorem q888 : (Jvm.Cond.superclass "LongYears$Deed" "LongYears$Named") ∈ lw_all := lw_g (lw_at lw_m4 39 rfl) rfl
theorem q1085 : (Jvm.Cond.static ({ cls := "LongYears$Deed", name := "counted", desc := "(J)J" } : Jvm.MethodName)) ∈ lw_all := lw_g (lw_at lw_m4 236 rfl) rfl
theorem q1086 : (Jvm.Cond.code ({ cls := "LongYears$Deed", name := "counted", desc := "(J)J" } : Jvm.MethodName) prog_2_method_3_code (2 : Nat) (Option.some Jvm.ClassFile.FieldType.long)) ∈ lw_all := lw_g (lw_at lw_m4 237 rfl) rfl
theorem q1087 : (Jvm.Cond.constantLong "LongYears$Deed" (23 : Nat) (1000000000000 : Int64)) ∈ lw_all := lw_g (lw_at lw_m4 238 rfl) rfl
theorem q1088 : (Jvm.Cond.constantLong "LongYears$Deed" (25 : Nat) (-1 : Int64)) ∈ lw_all := lw_g (lw_at lw_m4 239 rfl) rfl
theorem q1265 : (Jvm.Cond.instanceMethod ({ cls := "LongYears$Deed", name := "due", desc := "(LLongYears;LLongYears$Land;)J" } : Jvm.MethodName)) ∈ lw_all := lw_g (lw_at lw_m5 176 rfl) rfl
theorem q1266 : (Jvm.Cond.selects "LongYears$Deed" ({ cls := "LongYears$Deed", name := "due", desc := "(LLongYears;LLongYears$Land;)J" } : Jvm.MethodName) ({ cls := "LongYears$Deed", name := "due", desc := "(LLongYears;LLongYears$Land;)J" } : Jvm.MethodName)) ∈ lw_all := lw_g (lw_at lw_m5 177 rfl) rfl
theorem q1267 : (Jvm.Cond.sameMethod "LongYears$Deed" "LongYears$Deed" "due" "(LLongYears;LLongYears$Land;)J") ∈ lw_all := lw_g (lw_at lw_m5 178 rfl) rfl
theorem q1283 : (Jvm.Cond.code ({ cls := "LongYears$Deed", name := "due", desc := "(LLongYears;LLongYears$Land;)J" } : Jvm.MethodName) prog_2_method_2_code (3 : Nat) (Option.some Jvm.ClassFile.FieldType.long)) ∈ lw_all := lw_g (lw_at lw_m5 194 rfl) rfl
theorem q1284 : (Jvm.Cond.methodLink "LongYears$Deed" (19 : Nat) ({ cls := "LongYears$Deed", name := "counted", desc := "(J)J" } : Jvm.MethodName)) ∈ lw_all := lw_g (lw_at lw_m5 195 rfl) rfl
theorem q2233 : (Jvm.Cond.castable "LongYears$Deed" "LongYears$Named") ∈ lw_tbl := lw_at lw_m9 184 rfl
theorem q2253 : (Jvm.Cond.castable "LongYears$Deed" "java/lang/Object") ∈ lw_tbl := lw_at lw_m9 204 rfl
theorem q155 : (Jvm.Cond.initialized "LongYears$Yearly") ∈ lw_all := lw_g (lw_at lw_m1 26 rfl) rfl
theorem q774 : (Jvm.Cond.selects "LongYears$Yearly" ({ cls := "java/lang/Object", name := "getClass", desc := "()Ljava/lang/Class;" } : Jvm.MethodName) ({ cls := "java/lang/Object", name := "getClass", desc := "()Ljava/lang/Class;" } : Jvm.MethodName)) ∈ lw_all := lw_g (lw_at lw_m3 165 rfl) rfl
theorem q852 : (Jvm.Cond.instantiable "LongYears$Yearly" (4 : Nat)) ∈ lw_all := lw_g (lw_at lw_m4 3 rfl) rfl
theorem q854 : (Jvm.Cond.instanceMethod ({ cls := "LongYears$Yearly", name := "<init>", desc := "(IJI)V" } : Jvm.MethodName)) ∈ lw_all := lw_g (lw_at lw_m4 5 rfl) rfl
theorem q855 : (Jvm.Cond.code ({ cls := "LongYears$Yearly", name := "<init>", desc := "(IJI)V" } : Jvm.MethodName) prog_18_method_1_code (5 : Nat) (Option.none : Option Jvm.ClassFile.FieldType)) ∈ lw_all := lw_g (lw_at lw_m4 6 rfl) rfl
theorem q856 : (Jvm.Cond.methodLink "LongYears$Yearly" (3 : Nat) ({ cls := "LongYears$Deed", name := "<init>", desc := "(IJI)V" } : Jvm.MethodName)) ∈ lw_all := lw_g (lw_at lw_m4 7 rfl) rfl
theorem q861 : (Jvm.Cond.fieldLink "LongYears$Yearly" (9 : Nat) "LongYears$Yearly" "count" "J") ∈ lw_all := lw_g (lw_at lw_m4 12 rfl) rfl
theorem q862 : (Jvm.Cond.sameField "LongYears$Yearly" "LongYears$Deed" "count" "J") ∈ lw_all := lw_g (lw_at lw_m4 13 rfl) rfl
theorem q869 : (Jvm.Cond.fieldLink "LongYears$Yearly" (21 : Nat) "LongYears$Yearly" "term" "I") ∈ lw_all := lw_g (lw_at lw_m4 20 rfl) rfl
theorem q870 : (Jvm.Cond.sameField "LongYears$Yearly" "LongYears$Deed" "term" "I") ∈ lw_all := lw_g (lw_at lw_m4 21 rfl) rfl
theorem q873 : (Jvm.Cond.laysFinal "LongYears$Yearly" "LongYears$Deed" "count" "J") ∈ lw_all := lw_g (lw_at lw_m4 24 rfl) rfl
theorem q875 : (Jvm.Cond.laysFinal "LongYears$Yearly" "LongYears$Deed" "term" "I") ∈ lw_all := lw_g (lw_at lw_m4 26 rfl) rfl
theorem q877 : (Jvm.Cond.lays "LongYears$Yearly" "LongYears$Deed" "pay" "I") ∈ lw_all := lw_g (lw_at lw_m4 28 rfl) rfl
theorem q879 : (Jvm.Cond.laysFinal "LongYears$Yearly" "LongYears$Named" "name" "I") ∈ lw_all := lw_g (lw_at lw_m4 30 rfl) rfl
theorem q880 : (Jvm.Cond.superclass "LongYears$Yearly" "LongYears$Deed") ∈ lw_all := lw_g (lw_at lw_m4 31 rfl) rfl
theorem q1272 : (Jvm.Cond.selects "LongYears$Yearly" ({ cls := "LongYears$Deed", name := "due", desc := "(LLongYears;LLongYears$Land;)J" } : Jvm.MethodName) ({ cls := "LongYears$Yearly", name := "due", desc := "(LLongYears;LLongYears$Land;)J" } : Jvm.MethodName)) ∈ lw_all := lw_g (lw_at lw_m5 183 rfl) rfl
theorem q1273 : (Jvm.Cond.instanceMethod ({ cls := "LongYears$Yearly", name := "due", desc := "(LLongYears;LLongYears$Land;)J" } : Jvm.MethodName)) ∈ lw_all := lw_g (lw_at lw_m5 184 rfl) rfl
theorem q1274 : (Jvm.Cond.code ({ cls := "LongYears$Yearly", name := "due", desc := "(LLongYears;LLongYears$Land;)J" } : Jvm.MethodName) prog_18_method_2_code (7 : Nat) (Option.some Jvm.ClassFile.FieldType.long)) ∈ lw_all := lw_g (lw_at lw_m5 185 rfl) rfl
theorem q1275 : (Jvm.Cond.methodLink "LongYears$Yearly" (15 : Nat) ({ cls := "LongYears$Land", name := "year", desc := "(J)J" } : Jvm.MethodName)) ∈ lw_all := lw_g (lw_at lw_m5 186 rfl) rfl
theorem q1276 : (Jvm.Cond.methodLink "LongYears$Yearly" (25 : Nat) ({ cls := "LongYears$Land", name := "day", desc := "(J)J" } : Jvm.MethodName)) ∈ lw_all := lw_g (lw_at lw_m5 187 rfl) rfl
theorem q1277 : (Jvm.Cond.methodLink "LongYears$Yearly" (28 : Nat) ({ cls := "LongYears$Land", name := "has", desc := "(J)Z" } : Jvm.MethodName)) ∈ lw_all := lw_g (lw_at lw_m5 188 rfl) rfl
theorem q1278 : (Jvm.Cond.constantLong "LongYears$Yearly" (32 : Nat) (-1 : Int64)) ∈ lw_all := lw_g (lw_at lw_m5 189 rfl) rfl
theorem q1279 : (Jvm.Cond.methodLink "LongYears$Yearly" (34 : Nat) ({ cls := "LongYears$Land", name := "length", desc := "(J)J" } : Jvm.MethodName)) ∈ lw_all := lw_g (lw_at lw_m5 190 rfl) rfl
theorem q1280 : (Jvm.Cond.methodLink "LongYears$Yearly" (37 : Nat) ({ cls := "LongYears$Land", name := "start", desc := "(J)J" } : Jvm.MethodName)) ∈ lw_all := lw_g (lw_at lw_m5 191 rfl) rfl
theorem q1281 : (Jvm.Cond.methodLink "LongYears$Yearly" (40 : Nat) ({ cls := "LongYears$Yearly", name := "counted", desc := "(J)J" } : Jvm.MethodName)) ∈ lw_all := lw_g (lw_at lw_m5 192 rfl) rfl
theorem q1282 : (Jvm.Cond.sameMethod "LongYears$Yearly" "LongYears$Deed" "counted" "(J)J") ∈ lw_all := lw_g (lw_at lw_m5 193 rfl) rfl
theorem q2239 : (Jvm.Cond.castable "LongYears$Yearly" "LongYears$Named") ∈ lw_tbl := lw_at lw_m9 190 rfl
theorem q2241 : (Jvm.Cond.castable "LongYears$Yearly" "LongYears$Deed") ∈ lw_tbl := lw_at lw_m9 192 rfl
theorem q2252 : (Jvm.Cond.castable "LongYears$Yearly" "java/lang/Object") ∈ lw_tbl := lw_at lw_m9 203 rfl
theorem q156 : (Jvm.Cond.initialized "LongYears$Festive") ∈ lw_all := lw_g (lw_at lw_m1 27 rfl) rfl
theorem q763 : (Jvm.Cond.selects "LongYears$Festive" ({ cls := "java/lang/Object", name := "getClass", desc := "()Ljava/lang/Class;" } : Jvm.MethodName) ({ cls := "java/lang/Object", name := "getClass", desc := "()Ljava/lang/Class;" } : Jvm.MethodName)) ∈ lw_all := lw_g (lw_at lw_m3 154 rfl) rfl
theorem q863 : (Jvm.Cond.fieldLink "LongYears$Festive" (13 : Nat) "LongYears$Festive" "count" "J") ∈ lw_all := lw_g (lw_at lw_m4 14 rfl) rfl
theorem q864 : (Jvm.Cond.sameField "LongYears$Festive" "LongYears$Deed" "count" "J") ∈ lw_all := lw_g (lw_at lw_m4 15 rfl) rfl
theorem q867 : (Jvm.Cond.fieldLink "LongYears$Festive" (7 : Nat) "LongYears$Festive" "term" "I") ∈ lw_all := lw_g (lw_at lw_m4 18 rfl) rfl
theorem q868 : (Jvm.Cond.sameField "LongYears$Festive" "LongYears$Deed" "term" "I") ∈ lw_all := lw_g (lw_at lw_m4 19 rfl) rfl
theorem q890 : (Jvm.Cond.instantiable "LongYears$Festive" (4 : Nat)) ∈ lw_all := lw_g (lw_at lw_m4 41 rfl) rfl
theorem q896 : (Jvm.Cond.instanceMethod ({ cls := "LongYears$Festive", name := "<init>", desc := "(IJI)V" } : Jvm.MethodName)) ∈ lw_all := lw_g (lw_at lw_m4 47 rfl) rfl
theorem q897 : (Jvm.Cond.code ({ cls := "LongYears$Festive", name := "<init>", desc := "(IJI)V" } : Jvm.MethodName) prog_5_method_1_code (5 : Nat) (Option.none : Option Jvm.ClassFile.FieldType)) ∈ lw_all := lw_g (lw_at lw_m4 48 rfl) rfl
theorem q898 : (Jvm.Cond.methodLink "LongYears$Festive" (1 : Nat) ({ cls := "LongYears$Deed", name := "<init>", desc := "(IJI)V" } : Jvm.MethodName)) ∈ lw_all := lw_g (lw_at lw_m4 49 rfl) rfl
theorem q899 : (Jvm.Cond.laysFinal "LongYears$Festive" "LongYears$Deed" "count" "J") ∈ lw_all := lw_g (lw_at lw_m4 50 rfl) rfl
theorem q900 : (Jvm.Cond.laysFinal "LongYears$Festive" "LongYears$Deed" "term" "I") ∈ lw_all := lw_g (lw_at lw_m4 51 rfl) rfl
theorem q901 : (Jvm.Cond.lays "LongYears$Festive" "LongYears$Deed" "pay" "I") ∈ lw_all := lw_g (lw_at lw_m4 52 rfl) rfl
theorem q902 : (Jvm.Cond.laysFinal "LongYears$Festive" "LongYears$Named" "name" "I") ∈ lw_all := lw_g (lw_at lw_m4 53 rfl) rfl
theorem q903 : (Jvm.Cond.superclass "LongYears$Festive" "LongYears$Deed") ∈ lw_all := lw_g (lw_at lw_m4 54 rfl) rfl
theorem q1268 : (Jvm.Cond.selects "LongYears$Festive" ({ cls := "LongYears$Deed", name := "due", desc := "(LLongYears;LLongYears$Land;)J" } : Jvm.MethodName) ({ cls := "LongYears$Festive", name := "due", desc := "(LLongYears;LLongYears$Land;)J" } : Jvm.MethodName)) ∈ lw_all := lw_g (lw_at lw_m5 179 rfl) rfl
theorem q1269 : (Jvm.Cond.instanceMethod ({ cls := "LongYears$Festive", name := "due", desc := "(LLongYears;LLongYears$Land;)J" } : Jvm.MethodName)) ∈ lw_all := lw_g (lw_at lw_m5 180 rfl) rfl
theorem q1270 : (Jvm.Cond.code ({ cls := "LongYears$Festive", name := "due", desc := "(LLongYears;LLongYears$Land;)J" } : Jvm.MethodName) prog_5_method_2_code (3 : Nat) (Option.some Jvm.ClassFile.FieldType.long)) ∈ lw_all := lw_g (lw_at lw_m5 181 rfl) rfl
theorem q1271 : (Jvm.Cond.methodLinkNest "LongYears$Festive" (17 : Nat) ({ cls := "LongYears", name := "firstFeast", desc := "(IJ)J" } : Jvm.MethodName) "LongYears") ∈ lw_tbl := lw_at lw_m5 182 rfl
theorem q2235 : (Jvm.Cond.castable "LongYears$Festive" "LongYears$Named") ∈ lw_tbl := lw_at lw_m9 186 rfl
theorem q2240 : (Jvm.Cond.castable "LongYears$Festive" "LongYears$Deed") ∈ lw_tbl := lw_at lw_m9 191 rfl
theorem q2254 : (Jvm.Cond.castable "LongYears$Festive" "java/lang/Object") ∈ lw_tbl := lw_at lw_m9 205 rfl
theorem q157 : (Jvm.Cond.initialized "LongYears$Feast") ∈ lw_all := lw_g (lw_at lw_m1 28 rfl) rfl
theorem q762 : (Jvm.Cond.selects "LongYears$Feast" ({ cls := "java/lang/Object", name := "getClass", desc := "()Ljava/lang/Class;" } : Jvm.MethodName) ({ cls := "java/lang/Object", name := "getClass", desc := "()Ljava/lang/Class;" } : Jvm.MethodName)) ∈ lw_all := lw_g (lw_at lw_m3 153 rfl) rfl
theorem q924 : (Jvm.Cond.instantiable "LongYears$Feast" (2 : Nat)) ∈ lw_all := lw_g (lw_at lw_m4 75 rfl) rfl
theorem q1011 : (Jvm.Cond.instanceMethod ({ cls := "LongYears$Feast", name := "<init>", desc := "(ILLongYears$Part;)V" } : Jvm.MethodName)) ∈ lw_all := lw_g (lw_at lw_m4 162 rfl) rfl
theorem q1012 : (Jvm.Cond.code ({ cls := "LongYears$Feast", name := "<init>", desc := "(ILLongYears$Part;)V" } : Jvm.MethodName) prog_4_method_1_code (3 : Nat) (Option.none : Option Jvm.ClassFile.FieldType)) ∈ lw_all := lw_g (lw_at lw_m4 163 rfl) rfl
theorem q1013 : (Jvm.Cond.methodLink "LongYears$Feast" (1 : Nat) ({ cls := "LongYears$Named", name := "<init>", desc := "(I)V" } : Jvm.MethodName)) ∈ lw_all := lw_g (lw_at lw_m4 164 rfl) rfl
theorem q1014 : (Jvm.Cond.fieldLink "LongYears$Feast" (7 : Nat) "LongYears$Feast" "rule" "LLongYears$Part;") ∈ lw_all := lw_g (lw_at lw_m4 165 rfl) rfl
theorem q1016 : (Jvm.Cond.laysFinal "LongYears$Feast" "LongYears$Feast" "rule" "LLongYears$Part;") ∈ lw_all := lw_g (lw_at lw_m4 167 rfl) rfl
theorem q1017 : (Jvm.Cond.soleField "LongYears$Feast" "rule") ∈ lw_all := lw_g (lw_at lw_m4 168 rfl) rfl
theorem q1018 : (Jvm.Cond.laysFinal "LongYears$Feast" "LongYears$Named" "name" "I") ∈ lw_all := lw_g (lw_at lw_m4 169 rfl) rfl
theorem q1019 : (Jvm.Cond.superclass "LongYears$Feast" "LongYears$Named") ∈ lw_all := lw_g (lw_at lw_m4 170 rfl) rfl
theorem q2234 : (Jvm.Cond.castable "LongYears$Feast" "LongYears$Named") ∈ lw_tbl := lw_at lw_m9 185 rfl
theorem q2255 : (Jvm.Cond.castable "LongYears$Feast" "java/lang/Object") ∈ lw_tbl := lw_at lw_m9 206 rfl
theorem q158 : (Jvm.Cond.initialized "LongYears$Part") ∈ lw_all := lw_g (lw_at lw_m1 29 rfl) rfl
theorem q963 : (Jvm.Cond.instanceMethod ({ cls := "LongYears$Part", name := "<init>", desc := "()V" } : Jvm.MethodName)) ∈ lw_all := lw_g (lw_at lw_m4 114 rfl) rfl
theorem q964 : (Jvm.Cond.code ({ cls := "LongYears$Part", name := "<init>", desc := "()V" } : Jvm.MethodName) prog_12_method_1_code (1 : Nat) (Option.none : Option Jvm.ClassFile.FieldType)) ∈ lw_all := lw_g (lw_at lw_m4 115 rfl) rfl
theorem q965 : (Jvm.Cond.methodLink "LongYears$Part" (1 : Nat) ({ cls := "java/lang/Object", name := "<init>", desc := "()V" } : Jvm.MethodName)) ∈ lw_all := lw_g (lw_at lw_m4 116 rfl) rfl
theorem q1135 : (Jvm.Cond.declares ({ cls := "LongYears$Part", name := "of", desc := "([J)J" } : Jvm.MethodName)) ∈ lw_tbl := lw_at lw_m5 46 rfl
theorem q1136 : (Jvm.Cond.sameMethod "LongYears$Part" "LongYears$Part" "of" "([J)J") ∈ lw_all := lw_g (lw_at lw_m5 47 rfl) rfl
theorem q159 : (Jvm.Cond.initialized "LongYears$Number") ∈ lw_all := lw_g (lw_at lw_m1 30 rfl) rfl
theorem q768 : (Jvm.Cond.selects "LongYears$Number" ({ cls := "java/lang/Object", name := "getClass", desc := "()Ljava/lang/Class;" } : Jvm.MethodName) ({ cls := "java/lang/Object", name := "getClass", desc := "()Ljava/lang/Class;" } : Jvm.MethodName)) ∈ lw_all := lw_g (lw_at lw_m3 159 rfl) rfl
theorem q954 : (Jvm.Cond.instantiable "LongYears$Number" (1 : Nat)) ∈ lw_all := lw_g (lw_at lw_m4 105 rfl) rfl
theorem q960 : (Jvm.Cond.instanceMethod ({ cls := "LongYears$Number", name := "<init>", desc := "(I)V" } : Jvm.MethodName)) ∈ lw_all := lw_g (lw_at lw_m4 111 rfl) rfl
theorem q961 : (Jvm.Cond.code ({ cls := "LongYears$Number", name := "<init>", desc := "(I)V" } : Jvm.MethodName) prog_11_method_1_code (2 : Nat) (Option.none : Option Jvm.ClassFile.FieldType)) ∈ lw_all := lw_g (lw_at lw_m4 112 rfl) rfl
theorem q962 : (Jvm.Cond.methodLinkNest "LongYears$Number" (1 : Nat) ({ cls := "LongYears$Part", name := "<init>", desc := "()V" } : Jvm.MethodName) "LongYears") ∈ lw_tbl := lw_at lw_m4 113 rfl
theorem q966 : (Jvm.Cond.fieldLink "LongYears$Number" (7 : Nat) "LongYears$Number" "n" "I") ∈ lw_all := lw_g (lw_at lw_m4 117 rfl) rfl
theorem q967 : (Jvm.Cond.laysFinal "LongYears$Number" "LongYears$Number" "n" "I") ∈ lw_all := lw_g (lw_at lw_m4 118 rfl) rfl
theorem q968 : (Jvm.Cond.soleField "LongYears$Number" "n") ∈ lw_all := lw_g (lw_at lw_m4 119 rfl) rfl
theorem q969 : (Jvm.Cond.superclass "LongYears$Number" "LongYears$Part") ∈ lw_all := lw_g (lw_at lw_m4 120 rfl) rfl
theorem q1150 : (Jvm.Cond.instanceMethod ({ cls := "LongYears$Number", name := "of", desc := "([J)J" } : Jvm.MethodName)) ∈ lw_all := lw_g (lw_at lw_m5 61 rfl) rfl
theorem q1151 : (Jvm.Cond.code ({ cls := "LongYears$Number", name := "of", desc := "([J)J" } : Jvm.MethodName) prog_11_method_2_code (2 : Nat) (Option.some Jvm.ClassFile.FieldType.long)) ∈ lw_all := lw_g (lw_at lw_m5 62 rfl) rfl
theorem q1170 : (Jvm.Cond.selects "LongYears$Number" ({ cls := "LongYears$Part", name := "of", desc := "([J)J" } : Jvm.MethodName) ({ cls := "LongYears$Number", name := "of", desc := "([J)J" } : Jvm.MethodName)) ∈ lw_all := lw_g (lw_at lw_m5 81 rfl) rfl
theorem q2256 : (Jvm.Cond.castable "LongYears$Number" "java/lang/Object") ∈ lw_tbl := lw_at lw_m9 207 rfl
theorem q160 : (Jvm.Cond.initialized "LongYears$Name") ∈ lw_all := lw_g (lw_at lw_m1 31 rfl) rfl
theorem q765 : (Jvm.Cond.selects "LongYears$Name" ({ cls := "java/lang/Object", name := "getClass", desc := "()Ljava/lang/Class;" } : Jvm.MethodName) ({ cls := "java/lang/Object", name := "getClass", desc := "()Ljava/lang/Class;" } : Jvm.MethodName)) ∈ lw_all := lw_g (lw_at lw_m3 156 rfl) rfl
theorem q975 : (Jvm.Cond.instantiable "LongYears$Name" (1 : Nat)) ∈ lw_all := lw_g (lw_at lw_m4 126 rfl) rfl
theorem q977 : (Jvm.Cond.instanceMethod ({ cls := "LongYears$Name", name := "<init>", desc := "(I)V" } : Jvm.MethodName)) ∈ lw_all := lw_g (lw_at lw_m4 128 rfl) rfl
theorem q978 : (Jvm.Cond.code ({ cls := "LongYears$Name", name := "<init>", desc := "(I)V" } : Jvm.MethodName) prog_7_method_1_code (2 : Nat) (Option.none : Option Jvm.ClassFile.FieldType)) ∈ lw_all := lw_g (lw_at lw_m4 129 rfl) rfl
theorem q979 : (Jvm.Cond.methodLinkNest "LongYears$Name" (1 : Nat) ({ cls := "LongYears$Part", name := "<init>", desc := "()V" } : Jvm.MethodName) "LongYears") ∈ lw_tbl := lw_at lw_m4 130 rfl
theorem q980 : (Jvm.Cond.fieldLink "LongYears$Name" (7 : Nat) "LongYears$Name" "which" "I") ∈ lw_all := lw_g (lw_at lw_m4 131 rfl) rfl
theorem q981 : (Jvm.Cond.laysFinal "LongYears$Name" "LongYears$Name" "which" "I") ∈ lw_all := lw_g (lw_at lw_m4 132 rfl) rfl
theorem q982 : (Jvm.Cond.soleField "LongYears$Name" "which") ∈ lw_all := lw_g (lw_at lw_m4 133 rfl) rfl
theorem q983 : (Jvm.Cond.superclass "LongYears$Name" "LongYears$Part") ∈ lw_all := lw_g (lw_at lw_m4 134 rfl) rfl
theorem q1137 : (Jvm.Cond.selects "LongYears$Name" ({ cls := "LongYears$Part", name := "of", desc := "([J)J" } : Jvm.MethodName) ({ cls := "LongYears$Name", name := "of", desc := "([J)J" } : Jvm.MethodName)) ∈ lw_all := lw_g (lw_at lw_m5 48 rfl) rfl
theorem q1138 : (Jvm.Cond.instanceMethod ({ cls := "LongYears$Name", name := "of", desc := "([J)J" } : Jvm.MethodName)) ∈ lw_all := lw_g (lw_at lw_m5 49 rfl) rfl
theorem q1139 : (Jvm.Cond.code ({ cls := "LongYears$Name", name := "of", desc := "([J)J" } : Jvm.MethodName) prog_7_method_2_code (2 : Nat) (Option.some Jvm.ClassFile.FieldType.long)) ∈ lw_all := lw_g (lw_at lw_m5 50 rfl) rfl
theorem q1140 : (Jvm.Cond.methodLinkNest "LongYears$Name" (13 : Nat) ({ cls := "LongYears", name := "sure", desc := "(J)J" } : Jvm.MethodName) "LongYears") ∈ lw_tbl := lw_at lw_m5 51 rfl
theorem q2257 : (Jvm.Cond.castable "LongYears$Name" "java/lang/Object") ∈ lw_tbl := lw_at lw_m9 208 rfl
theorem q161 : (Jvm.Cond.initialized "LongYears$Not") ∈ lw_all := lw_g (lw_at lw_m1 32 rfl) rfl
theorem q766 : (Jvm.Cond.selects "LongYears$Not" ({ cls := "java/lang/Object", name := "getClass", desc := "()Ljava/lang/Class;" } : Jvm.MethodName) ({ cls := "java/lang/Object", name := "getClass", desc := "()Ljava/lang/Class;" } : Jvm.MethodName)) ∈ lw_all := lw_g (lw_at lw_m3 157 rfl) rfl
theorem q990 : (Jvm.Cond.instanceMethod ({ cls := "LongYears$Not", name := "<init>", desc := "(LLongYears$Part;)V" } : Jvm.MethodName)) ∈ lw_all := lw_g (lw_at lw_m4 141 rfl) rfl
theorem q991 : (Jvm.Cond.code ({ cls := "LongYears$Not", name := "<init>", desc := "(LLongYears$Part;)V" } : Jvm.MethodName) prog_9_method_1_code (2 : Nat) (Option.none : Option Jvm.ClassFile.FieldType)) ∈ lw_all := lw_g (lw_at lw_m4 142 rfl) rfl
theorem q992 : (Jvm.Cond.methodLinkNest "LongYears$Not" (1 : Nat) ({ cls := "LongYears$Part", name := "<init>", desc := "()V" } : Jvm.MethodName) "LongYears") ∈ lw_tbl := lw_at lw_m4 143 rfl
theorem q995 : (Jvm.Cond.fieldLink "LongYears$Not" (7 : Nat) "LongYears$Not" "a" "LLongYears$Part;") ∈ lw_all := lw_g (lw_at lw_m4 146 rfl) rfl
theorem q1003 : (Jvm.Cond.soleField "LongYears$Not" "a") ∈ lw_all := lw_g (lw_at lw_m4 154 rfl) rfl
theorem q1006 : (Jvm.Cond.instantiable "LongYears$Not" (1 : Nat)) ∈ lw_all := lw_g (lw_at lw_m4 157 rfl) rfl
theorem q1008 : (Jvm.Cond.laysFinal "LongYears$Not" "LongYears$Not" "a" "LLongYears$Part;") ∈ lw_all := lw_g (lw_at lw_m4 159 rfl) rfl
theorem q1009 : (Jvm.Cond.superclass "LongYears$Not" "LongYears$Part") ∈ lw_all := lw_g (lw_at lw_m4 160 rfl) rfl
theorem q1146 : (Jvm.Cond.selects "LongYears$Not" ({ cls := "LongYears$Part", name := "of", desc := "([J)J" } : Jvm.MethodName) ({ cls := "LongYears$Not", name := "of", desc := "([J)J" } : Jvm.MethodName)) ∈ lw_all := lw_g (lw_at lw_m5 57 rfl) rfl
theorem q1147 : (Jvm.Cond.instanceMethod ({ cls := "LongYears$Not", name := "of", desc := "([J)J" } : Jvm.MethodName)) ∈ lw_all := lw_g (lw_at lw_m5 58 rfl) rfl
theorem q1148 : (Jvm.Cond.code ({ cls := "LongYears$Not", name := "of", desc := "([J)J" } : Jvm.MethodName) prog_9_method_2_code (2 : Nat) (Option.some Jvm.ClassFile.FieldType.long)) ∈ lw_all := lw_g (lw_at lw_m5 59 rfl) rfl
theorem q1149 : (Jvm.Cond.methodLink "LongYears$Not" (13 : Nat) ({ cls := "LongYears$Part", name := "of", desc := "([J)J" } : Jvm.MethodName)) ∈ lw_all := lw_g (lw_at lw_m5 60 rfl) rfl
theorem q2259 : (Jvm.Cond.castable "LongYears$Not" "java/lang/Object") ∈ lw_tbl := lw_at lw_m9 210 rfl
theorem q162 : (Jvm.Cond.initialized "LongYears$Two") ∈ lw_all := lw_g (lw_at lw_m1 33 rfl) rfl
theorem q773 : (Jvm.Cond.selects "LongYears$Two" ({ cls := "java/lang/Object", name := "getClass", desc := "()Ljava/lang/Class;" } : Jvm.MethodName) ({ cls := "java/lang/Object", name := "getClass", desc := "()Ljava/lang/Class;" } : Jvm.MethodName)) ∈ lw_all := lw_g (lw_at lw_m3 164 rfl) rfl
theorem q985 : (Jvm.Cond.instantiable "LongYears$Two" (3 : Nat)) ∈ lw_all := lw_g (lw_at lw_m4 136 rfl) rfl
theorem q987 : (Jvm.Cond.instanceMethod ({ cls := "LongYears$Two", name := "<init>", desc := "(ILLongYears$Part;LLongYears$Part;)V" } : Jvm.MethodName)) ∈ lw_all := lw_g (lw_at lw_m4 138 rfl) rfl
theorem q988 : (Jvm.Cond.code ({ cls := "LongYears$Two", name := "<init>", desc := "(ILLongYears$Part;LLongYears$Part;)V" } : Jvm.MethodName) prog_17_method_1_code (4 : Nat) (Option.none : Option Jvm.ClassFile.FieldType)) ∈ lw_all := lw_g (lw_at lw_m4 139 rfl) rfl
theorem q989 : (Jvm.Cond.methodLink "LongYears$Two" (3 : Nat) ({ cls := "LongYears$Not", name := "<init>", desc := "(LLongYears$Part;)V" } : Jvm.MethodName)) ∈ lw_all := lw_g (lw_at lw_m4 140 rfl) rfl
theorem q993 : (Jvm.Cond.fieldLink "LongYears$Two" (9 : Nat) "LongYears$Two" "sign" "I") ∈ lw_all := lw_g (lw_at lw_m4 144 rfl) rfl
theorem q994 : (Jvm.Cond.fieldLink "LongYears$Two" (15 : Nat) "LongYears$Two" "b" "LLongYears$Part;") ∈ lw_all := lw_g (lw_at lw_m4 145 rfl) rfl
theorem q996 : (Jvm.Cond.fieldLink "LongYears$Two" (19 : Nat) "LongYears$Two" "a" "LLongYears$Part;") ∈ lw_all := lw_g (lw_at lw_m4 147 rfl) rfl
theorem q997 : (Jvm.Cond.sameField "LongYears$Two" "LongYears$Not" "a" "LLongYears$Part;") ∈ lw_all := lw_g (lw_at lw_m4 148 rfl) rfl
theorem q998 : (Jvm.Cond.laysFinal "LongYears$Two" "LongYears$Two" "sign" "I") ∈ lw_all := lw_g (lw_at lw_m4 149 rfl) rfl
theorem q999 : (Jvm.Cond.soleField "LongYears$Two" "sign") ∈ lw_all := lw_g (lw_at lw_m4 150 rfl) rfl
theorem q1000 : (Jvm.Cond.laysFinal "LongYears$Two" "LongYears$Two" "b" "LLongYears$Part;") ∈ lw_all := lw_g (lw_at lw_m4 151 rfl) rfl
theorem q1001 : (Jvm.Cond.soleField "LongYears$Two" "b") ∈ lw_all := lw_g (lw_at lw_m4 152 rfl) rfl
theorem q1002 : (Jvm.Cond.laysFinal "LongYears$Two" "LongYears$Not" "a" "LLongYears$Part;") ∈ lw_all := lw_g (lw_at lw_m4 153 rfl) rfl
theorem q1004 : (Jvm.Cond.superclass "LongYears$Two" "LongYears$Not") ∈ lw_all := lw_g (lw_at lw_m4 155 rfl) rfl
theorem q1152 : (Jvm.Cond.instanceMethod ({ cls := "LongYears$Two", name := "of", desc := "([J)J" } : Jvm.MethodName)) ∈ lw_all := lw_g (lw_at lw_m5 63 rfl) rfl
theorem q1153 : (Jvm.Cond.code ({ cls := "LongYears$Two", name := "of", desc := "([J)J" } : Jvm.MethodName) prog_17_method_3_code (6 : Nat) (Option.some Jvm.ClassFile.FieldType.long)) ∈ lw_all := lw_g (lw_at lw_m5 64 rfl) rfl
theorem q1154 : (Jvm.Cond.methodLink "LongYears$Two" (22 : Nat) ({ cls := "LongYears$Part", name := "of", desc := "([J)J" } : Jvm.MethodName)) ∈ lw_all := lw_g (lw_at lw_m5 65 rfl) rfl
theorem q1155 : (Jvm.Cond.methodLinkNest "LongYears$Two" (28 : Nat) ({ cls := "LongYears", name := "sure", desc := "(J)J" } : Jvm.MethodName) "LongYears") ∈ lw_tbl := lw_at lw_m5 66 rfl
theorem q1156 : (Jvm.Cond.methodLink "LongYears$Two" (32 : Nat) ({ cls := "LongYears$Two", name := "times", desc := "(JJ)J" } : Jvm.MethodName)) ∈ lw_all := lw_g (lw_at lw_m5 67 rfl) rfl
theorem q1157 : (Jvm.Cond.static ({ cls := "LongYears$Two", name := "times", desc := "(JJ)J" } : Jvm.MethodName)) ∈ lw_all := lw_g (lw_at lw_m5 68 rfl) rfl
theorem q1158 : (Jvm.Cond.code ({ cls := "LongYears$Two", name := "times", desc := "(JJ)J" } : Jvm.MethodName) prog_17_method_5_code (4 : Nat) (Option.some Jvm.ClassFile.FieldType.long)) ∈ lw_all := lw_g (lw_at lw_m5 69 rfl) rfl
theorem q1159 : (Jvm.Cond.methodLink "LongYears$Two" (47 : Nat) ({ cls := "java/lang/Math", name := "abs", desc := "(J)J" } : Jvm.MethodName)) ∈ lw_all := lw_g (lw_at lw_m5 70 rfl) rfl
theorem q1162 : (Jvm.Cond.constantLong "LongYears$Two" (52 : Nat) (1000000000000 : Int64)) ∈ lw_all := lw_g (lw_at lw_m5 73 rfl) rfl
theorem q1163 : (Jvm.Cond.fieldLinkNest "LongYears$Two" (43 : Nat) "LongYears" "TROUBLE" "LLongYears$Trouble;" "LongYears") ∈ lw_tbl := lw_at lw_m5 74 rfl
theorem q1164 : (Jvm.Cond.methodLink "LongYears$Two" (36 : Nat) ({ cls := "LongYears$Two", name := "some", desc := "(J)J" } : Jvm.MethodName)) ∈ lw_all := lw_g (lw_at lw_m5 75 rfl) rfl
theorem q1165 : (Jvm.Cond.static ({ cls := "LongYears$Two", name := "some", desc := "(J)J" } : Jvm.MethodName)) ∈ lw_all := lw_g (lw_at lw_m5 76 rfl) rfl
theorem q1166 : (Jvm.Cond.code ({ cls := "LongYears$Two", name := "some", desc := "(J)J" } : Jvm.MethodName) prog_17_method_4_code (2 : Nat) (Option.some Jvm.ClassFile.FieldType.long)) ∈ lw_all := lw_g (lw_at lw_m5 77 rfl) rfl
theorem q1167 : (Jvm.Cond.methodLink "LongYears$Two" (39 : Nat) ({ cls := "LongYears$Two", name := "is", desc := "(Z)J" } : Jvm.MethodName)) ∈ lw_all := lw_g (lw_at lw_m5 78 rfl) rfl
theorem q1168 : (Jvm.Cond.static ({ cls := "LongYears$Two", name := "is", desc := "(Z)J" } : Jvm.MethodName)) ∈ lw_all := lw_g (lw_at lw_m5 79 rfl) rfl
theorem q1169 : (Jvm.Cond.code ({ cls := "LongYears$Two", name := "is", desc := "(Z)J" } : Jvm.MethodName) prog_17_method_2_code (1 : Nat) (Option.some Jvm.ClassFile.FieldType.long)) ∈ lw_all := lw_g (lw_at lw_m5 80 rfl) rfl
theorem q1171 : (Jvm.Cond.selects "LongYears$Two" ({ cls := "LongYears$Part", name := "of", desc := "([J)J" } : Jvm.MethodName) ({ cls := "LongYears$Two", name := "of", desc := "([J)J" } : Jvm.MethodName)) ∈ lw_all := lw_g (lw_at lw_m5 82 rfl) rfl
theorem q2258 : (Jvm.Cond.castable "LongYears$Two" "java/lang/Object") ∈ lw_tbl := lw_at lw_m9 209 rfl
theorem q625 : (Jvm.Cond.selects "LongYears$Trouble" ({ cls := "java/lang/Throwable", name := "fillInStackTrace", desc := "()Ljava/lang/Throwable;" } : Jvm.MethodName) ({ cls := "java/lang/Throwable", name := "fillInStackTrace", desc := "()Ljava/lang/Throwable;" } : Jvm.MethodName)) ∈ lw_all := lw_g (lw_at lw_m3 16 rfl) rfl
theorem q772 : (Jvm.Cond.selects "LongYears$Trouble" ({ cls := "java/lang/Object", name := "getClass", desc := "()Ljava/lang/Class;" } : Jvm.MethodName) ({ cls := "java/lang/Object", name := "getClass", desc := "()Ljava/lang/Class;" } : Jvm.MethodName)) ∈ lw_all := lw_g (lw_at lw_m3 163 rfl) rfl
theorem q2231 : (Jvm.Cond.castable "LongYears$Trouble" "LongYears$Trouble") ∈ lw_tbl := lw_at lw_m9 182 rfl
theorem q2263 : (Jvm.Cond.castable "LongYears$Trouble" "java/lang/Object") ∈ lw_tbl := lw_at lw_m9 214 rfl
theorem q2268 : (Jvm.Cond.castable "[B" "java/lang/Object") ∈ lw_tbl := lw_at lw_m9 219 rfl
theorem q2273 : (Jvm.Cond.castable "[I" "java/lang/Object") ∈ lw_tbl := lw_at lw_m9 224 rfl
theorem q2272 : (Jvm.Cond.castable "[J" "java/lang/Object") ∈ lw_tbl := lw_at lw_m9 223 rfl
theorem q2270 : (Jvm.Cond.castable "[LLongYears$Note;" "java/lang/Object") ∈ lw_tbl := lw_at lw_m9 221 rfl
theorem q2265 : (Jvm.Cond.sameMethod "[Ljava/lang/Object;" "java/lang/Object" "getClass" "()Ljava/lang/Class;") ∈ lw_all := lw_g (lw_at lw_m9 216 rfl) rfl
theorem q2266 : (Jvm.Cond.selects "[Ljava/lang/Object;" ({ cls := "java/lang/Object", name := "getClass", desc := "()Ljava/lang/Class;" } : Jvm.MethodName) ({ cls := "java/lang/Object", name := "getClass", desc := "()Ljava/lang/Class;" } : Jvm.MethodName)) ∈ lw_all := lw_g (lw_at lw_m9 217 rfl) rfl
theorem q2269 : (Jvm.Cond.castable "[Ljava/lang/Object;" "java/lang/Object") ∈ lw_tbl := lw_at lw_m9 220 rfl
theorem q2275 : (Jvm.Cond.castable "[Ljava/lang/String;" "java/lang/Object") ∈ lw_tbl := lw_at lw_m9 226 rfl
theorem q2274 : (Jvm.Cond.castable "[Z" "java/lang/Object") ∈ lw_tbl := lw_at lw_m9 225 rfl
theorem q2271 : (Jvm.Cond.castable "[[J" "java/lang/Object") ∈ lw_tbl := lw_at lw_m9 222 rfl
theorem q152 : (Jvm.Cond.initialized "java/lang/System") ∈ lw_all := lw_g (lw_at lw_m1 23 rfl) rfl
theorem q788 : (Jvm.Cond.static ({ cls := "java/lang/System", name := "arraycopy", desc := "(Ljava/lang/Object;ILjava/lang/Object;II)V" } : Jvm.MethodName)) ∈ lw_all := lw_g (lw_at lw_m3 179 rfl) rfl
theorem q789 : (Jvm.Cond.native ({ cls := "java/lang/System", name := "arraycopy", desc := "(Ljava/lang/Object;ILjava/lang/Object;II)V" } : Jvm.MethodName)) ∈ lw_all := lw_g (lw_at lw_m3 180 rfl) rfl
theorem q210 : (Jvm.Cond.arrayClass Jvm.ClassFile.FieldType.byte) ∈ lw_all := lw_g (lw_at lw_m1 81 rfl) rfl
theorem q230 : (Jvm.Cond.arrayOver (Jvm.ClassFile.FieldType.object "java/lang/Object")) ∈ lw_tbl := lw_at lw_m1 101 rfl
theorem q311 : (Jvm.Cond.arrayOver (Jvm.ClassFile.FieldType.object "LongYears$Note")) ∈ lw_tbl := lw_at lw_m1 182 rfl
theorem q313 : (Jvm.Cond.arrayOver (Jvm.ClassFile.FieldType.array Jvm.ClassFile.FieldType.long)) ∈ lw_tbl := lw_at lw_m1 184 rfl
theorem q338 : (Jvm.Cond.arrayClass Jvm.ClassFile.FieldType.long) ∈ lw_all := lw_g (lw_at lw_m1 209 rfl) rfl
theorem q339 : (Jvm.Cond.arrayClass Jvm.ClassFile.FieldType.int) ∈ lw_all := lw_g (lw_at lw_m1 210 rfl) rfl
theorem q340 : (Jvm.Cond.arrayClass Jvm.ClassFile.FieldType.boolean) ∈ lw_all := lw_g (lw_at lw_m1 211 rfl) rfl
theorem q2301 : (Jvm.Cond.arrayOver (Jvm.ClassFile.FieldType.object "java/lang/String")) ∈ lw_tbl := lw_at lw_m10 12 rfl
