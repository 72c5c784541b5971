set_option maxRecDepth 100000
theorem q246 : (Jvm.Cond.initialized "java/util/AbstractCollection") ∈ lw_all := lw_g (lw_at lw_m1 4 rfl) rfl
theorem q345 : (Jvm.Cond.instanceMethod ({ cls := "java/util/AbstractCollection", name := "<init>", desc := "()V" } : Jvm.MethodName)) ∈ lw_all := lw_g (lw_at lw_m1 103 rfl) rfl
theorem q346 : (Jvm.Cond.code ({ cls := "java/util/AbstractCollection", name := "<init>", desc := "()V" } : Jvm.MethodName) prog_62_method_1_code (1 : Nat) (Option.none : Option Jvm.ClassFile.FieldType)) ∈ lw_all := lw_g (lw_at lw_m1 104 rfl) rfl
theorem q347 : (Jvm.Cond.methodLink "java/util/AbstractCollection" (1 : Nat) ({ cls := "java/lang/Object", name := "<init>", desc := "()V" } : Jvm.MethodName)) ∈ lw_all := lw_g (lw_at lw_m1 105 rfl) rfl
theorem q247 : (Jvm.Cond.initialized "java/util/AbstractList") ∈ lw_all := lw_g (lw_at lw_m1 5 rfl) rfl
theorem q342 : (Jvm.Cond.instanceMethod ({ cls := "java/util/AbstractList", name := "<init>", desc := "()V" } : Jvm.MethodName)) ∈ lw_all := lw_g (lw_at lw_m1 100 rfl) rfl
theorem q343 : (Jvm.Cond.code ({ cls := "java/util/AbstractList", name := "<init>", desc := "()V" } : Jvm.MethodName) prog_63_method_1_code (1 : Nat) (Option.none : Option Jvm.ClassFile.FieldType)) ∈ lw_all := lw_g (lw_at lw_m1 101 rfl) rfl
theorem q344 : (Jvm.Cond.methodLink "java/util/AbstractList" (1 : Nat) ({ cls := "java/util/AbstractCollection", name := "<init>", desc := "()V" } : Jvm.MethodName)) ∈ lw_all := lw_g (lw_at lw_m1 102 rfl) rfl
theorem q352 : (Jvm.Cond.fieldLink "java/util/AbstractList" (7 : Nat) "java/util/AbstractList" "modCount" "I") ∈ lw_all := lw_g (lw_at lw_m1 110 rfl) rfl
theorem q360 : (Jvm.Cond.soleField "java/util/AbstractList" "modCount") ∈ lw_all := lw_g (lw_at lw_m1 118 rfl) rfl
theorem q248 : (Jvm.Cond.initialized "java/util/ArrayList") ∈ lw_all := lw_g (lw_at lw_m1 6 rfl) rfl
theorem q337 : (Jvm.Cond.instantiable "java/util/ArrayList" (3 : Nat)) ∈ lw_all := lw_g (lw_at lw_m1 95 rfl) rfl
theorem q339 : (Jvm.Cond.instanceMethod ({ cls := "java/util/ArrayList", name := "<init>", desc := "()V" } : Jvm.MethodName)) ∈ lw_all := lw_g (lw_at lw_m1 97 rfl) rfl
theorem q340 : (Jvm.Cond.code ({ cls := "java/util/ArrayList", name := "<init>", desc := "()V" } : Jvm.MethodName) prog_64_method_2_code (1 : Nat) (Option.none : Option Jvm.ClassFile.FieldType)) ∈ lw_all := lw_g (lw_at lw_m1 98 rfl) rfl
theorem q341 : (Jvm.Cond.methodLink "java/util/ArrayList" (1 : Nat) ({ cls := "java/util/AbstractList", name := "<init>", desc := "()V" } : Jvm.MethodName)) ∈ lw_all := lw_g (lw_at lw_m1 99 rfl) rfl
theorem q348 : (Jvm.Cond.fieldLink "java/util/ArrayList" (39 : Nat) "java/util/ArrayList" "DEFAULTCAPACITY_EMPTY_ELEMENTDATA" "[Ljava/lang/Object;") ∈ lw_all := lw_g (lw_at lw_m1 106 rfl) rfl
theorem q349 : (Jvm.Cond.laysStatic "java/util/ArrayList" "DEFAULTCAPACITY_EMPTY_ELEMENTDATA" "[Ljava/lang/Object;") ∈ lw_tbl := lw_at lw_m1 107 rfl
theorem q350 : (Jvm.Cond.fieldLink "java/util/ArrayList" (9 : Nat) "java/util/ArrayList" "elementData" "[Ljava/lang/Object;") ∈ lw_all := lw_g (lw_at lw_m1 108 rfl) rfl
theorem q351 : (Jvm.Cond.fieldLink "java/util/ArrayList" (48 : Nat) "java/util/ArrayList" "size" "I") ∈ lw_all := lw_g (lw_at lw_m1 109 rfl) rfl
theorem q353 : (Jvm.Cond.fieldLink "java/util/ArrayList" (63 : Nat) "java/util/ArrayList" "modCount" "I") ∈ lw_all := lw_g (lw_at lw_m1 111 rfl) rfl
theorem q354 : (Jvm.Cond.sameField "java/util/ArrayList" "java/util/AbstractList" "modCount" "I") ∈ lw_all := lw_g (lw_at lw_m1 112 rfl) rfl
theorem q355 : (Jvm.Cond.lays "java/util/ArrayList" "java/util/ArrayList" "elementData" "[Ljava/lang/Object;") ∈ lw_all := lw_g (lw_at lw_m1 113 rfl) rfl
theorem q356 : (Jvm.Cond.soleField "java/util/ArrayList" "elementData") ∈ lw_all := lw_g (lw_at lw_m1 114 rfl) rfl
theorem q357 : (Jvm.Cond.lays "java/util/ArrayList" "java/util/ArrayList" "size" "I") ∈ lw_all := lw_g (lw_at lw_m1 115 rfl) rfl
theorem q358 : (Jvm.Cond.soleField "java/util/ArrayList" "size") ∈ lw_all := lw_g (lw_at lw_m1 116 rfl) rfl
theorem q359 : (Jvm.Cond.lays "java/util/ArrayList" "java/util/AbstractList" "modCount" "I") ∈ lw_all := lw_g (lw_at lw_m1 117 rfl) rfl
theorem q361 : (Jvm.Cond.superclass "java/util/ArrayList" "java/util/AbstractList") ∈ lw_all := lw_g (lw_at lw_m1 119 rfl) rfl
theorem q821 : (Jvm.Cond.instanceMethod ({ cls := "java/util/ArrayList", name := "clear", desc := "()V" } : Jvm.MethodName)) ∈ lw_all := lw_g (lw_at lw_m3 99 rfl) rfl
theorem q822 : (Jvm.Cond.selects "java/util/ArrayList" ({ cls := "java/util/ArrayList", name := "clear", desc := "()V" } : Jvm.MethodName) ({ cls := "java/util/ArrayList", name := "clear", desc := "()V" } : Jvm.MethodName)) ∈ lw_all := lw_g (lw_at lw_m3 100 rfl) rfl
theorem q823 : (Jvm.Cond.code ({ cls := "java/util/ArrayList", name := "clear", desc := "()V" } : Jvm.MethodName) prog_64_method_40_code (4 : Nat) (Option.none : Option Jvm.ClassFile.FieldType)) ∈ lw_all := lw_g (lw_at lw_m3 101 rfl) rfl
theorem q1107 : (Jvm.Cond.instanceMethod ({ cls := "java/util/ArrayList", name := "add", desc := "(Ljava/lang/Object;)Z" } : Jvm.MethodName)) ∈ lw_all := lw_g (lw_at lw_m4 145 rfl) rfl
theorem q1108 : (Jvm.Cond.selects "java/util/ArrayList" ({ cls := "java/util/ArrayList", name := "add", desc := "(Ljava/lang/Object;)Z" } : Jvm.MethodName) ({ cls := "java/util/ArrayList", name := "add", desc := "(Ljava/lang/Object;)Z" } : Jvm.MethodName)) ∈ lw_all := lw_g (lw_at lw_m4 146 rfl) rfl
theorem q1109 : (Jvm.Cond.code ({ cls := "java/util/ArrayList", name := "add", desc := "(Ljava/lang/Object;)Z" } : Jvm.MethodName) prog_64_method_25_code (2 : Nat) (Option.some Jvm.ClassFile.FieldType.boolean)) ∈ lw_all := lw_g (lw_at lw_m4 147 rfl) rfl
theorem q1110 : (Jvm.Cond.methodLink "java/util/ArrayList" (131 : Nat) ({ cls := "java/util/ArrayList", name := "add", desc := "(Ljava/lang/Object;[Ljava/lang/Object;I)V" } : Jvm.MethodName)) ∈ lw_all := lw_g (lw_at lw_m4 148 rfl) rfl
theorem q1111 : (Jvm.Cond.privateMethod ({ cls := "java/util/ArrayList", name := "add", desc := "(Ljava/lang/Object;[Ljava/lang/Object;I)V" } : Jvm.MethodName)) ∈ lw_tbl := lw_at lw_m4 149 rfl
theorem q1112 : (Jvm.Cond.instanceMethod ({ cls := "java/util/ArrayList", name := "add", desc := "(Ljava/lang/Object;[Ljava/lang/Object;I)V" } : Jvm.MethodName)) ∈ lw_all := lw_g (lw_at lw_m4 150 rfl) rfl
theorem q1113 : (Jvm.Cond.code ({ cls := "java/util/ArrayList", name := "add", desc := "(Ljava/lang/Object;[Ljava/lang/Object;I)V" } : Jvm.MethodName) prog_64_method_24_code (4 : Nat) (Option.none : Option Jvm.ClassFile.FieldType)) ∈ lw_all := lw_g (lw_at lw_m4 151 rfl) rfl
theorem q1114 : (Jvm.Cond.methodLink "java/util/ArrayList" (129 : Nat) ({ cls := "java/util/ArrayList", name := "grow", desc := "()[Ljava/lang/Object;" } : Jvm.MethodName)) ∈ lw_all := lw_g (lw_at lw_m4 152 rfl) rfl
theorem q1115 : (Jvm.Cond.privateMethod ({ cls := "java/util/ArrayList", name := "grow", desc := "()[Ljava/lang/Object;" } : Jvm.MethodName)) ∈ lw_tbl := lw_at lw_m4 153 rfl
theorem q1116 : (Jvm.Cond.instanceMethod ({ cls := "java/util/ArrayList", name := "grow", desc := "()[Ljava/lang/Object;" } : Jvm.MethodName)) ∈ lw_all := lw_g (lw_at lw_m4 154 rfl) rfl
theorem q1117 : (Jvm.Cond.code ({ cls := "java/util/ArrayList", name := "grow", desc := "()[Ljava/lang/Object;" } : Jvm.MethodName) prog_64_method_7_code (1 : Nat) (Option.some (Jvm.ClassFile.FieldType.array (Jvm.ClassFile.FieldType.object "java/lang/Object")))) ∈ lw_all := lw_g (lw_at lw_m4 155 rfl) rfl
theorem q1118 : (Jvm.Cond.methodLink "java/util/ArrayList" (69 : Nat) ({ cls := "java/util/ArrayList", name := "grow", desc := "(I)[Ljava/lang/Object;" } : Jvm.MethodName)) ∈ lw_all := lw_g (lw_at lw_m4 156 rfl) rfl
theorem q1119 : (Jvm.Cond.privateMethod ({ cls := "java/util/ArrayList", name := "grow", desc := "(I)[Ljava/lang/Object;" } : Jvm.MethodName)) ∈ lw_tbl := lw_at lw_m4 157 rfl
theorem q1120 : (Jvm.Cond.instanceMethod ({ cls := "java/util/ArrayList", name := "grow", desc := "(I)[Ljava/lang/Object;" } : Jvm.MethodName)) ∈ lw_all := lw_g (lw_at lw_m4 158 rfl) rfl
theorem q1121 : (Jvm.Cond.code ({ cls := "java/util/ArrayList", name := "grow", desc := "(I)[Ljava/lang/Object;" } : Jvm.MethodName) prog_64_method_6_code (4 : Nat) (Option.some (Jvm.ClassFile.FieldType.array (Jvm.ClassFile.FieldType.object "java/lang/Object")))) ∈ lw_all := lw_g (lw_at lw_m4 159 rfl) rfl
theorem q1122 : (Jvm.Cond.methodLink "java/util/ArrayList" (73 : Nat) ({ cls := "jdk/internal/util/ArraysSupport", name := "newLength", desc := "(III)I" } : Jvm.MethodName)) ∈ lw_all := lw_g (lw_at lw_m4 160 rfl) rfl
theorem q1132 : (Jvm.Cond.methodLink "java/util/ArrayList" (66 : Nat) ({ cls := "java/util/Arrays", name := "copyOf", desc := "([Ljava/lang/Object;I)[Ljava/lang/Object;" } : Jvm.MethodName)) ∈ lw_all := lw_g (lw_at lw_m4 170 rfl) rfl
theorem q1183 : (Jvm.Cond.selects "java/util/ArrayList" ({ cls := "java/lang/Object", name := "getClass", desc := "()Ljava/lang/Class;" } : Jvm.MethodName) ({ cls := "java/lang/Object", name := "getClass", desc := "()Ljava/lang/Class;" } : Jvm.MethodName)) ∈ lw_all := lw_g (lw_at lw_m4 221 rfl) rfl
theorem q1197 : (Jvm.Cond.methodLink "java/util/ArrayList" (79 : Nat) ({ cls := "java/lang/Math", name := "max", desc := "(II)I" } : Jvm.MethodName)) ∈ lw_all := lw_g (lw_at lw_m4 235 rfl) rfl
theorem q1198 : (Jvm.Cond.classLink "java/util/ArrayList" (7 : Nat) "java/lang/Object") ∈ lw_all := lw_g (lw_at lw_m4 236 rfl) rfl
theorem q1249 : (Jvm.Cond.instanceMethod ({ cls := "java/util/ArrayList", name := "size", desc := "()I" } : Jvm.MethodName)) ∈ lw_all := lw_g (lw_at lw_m5 47 rfl) rfl
theorem q1250 : (Jvm.Cond.selects "java/util/ArrayList" ({ cls := "java/util/ArrayList", name := "size", desc := "()I" } : Jvm.MethodName) ({ cls := "java/util/ArrayList", name := "size", desc := "()I" } : Jvm.MethodName)) ∈ lw_all := lw_g (lw_at lw_m5 48 rfl) rfl
theorem q1251 : (Jvm.Cond.code ({ cls := "java/util/ArrayList", name := "size", desc := "()I" } : Jvm.MethodName) prog_64_method_8_code (1 : Nat) (Option.some Jvm.ClassFile.FieldType.int)) ∈ lw_all := lw_g (lw_at lw_m5 49 rfl) rfl
theorem q1779 : (Jvm.Cond.instanceMethod ({ cls := "java/util/ArrayList", name := "<init>", desc := "(I)V" } : Jvm.MethodName)) ∈ lw_all := lw_g (lw_at lw_m7 97 rfl) rfl
theorem q1780 : (Jvm.Cond.code ({ cls := "java/util/ArrayList", name := "<init>", desc := "(I)V" } : Jvm.MethodName) prog_64_method_1_code (2 : Nat) (Option.none : Option Jvm.ClassFile.FieldType)) ∈ lw_all := lw_g (lw_at lw_m7 98 rfl) rfl
theorem q1781 : (Jvm.Cond.fieldLink "java/util/ArrayList" (15 : Nat) "java/util/ArrayList" "EMPTY_ELEMENTDATA" "[Ljava/lang/Object;") ∈ lw_all := lw_g (lw_at lw_m7 99 rfl) rfl
theorem q1782 : (Jvm.Cond.laysStatic "java/util/ArrayList" "EMPTY_ELEMENTDATA" "[Ljava/lang/Object;") ∈ lw_tbl := lw_at lw_m7 100 rfl
theorem q1984 : (Jvm.Cond.instanceMethod ({ cls := "java/util/ArrayList", name := "get", desc := "(I)Ljava/lang/Object;" } : Jvm.MethodName)) ∈ lw_all := lw_g (lw_at lw_m8 62 rfl) rfl
theorem q1985 : (Jvm.Cond.selects "java/util/ArrayList" ({ cls := "java/util/ArrayList", name := "get", desc := "(I)Ljava/lang/Object;" } : Jvm.MethodName) ({ cls := "java/util/ArrayList", name := "get", desc := "(I)Ljava/lang/Object;" } : Jvm.MethodName)) ∈ lw_all := lw_g (lw_at lw_m8 63 rfl) rfl
theorem q1986 : (Jvm.Cond.code ({ cls := "java/util/ArrayList", name := "get", desc := "(I)Ljava/lang/Object;" } : Jvm.MethodName) prog_64_method_20_code (2 : Nat) (Option.some (Jvm.ClassFile.FieldType.object "java/lang/Object"))) ∈ lw_all := lw_g (lw_at lw_m8 64 rfl) rfl
theorem q1987 : (Jvm.Cond.methodLink "java/util/ArrayList" (118 : Nat) ({ cls := "java/util/Objects", name := "checkIndex", desc := "(II)I" } : Jvm.MethodName)) ∈ lw_all := lw_g (lw_at lw_m8 65 rfl) rfl
theorem q1991 : (Jvm.Cond.methodLink "java/util/ArrayList" (123 : Nat) ({ cls := "java/util/ArrayList", name := "elementData", desc := "(I)Ljava/lang/Object;" } : Jvm.MethodName)) ∈ lw_all := lw_g (lw_at lw_m8 69 rfl) rfl
theorem q1992 : (Jvm.Cond.instanceMethod ({ cls := "java/util/ArrayList", name := "elementData", desc := "(I)Ljava/lang/Object;" } : Jvm.MethodName)) ∈ lw_all := lw_g (lw_at lw_m8 70 rfl) rfl
theorem q1993 : (Jvm.Cond.selects "java/util/ArrayList" ({ cls := "java/util/ArrayList", name := "elementData", desc := "(I)Ljava/lang/Object;" } : Jvm.MethodName) ({ cls := "java/util/ArrayList", name := "elementData", desc := "(I)Ljava/lang/Object;" } : Jvm.MethodName)) ∈ lw_all := lw_g (lw_at lw_m8 71 rfl) rfl
theorem q1994 : (Jvm.Cond.code ({ cls := "java/util/ArrayList", name := "elementData", desc := "(I)Ljava/lang/Object;" } : Jvm.MethodName) prog_64_method_18_code (2 : Nat) (Option.some (Jvm.ClassFile.FieldType.object "java/lang/Object"))) ∈ lw_all := lw_g (lw_at lw_m8 72 rfl) rfl
theorem q2255 : (Jvm.Cond.instanceMethod ({ cls := "java/util/ArrayList", name := "remove", desc := "(I)Ljava/lang/Object;" } : Jvm.MethodName)) ∈ lw_all := lw_g (lw_at lw_m9 93 rfl) rfl
theorem q2256 : (Jvm.Cond.selects "java/util/ArrayList" ({ cls := "java/util/ArrayList", name := "remove", desc := "(I)Ljava/lang/Object;" } : Jvm.MethodName) ({ cls := "java/util/ArrayList", name := "remove", desc := "(I)Ljava/lang/Object;" } : Jvm.MethodName)) ∈ lw_all := lw_g (lw_at lw_m9 94 rfl) rfl
theorem q2257 : (Jvm.Cond.code ({ cls := "java/util/ArrayList", name := "remove", desc := "(I)Ljava/lang/Object;" } : Jvm.MethodName) prog_64_method_29_code (4 : Nat) (Option.some (Jvm.ClassFile.FieldType.object "java/lang/Object"))) ∈ lw_all := lw_g (lw_at lw_m9 95 rfl) rfl
theorem q2258 : (Jvm.Cond.methodLink "java/util/ArrayList" (144 : Nat) ({ cls := "java/util/ArrayList", name := "fastRemove", desc := "([Ljava/lang/Object;I)V" } : Jvm.MethodName)) ∈ lw_all := lw_g (lw_at lw_m9 96 rfl) rfl
theorem q2259 : (Jvm.Cond.privateMethod ({ cls := "java/util/ArrayList", name := "fastRemove", desc := "([Ljava/lang/Object;I)V" } : Jvm.MethodName)) ∈ lw_tbl := lw_at lw_m9 97 rfl
theorem q2260 : (Jvm.Cond.instanceMethod ({ cls := "java/util/ArrayList", name := "fastRemove", desc := "([Ljava/lang/Object;I)V" } : Jvm.MethodName)) ∈ lw_all := lw_g (lw_at lw_m9 98 rfl) rfl
theorem q2261 : (Jvm.Cond.code ({ cls := "java/util/ArrayList", name := "fastRemove", desc := "([Ljava/lang/Object;I)V" } : Jvm.MethodName) prog_64_method_39_code (4 : Nat) (Option.none : Option Jvm.ClassFile.FieldType)) ∈ lw_all := lw_g (lw_at lw_m9 99 rfl) rfl
theorem q2262 : (Jvm.Cond.methodLink "java/util/ArrayList" (112 : Nat) ({ cls := "java/lang/System", name := "arraycopy", desc := "(Ljava/lang/Object;ILjava/lang/Object;II)V" } : Jvm.MethodName)) ∈ lw_all := lw_g (lw_at lw_m9 100 rfl) rfl
theorem q2709 : (Jvm.Cond.instanceMethod ({ cls := "java/util/ArrayList", name := "isEmpty", desc := "()Z" } : Jvm.MethodName)) ∈ lw_all := lw_g (lw_at lw_m11 67 rfl) rfl
theorem q2710 : (Jvm.Cond.selects "java/util/ArrayList" ({ cls := "java/util/ArrayList", name := "isEmpty", desc := "()Z" } : Jvm.MethodName) ({ cls := "java/util/ArrayList", name := "isEmpty", desc := "()Z" } : Jvm.MethodName)) ∈ lw_all := lw_g (lw_at lw_m11 68 rfl) rfl
theorem q2711 : (Jvm.Cond.code ({ cls := "java/util/ArrayList", name := "isEmpty", desc := "()Z" } : Jvm.MethodName) prog_64_method_9_code (1 : Nat) (Option.some Jvm.ClassFile.FieldType.boolean)) ∈ lw_all := lw_g (lw_at lw_m11 69 rfl) rfl
theorem q4474 : (Jvm.Cond.castable "java/util/ArrayList" "java/lang/Object") ∈ lw_tbl := lw_at lw_m18 152 rfl
theorem in_J2 : ∀ w ∈ wsJ20, w ∈ lw_all := lw_in wsJ20 [359, 355, 357] (by decide +kernel) (by decide +kernel)
theorem q261 : (Jvm.Cond.initialized "java/lang/Enum") ∈ lw_all := lw_g (lw_at lw_m1 19 rfl) rfl
theorem q2807 : (Jvm.Cond.declares ({ cls := "java/lang/Enum", name := "ordinal", desc := "()I" } : Jvm.MethodName)) ∈ lw_tbl := lw_at lw_m11 165 rfl
theorem q2809 : (Jvm.Cond.instanceMethod ({ cls := "java/lang/Enum", name := "ordinal", desc := "()I" } : Jvm.MethodName)) ∈ lw_all := lw_g (lw_at lw_m11 167 rfl) rfl
theorem q2810 : (Jvm.Cond.code ({ cls := "java/lang/Enum", name := "ordinal", desc := "()I" } : Jvm.MethodName) prog_49_method_2_code (1 : Nat) (Option.some Jvm.ClassFile.FieldType.int)) ∈ lw_all := lw_g (lw_at lw_m11 168 rfl) rfl
theorem q4527 : (Jvm.Cond.fieldLink "java/lang/Enum" (7 : Nat) "java/lang/Enum" "ordinal" "I") ∈ lw_all := lw_g (lw_at lw_m18 205 rfl) rfl
theorem q263 : (Jvm.Cond.initialized "java/lang/String") ∈ lw_all := lw_g (lw_at lw_m1 21 rfl) rfl
theorem q867 : (Jvm.Cond.instanceMethod ({ cls := "java/lang/String", name := "length", desc := "()I" } : Jvm.MethodName)) ∈ lw_all := lw_g (lw_at lw_m3 145 rfl) rfl
theorem q868 : (Jvm.Cond.selects "java/lang/String" ({ cls := "java/lang/String", name := "length", desc := "()I" } : Jvm.MethodName) ({ cls := "java/lang/String", name := "length", desc := "()I" } : Jvm.MethodName)) ∈ lw_all := lw_g (lw_at lw_m3 146 rfl) rfl
theorem q869 : (Jvm.Cond.code ({ cls := "java/lang/String", name := "length", desc := "()I" } : Jvm.MethodName) prog_57_method_54_code (1 : Nat) (Option.some Jvm.ClassFile.FieldType.int)) ∈ lw_all := lw_g (lw_at lw_m3 147 rfl) rfl
theorem q870 : (Jvm.Cond.methodLink "java/lang/String" (335 : Nat) ({ cls := "java/lang/String", name := "coder", desc := "()B" } : Jvm.MethodName)) ∈ lw_all := lw_g (lw_at lw_m3 148 rfl) rfl
theorem q871 : (Jvm.Cond.instanceMethod ({ cls := "java/lang/String", name := "coder", desc := "()B" } : Jvm.MethodName)) ∈ lw_all := lw_g (lw_at lw_m3 149 rfl) rfl
theorem q872 : (Jvm.Cond.selects "java/lang/String" ({ cls := "java/lang/String", name := "coder", desc := "()B" } : Jvm.MethodName) ({ cls := "java/lang/String", name := "coder", desc := "()B" } : Jvm.MethodName)) ∈ lw_all := lw_g (lw_at lw_m3 150 rfl) rfl
theorem q873 : (Jvm.Cond.code ({ cls := "java/lang/String", name := "coder", desc := "()B" } : Jvm.MethodName) prog_57_method_152_code (1 : Nat) (Option.some Jvm.ClassFile.FieldType.byte)) ∈ lw_all := lw_g (lw_at lw_m3 151 rfl) rfl
theorem q874 : (Jvm.Cond.fieldLink "java/lang/String" (38 : Nat) "java/lang/String" "COMPACT_STRINGS" "Z") ∈ lw_all := lw_g (lw_at lw_m3 152 rfl) rfl
theorem q875 : (Jvm.Cond.laysStatic "java/lang/String" "COMPACT_STRINGS" "Z") ∈ lw_tbl := lw_at lw_m3 153 rfl
theorem q877 : (Jvm.Cond.instanceMethod ({ cls := "java/lang/String", name := "charAt", desc := "(I)C" } : Jvm.MethodName)) ∈ lw_all := lw_g (lw_at lw_m3 155 rfl) rfl
theorem q878 : (Jvm.Cond.selects "java/lang/String" ({ cls := "java/lang/String", name := "charAt", desc := "(I)C" } : Jvm.MethodName) ({ cls := "java/lang/String", name := "charAt", desc := "(I)C" } : Jvm.MethodName)) ∈ lw_all := lw_g (lw_at lw_m3 156 rfl) rfl
theorem q879 : (Jvm.Cond.code ({ cls := "java/lang/String", name := "charAt", desc := "(I)C" } : Jvm.MethodName) prog_57_method_56_code (2 : Nat) (Option.some Jvm.ClassFile.FieldType.char)) ∈ lw_all := lw_g (lw_at lw_m3 157 rfl) rfl
theorem q880 : (Jvm.Cond.methodLink "java/lang/String" (492 : Nat) ({ cls := "java/lang/String", name := "isLatin1", desc := "()Z" } : Jvm.MethodName)) ∈ lw_all := lw_g (lw_at lw_m3 158 rfl) rfl
theorem q881 : (Jvm.Cond.instanceMethod ({ cls := "java/lang/String", name := "isLatin1", desc := "()Z" } : Jvm.MethodName)) ∈ lw_all := lw_g (lw_at lw_m3 159 rfl) rfl
theorem q882 : (Jvm.Cond.selects "java/lang/String" ({ cls := "java/lang/String", name := "isLatin1", desc := "()Z" } : Jvm.MethodName) ({ cls := "java/lang/String", name := "isLatin1", desc := "()Z" } : Jvm.MethodName)) ∈ lw_all := lw_g (lw_at lw_m3 160 rfl) rfl
theorem q883 : (Jvm.Cond.code ({ cls := "java/lang/String", name := "isLatin1", desc := "()Z" } : Jvm.MethodName) prog_57_method_154_code (1 : Nat) (Option.some Jvm.ClassFile.FieldType.boolean)) ∈ lw_all := lw_g (lw_at lw_m3 161 rfl) rfl
theorem q884 : (Jvm.Cond.methodLink "java/lang/String" (495 : Nat) ({ cls := "java/lang/StringLatin1", name := "charAt", desc := "([BI)C" } : Jvm.MethodName)) ∈ lw_all := lw_g (lw_at lw_m3 162 rfl) rfl
theorem q888 : (Jvm.Cond.static ({ cls := "java/lang/String", name := "checkIndex", desc := "(II)V" } : Jvm.MethodName)) ∈ lw_all := lw_g (lw_at lw_m3 166 rfl) rfl
theorem q889 : (Jvm.Cond.code ({ cls := "java/lang/String", name := "checkIndex", desc := "(II)V" } : Jvm.MethodName) prog_57_method_155_code (2 : Nat) (Option.none : Option Jvm.ClassFile.FieldType)) ∈ lw_all := lw_g (lw_at lw_m3 167 rfl) rfl
theorem q890 : (Jvm.Cond.fieldLink "java/lang/String" (1053 : Nat) "jdk/internal/util/Preconditions" "SIOOBE_FORMATTER" "Ljava/util/function/BiFunction;") ∈ lw_all := lw_g (lw_at lw_m3 168 rfl) rfl
theorem q892 : (Jvm.Cond.methodLink "java/lang/String" (1059 : Nat) ({ cls := "jdk/internal/util/Preconditions", name := "checkIndex", desc := "(IILjava/util/function/BiFunction;)I" } : Jvm.MethodName)) ∈ lw_all := lw_g (lw_at lw_m3 170 rfl) rfl
theorem q895 : (Jvm.Cond.methodLink "java/lang/String" (498 : Nat) ({ cls := "java/lang/StringUTF16", name := "charAt", desc := "([BI)C" } : Jvm.MethodName)) ∈ lw_all := lw_g (lw_at lw_m3 173 rfl) rfl
theorem q4512 : (Jvm.Cond.castable "java/lang/String" "java/lang/Object") ∈ lw_tbl := lw_at lw_m18 190 rfl
theorem q4525 : (Jvm.Cond.fieldLink "java/lang/String" (9 : Nat) "java/lang/String" "value" "[B") ∈ lw_all := lw_g (lw_at lw_m18 203 rfl) rfl
theorem q4526 : (Jvm.Cond.fieldLink "java/lang/String" (15 : Nat) "java/lang/String" "coder" "B") ∈ lw_all := lw_g (lw_at lw_m18 204 rfl) rfl
theorem q264 : (Jvm.Cond.initialized "java/lang/StringLatin1") ∈ lw_all := lw_g (lw_at lw_m1 22 rfl) rfl
theorem q885 : (Jvm.Cond.static ({ cls := "java/lang/StringLatin1", name := "charAt", desc := "([BI)C" } : Jvm.MethodName)) ∈ lw_all := lw_g (lw_at lw_m3 163 rfl) rfl
theorem q886 : (Jvm.Cond.code ({ cls := "java/lang/StringLatin1", name := "charAt", desc := "([BI)C" } : Jvm.MethodName) prog_58_method_2_code (2 : Nat) (Option.some Jvm.ClassFile.FieldType.char)) ∈ lw_all := lw_g (lw_at lw_m3 164 rfl) rfl
theorem q887 : (Jvm.Cond.methodLink "java/lang/StringLatin1" (9 : Nat) ({ cls := "java/lang/String", name := "checkIndex", desc := "(II)V" } : Jvm.MethodName)) ∈ lw_all := lw_g (lw_at lw_m3 165 rfl) rfl
theorem q265 : (Jvm.Cond.initialized "jdk/internal/util/Preconditions") ∈ lw_all := lw_g (lw_at lw_m1 23 rfl) rfl
theorem q891 : (Jvm.Cond.laysStatic "jdk/internal/util/Preconditions" "SIOOBE_FORMATTER" "Ljava/util/function/BiFunction;") ∈ lw_tbl := lw_at lw_m3 169 rfl
theorem q893 : (Jvm.Cond.static ({ cls := "jdk/internal/util/Preconditions", name := "checkIndex", desc := "(IILjava/util/function/BiFunction;)I" } : Jvm.MethodName)) ∈ lw_all := lw_g (lw_at lw_m3 171 rfl) rfl
theorem q894 : (Jvm.Cond.code ({ cls := "jdk/internal/util/Preconditions", name := "checkIndex", desc := "(IILjava/util/function/BiFunction;)I" } : Jvm.MethodName) prog_72_method_11_code (3 : Nat) (Option.some Jvm.ClassFile.FieldType.int)) ∈ lw_all := lw_g (lw_at lw_m3 172 rfl) rfl
theorem q266 : (Jvm.Cond.initialized "java/lang/StringUTF16") ∈ lw_all := lw_g (lw_at lw_m1 24 rfl) rfl
theorem q896 : (Jvm.Cond.static ({ cls := "java/lang/StringUTF16", name := "charAt", desc := "([BI)C" } : Jvm.MethodName)) ∈ lw_all := lw_g (lw_at lw_m3 174 rfl) rfl
theorem q897 : (Jvm.Cond.code ({ cls := "java/lang/StringUTF16", name := "charAt", desc := "([BI)C" } : Jvm.MethodName) prog_59_method_83_code (2 : Nat) (Option.some Jvm.ClassFile.FieldType.char)) ∈ lw_all := lw_g (lw_at lw_m3 175 rfl) rfl
theorem q898 : (Jvm.Cond.methodLink "java/lang/StringUTF16" (67 : Nat) ({ cls := "java/lang/StringUTF16", name := "checkIndex", desc := "(I[B)V" } : Jvm.MethodName)) ∈ lw_all := lw_g (lw_at lw_m3 176 rfl) rfl
theorem q899 : (Jvm.Cond.static ({ cls := "java/lang/StringUTF16", name := "checkIndex", desc := "(I[B)V" } : Jvm.MethodName)) ∈ lw_all := lw_g (lw_at lw_m3 177 rfl) rfl
theorem q900 : (Jvm.Cond.code ({ cls := "java/lang/StringUTF16", name := "checkIndex", desc := "(I[B)V" } : Jvm.MethodName) prog_59_method_91_code (2 : Nat) (Option.none : Option Jvm.ClassFile.FieldType)) ∈ lw_all := lw_g (lw_at lw_m3 178 rfl) rfl
theorem q901 : (Jvm.Cond.methodLink "java/lang/StringUTF16" (48 : Nat) ({ cls := "java/lang/StringUTF16", name := "length", desc := "([B)I" } : Jvm.MethodName)) ∈ lw_all := lw_g (lw_at lw_m3 179 rfl) rfl
theorem q902 : (Jvm.Cond.static ({ cls := "java/lang/StringUTF16", name := "length", desc := "([B)I" } : Jvm.MethodName)) ∈ lw_all := lw_g (lw_at lw_m3 180 rfl) rfl
theorem q903 : (Jvm.Cond.code ({ cls := "java/lang/StringUTF16", name := "length", desc := "([B)I" } : Jvm.MethodName) prog_59_method_6_code (1 : Nat) (Option.some Jvm.ClassFile.FieldType.int)) ∈ lw_all := lw_g (lw_at lw_m3 181 rfl) rfl
theorem q904 : (Jvm.Cond.methodLink "java/lang/StringUTF16" (414 : Nat) ({ cls := "java/lang/String", name := "checkIndex", desc := "(II)V" } : Jvm.MethodName)) ∈ lw_all := lw_g (lw_at lw_m3 182 rfl) rfl
theorem q905 : (Jvm.Cond.methodLink "java/lang/StringUTF16" (71 : Nat) ({ cls := "java/lang/StringUTF16", name := "getChar", desc := "([BI)C" } : Jvm.MethodName)) ∈ lw_all := lw_g (lw_at lw_m3 183 rfl) rfl
theorem q906 : (Jvm.Cond.static ({ cls := "java/lang/StringUTF16", name := "getChar", desc := "([BI)C" } : Jvm.MethodName)) ∈ lw_all := lw_g (lw_at lw_m3 184 rfl) rfl
theorem q907 : (Jvm.Cond.code ({ cls := "java/lang/StringUTF16", name := "getChar", desc := "([BI)C" } : Jvm.MethodName) prog_59_method_5_code (2 : Nat) (Option.some Jvm.ClassFile.FieldType.char)) ∈ lw_all := lw_g (lw_at lw_m3 185 rfl) rfl
theorem q908 : (Jvm.Cond.fieldLink "java/lang/StringUTF16" (44 : Nat) "java/lang/StringUTF16" "$assertionsDisabled" "Z") ∈ lw_all := lw_g (lw_at lw_m3 186 rfl) rfl
theorem q909 : (Jvm.Cond.laysStatic "java/lang/StringUTF16" "$assertionsDisabled" "Z") ∈ lw_tbl := lw_at lw_m3 187 rfl
theorem q910 : (Jvm.Cond.fieldLink "java/lang/StringUTF16" (59 : Nat) "java/lang/StringUTF16" "HI_BYTE_SHIFT" "I") ∈ lw_all := lw_g (lw_at lw_m3 188 rfl) rfl
theorem q911 : (Jvm.Cond.laysStatic "java/lang/StringUTF16" "HI_BYTE_SHIFT" "I") ∈ lw_tbl := lw_at lw_m3 189 rfl
theorem q912 : (Jvm.Cond.fieldLink "java/lang/StringUTF16" (63 : Nat) "java/lang/StringUTF16" "LO_BYTE_SHIFT" "I") ∈ lw_all := lw_g (lw_at lw_m3 190 rfl) rfl
theorem q913 : (Jvm.Cond.laysStatic "java/lang/StringUTF16" "LO_BYTE_SHIFT" "I") ∈ lw_tbl := lw_at lw_m3 191 rfl
theorem q267 : (Jvm.Cond.initialized "java/lang/Throwable") ∈ lw_all := lw_g (lw_at lw_m1 25 rfl) rfl
theorem q1005 : (Jvm.Cond.declares ({ cls := "java/lang/Throwable", name := "<init>", desc := "()V" } : Jvm.MethodName)) ∈ lw_tbl := lw_at lw_m4 43 rfl
theorem q1006 : (Jvm.Cond.declares ({ cls := "java/lang/Throwable", name := "<init>", desc := "(Ljava/lang/String;)V" } : Jvm.MethodName)) ∈ lw_tbl := lw_at lw_m4 44 rfl
theorem q1010 : (Jvm.Cond.lays "java/lang/Throwable" "java/lang/Throwable" "cause" "Ljava/lang/Throwable;") ∈ lw_all := lw_g (lw_at lw_m4 48 rfl) rfl
theorem q1012 : (Jvm.Cond.lays "java/lang/Throwable" "java/lang/Throwable" "stackTrace" "[Ljava/lang/StackTraceElement;") ∈ lw_all := lw_g (lw_at lw_m4 50 rfl) rfl
theorem q1014 : (Jvm.Cond.lays "java/lang/Throwable" "java/lang/Throwable" "suppressedExceptions" "Ljava/util/List;") ∈ lw_all := lw_g (lw_at lw_m4 52 rfl) rfl
theorem q1016 : (Jvm.Cond.lays "java/lang/Throwable" "java/lang/Throwable" "detailMessage" "Ljava/lang/String;") ∈ lw_all := lw_g (lw_at lw_m4 54 rfl) rfl
theorem q1018 : (Jvm.Cond.lays "java/lang/Throwable" "java/lang/Throwable" "backtrace" "Ljava/lang/Object;") ∈ lw_all := lw_g (lw_at lw_m4 56 rfl) rfl
theorem q1019 : (Jvm.Cond.fieldLink "java/lang/Throwable" (198 : Nat) "java/lang/Throwable" "backtrace" "Ljava/lang/Object;") ∈ lw_all := lw_g (lw_at lw_m4 57 rfl) rfl
theorem q1020 : (Jvm.Cond.superclass "java/lang/Throwable" "java/lang/Object") ∈ lw_all := lw_g (lw_at lw_m4 58 rfl) rfl
theorem q1021 : (Jvm.Cond.instanceMethod ({ cls := "java/lang/Throwable", name := "<init>", desc := "()V" } : Jvm.MethodName)) ∈ lw_all := lw_g (lw_at lw_m4 59 rfl) rfl
theorem q1022 : (Jvm.Cond.code ({ cls := "java/lang/Throwable", name := "<init>", desc := "()V" } : Jvm.MethodName) prog_61_method_1_code (1 : Nat) (Option.none : Option Jvm.ClassFile.FieldType)) ∈ lw_all := lw_g (lw_at lw_m4 60 rfl) rfl
theorem q1023 : (Jvm.Cond.methodLink "java/lang/Throwable" (1 : Nat) ({ cls := "java/lang/Object", name := "<init>", desc := "()V" } : Jvm.MethodName)) ∈ lw_all := lw_g (lw_at lw_m4 61 rfl) rfl
theorem q1024 : (Jvm.Cond.fieldLink "java/lang/Throwable" (13 : Nat) "java/lang/Throwable" "UNASSIGNED_STACK" "[Ljava/lang/StackTraceElement;") ∈ lw_all := lw_g (lw_at lw_m4 62 rfl) rfl
theorem q1025 : (Jvm.Cond.laysStatic "java/lang/Throwable" "UNASSIGNED_STACK" "[Ljava/lang/StackTraceElement;") ∈ lw_tbl := lw_at lw_m4 63 rfl
theorem q1026 : (Jvm.Cond.fieldLink "java/lang/Throwable" (20 : Nat) "java/lang/Throwable" "SUPPRESSED_SENTINEL" "Ljava/util/List;") ∈ lw_all := lw_g (lw_at lw_m4 64 rfl) rfl
theorem q1027 : (Jvm.Cond.laysStatic "java/lang/Throwable" "SUPPRESSED_SENTINEL" "Ljava/util/List;") ∈ lw_tbl := lw_at lw_m4 65 rfl
theorem q1028 : (Jvm.Cond.methodLink "java/lang/Throwable" (27 : Nat) ({ cls := "java/lang/Throwable", name := "fillInStackTrace", desc := "()Ljava/lang/Throwable;" } : Jvm.MethodName)) ∈ lw_all := lw_g (lw_at lw_m4 66 rfl) rfl
theorem q1029 : (Jvm.Cond.instanceMethod ({ cls := "java/lang/Throwable", name := "fillInStackTrace", desc := "()Ljava/lang/Throwable;" } : Jvm.MethodName)) ∈ lw_all := lw_g (lw_at lw_m4 67 rfl) rfl
theorem q1030 : (Jvm.Cond.sameMethod "java/lang/Throwable" "java/lang/Throwable" "fillInStackTrace" "()Ljava/lang/Throwable;") ∈ lw_all := lw_g (lw_at lw_m4 68 rfl) rfl
theorem q1031 : (Jvm.Cond.codeSync ({ cls := "java/lang/Throwable", name := "fillInStackTrace", desc := "()Ljava/lang/Throwable;" } : Jvm.MethodName) prog_61_method_18_code (1 : Nat) (Option.some (Jvm.ClassFile.FieldType.object "java/lang/Throwable"))) ∈ lw_all := lw_g (lw_at lw_m4 69 rfl) rfl
theorem q1032 : (Jvm.Cond.methodLink "java/lang/Throwable" (202 : Nat) ({ cls := "java/lang/Throwable", name := "fillInStackTrace", desc := "(I)Ljava/lang/Throwable;" } : Jvm.MethodName)) ∈ lw_all := lw_g (lw_at lw_m4 70 rfl) rfl
theorem q1033 : (Jvm.Cond.privateMethod ({ cls := "java/lang/Throwable", name := "fillInStackTrace", desc := "(I)Ljava/lang/Throwable;" } : Jvm.MethodName)) ∈ lw_tbl := lw_at lw_m4 71 rfl
theorem q1034 : (Jvm.Cond.instanceMethod ({ cls := "java/lang/Throwable", name := "fillInStackTrace", desc := "(I)Ljava/lang/Throwable;" } : Jvm.MethodName)) ∈ lw_all := lw_g (lw_at lw_m4 72 rfl) rfl
theorem q1035 : (Jvm.Cond.instantiable "java/lang/Throwable" (6 : Nat)) ∈ lw_all := lw_g (lw_at lw_m4 73 rfl) rfl
theorem q1036 : (Jvm.Cond.native ({ cls := "java/lang/Throwable", name := "fillInStackTrace", desc := "(I)Ljava/lang/Throwable;" } : Jvm.MethodName)) ∈ lw_all := lw_g (lw_at lw_m4 74 rfl) rfl
theorem q1047 : (Jvm.Cond.instanceMethod ({ cls := "java/lang/Throwable", name := "<init>", desc := "(Ljava/lang/String;Ljava/lang/Throwable;ZZ)V" } : Jvm.MethodName)) ∈ lw_all := lw_g (lw_at lw_m4 85 rfl) rfl
theorem q1048 : (Jvm.Cond.code ({ cls := "java/lang/Throwable", name := "<init>", desc := "(Ljava/lang/String;Ljava/lang/Throwable;ZZ)V" } : Jvm.MethodName) prog_61_method_5_code (5 : Nat) (Option.none : Option Jvm.ClassFile.FieldType)) ∈ lw_all := lw_g (lw_at lw_m4 86 rfl) rfl
theorem q1053 : (Jvm.Cond.fieldLink "java/lang/Throwable" (198 : Nat) "java/lang/Throwable" "backtrace" "Ljava/lang/Object;") ∈ lw_all := lw_g (lw_at lw_m4 91 rfl) rfl
theorem q1054 : (Jvm.Cond.fieldLink "java/lang/Throwable" (31 : Nat) "java/lang/Throwable" "detailMessage" "Ljava/lang/String;") ∈ lw_all := lw_g (lw_at lw_m4 92 rfl) rfl
theorem q1055 : (Jvm.Cond.fieldLink "java/lang/Throwable" (7 : Nat) "java/lang/Throwable" "cause" "Ljava/lang/Throwable;") ∈ lw_all := lw_g (lw_at lw_m4 93 rfl) rfl
theorem q1056 : (Jvm.Cond.fieldLink "java/lang/Throwable" (17 : Nat) "java/lang/Throwable" "stackTrace" "[Ljava/lang/StackTraceElement;") ∈ lw_all := lw_g (lw_at lw_m4 94 rfl) rfl
theorem q1057 : (Jvm.Cond.fieldLink "java/lang/Throwable" (24 : Nat) "java/lang/Throwable" "suppressedExceptions" "Ljava/util/List;") ∈ lw_all := lw_g (lw_at lw_m4 95 rfl) rfl
theorem q1062 : (Jvm.Cond.soleField "java/lang/Throwable" "backtrace") ∈ lw_all := lw_g (lw_at lw_m4 100 rfl) rfl
theorem q1063 : (Jvm.Cond.soleField "java/lang/Throwable" "detailMessage") ∈ lw_all := lw_g (lw_at lw_m4 101 rfl) rfl
theorem q1064 : (Jvm.Cond.soleField "java/lang/Throwable" "cause") ∈ lw_all := lw_g (lw_at lw_m4 102 rfl) rfl
theorem q1065 : (Jvm.Cond.soleField "java/lang/Throwable" "stackTrace") ∈ lw_all := lw_g (lw_at lw_m4 103 rfl) rfl
theorem q1067 : (Jvm.Cond.soleField "java/lang/Throwable" "depth") ∈ lw_all := lw_g (lw_at lw_m4 105 rfl) rfl
theorem q1068 : (Jvm.Cond.soleField "java/lang/Throwable" "suppressedExceptions") ∈ lw_all := lw_g (lw_at lw_m4 106 rfl) rfl
theorem q4453 : (Jvm.Cond.sameMethod "java/lang/Throwable" "java/lang/Throwable" "fillInStackTrace" "(I)Ljava/lang/Throwable;") ∈ lw_all := lw_g (lw_at lw_m18 131 rfl) rfl
theorem q4507 : (Jvm.Cond.castable "java/lang/Throwable" "java/lang/Object") ∈ lw_tbl := lw_at lw_m18 185 rfl
theorem in_J8 : ∀ w ∈ wsJ80, w ∈ lw_all := lw_in wsJ80 [1010, 1012, 1014, 1016, 1018] (by decide +kernel) (by decide +kernel)
theorem q268 : (Jvm.Cond.initialized "java/lang/Exception") ∈ lw_all := lw_g (lw_at lw_m1 26 rfl) rfl
theorem q1003 : (Jvm.Cond.declares ({ cls := "java/lang/Exception", name := "<init>", desc := "()V" } : Jvm.MethodName)) ∈ lw_tbl := lw_at lw_m4 41 rfl
theorem q1004 : (Jvm.Cond.declares ({ cls := "java/lang/Exception", name := "<init>", desc := "(Ljava/lang/String;)V" } : Jvm.MethodName)) ∈ lw_tbl := lw_at lw_m4 42 rfl
theorem q1044 : (Jvm.Cond.instanceMethod ({ cls := "java/lang/Exception", name := "<init>", desc := "(Ljava/lang/String;Ljava/lang/Throwable;ZZ)V" } : Jvm.MethodName)) ∈ lw_all := lw_g (lw_at lw_m4 82 rfl) rfl
theorem q1045 : (Jvm.Cond.code ({ cls := "java/lang/Exception", name := "<init>", desc := "(Ljava/lang/String;Ljava/lang/Throwable;ZZ)V" } : Jvm.MethodName) prog_50_method_5_code (5 : Nat) (Option.none : Option Jvm.ClassFile.FieldType)) ∈ lw_all := lw_g (lw_at lw_m4 83 rfl) rfl
theorem q1046 : (Jvm.Cond.methodLink "java/lang/Exception" (16 : Nat) ({ cls := "java/lang/Throwable", name := "<init>", desc := "(Ljava/lang/String;Ljava/lang/Throwable;ZZ)V" } : Jvm.MethodName)) ∈ lw_all := lw_g (lw_at lw_m4 84 rfl) rfl
theorem q269 : (Jvm.Cond.initialized "java/lang/RuntimeException") ∈ lw_all := lw_g (lw_at lw_m1 27 rfl) rfl
theorem q1001 : (Jvm.Cond.declares ({ cls := "java/lang/RuntimeException", name := "<init>", desc := "()V" } : Jvm.MethodName)) ∈ lw_tbl := lw_at lw_m4 39 rfl
theorem q1002 : (Jvm.Cond.declares ({ cls := "java/lang/RuntimeException", name := "<init>", desc := "(Ljava/lang/String;)V" } : Jvm.MethodName)) ∈ lw_tbl := lw_at lw_m4 40 rfl
theorem q1041 : (Jvm.Cond.instanceMethod ({ cls := "java/lang/RuntimeException", name := "<init>", desc := "(Ljava/lang/String;Ljava/lang/Throwable;ZZ)V" } : Jvm.MethodName)) ∈ lw_all := lw_g (lw_at lw_m4 79 rfl) rfl
theorem q1042 : (Jvm.Cond.code ({ cls := "java/lang/RuntimeException", name := "<init>", desc := "(Ljava/lang/String;Ljava/lang/Throwable;ZZ)V" } : Jvm.MethodName) prog_56_method_5_code (5 : Nat) (Option.none : Option Jvm.ClassFile.FieldType)) ∈ lw_all := lw_g (lw_at lw_m4 80 rfl) rfl
theorem q1043 : (Jvm.Cond.methodLink "java/lang/RuntimeException" (16 : Nat) ({ cls := "java/lang/Exception", name := "<init>", desc := "(Ljava/lang/String;Ljava/lang/Throwable;ZZ)V" } : Jvm.MethodName)) ∈ lw_all := lw_g (lw_at lw_m4 81 rfl) rfl
theorem q273 : (Jvm.Cond.initialized "jdk/internal/util/ArraysSupport") ∈ lw_all := lw_g (lw_at lw_m1 31 rfl) rfl
theorem q1123 : (Jvm.Cond.static ({ cls := "jdk/internal/util/ArraysSupport", name := "newLength", desc := "(III)I" } : Jvm.MethodName)) ∈ lw_all := lw_g (lw_at lw_m4 161 rfl) rfl
theorem q1124 : (Jvm.Cond.code ({ cls := "jdk/internal/util/ArraysSupport", name := "newLength", desc := "(III)I" } : Jvm.MethodName) prog_71_method_27_code (4 : Nat) (Option.some Jvm.ClassFile.FieldType.int)) ∈ lw_all := lw_g (lw_at lw_m4 162 rfl) rfl
theorem q1125 : (Jvm.Cond.methodLink "jdk/internal/util/ArraysSupport" (194 : Nat) ({ cls := "java/lang/Math", name := "max", desc := "(II)I" } : Jvm.MethodName)) ∈ lw_all := lw_g (lw_at lw_m4 163 rfl) rfl
theorem q1128 : (Jvm.Cond.constant "jdk/internal/util/ArraysSupport" (200 : Nat) (2147483639 : Int32)) ∈ lw_all := lw_g (lw_at lw_m4 166 rfl) rfl
theorem q1129 : (Jvm.Cond.methodLink "jdk/internal/util/ArraysSupport" (201 : Nat) ({ cls := "jdk/internal/util/ArraysSupport", name := "hugeLength", desc := "(II)I" } : Jvm.MethodName)) ∈ lw_all := lw_g (lw_at lw_m4 167 rfl) rfl
theorem q1130 : (Jvm.Cond.static ({ cls := "jdk/internal/util/ArraysSupport", name := "hugeLength", desc := "(II)I" } : Jvm.MethodName)) ∈ lw_all := lw_g (lw_at lw_m4 168 rfl) rfl
theorem q1131 : (Jvm.Cond.code ({ cls := "jdk/internal/util/ArraysSupport", name := "hugeLength", desc := "(II)I" } : Jvm.MethodName) prog_71_method_28_code (3 : Nat) (Option.some Jvm.ClassFile.FieldType.int)) ∈ lw_all := lw_g (lw_at lw_m4 169 rfl) rfl
theorem q274 : (Jvm.Cond.initialized "java/lang/Math") ∈ lw_all := lw_g (lw_at lw_m1 32 rfl) rfl
theorem q1126 : (Jvm.Cond.static ({ cls := "java/lang/Math", name := "max", desc := "(II)I" } : Jvm.MethodName)) ∈ lw_all := lw_g (lw_at lw_m4 164 rfl) rfl
theorem q1127 : (Jvm.Cond.code ({ cls := "java/lang/Math", name := "max", desc := "(II)I" } : Jvm.MethodName) prog_54_method_65_code (2 : Nat) (Option.some Jvm.ClassFile.FieldType.int)) ∈ lw_all := lw_g (lw_at lw_m4 165 rfl) rfl
theorem q1192 : (Jvm.Cond.static ({ cls := "java/lang/Math", name := "min", desc := "(II)I" } : Jvm.MethodName)) ∈ lw_all := lw_g (lw_at lw_m4 230 rfl) rfl
theorem q1193 : (Jvm.Cond.code ({ cls := "java/lang/Math", name := "min", desc := "(II)I" } : Jvm.MethodName) prog_54_method_69_code (2 : Nat) (Option.some Jvm.ClassFile.FieldType.int)) ∈ lw_all := lw_g (lw_at lw_m4 231 rfl) rfl
theorem q275 : (Jvm.Cond.initialized "java/util/Arrays") ∈ lw_all := lw_g (lw_at lw_m1 33 rfl) rfl
theorem q1133 : (Jvm.Cond.static ({ cls := "java/util/Arrays", name := "copyOf", desc := "([Ljava/lang/Object;I)[Ljava/lang/Object;" } : Jvm.MethodName)) ∈ lw_all := lw_g (lw_at lw_m4 171 rfl) rfl
theorem q1134 : (Jvm.Cond.code ({ cls := "java/util/Arrays", name := "copyOf", desc := "([Ljava/lang/Object;I)[Ljava/lang/Object;" } : Jvm.MethodName) prog_65_method_119_code (2 : Nat) (Option.some (Jvm.ClassFile.FieldType.array (Jvm.ClassFile.FieldType.object "java/lang/Object")))) ∈ lw_all := lw_g (lw_at lw_m4 172 rfl) rfl
theorem q1135 : (Jvm.Cond.methodLink "java/util/Arrays" (86 : Nat) ({ cls := "java/lang/Object", name := "getClass", desc := "()Ljava/lang/Class;" } : Jvm.MethodName)) ∈ lw_all := lw_g (lw_at lw_m4 173 rfl) rfl
theorem q1185 : (Jvm.Cond.methodLink "java/util/Arrays" (300 : Nat) ({ cls := "java/util/Arrays", name := "copyOf", desc := "([Ljava/lang/Object;ILjava/lang/Class;)[Ljava/lang/Object;" } : Jvm.MethodName)) ∈ lw_all := lw_g (lw_at lw_m4 223 rfl) rfl
theorem q1186 : (Jvm.Cond.static ({ cls := "java/util/Arrays", name := "copyOf", desc := "([Ljava/lang/Object;ILjava/lang/Class;)[Ljava/lang/Object;" } : Jvm.MethodName)) ∈ lw_all := lw_g (lw_at lw_m4 224 rfl) rfl
theorem q1187 : (Jvm.Cond.code ({ cls := "java/util/Arrays", name := "copyOf", desc := "([Ljava/lang/Object;ILjava/lang/Class;)[Ljava/lang/Object;" } : Jvm.MethodName) prog_65_method_120_code (4 : Nat) (Option.some (Jvm.ClassFile.FieldType.array (Jvm.ClassFile.FieldType.object "java/lang/Object")))) ∈ lw_all := lw_g (lw_at lw_m4 225 rfl) rfl
theorem q1188 : (Jvm.Cond.classLink "java/util/Arrays" (110 : Nat) "[Ljava/lang/Object;") ∈ lw_all := lw_g (lw_at lw_m4 226 rfl) rfl
theorem q1190 : (Jvm.Cond.classLink "java/util/Arrays" (2 : Nat) "java/lang/Object") ∈ lw_all := lw_g (lw_at lw_m4 228 rfl) rfl
theorem q1191 : (Jvm.Cond.methodLink "java/util/Arrays" (304 : Nat) ({ cls := "java/lang/Math", name := "min", desc := "(II)I" } : Jvm.MethodName)) ∈ lw_all := lw_g (lw_at lw_m4 229 rfl) rfl
theorem q1194 : (Jvm.Cond.methodLink "java/util/Arrays" (150 : Nat) ({ cls := "java/lang/System", name := "arraycopy", desc := "(Ljava/lang/Object;ILjava/lang/Object;II)V" } : Jvm.MethodName)) ∈ lw_all := lw_g (lw_at lw_m4 232 rfl) rfl
theorem q292 : (Jvm.Cond.initialized "java/lang/Number") ∈ lw_all := lw_g (lw_at lw_m1 50 rfl) rfl
theorem q1897 : (Jvm.Cond.instanceMethod ({ cls := "java/lang/Number", name := "<init>", desc := "()V" } : Jvm.MethodName)) ∈ lw_all := lw_g (lw_at lw_m7 215 rfl) rfl
theorem q1898 : (Jvm.Cond.code ({ cls := "java/lang/Number", name := "<init>", desc := "()V" } : Jvm.MethodName) prog_55_method_1_code (1 : Nat) (Option.none : Option Jvm.ClassFile.FieldType)) ∈ lw_all := lw_g (lw_at lw_m7 216 rfl) rfl
theorem q1899 : (Jvm.Cond.methodLink "java/lang/Number" (1 : Nat) ({ cls := "java/lang/Object", name := "<init>", desc := "()V" } : Jvm.MethodName)) ∈ lw_all := lw_g (lw_at lw_m7 217 rfl) rfl
theorem q293 : (Jvm.Cond.initialized "java/lang/Integer") ∈ lw_all := lw_g (lw_at lw_m1 51 rfl) rfl
theorem q1182 : (Jvm.Cond.selects "java/lang/Integer" ({ cls := "java/lang/Object", name := "getClass", desc := "()Ljava/lang/Class;" } : Jvm.MethodName) ({ cls := "java/lang/Object", name := "getClass", desc := "()Ljava/lang/Class;" } : Jvm.MethodName)) ∈ lw_all := lw_g (lw_at lw_m4 220 rfl) rfl
theorem q1885 : (Jvm.Cond.static ({ cls := "java/lang/Integer", name := "valueOf", desc := "(I)Ljava/lang/Integer;" } : Jvm.MethodName)) ∈ lw_all := lw_g (lw_at lw_m7 203 rfl) rfl
theorem q1886 : (Jvm.Cond.code ({ cls := "java/lang/Integer", name := "valueOf", desc := "(I)Ljava/lang/Integer;" } : Jvm.MethodName) prog_51_method_22_code (1 : Nat) (Option.some (Jvm.ClassFile.FieldType.object "java/lang/Integer"))) ∈ lw_all := lw_g (lw_at lw_m7 204 rfl) rfl
theorem q1887 : (Jvm.Cond.fieldLink "java/lang/Integer" (191 : Nat) "java/lang/Integer$IntegerCache" "high" "I") ∈ lw_all := lw_g (lw_at lw_m7 205 rfl) rfl
theorem q1889 : (Jvm.Cond.fieldLink "java/lang/Integer" (195 : Nat) "java/lang/Integer$IntegerCache" "cache" "[Ljava/lang/Integer;") ∈ lw_all := lw_g (lw_at lw_m7 207 rfl) rfl
theorem q1891 : (Jvm.Cond.classLink "java/lang/Integer" (1 : Nat) "java/lang/Integer") ∈ lw_all := lw_g (lw_at lw_m7 209 rfl) rfl
theorem q1892 : (Jvm.Cond.instantiable "java/lang/Integer" (1 : Nat)) ∈ lw_all := lw_g (lw_at lw_m7 210 rfl) rfl
theorem q1893 : (Jvm.Cond.methodLink "java/lang/Integer" (199 : Nat) ({ cls := "java/lang/Integer", name := "<init>", desc := "(I)V" } : Jvm.MethodName)) ∈ lw_all := lw_g (lw_at lw_m7 211 rfl) rfl
theorem q1894 : (Jvm.Cond.instanceMethod ({ cls := "java/lang/Integer", name := "<init>", desc := "(I)V" } : Jvm.MethodName)) ∈ lw_all := lw_g (lw_at lw_m7 212 rfl) rfl
theorem q1895 : (Jvm.Cond.code ({ cls := "java/lang/Integer", name := "<init>", desc := "(I)V" } : Jvm.MethodName) prog_51_method_23_code (2 : Nat) (Option.none : Option Jvm.ClassFile.FieldType)) ∈ lw_all := lw_g (lw_at lw_m7 213 rfl) rfl
theorem q1896 : (Jvm.Cond.methodLink "java/lang/Integer" (202 : Nat) ({ cls := "java/lang/Number", name := "<init>", desc := "()V" } : Jvm.MethodName)) ∈ lw_all := lw_g (lw_at lw_m7 214 rfl) rfl
theorem q1900 : (Jvm.Cond.fieldLink "java/lang/Integer" (205 : Nat) "java/lang/Integer" "value" "I") ∈ lw_all := lw_g (lw_at lw_m7 218 rfl) rfl
theorem q1901 : (Jvm.Cond.laysFinal "java/lang/Integer" "java/lang/Integer" "value" "I") ∈ lw_all := lw_g (lw_at lw_m7 219 rfl) rfl
theorem q1902 : (Jvm.Cond.soleField "java/lang/Integer" "value") ∈ lw_all := lw_g (lw_at lw_m7 220 rfl) rfl
theorem q1903 : (Jvm.Cond.superclass "java/lang/Integer" "java/lang/Number") ∈ lw_all := lw_g (lw_at lw_m7 221 rfl) rfl
theorem q2615 : (Jvm.Cond.instanceMethod ({ cls := "java/lang/Integer", name := "intValue", desc := "()I" } : Jvm.MethodName)) ∈ lw_all := lw_g (lw_at lw_m10 213 rfl) rfl
theorem q2616 : (Jvm.Cond.selects "java/lang/Integer" ({ cls := "java/lang/Integer", name := "intValue", desc := "()I" } : Jvm.MethodName) ({ cls := "java/lang/Integer", name := "intValue", desc := "()I" } : Jvm.MethodName)) ∈ lw_all := lw_g (lw_at lw_m10 214 rfl) rfl
theorem q2617 : (Jvm.Cond.code ({ cls := "java/lang/Integer", name := "intValue", desc := "()I" } : Jvm.MethodName) prog_51_method_27_code (1 : Nat) (Option.some Jvm.ClassFile.FieldType.int)) ∈ lw_all := lw_g (lw_at lw_m10 215 rfl) rfl
theorem q4500 : (Jvm.Cond.castable "java/lang/Integer" "java/lang/Object") ∈ lw_tbl := lw_at lw_m18 178 rfl
theorem in_J15 : ∀ w ∈ wsJ150, w ∈ lw_all := lw_in wsJ150 [1901] (by decide +kernel) (by decide +kernel)
theorem q296 : (Jvm.Cond.initialized "java/util/Objects") ∈ lw_all := lw_g (lw_at lw_m1 54 rfl) rfl
theorem q1988 : (Jvm.Cond.static ({ cls := "java/util/Objects", name := "checkIndex", desc := "(II)I" } : Jvm.MethodName)) ∈ lw_all := lw_g (lw_at lw_m8 66 rfl) rfl
theorem q1989 : (Jvm.Cond.code ({ cls := "java/util/Objects", name := "checkIndex", desc := "(II)I" } : Jvm.MethodName) prog_68_method_17_code (2 : Nat) (Option.some Jvm.ClassFile.FieldType.int)) ∈ lw_all := lw_g (lw_at lw_m8 67 rfl) rfl
theorem q1990 : (Jvm.Cond.methodLink "java/util/Objects" (105 : Nat) ({ cls := "jdk/internal/util/Preconditions", name := "checkIndex", desc := "(IILjava/util/function/BiFunction;)I" } : Jvm.MethodName)) ∈ lw_all := lw_g (lw_at lw_m8 68 rfl) rfl
theorem q321 : (Jvm.Cond.instanceMethod ({ cls := "java/lang/Object", name := "<init>", desc := "()V" } : Jvm.MethodName)) ∈ lw_all := lw_g (lw_at lw_m1 79 rfl) rfl
theorem q322 : (Jvm.Cond.code ({ cls := "java/lang/Object", name := "<init>", desc := "()V" } : Jvm.MethodName) object_method_1_code (1 : Nat) (Option.none : Option Jvm.ClassFile.FieldType)) ∈ lw_all := lw_g (lw_at lw_m1 80 rfl) rfl
theorem q1136 : (Jvm.Cond.instanceMethod ({ cls := "java/lang/Object", name := "getClass", desc := "()Ljava/lang/Class;" } : Jvm.MethodName)) ∈ lw_all := lw_g (lw_at lw_m4 174 rfl) rfl
theorem q1137 : (Jvm.Cond.sameMethod "java/lang/Object" "java/lang/Object" "getClass" "()Ljava/lang/Class;") ∈ lw_all := lw_g (lw_at lw_m4 175 rfl) rfl
theorem q1184 : (Jvm.Cond.native ({ cls := "java/lang/Object", name := "getClass", desc := "()Ljava/lang/Class;" } : Jvm.MethodName)) ∈ lw_all := lw_g (lw_at lw_m4 222 rfl) rfl
theorem q4471 : (Jvm.Cond.declares ({ cls := "java/lang/Object", name := "getClass", desc := "()Ljava/lang/Class;" } : Jvm.MethodName)) ∈ lw_tbl := lw_at lw_m18 149 rfl
theorem q243 : (Jvm.Cond.initialized "CoercedClasses") ∈ lw_all := lw_g (lw_at lw_m1 1 rfl) rfl
theorem q308 : (Jvm.Cond.instanceMethod ({ cls := "CoercedClasses", name := "feed", desc := "(IIIII)I" } : Jvm.MethodName)) ∈ lw_all := lw_g (lw_at lw_m1 66 rfl) rfl
theorem q309 : (Jvm.Cond.selects "CoercedClasses" ({ cls := "CoercedClasses", name := "feed", desc := "(IIIII)I" } : Jvm.MethodName) ({ cls := "CoercedClasses", name := "feed", desc := "(IIIII)I" } : Jvm.MethodName)) ∈ lw_all := lw_g (lw_at lw_m1 67 rfl) rfl
theorem q310 : (Jvm.Cond.code ({ cls := "CoercedClasses", name := "feed", desc := "(IIIII)I" } : Jvm.MethodName) prog_1_method_1_code (6 : Nat) (Option.some Jvm.ClassFile.FieldType.int)) ∈ lw_all := lw_g (lw_at lw_m1 68 rfl) rfl
theorem q311 : (Jvm.Cond.methodLink "CoercedClasses" (7 : Nat) ({ cls := "CoercedClasses", name := "word", desc := "(I)V" } : Jvm.MethodName)) ∈ lw_all := lw_g (lw_at lw_m1 69 rfl) rfl
theorem q312 : (Jvm.Cond.privateMethod ({ cls := "CoercedClasses", name := "word", desc := "(I)V" } : Jvm.MethodName)) ∈ lw_tbl := lw_at lw_m1 70 rfl
theorem q313 : (Jvm.Cond.instanceMethod ({ cls := "CoercedClasses", name := "word", desc := "(I)V" } : Jvm.MethodName)) ∈ lw_all := lw_g (lw_at lw_m1 71 rfl) rfl
theorem q314 : (Jvm.Cond.instantiable "CoercedClasses" (16 : Nat)) ∈ lw_all := lw_g (lw_at lw_m1 72 rfl) rfl
theorem q315 : (Jvm.Cond.code ({ cls := "CoercedClasses", name := "word", desc := "(I)V" } : Jvm.MethodName) prog_1_method_2_code (3 : Nat) (Option.none : Option Jvm.ClassFile.FieldType)) ∈ lw_all := lw_g (lw_at lw_m1 73 rfl) rfl
theorem q318 : (Jvm.Cond.instanceMethod ({ cls := "CoercedClasses", name := "<init>", desc := "()V" } : Jvm.MethodName)) ∈ lw_all := lw_g (lw_at lw_m1 76 rfl) rfl
theorem q319 : (Jvm.Cond.code ({ cls := "CoercedClasses", name := "<init>", desc := "()V" } : Jvm.MethodName) prog_1_method_26_code (1 : Nat) (Option.none : Option Jvm.ClassFile.FieldType)) ∈ lw_all := lw_g (lw_at lw_m1 77 rfl) rfl
theorem q320 : (Jvm.Cond.methodLink "CoercedClasses" (348 : Nat) ({ cls := "java/lang/Object", name := "<init>", desc := "()V" } : Jvm.MethodName)) ∈ lw_all := lw_g (lw_at lw_m1 78 rfl) rfl
theorem q323 : (Jvm.Cond.classLink "CoercedClasses" (351 : Nat) "CoercedClasses$Program") ∈ lw_all := lw_g (lw_at lw_m1 81 rfl) rfl
theorem q326 : (Jvm.Cond.methodLinkNest "CoercedClasses" (353 : Nat) ({ cls := "CoercedClasses$Program", name := "<init>", desc := "()V" } : Jvm.MethodName) "CoercedClasses") ∈ lw_tbl := lw_at lw_m1 84 rfl
theorem q391 : (Jvm.Cond.fieldLinkNest "CoercedClasses" (489 : Nat) "CoercedClasses$Program" "bytes" "[B" "CoercedClasses") ∈ lw_tbl := lw_at lw_m1 149 rfl
theorem q393 : (Jvm.Cond.fieldLinkNest "CoercedClasses" (437 : Nat) "CoercedClasses$Program" "table" "LCoercedClasses$Table;" "CoercedClasses") ∈ lw_tbl := lw_at lw_m1 151 rfl
theorem q395 : (Jvm.Cond.fieldLinkNest "CoercedClasses" (587 : Nat) "CoercedClasses$Program" "classes" "Ljava/util/ArrayList;" "CoercedClasses") ∈ lw_tbl := lw_at lw_m1 153 rfl
theorem q397 : (Jvm.Cond.fieldLinkNest "CoercedClasses" (467 : Nat) "CoercedClasses$Program" "instances" "Ljava/util/ArrayList;" "CoercedClasses") ∈ lw_tbl := lw_at lw_m1 155 rfl
theorem q399 : (Jvm.Cond.fieldLinkNest "CoercedClasses" (452 : Nat) "CoercedClasses$Program" "functions" "Ljava/util/ArrayList;" "CoercedClasses") ∈ lw_tbl := lw_at lw_m1 157 rfl
theorem q406 : (Jvm.Cond.fieldLinkNest "CoercedClasses" (536 : Nat) "CoercedClasses$Program" "least" "I" "CoercedClasses") ∈ lw_tbl := lw_at lw_m1 164 rfl
theorem q432 : (Jvm.Cond.classLink "CoercedClasses" (358 : Nat) "CoercedClasses$Asked") ∈ lw_all := lw_g (lw_at lw_m1 190 rfl) rfl
theorem q435 : (Jvm.Cond.methodLinkNest "CoercedClasses" (360 : Nat) ({ cls := "CoercedClasses$Asked", name := "<init>", desc := "()V" } : Jvm.MethodName) "CoercedClasses") ∈ lw_tbl := lw_at lw_m1 193 rfl
theorem q456 : (Jvm.Cond.fieldLinkNest "CoercedClasses" (289 : Nat) "CoercedClasses$Scope" "names" "Ljava/util/ArrayList;" "CoercedClasses") ∈ lw_tbl := lw_at lw_m1 214 rfl
theorem q469 : (Jvm.Cond.fieldLinkNest "CoercedClasses" (525 : Nat) "CoercedClasses$Asked" "bytes" "[B" "CoercedClasses") ∈ lw_tbl := lw_at lw_m1 227 rfl
theorem q471 : (Jvm.Cond.fieldLinkNest "CoercedClasses" (526 : Nat) "CoercedClasses$Asked" "table" "LCoercedClasses$Table;" "CoercedClasses") ∈ lw_tbl := lw_at lw_m1 229 rfl
theorem q473 : (Jvm.Cond.fieldLinkNest "CoercedClasses" (541 : Nat) "CoercedClasses$Asked" "scope" "LCoercedClasses$Scope;" "CoercedClasses") ∈ lw_tbl := lw_at lw_m1 231 rfl
theorem q474 : (Jvm.Cond.fieldLinkNest "CoercedClasses" (532 : Nat) "CoercedClasses$Asked" "ex" "LCoercedClasses$Ex;" "CoercedClasses") ∈ lw_tbl := lw_at lw_m1 232 rfl
theorem q484 : (Jvm.Cond.classLink "CoercedClasses" (365 : Nat) "CoercedClasses$Prover") ∈ lw_all := lw_g (lw_at lw_m2 2 rfl) rfl
theorem q486 : (Jvm.Cond.methodLinkNest "CoercedClasses" (367 : Nat) ({ cls := "CoercedClasses$Prover", name := "<init>", desc := "()V" } : Jvm.MethodName) "CoercedClasses") ∈ lw_tbl := lw_at lw_m2 4 rfl
theorem q502 : (Jvm.Cond.classLink "CoercedClasses" (372 : Nat) "CoercedClasses$Teller") ∈ lw_all := lw_g (lw_at lw_m2 20 rfl) rfl
theorem q504 : (Jvm.Cond.methodLink "CoercedClasses" (374 : Nat) ({ cls := "CoercedClasses$Teller", name := "<init>", desc := "(LCoercedClasses$Prover;)V" } : Jvm.MethodName)) ∈ lw_all := lw_g (lw_at lw_m2 22 rfl) rfl
theorem q516 : (Jvm.Cond.fieldLinkNest "CoercedClasses" (428 : Nat) "CoercedClasses$Sink" "count" "I" "CoercedClasses") ∈ lw_tbl := lw_at lw_m2 34 rfl
theorem q519 : (Jvm.Cond.fieldLinkNest "CoercedClasses" (601 : Nat) "CoercedClasses$Sink" "got" "I" "CoercedClasses") ∈ lw_tbl := lw_at lw_m2 37 rfl
theorem q521 : (Jvm.Cond.fieldLinkNest "CoercedClasses" (420 : Nat) "CoercedClasses$Sink" "most" "I" "CoercedClasses") ∈ lw_tbl := lw_at lw_m2 39 rfl
theorem q560 : (Jvm.Cond.fieldLinkNest "CoercedClasses" (416 : Nat) "CoercedClasses$Teller" "s" "LCoercedClasses$Sink;" "CoercedClasses") ∈ lw_tbl := lw_at lw_m2 78 rfl
theorem q570 : (Jvm.Cond.classLink "CoercedClasses" (381 : Nat) "CoercedClasses$Checker") ∈ lw_all := lw_g (lw_at lw_m2 88 rfl) rfl
theorem q572 : (Jvm.Cond.methodLink "CoercedClasses" (383 : Nat) ({ cls := "CoercedClasses$Checker", name := "<init>", desc := "(LCoercedClasses$Prover;)V" } : Jvm.MethodName)) ∈ lw_all := lw_g (lw_at lw_m2 90 rfl) rfl
theorem q605 : (Jvm.Cond.classLink "CoercedClasses" (388 : Nat) "CoercedClasses$Machine") ∈ lw_all := lw_g (lw_at lw_m2 123 rfl) rfl
theorem q607 : (Jvm.Cond.methodLink "CoercedClasses" (390 : Nat) ({ cls := "CoercedClasses$Machine", name := "<init>", desc := "()V" } : Jvm.MethodName)) ∈ lw_all := lw_g (lw_at lw_m2 125 rfl) rfl
theorem q647 : (Jvm.Cond.fieldLinkNest "CoercedClasses" (584 : Nat) "CoercedClasses$Machine" "used" "I" "CoercedClasses") ∈ lw_tbl := lw_at lw_m2 165 rfl
theorem q650 : (Jvm.Cond.fieldLinkNest "CoercedClasses" (577 : Nat) "CoercedClasses$Machine" "many" "I" "CoercedClasses") ∈ lw_tbl := lw_at lw_m2 168 rfl
theorem q652 : (Jvm.Cond.fieldLinkNest "CoercedClasses" (580 : Nat) "CoercedClasses$Machine" "most" "I" "CoercedClasses") ∈ lw_tbl := lw_at lw_m2 170 rfl
theorem q654 : (Jvm.Cond.fieldLinkNest "CoercedClasses" (568 : Nat) "CoercedClasses$Machine" "state" "I" "CoercedClasses") ∈ lw_tbl := lw_at lw_m2 172 rfl
theorem q656 : (Jvm.Cond.fieldLinkNest "CoercedClasses" (574 : Nat) "CoercedClasses$Machine" "steps" "I" "CoercedClasses") ∈ lw_tbl := lw_at lw_m2 174 rfl
theorem q664 : (Jvm.Cond.fieldLinkNest "CoercedClasses" (590 : Nat) "CoercedClasses$Machine" "shown" "[B" "CoercedClasses") ∈ lw_tbl := lw_at lw_m2 182 rfl
theorem q666 : (Jvm.Cond.fieldLinkNest "CoercedClasses" (581 : Nat) "CoercedClasses$Machine" "said" "I" "CoercedClasses") ∈ lw_tbl := lw_at lw_m2 184 rfl
theorem q722 : (Jvm.Cond.classLink "CoercedClasses" (395 : Nat) "CoercedClasses$Term") ∈ lw_all := lw_g (lw_at lw_m3 0 rfl) rfl
theorem q724 : (Jvm.Cond.methodLinkNest "CoercedClasses" (397 : Nat) ({ cls := "CoercedClasses$Term", name := "<init>", desc := "()V" } : Jvm.MethodName) "CoercedClasses") ∈ lw_tbl := lw_at lw_m3 2 rfl
theorem q742 : (Jvm.Cond.fieldLinkNest "CoercedClasses" (610 : Nat) "CoercedClasses$Term" "type" "LCoercedClasses$Type;" "CoercedClasses") ∈ lw_tbl := lw_at lw_m3 20 rfl
theorem q754 : (Jvm.Cond.fieldLink "CoercedClasses" (11 : Nat) "CoercedClasses" "tape" "[B") ∈ lw_all := lw_g (lw_at lw_m3 32 rfl) rfl
theorem q755 : (Jvm.Cond.fieldLink "CoercedClasses" (1 : Nat) "CoercedClasses" "taped" "I") ∈ lw_all := lw_g (lw_at lw_m3 33 rfl) rfl
theorem q756 : (Jvm.Cond.fieldLink "CoercedClasses" (354 : Nat) "CoercedClasses" "programs" "[LCoercedClasses$Program;") ∈ lw_all := lw_g (lw_at lw_m3 34 rfl) rfl
theorem q757 : (Jvm.Cond.fieldLink "CoercedClasses" (361 : Nat) "CoercedClasses" "asks" "[LCoercedClasses$Asked;") ∈ lw_all := lw_g (lw_at lw_m3 35 rfl) rfl
theorem q758 : (Jvm.Cond.fieldLink "CoercedClasses" (486 : Nat) "CoercedClasses" "program" "I") ∈ lw_all := lw_g (lw_at lw_m3 36 rfl) rfl
theorem q759 : (Jvm.Cond.fieldLink "CoercedClasses" (522 : Nat) "CoercedClasses" "asked" "I") ∈ lw_all := lw_g (lw_at lw_m3 37 rfl) rfl
theorem q760 : (Jvm.Cond.fieldLink "CoercedClasses" (516 : Nat) "CoercedClasses" "isLoaded" "Z") ∈ lw_all := lw_g (lw_at lw_m3 38 rfl) rfl
theorem q761 : (Jvm.Cond.fieldLink "CoercedClasses" (519 : Nat) "CoercedClasses" "isAsked" "Z") ∈ lw_all := lw_g (lw_at lw_m3 39 rfl) rfl
theorem q762 : (Jvm.Cond.fieldLink "CoercedClasses" (402 : Nat) "CoercedClasses" "isTold" "Z") ∈ lw_all := lw_g (lw_at lw_m3 40 rfl) rfl
theorem q763 : (Jvm.Cond.fieldLink "CoercedClasses" (409 : Nat) "CoercedClasses" "fault" "I") ∈ lw_all := lw_g (lw_at lw_m3 41 rfl) rfl
theorem q764 : (Jvm.Cond.fieldLink "CoercedClasses" (413 : Nat) "CoercedClasses" "faultPlace" "I") ∈ lw_all := lw_g (lw_at lw_m3 42 rfl) rfl
theorem q765 : (Jvm.Cond.fieldLink "CoercedClasses" (368 : Nat) "CoercedClasses" "prover" "LCoercedClasses$Prover;") ∈ lw_all := lw_g (lw_at lw_m3 43 rfl) rfl
theorem q766 : (Jvm.Cond.fieldLink "CoercedClasses" (377 : Nat) "CoercedClasses" "teller" "LCoercedClasses$Teller;") ∈ lw_all := lw_g (lw_at lw_m3 44 rfl) rfl
theorem q767 : (Jvm.Cond.fieldLink "CoercedClasses" (384 : Nat) "CoercedClasses" "checker" "LCoercedClasses$Checker;") ∈ lw_all := lw_g (lw_at lw_m3 45 rfl) rfl
theorem q768 : (Jvm.Cond.fieldLink "CoercedClasses" (391 : Nat) "CoercedClasses" "machine" "LCoercedClasses$Machine;") ∈ lw_all := lw_g (lw_at lw_m3 46 rfl) rfl
theorem q769 : (Jvm.Cond.fieldLink "CoercedClasses" (398 : Nat) "CoercedClasses" "now" "LCoercedClasses$Term;") ∈ lw_all := lw_g (lw_at lw_m3 47 rfl) rfl
theorem q770 : (Jvm.Cond.laysFinal "CoercedClasses" "CoercedClasses" "tape" "[B") ∈ lw_all := lw_g (lw_at lw_m3 48 rfl) rfl
theorem q771 : (Jvm.Cond.soleField "CoercedClasses" "tape") ∈ lw_all := lw_g (lw_at lw_m3 49 rfl) rfl
theorem q772 : (Jvm.Cond.lays "CoercedClasses" "CoercedClasses" "taped" "I") ∈ lw_all := lw_g (lw_at lw_m3 50 rfl) rfl
theorem q773 : (Jvm.Cond.soleField "CoercedClasses" "taped") ∈ lw_all := lw_g (lw_at lw_m3 51 rfl) rfl
theorem q774 : (Jvm.Cond.laysFinal "CoercedClasses" "CoercedClasses" "programs" "[LCoercedClasses$Program;") ∈ lw_all := lw_g (lw_at lw_m3 52 rfl) rfl
theorem q775 : (Jvm.Cond.soleField "CoercedClasses" "programs") ∈ lw_all := lw_g (lw_at lw_m3 53 rfl) rfl
theorem q776 : (Jvm.Cond.laysFinal "CoercedClasses" "CoercedClasses" "asks" "[LCoercedClasses$Asked;") ∈ lw_all := lw_g (lw_at lw_m3 54 rfl) rfl
theorem q777 : (Jvm.Cond.soleField "CoercedClasses" "asks") ∈ lw_all := lw_g (lw_at lw_m3 55 rfl) rfl
theorem q778 : (Jvm.Cond.lays "CoercedClasses" "CoercedClasses" "program" "I") ∈ lw_all := lw_g (lw_at lw_m3 56 rfl) rfl
theorem q779 : (Jvm.Cond.soleField "CoercedClasses" "program") ∈ lw_all := lw_g (lw_at lw_m3 57 rfl) rfl
theorem q780 : (Jvm.Cond.lays "CoercedClasses" "CoercedClasses" "asked" "I") ∈ lw_all := lw_g (lw_at lw_m3 58 rfl) rfl
theorem q781 : (Jvm.Cond.soleField "CoercedClasses" "asked") ∈ lw_all := lw_g (lw_at lw_m3 59 rfl) rfl
theorem q782 : (Jvm.Cond.lays "CoercedClasses" "CoercedClasses" "isLoaded" "Z") ∈ lw_all := lw_g (lw_at lw_m3 60 rfl) rfl
theorem q783 : (Jvm.Cond.soleField "CoercedClasses" "isLoaded") ∈ lw_all := lw_g (lw_at lw_m3 61 rfl) rfl
theorem q784 : (Jvm.Cond.lays "CoercedClasses" "CoercedClasses" "isAsked" "Z") ∈ lw_all := lw_g (lw_at lw_m3 62 rfl) rfl
theorem q785 : (Jvm.Cond.soleField "CoercedClasses" "isAsked") ∈ lw_all := lw_g (lw_at lw_m3 63 rfl) rfl
theorem q786 : (Jvm.Cond.lays "CoercedClasses" "CoercedClasses" "isTold" "Z") ∈ lw_all := lw_g (lw_at lw_m3 64 rfl) rfl
theorem q787 : (Jvm.Cond.soleField "CoercedClasses" "isTold") ∈ lw_all := lw_g (lw_at lw_m3 65 rfl) rfl
theorem q788 : (Jvm.Cond.lays "CoercedClasses" "CoercedClasses" "fault" "I") ∈ lw_all := lw_g (lw_at lw_m3 66 rfl) rfl
theorem q789 : (Jvm.Cond.soleField "CoercedClasses" "fault") ∈ lw_all := lw_g (lw_at lw_m3 67 rfl) rfl
theorem q790 : (Jvm.Cond.lays "CoercedClasses" "CoercedClasses" "faultPlace" "I") ∈ lw_all := lw_g (lw_at lw_m3 68 rfl) rfl
theorem q791 : (Jvm.Cond.soleField "CoercedClasses" "faultPlace") ∈ lw_all := lw_g (lw_at lw_m3 69 rfl) rfl
theorem q792 : (Jvm.Cond.laysFinal "CoercedClasses" "CoercedClasses" "prover" "LCoercedClasses$Prover;") ∈ lw_all := lw_g (lw_at lw_m3 70 rfl) rfl
theorem q793 : (Jvm.Cond.soleField "CoercedClasses" "prover") ∈ lw_all := lw_g (lw_at lw_m3 71 rfl) rfl
theorem q794 : (Jvm.Cond.laysFinal "CoercedClasses" "CoercedClasses" "teller" "LCoercedClasses$Teller;") ∈ lw_all := lw_g (lw_at lw_m3 72 rfl) rfl
theorem q795 : (Jvm.Cond.soleField "CoercedClasses" "teller") ∈ lw_all := lw_g (lw_at lw_m3 73 rfl) rfl
theorem q796 : (Jvm.Cond.laysFinal "CoercedClasses" "CoercedClasses" "checker" "LCoercedClasses$Checker;") ∈ lw_all := lw_g (lw_at lw_m3 74 rfl) rfl
theorem q797 : (Jvm.Cond.soleField "CoercedClasses" "checker") ∈ lw_all := lw_g (lw_at lw_m3 75 rfl) rfl
theorem q798 : (Jvm.Cond.laysFinal "CoercedClasses" "CoercedClasses" "machine" "LCoercedClasses$Machine;") ∈ lw_all := lw_g (lw_at lw_m3 76 rfl) rfl
theorem q799 : (Jvm.Cond.soleField "CoercedClasses" "machine") ∈ lw_all := lw_g (lw_at lw_m3 77 rfl) rfl
theorem q800 : (Jvm.Cond.laysFinal "CoercedClasses" "CoercedClasses" "now" "LCoercedClasses$Term;") ∈ lw_all := lw_g (lw_at lw_m3 78 rfl) rfl
theorem q801 : (Jvm.Cond.soleField "CoercedClasses" "now") ∈ lw_all := lw_g (lw_at lw_m3 79 rfl) rfl
theorem q802 : (Jvm.Cond.superclass "CoercedClasses" "java/lang/Object") ∈ lw_all := lw_g (lw_at lw_m3 80 rfl) rfl
theorem q804 : (Jvm.Cond.instanceMethod ({ cls := "CoercedClasses", name := "load", desc := "(I)I" } : Jvm.MethodName)) ∈ lw_all := lw_g (lw_at lw_m3 82 rfl) rfl
theorem q805 : (Jvm.Cond.selects "CoercedClasses" ({ cls := "CoercedClasses", name := "load", desc := "(I)I" } : Jvm.MethodName) ({ cls := "CoercedClasses", name := "load", desc := "(I)I" } : Jvm.MethodName)) ∈ lw_all := lw_g (lw_at lw_m3 83 rfl) rfl
theorem q806 : (Jvm.Cond.codeWith ({ cls := "CoercedClasses", name := "load", desc := "(I)I" } : Jvm.MethodName) prog_1_method_32_code (4 : Nat) (Option.some Jvm.ClassFile.FieldType.int) [((40 : Nat), (66 : Nat), (69 : Nat), (407 : Nat))]) ∈ lw_all := lw_g (lw_at lw_m3 84 rfl) rfl
theorem q807 : (Jvm.Cond.classLink "CoercedClasses" (407 : Nat) "CoercedClasses$Fault") ∈ lw_all := lw_g (lw_at lw_m3 85 rfl) rfl
theorem q808 : (Jvm.Cond.methodLink "CoercedClasses" (492 : Nat) ({ cls := "CoercedClasses", name := "take", desc := "([BI)V" } : Jvm.MethodName)) ∈ lw_all := lw_g (lw_at lw_m3 86 rfl) rfl
theorem q809 : (Jvm.Cond.privateMethod ({ cls := "CoercedClasses", name := "take", desc := "([BI)V" } : Jvm.MethodName)) ∈ lw_tbl := lw_at lw_m3 87 rfl
theorem q810 : (Jvm.Cond.instanceMethod ({ cls := "CoercedClasses", name := "take", desc := "([BI)V" } : Jvm.MethodName)) ∈ lw_all := lw_g (lw_at lw_m3 88 rfl) rfl
theorem q811 : (Jvm.Cond.code ({ cls := "CoercedClasses", name := "take", desc := "([BI)V" } : Jvm.MethodName) prog_1_method_28_code (4 : Nat) (Option.none : Option Jvm.ClassFile.FieldType)) ∈ lw_all := lw_g (lw_at lw_m3 89 rfl) rfl
theorem q812 : (Jvm.Cond.methodLink "CoercedClasses" (496 : Nat) ({ cls := "CoercedClasses$Program", name := "clear", desc := "()V" } : Jvm.MethodName)) ∈ lw_all := lw_g (lw_at lw_m3 90 rfl) rfl
theorem q824 : (Jvm.Cond.classLink "CoercedClasses" (16 : Nat) "CoercedClasses$Tokens") ∈ lw_all := lw_g (lw_at lw_m3 102 rfl) rfl
theorem q826 : (Jvm.Cond.methodLink "CoercedClasses" (499 : Nat) ({ cls := "CoercedClasses$Tokens", name := "<init>", desc := "([BI)V" } : Jvm.MethodName)) ∈ lw_all := lw_g (lw_at lw_m3 104 rfl) rfl
theorem q944 : (Jvm.Cond.fieldLinkNest "CoercedClasses" (15 : Nat) "CoercedClasses$Tokens" "kind" "LCoercedClasses$Kind;" "CoercedClasses") ∈ lw_tbl := lw_at lw_m3 222 rfl
theorem q948 : (Jvm.Cond.fieldLinkNest "CoercedClasses" (106 : Nat) "CoercedClasses$Tokens" "place" "I" "CoercedClasses") ∈ lw_tbl := lw_at lw_m3 226 rfl
theorem q951 : (Jvm.Cond.fieldLinkNest "CoercedClasses" (226 : Nat) "CoercedClasses$Tokens" "value" "I" "CoercedClasses") ∈ lw_tbl := lw_at lw_m3 229 rfl
theorem q952 : (Jvm.Cond.fieldLinkNest "CoercedClasses" (67 : Nat) "CoercedClasses$Tokens" "begun" "I" "CoercedClasses") ∈ lw_tbl := lw_at lw_m3 230 rfl
theorem q971 : (Jvm.Cond.methodLink "CoercedClasses" (501 : Nat) ({ cls := "CoercedClasses$Program", name := "read", desc := "(LCoercedClasses$Tokens;)V" } : Jvm.MethodName)) ∈ lw_all := lw_g (lw_at lw_m4 9 rfl) rfl
theorem q1050 : (Jvm.Cond.fieldLinkNest "CoercedClasses" (406 : Nat) "CoercedClasses$Fault" "kind" "I" "CoercedClasses") ∈ lw_tbl := lw_at lw_m4 88 rfl
theorem q1052 : (Jvm.Cond.fieldLinkNest "CoercedClasses" (412 : Nat) "CoercedClasses$Fault" "place" "I" "CoercedClasses") ∈ lw_tbl := lw_at lw_m4 90 rfl
theorem q1138 : (Jvm.Cond.selects "CoercedClasses" ({ cls := "java/lang/Object", name := "getClass", desc := "()Ljava/lang/Class;" } : Jvm.MethodName) ({ cls := "java/lang/Object", name := "getClass", desc := "()Ljava/lang/Class;" } : Jvm.MethodName)) ∈ lw_all := lw_g (lw_at lw_m4 176 rfl) rfl
theorem q1208 : (Jvm.Cond.fieldLinkNest "CoercedClasses" (344 : Nat) "CoercedClasses$ClassDecl" "family" "LCoercedClasses$Word;" "CoercedClasses") ∈ lw_tbl := lw_at lw_m5 6 rfl
theorem q1270 : (Jvm.Cond.static ({ cls := "CoercedClasses", name := "readType", desc := "(LCoercedClasses$Tokens;)LCoercedClasses$Written;" } : Jvm.MethodName)) ∈ lw_all := lw_g (lw_at lw_m5 68 rfl) rfl
theorem q1271 : (Jvm.Cond.code ({ cls := "CoercedClasses", name := "readType", desc := "(LCoercedClasses$Tokens;)LCoercedClasses$Written;" } : Jvm.MethodName) prog_1_method_3_code (4 : Nat) (Option.some (Jvm.ClassFile.FieldType.object "CoercedClasses$Written"))) ∈ lw_all := lw_g (lw_at lw_m5 69 rfl) rfl
theorem q1272 : (Jvm.Cond.fieldLink "CoercedClasses" (21 : Nat) "CoercedClasses$Kind" "GREAT" "LCoercedClasses$Kind;") ∈ lw_all := lw_g (lw_at lw_m5 70 rfl) rfl
theorem q1273 : (Jvm.Cond.fieldLink "CoercedClasses" (26 : Nat) "CoercedClasses$Kind" "NAME" "LCoercedClasses$Kind;") ∈ lw_all := lw_g (lw_at lw_m5 71 rfl) rfl
theorem q1274 : (Jvm.Cond.methodLink "CoercedClasses" (29 : Nat) ({ cls := "CoercedClasses$Tokens", name := "isSign", desc := "(I)Z" } : Jvm.MethodName)) ∈ lw_all := lw_g (lw_at lw_m5 72 rfl) rfl
theorem q1275 : (Jvm.Cond.methodLink "CoercedClasses" (33 : Nat) ({ cls := "CoercedClasses$Tokens", name := "wrong", desc := "()LCoercedClasses$Fault;" } : Jvm.MethodName)) ∈ lw_all := lw_g (lw_at lw_m5 73 rfl) rfl
theorem q1276 : (Jvm.Cond.methodLink "CoercedClasses" (37 : Nat) ({ cls := "CoercedClasses$Tokens", name := "begin", desc := "()V" } : Jvm.MethodName)) ∈ lw_all := lw_g (lw_at lw_m5 74 rfl) rfl
theorem q1280 : (Jvm.Cond.methodLink "CoercedClasses" (41 : Nat) ({ cls := "CoercedClasses", name := "readGround", desc := "(LCoercedClasses$Tokens;)LCoercedClasses$Written;" } : Jvm.MethodName)) ∈ lw_all := lw_g (lw_at lw_m5 78 rfl) rfl
theorem q1281 : (Jvm.Cond.static ({ cls := "CoercedClasses", name := "readGround", desc := "(LCoercedClasses$Tokens;)LCoercedClasses$Written;" } : Jvm.MethodName)) ∈ lw_all := lw_g (lw_at lw_m5 79 rfl) rfl
theorem q1282 : (Jvm.Cond.code ({ cls := "CoercedClasses", name := "readGround", desc := "(LCoercedClasses$Tokens;)LCoercedClasses$Written;" } : Jvm.MethodName) prog_1_method_4_code (2 : Nat) (Option.some (Jvm.ClassFile.FieldType.object "CoercedClasses$Written"))) ∈ lw_all := lw_g (lw_at lw_m5 80 rfl) rfl
theorem q1283 : (Jvm.Cond.methodLink "CoercedClasses" (70 : Nat) ({ cls := "CoercedClasses", name := "readPiece", desc := "(LCoercedClasses$Tokens;)LCoercedClasses$Written;" } : Jvm.MethodName)) ∈ lw_all := lw_g (lw_at lw_m5 81 rfl) rfl
theorem q1284 : (Jvm.Cond.static ({ cls := "CoercedClasses", name := "readPiece", desc := "(LCoercedClasses$Tokens;)LCoercedClasses$Written;" } : Jvm.MethodName)) ∈ lw_all := lw_g (lw_at lw_m5 82 rfl) rfl
theorem q1285 : (Jvm.Cond.code ({ cls := "CoercedClasses", name := "readPiece", desc := "(LCoercedClasses$Tokens;)LCoercedClasses$Written;" } : Jvm.MethodName) prog_1_method_5_code (2 : Nat) (Option.some (Jvm.ClassFile.FieldType.object "CoercedClasses$Written"))) ∈ lw_all := lw_g (lw_at lw_m5 83 rfl) rfl
theorem q1286 : (Jvm.Cond.classLink "CoercedClasses" (48 : Nat) "CoercedClasses$Written") ∈ lw_all := lw_g (lw_at lw_m5 84 rfl) rfl
theorem q1288 : (Jvm.Cond.methodLink "CoercedClasses" (73 : Nat) ({ cls := "CoercedClasses$Tokens", name := "need", desc := "(LCoercedClasses$Kind;)LCoercedClasses$Word;" } : Jvm.MethodName)) ∈ lw_all := lw_g (lw_at lw_m5 86 rfl) rfl
theorem q1289 : (Jvm.Cond.methodLink "CoercedClasses" (50 : Nat) ({ cls := "CoercedClasses$Written", name := "<init>", desc := "(LCoercedClasses$Word;Z)V" } : Jvm.MethodName)) ∈ lw_all := lw_g (lw_at lw_m5 87 rfl) rfl
theorem q1300 : (Jvm.Cond.fieldLinkNest "CoercedClasses" (54 : Nat) "CoercedClasses$Written" "parts" "Ljava/util/ArrayList;" "CoercedClasses") ∈ lw_tbl := lw_at lw_m5 98 rfl
theorem q1309 : (Jvm.Cond.methodLink "CoercedClasses" (77 : Nat) ({ cls := "CoercedClasses$Tokens", name := "need", desc := "(I)V" } : Jvm.MethodName)) ∈ lw_all := lw_g (lw_at lw_m5 107 rfl) rfl
theorem q1310 : (Jvm.Cond.methodLink "CoercedClasses" (64 : Nat) ({ cls := "CoercedClasses", name := "readType", desc := "(LCoercedClasses$Tokens;)LCoercedClasses$Written;" } : Jvm.MethodName)) ∈ lw_all := lw_g (lw_at lw_m5 108 rfl) rfl
theorem q1311 : (Jvm.Cond.methodLink "CoercedClasses" (58 : Nat) ({ cls := "java/util/ArrayList", name := "add", desc := "(Ljava/lang/Object;)Z" } : Jvm.MethodName)) ∈ lw_all := lw_g (lw_at lw_m5 109 rfl) rfl
theorem q1312 : (Jvm.Cond.methodLink "CoercedClasses" (45 : Nat) ({ cls := "CoercedClasses$Tokens", name := "passes", desc := "(I)Z" } : Jvm.MethodName)) ∈ lw_all := lw_g (lw_at lw_m5 110 rfl) rfl
theorem q1367 : (Jvm.Cond.fieldLinkNest "CoercedClasses" (431 : Nat) "CoercedClasses$Instance" "scope" "LCoercedClasses$Scope;" "CoercedClasses") ∈ lw_tbl := lw_at lw_m5 165 rfl
theorem q1382 : (Jvm.Cond.fieldLinkNest "CoercedClasses" (474 : Nat) "CoercedClasses$Instance" "head" "LCoercedClasses$Type;" "CoercedClasses") ∈ lw_tbl := lw_at lw_m5 180 rfl
theorem q1388 : (Jvm.Cond.fieldLinkNest "CoercedClasses" (476 : Nat) "CoercedClasses$Instance" "lines" "Ljava/util/ArrayList;" "CoercedClasses") ∈ lw_tbl := lw_at lw_m5 186 rfl
theorem q1391 : (Jvm.Cond.fieldLinkNest "CoercedClasses" (593 : Nat) "CoercedClasses$Instance" "byMethod" "[LCoercedClasses$Line;" "CoercedClasses") ∈ lw_tbl := lw_at lw_m5 189 rfl
theorem q1394 : (Jvm.Cond.fieldLinkNest "CoercedClasses" (470 : Nat) "CoercedClasses$Instance" "above" "LCoercedClasses$Dictionary;" "CoercedClasses") ∈ lw_tbl := lw_at lw_m5 192 rfl
theorem q1470 : (Jvm.Cond.static ({ cls := "CoercedClasses", name := "readEx", desc := "(LCoercedClasses$Tokens;)LCoercedClasses$Ex;" } : Jvm.MethodName)) ∈ lw_all := lw_g (lw_at lw_m6 28 rfl) rfl
theorem q1471 : (Jvm.Cond.code ({ cls := "CoercedClasses", name := "readEx", desc := "(LCoercedClasses$Tokens;)LCoercedClasses$Ex;" } : Jvm.MethodName) prog_1_method_9_code (4 : Nat) (Option.some (Jvm.ClassFile.FieldType.object "CoercedClasses$Ex"))) ∈ lw_all := lw_g (lw_at lw_m6 29 rfl) rfl
theorem q1472 : (Jvm.Cond.stringRef "CoercedClasses" (92 : Nat) "let") ∈ lw_tbl := lw_at lw_m6 30 rfl
theorem q1473 : (Jvm.Cond.methodLink "CoercedClasses" (94 : Nat) ({ cls := "CoercedClasses$Tokens", name := "isWord", desc := "(Ljava/lang/String;)Z" } : Jvm.MethodName)) ∈ lw_all := lw_g (lw_at lw_m6 31 rfl) rfl
theorem q1474 : (Jvm.Cond.stringRef "CoercedClasses" (98 : Nat) "if") ∈ lw_tbl := lw_at lw_m6 32 rfl
theorem q1475 : (Jvm.Cond.stringRef "CoercedClasses" (100 : Nat) "case") ∈ lw_tbl := lw_at lw_m6 33 rfl
theorem q1476 : (Jvm.Cond.methodLink "CoercedClasses" (102 : Nat) ({ cls := "CoercedClasses", name := "isAtom", desc := "(LCoercedClasses$Tokens;)Z" } : Jvm.MethodName)) ∈ lw_all := lw_g (lw_at lw_m6 34 rfl) rfl
theorem q1477 : (Jvm.Cond.static ({ cls := "CoercedClasses", name := "isAtom", desc := "(LCoercedClasses$Tokens;)Z" } : Jvm.MethodName)) ∈ lw_all := lw_g (lw_at lw_m6 35 rfl) rfl
theorem q1478 : (Jvm.Cond.code ({ cls := "CoercedClasses", name := "isAtom", desc := "(LCoercedClasses$Tokens;)Z" } : Jvm.MethodName) prog_1_method_10_code (1 : Nat) (Option.some Jvm.ClassFile.FieldType.boolean)) ∈ lw_all := lw_g (lw_at lw_m6 36 rfl) rfl
theorem q1479 : (Jvm.Cond.fieldLink "CoercedClasses" (126 : Nat) "CoercedClasses$Kind" "NUMBER" "LCoercedClasses$Kind;") ∈ lw_all := lw_g (lw_at lw_m6 37 rfl) rfl
theorem q1480 : (Jvm.Cond.methodLink "CoercedClasses" (107 : Nat) ({ cls := "CoercedClasses", name := "readLambda", desc := "(LCoercedClasses$Tokens;I)LCoercedClasses$Ex;" } : Jvm.MethodName)) ∈ lw_all := lw_g (lw_at lw_m6 38 rfl) rfl
theorem q1481 : (Jvm.Cond.static ({ cls := "CoercedClasses", name := "readLambda", desc := "(LCoercedClasses$Tokens;I)LCoercedClasses$Ex;" } : Jvm.MethodName)) ∈ lw_all := lw_g (lw_at lw_m6 39 rfl) rfl
theorem q1482 : (Jvm.Cond.code ({ cls := "CoercedClasses", name := "readLambda", desc := "(LCoercedClasses$Tokens;I)LCoercedClasses$Ex;" } : Jvm.MethodName) prog_1_method_11_code (3 : Nat) (Option.some (Jvm.ClassFile.FieldType.object "CoercedClasses$Ex"))) ∈ lw_all := lw_g (lw_at lw_m6 40 rfl) rfl
theorem q1483 : (Jvm.Cond.classLink "CoercedClasses" (129 : Nat) "CoercedClasses$Lambda") ∈ lw_all := lw_g (lw_at lw_m6 41 rfl) rfl
theorem q1485 : (Jvm.Cond.methodLinkNest "CoercedClasses" (131 : Nat) ({ cls := "CoercedClasses$Lambda", name := "<init>", desc := "()V" } : Jvm.MethodName) "CoercedClasses") ∈ lw_tbl := lw_at lw_m6 43 rfl
theorem q1494 : (Jvm.Cond.fieldLinkNest "CoercedClasses" (137 : Nat) "CoercedClasses$Lambda" "word" "LCoercedClasses$Word;" "CoercedClasses") ∈ lw_tbl := lw_at lw_m6 52 rfl
theorem q1496 : (Jvm.Cond.fieldLinkNest "CoercedClasses" (140 : Nat) "CoercedClasses$Lambda" "written" "LCoercedClasses$Written;" "CoercedClasses") ∈ lw_tbl := lw_at lw_m6 54 rfl
theorem q1505 : (Jvm.Cond.fieldLinkNest "CoercedClasses" (147 : Nat) "CoercedClasses$Lambda" "body" "LCoercedClasses$Ex;" "CoercedClasses") ∈ lw_tbl := lw_at lw_m6 63 rfl
theorem q1508 : (Jvm.Cond.fieldLink "CoercedClasses" (87 : Nat) "CoercedClasses$Ex" "place" "I") ∈ lw_all := lw_g (lw_at lw_m6 66 rfl) rfl
theorem q1511 : (Jvm.Cond.fieldLink "CoercedClasses" (220 : Nat) "CoercedClasses$Chain" "place" "I") ∈ lw_all := lw_g (lw_at lw_m6 69 rfl) rfl
theorem q1515 : (Jvm.Cond.fieldLink "CoercedClasses" (565 : Nat) "CoercedClasses$Ex" "type" "LCoercedClasses$Type;") ∈ lw_all := lw_g (lw_at lw_m6 73 rfl) rfl
theorem q1534 : (Jvm.Cond.methodLink "CoercedClasses" (133 : Nat) ({ cls := "CoercedClasses", name := "at", desc := "(LCoercedClasses$Ex;I)LCoercedClasses$Ex;" } : Jvm.MethodName)) ∈ lw_all := lw_g (lw_at lw_m6 92 rfl) rfl
theorem q1535 : (Jvm.Cond.static ({ cls := "CoercedClasses", name := "at", desc := "(LCoercedClasses$Ex;I)LCoercedClasses$Ex;" } : Jvm.MethodName)) ∈ lw_all := lw_g (lw_at lw_m6 93 rfl) rfl
theorem q1536 : (Jvm.Cond.code ({ cls := "CoercedClasses", name := "at", desc := "(LCoercedClasses$Ex;I)LCoercedClasses$Ex;" } : Jvm.MethodName) prog_1_method_8_code (2 : Nat) (Option.some (Jvm.ClassFile.FieldType.object "CoercedClasses$Ex"))) ∈ lw_all := lw_g (lw_at lw_m6 94 rfl) rfl
theorem q1537 : (Jvm.Cond.methodLink "CoercedClasses" (144 : Nat) ({ cls := "CoercedClasses", name := "readEx", desc := "(LCoercedClasses$Tokens;)LCoercedClasses$Ex;" } : Jvm.MethodName)) ∈ lw_all := lw_g (lw_at lw_m6 95 rfl) rfl
theorem q1538 : (Jvm.Cond.methodLink "CoercedClasses" (111 : Nat) ({ cls := "CoercedClasses$Tokens", name := "passes", desc := "(Ljava/lang/String;)Z" } : Jvm.MethodName)) ∈ lw_all := lw_g (lw_at lw_m6 96 rfl) rfl
theorem q1539 : (Jvm.Cond.methodLink "CoercedClasses" (113 : Nat) ({ cls := "CoercedClasses", name := "readLet", desc := "(LCoercedClasses$Tokens;I)LCoercedClasses$Ex;" } : Jvm.MethodName)) ∈ lw_all := lw_g (lw_at lw_m6 97 rfl) rfl
theorem q1540 : (Jvm.Cond.static ({ cls := "CoercedClasses", name := "readLet", desc := "(LCoercedClasses$Tokens;I)LCoercedClasses$Ex;" } : Jvm.MethodName)) ∈ lw_all := lw_g (lw_at lw_m6 98 rfl) rfl
theorem q1541 : (Jvm.Cond.code ({ cls := "CoercedClasses", name := "readLet", desc := "(LCoercedClasses$Tokens;I)LCoercedClasses$Ex;" } : Jvm.MethodName) prog_1_method_12_code (3 : Nat) (Option.some (Jvm.ClassFile.FieldType.object "CoercedClasses$Ex"))) ∈ lw_all := lw_g (lw_at lw_m6 99 rfl) rfl
theorem q1542 : (Jvm.Cond.classLink "CoercedClasses" (151 : Nat) "CoercedClasses$Let") ∈ lw_all := lw_g (lw_at lw_m6 100 rfl) rfl
theorem q1544 : (Jvm.Cond.methodLinkNest "CoercedClasses" (153 : Nat) ({ cls := "CoercedClasses$Let", name := "<init>", desc := "()V" } : Jvm.MethodName) "CoercedClasses") ∈ lw_tbl := lw_at lw_m6 102 rfl
theorem q1550 : (Jvm.Cond.fieldLinkNest "CoercedClasses" (154 : Nat) "CoercedClasses$Let" "word" "LCoercedClasses$Word;" "CoercedClasses") ∈ lw_tbl := lw_at lw_m6 108 rfl
theorem q1552 : (Jvm.Cond.fieldLinkNest "CoercedClasses" (155 : Nat) "CoercedClasses$Let" "written" "LCoercedClasses$Written;" "CoercedClasses") ∈ lw_tbl := lw_at lw_m6 110 rfl
theorem q1561 : (Jvm.Cond.fieldLinkNest "CoercedClasses" (156 : Nat) "CoercedClasses$Let" "first" "LCoercedClasses$Ex;" "CoercedClasses") ∈ lw_tbl := lw_at lw_m6 119 rfl
theorem q1567 : (Jvm.Cond.fieldLinkNest "CoercedClasses" (164 : Nat) "CoercedClasses$Let" "body" "LCoercedClasses$Ex;" "CoercedClasses") ∈ lw_tbl := lw_at lw_m6 125 rfl
theorem q1583 : (Jvm.Cond.stringRef "CoercedClasses" (159 : Nat) "in") ∈ lw_tbl := lw_at lw_m6 141 rfl
theorem q1584 : (Jvm.Cond.methodLink "CoercedClasses" (161 : Nat) ({ cls := "CoercedClasses$Tokens", name := "need", desc := "(Ljava/lang/String;)V" } : Jvm.MethodName)) ∈ lw_all := lw_g (lw_at lw_m6 142 rfl) rfl
theorem q1589 : (Jvm.Cond.methodLink "CoercedClasses" (116 : Nat) ({ cls := "CoercedClasses", name := "readIf", desc := "(LCoercedClasses$Tokens;I)LCoercedClasses$Ex;" } : Jvm.MethodName)) ∈ lw_all := lw_g (lw_at lw_m6 147 rfl) rfl
theorem q1590 : (Jvm.Cond.static ({ cls := "CoercedClasses", name := "readIf", desc := "(LCoercedClasses$Tokens;I)LCoercedClasses$Ex;" } : Jvm.MethodName)) ∈ lw_all := lw_g (lw_at lw_m6 148 rfl) rfl
theorem q1591 : (Jvm.Cond.code ({ cls := "CoercedClasses", name := "readIf", desc := "(LCoercedClasses$Tokens;I)LCoercedClasses$Ex;" } : Jvm.MethodName) prog_1_method_13_code (3 : Nat) (Option.some (Jvm.ClassFile.FieldType.object "CoercedClasses$Ex"))) ∈ lw_all := lw_g (lw_at lw_m6 149 rfl) rfl
theorem q1592 : (Jvm.Cond.classLink "CoercedClasses" (165 : Nat) "CoercedClasses$If") ∈ lw_all := lw_g (lw_at lw_m6 150 rfl) rfl
theorem q1594 : (Jvm.Cond.methodLinkNest "CoercedClasses" (167 : Nat) ({ cls := "CoercedClasses$If", name := "<init>", desc := "()V" } : Jvm.MethodName) "CoercedClasses") ∈ lw_tbl := lw_at lw_m6 152 rfl
theorem q1602 : (Jvm.Cond.fieldLinkNest "CoercedClasses" (168 : Nat) "CoercedClasses$If" "a" "LCoercedClasses$Ex;" "CoercedClasses") ∈ lw_tbl := lw_at lw_m6 160 rfl
theorem q1608 : (Jvm.Cond.fieldLinkNest "CoercedClasses" (173 : Nat) "CoercedClasses$If" "b" "LCoercedClasses$Ex;" "CoercedClasses") ∈ lw_tbl := lw_at lw_m6 166 rfl
theorem q1614 : (Jvm.Cond.fieldLinkNest "CoercedClasses" (178 : Nat) "CoercedClasses$If" "c" "LCoercedClasses$Ex;" "CoercedClasses") ∈ lw_tbl := lw_at lw_m6 172 rfl
theorem q1626 : (Jvm.Cond.stringRef "CoercedClasses" (171 : Nat) "then") ∈ lw_tbl := lw_at lw_m6 184 rfl
theorem q1627 : (Jvm.Cond.stringRef "CoercedClasses" (176 : Nat) "else") ∈ lw_tbl := lw_at lw_m6 185 rfl
theorem q1628 : (Jvm.Cond.methodLink "CoercedClasses" (119 : Nat) ({ cls := "CoercedClasses", name := "readCase", desc := "(LCoercedClasses$Tokens;I)LCoercedClasses$Ex;" } : Jvm.MethodName)) ∈ lw_all := lw_g (lw_at lw_m6 186 rfl) rfl
theorem q1629 : (Jvm.Cond.static ({ cls := "CoercedClasses", name := "readCase", desc := "(LCoercedClasses$Tokens;I)LCoercedClasses$Ex;" } : Jvm.MethodName)) ∈ lw_all := lw_g (lw_at lw_m6 187 rfl) rfl
theorem q1630 : (Jvm.Cond.code ({ cls := "CoercedClasses", name := "readCase", desc := "(LCoercedClasses$Tokens;I)LCoercedClasses$Ex;" } : Jvm.MethodName) prog_1_method_14_code (3 : Nat) (Option.some (Jvm.ClassFile.FieldType.object "CoercedClasses$Ex"))) ∈ lw_all := lw_g (lw_at lw_m6 188 rfl) rfl
theorem q1631 : (Jvm.Cond.classLink "CoercedClasses" (181 : Nat) "CoercedClasses$Case") ∈ lw_all := lw_g (lw_at lw_m6 189 rfl) rfl
theorem q1633 : (Jvm.Cond.methodLinkNest "CoercedClasses" (183 : Nat) ({ cls := "CoercedClasses$Case", name := "<init>", desc := "()V" } : Jvm.MethodName) "CoercedClasses") ∈ lw_tbl := lw_at lw_m6 191 rfl
theorem q1642 : (Jvm.Cond.fieldLinkNest "CoercedClasses" (184 : Nat) "CoercedClasses$Case" "subject" "LCoercedClasses$Ex;" "CoercedClasses") ∈ lw_tbl := lw_at lw_m6 200 rfl
theorem q1647 : (Jvm.Cond.fieldLinkNest "CoercedClasses" (194 : Nat) "CoercedClasses$Case" "nil" "LCoercedClasses$Ex;" "CoercedClasses") ∈ lw_tbl := lw_at lw_m6 205 rfl
theorem q1653 : (Jvm.Cond.fieldLinkNest "CoercedClasses" (204 : Nat) "CoercedClasses$Case" "cons" "LCoercedClasses$Ex;" "CoercedClasses") ∈ lw_tbl := lw_at lw_m6 211 rfl
theorem q1657 : (Jvm.Cond.fieldLinkNest "CoercedClasses" (198 : Nat) "CoercedClasses$Case" "x" "LCoercedClasses$Word;" "CoercedClasses") ∈ lw_tbl := lw_at lw_m6 215 rfl
theorem q1660 : (Jvm.Cond.fieldLinkNest "CoercedClasses" (201 : Nat) "CoercedClasses$Case" "xs" "LCoercedClasses$Word;" "CoercedClasses") ∈ lw_tbl := lw_at lw_m6 218 rfl
theorem q1675 : (Jvm.Cond.stringRef "CoercedClasses" (187 : Nat) "of") ∈ lw_tbl := lw_at lw_m6 233 rfl
theorem q1676 : (Jvm.Cond.stringRef "CoercedClasses" (189 : Nat) "nil") ∈ lw_tbl := lw_at lw_m6 234 rfl
theorem q1677 : (Jvm.Cond.methodLink "CoercedClasses" (191 : Nat) ({ cls := "CoercedClasses$Tokens", name := "needName", desc := "(Ljava/lang/String;)V" } : Jvm.MethodName)) ∈ lw_all := lw_g (lw_at lw_m6 235 rfl) rfl
theorem q1681 : (Jvm.Cond.stringRef "CoercedClasses" (196 : Nat) "cons") ∈ lw_tbl := lw_at lw_m6 239 rfl
theorem q1682 : (Jvm.Cond.methodLink "CoercedClasses" (122 : Nat) ({ cls := "CoercedClasses", name := "readCompare", desc := "(LCoercedClasses$Tokens;)LCoercedClasses$Ex;" } : Jvm.MethodName)) ∈ lw_all := lw_g (lw_at lw_m7 0 rfl) rfl
theorem q1683 : (Jvm.Cond.static ({ cls := "CoercedClasses", name := "readCompare", desc := "(LCoercedClasses$Tokens;)LCoercedClasses$Ex;" } : Jvm.MethodName)) ∈ lw_all := lw_g (lw_at lw_m7 1 rfl) rfl
theorem q1684 : (Jvm.Cond.code ({ cls := "CoercedClasses", name := "readCompare", desc := "(LCoercedClasses$Tokens;)LCoercedClasses$Ex;" } : Jvm.MethodName) prog_1_method_16_code (5 : Nat) (Option.some (Jvm.ClassFile.FieldType.object "CoercedClasses$Ex"))) ∈ lw_all := lw_g (lw_at lw_m7 2 rfl) rfl
theorem q1685 : (Jvm.Cond.methodLink "CoercedClasses" (221 : Nat) ({ cls := "CoercedClasses", name := "readSum", desc := "(LCoercedClasses$Tokens;)LCoercedClasses$Ex;" } : Jvm.MethodName)) ∈ lw_all := lw_g (lw_at lw_m7 3 rfl) rfl
theorem q1686 : (Jvm.Cond.static ({ cls := "CoercedClasses", name := "readSum", desc := "(LCoercedClasses$Tokens;)LCoercedClasses$Ex;" } : Jvm.MethodName)) ∈ lw_all := lw_g (lw_at lw_m7 4 rfl) rfl
theorem q1687 : (Jvm.Cond.code ({ cls := "CoercedClasses", name := "readSum", desc := "(LCoercedClasses$Tokens;)LCoercedClasses$Ex;" } : Jvm.MethodName) prog_1_method_17_code (5 : Nat) (Option.some (Jvm.ClassFile.FieldType.object "CoercedClasses$Ex"))) ∈ lw_all := lw_g (lw_at lw_m7 5 rfl) rfl
theorem q1688 : (Jvm.Cond.methodLink "CoercedClasses" (236 : Nat) ({ cls := "CoercedClasses", name := "readProduct", desc := "(LCoercedClasses$Tokens;)LCoercedClasses$Ex;" } : Jvm.MethodName)) ∈ lw_all := lw_g (lw_at lw_m7 6 rfl) rfl
theorem q1689 : (Jvm.Cond.static ({ cls := "CoercedClasses", name := "readProduct", desc := "(LCoercedClasses$Tokens;)LCoercedClasses$Ex;" } : Jvm.MethodName)) ∈ lw_all := lw_g (lw_at lw_m7 7 rfl) rfl
theorem q1690 : (Jvm.Cond.code ({ cls := "CoercedClasses", name := "readProduct", desc := "(LCoercedClasses$Tokens;)LCoercedClasses$Ex;" } : Jvm.MethodName) prog_1_method_18_code (4 : Nat) (Option.some (Jvm.ClassFile.FieldType.object "CoercedClasses$Ex"))) ∈ lw_all := lw_g (lw_at lw_m7 8 rfl) rfl
theorem q1691 : (Jvm.Cond.methodLink "CoercedClasses" (239 : Nat) ({ cls := "CoercedClasses", name := "readUse", desc := "(LCoercedClasses$Tokens;)LCoercedClasses$Ex;" } : Jvm.MethodName)) ∈ lw_all := lw_g (lw_at lw_m7 9 rfl) rfl
theorem q1692 : (Jvm.Cond.static ({ cls := "CoercedClasses", name := "readUse", desc := "(LCoercedClasses$Tokens;)LCoercedClasses$Ex;" } : Jvm.MethodName)) ∈ lw_all := lw_g (lw_at lw_m7 10 rfl) rfl
theorem q1693 : (Jvm.Cond.code ({ cls := "CoercedClasses", name := "readUse", desc := "(LCoercedClasses$Tokens;)LCoercedClasses$Ex;" } : Jvm.MethodName) prog_1_method_19_code (7 : Nat) (Option.some (Jvm.ClassFile.FieldType.object "CoercedClasses$Ex"))) ∈ lw_all := lw_g (lw_at lw_m7 11 rfl) rfl
theorem q1694 : (Jvm.Cond.methodLink "CoercedClasses" (242 : Nat) ({ cls := "CoercedClasses", name := "readAtom", desc := "(LCoercedClasses$Tokens;)LCoercedClasses$Ex;" } : Jvm.MethodName)) ∈ lw_all := lw_g (lw_at lw_m7 12 rfl) rfl
theorem q1695 : (Jvm.Cond.static ({ cls := "CoercedClasses", name := "readAtom", desc := "(LCoercedClasses$Tokens;)LCoercedClasses$Ex;" } : Jvm.MethodName)) ∈ lw_all := lw_g (lw_at lw_m7 13 rfl) rfl
theorem q1696 : (Jvm.Cond.code ({ cls := "CoercedClasses", name := "readAtom", desc := "(LCoercedClasses$Tokens;)LCoercedClasses$Ex;" } : Jvm.MethodName) prog_1_method_20_code (3 : Nat) (Option.some (Jvm.ClassFile.FieldType.object "CoercedClasses$Ex"))) ∈ lw_all := lw_g (lw_at lw_m7 14 rfl) rfl
theorem q1697 : (Jvm.Cond.classLink "CoercedClasses" (251 : Nat) "CoercedClasses$Name") ∈ lw_all := lw_g (lw_at lw_m7 15 rfl) rfl
theorem q1699 : (Jvm.Cond.methodLinkNest "CoercedClasses" (264 : Nat) ({ cls := "CoercedClasses$Name", name := "<init>", desc := "()V" } : Jvm.MethodName) "CoercedClasses") ∈ lw_tbl := lw_at lw_m7 17 rfl
theorem q1705 : (Jvm.Cond.fieldLinkNest "CoercedClasses" (265 : Nat) "CoercedClasses$Name" "word" "LCoercedClasses$Word;" "CoercedClasses") ∈ lw_tbl := lw_at lw_m7 23 rfl
theorem q1755 : (Jvm.Cond.classLink "CoercedClasses" (266 : Nat) "CoercedClasses$Num") ∈ lw_all := lw_g (lw_at lw_m7 73 rfl) rfl
theorem q1757 : (Jvm.Cond.methodLinkNest "CoercedClasses" (268 : Nat) ({ cls := "CoercedClasses$Num", name := "<init>", desc := "()V" } : Jvm.MethodName) "CoercedClasses") ∈ lw_tbl := lw_at lw_m7 75 rfl
theorem q1763 : (Jvm.Cond.fieldLinkNest "CoercedClasses" (269 : Nat) "CoercedClasses$Num" "value" "I" "CoercedClasses") ∈ lw_tbl := lw_at lw_m7 81 rfl
theorem q1770 : (Jvm.Cond.methodLink "CoercedClasses" (229 : Nat) ({ cls := "CoercedClasses$Tokens", name := "advance", desc := "()V" } : Jvm.MethodName)) ∈ lw_all := lw_g (lw_at lw_m7 88 rfl) rfl
theorem q1771 : (Jvm.Cond.classLink "CoercedClasses" (245 : Nat) "CoercedClasses$Use") ∈ lw_all := lw_g (lw_at lw_m7 89 rfl) rfl
theorem q1773 : (Jvm.Cond.methodLinkNest "CoercedClasses" (247 : Nat) ({ cls := "CoercedClasses$Use", name := "<init>", desc := "()V" } : Jvm.MethodName) "CoercedClasses") ∈ lw_tbl := lw_at lw_m7 91 rfl
theorem q1788 : (Jvm.Cond.fieldLinkNest "CoercedClasses" (248 : Nat) "CoercedClasses$Use" "head" "LCoercedClasses$Ex;" "CoercedClasses") ∈ lw_tbl := lw_at lw_m7 106 rfl
theorem q1795 : (Jvm.Cond.fieldLinkNest "CoercedClasses" (256 : Nat) "CoercedClasses$Use" "items" "Ljava/util/ArrayList;" "CoercedClasses") ∈ lw_tbl := lw_at lw_m7 113 rfl
theorem q1804 : (Jvm.Cond.methodLink "CoercedClasses" (253 : Nat) ({ cls := "CoercedClasses$Name", name := "at", desc := "(LCoercedClasses$Written;)V" } : Jvm.MethodName)) ∈ lw_all := lw_g (lw_at lw_m7 122 rfl) rfl
theorem q1811 : (Jvm.Cond.classLink "CoercedClasses" (259 : Nat) "CoercedClasses$Item") ∈ lw_all := lw_g (lw_at lw_m7 129 rfl) rfl
theorem q1813 : (Jvm.Cond.methodLink "CoercedClasses" (261 : Nat) ({ cls := "CoercedClasses$Item", name := "<init>", desc := "(LCoercedClasses$Ex;LCoercedClasses$Written;I)V" } : Jvm.MethodName)) ∈ lw_all := lw_g (lw_at lw_m7 131 rfl) rfl
theorem q1844 : (Jvm.Cond.classLink "CoercedClasses" (207 : Nat) "CoercedClasses$Chain") ∈ lw_all := lw_g (lw_at lw_m7 162 rfl) rfl
theorem q1846 : (Jvm.Cond.methodLinkNest "CoercedClasses" (224 : Nat) ({ cls := "CoercedClasses$Chain", name := "<init>", desc := "()V" } : Jvm.MethodName) "CoercedClasses") ∈ lw_tbl := lw_at lw_m7 164 rfl
theorem q1857 : (Jvm.Cond.fieldLinkNest "CoercedClasses" (225 : Nat) "CoercedClasses$Chain" "first" "LCoercedClasses$Ex;" "CoercedClasses") ∈ lw_tbl := lw_at lw_m7 175 rfl
theorem q1864 : (Jvm.Cond.fieldLinkNest "CoercedClasses" (206 : Nat) "CoercedClasses$Chain" "others" "Ljava/util/ArrayList;" "CoercedClasses") ∈ lw_tbl := lw_at lw_m7 182 rfl
theorem q1869 : (Jvm.Cond.fieldLinkNest "CoercedClasses" (211 : Nat) "CoercedClasses$Chain" "signs" "Ljava/util/ArrayList;" "CoercedClasses") ∈ lw_tbl := lw_at lw_m7 187 rfl
theorem q1881 : (Jvm.Cond.methodLink "CoercedClasses" (232 : Nat) ({ cls := "CoercedClasses", name := "link", desc := "(LCoercedClasses$Tokens;LCoercedClasses$Chain;LCoercedClasses$Ex;II)V" } : Jvm.MethodName)) ∈ lw_all := lw_g (lw_at lw_m7 199 rfl) rfl
theorem q1882 : (Jvm.Cond.static ({ cls := "CoercedClasses", name := "link", desc := "(LCoercedClasses$Tokens;LCoercedClasses$Chain;LCoercedClasses$Ex;II)V" } : Jvm.MethodName)) ∈ lw_all := lw_g (lw_at lw_m7 200 rfl) rfl
theorem q1883 : (Jvm.Cond.code ({ cls := "CoercedClasses", name := "link", desc := "(LCoercedClasses$Tokens;LCoercedClasses$Chain;LCoercedClasses$Ex;II)V" } : Jvm.MethodName) prog_1_method_15_code (5 : Nat) (Option.none : Option Jvm.ClassFile.FieldType)) ∈ lw_all := lw_g (lw_at lw_m7 201 rfl) rfl
theorem q1884 : (Jvm.Cond.methodLink "CoercedClasses" (214 : Nat) ({ cls := "java/lang/Integer", name := "valueOf", desc := "(I)Ljava/lang/Integer;" } : Jvm.MethodName)) ∈ lw_all := lw_g (lw_at lw_m7 202 rfl) rfl
theorem q1915 : (Jvm.Cond.fieldLinkNest "CoercedClasses" (441 : Nat) "CoercedClasses$Line" "ex" "LCoercedClasses$Ex;" "CoercedClasses") ∈ lw_tbl := lw_at lw_m7 233 rfl
theorem q1917 : (Jvm.Cond.fieldLinkNest "CoercedClasses" (446 : Nat) "CoercedClasses$Line" "wanted" "LCoercedClasses$Type;" "CoercedClasses") ∈ lw_tbl := lw_at lw_m7 235 rfl
theorem q1945 : (Jvm.Cond.fieldLinkNest "CoercedClasses" (458 : Nat) "CoercedClasses$Function" "scope" "LCoercedClasses$Scope;" "CoercedClasses") ∈ lw_tbl := lw_at lw_m8 23 rfl
theorem q1950 : (Jvm.Cond.fieldLinkNest "CoercedClasses" (460 : Nat) "CoercedClasses$Function" "type" "LCoercedClasses$Type;" "CoercedClasses") ∈ lw_tbl := lw_at lw_m8 28 rfl
theorem q1953 : (Jvm.Cond.fieldLinkNest "CoercedClasses" (459 : Nat) "CoercedClasses$Function" "ex" "LCoercedClasses$Ex;" "CoercedClasses") ∈ lw_tbl := lw_at lw_m8 31 rfl
theorem q1970 : (Jvm.Cond.methodLink "CoercedClasses" (505 : Nat) ({ cls := "CoercedClasses$Program", name := "judge", desc := "()V" } : Jvm.MethodName)) ∈ lw_all := lw_g (lw_at lw_m8 48 rfl) rfl
theorem q2003 : (Jvm.Cond.static ({ cls := "CoercedClasses", name := "con", desc := "(I)Ljava/lang/String;" } : Jvm.MethodName)) ∈ lw_all := lw_g (lw_at lw_m8 81 rfl) rfl
theorem q2004 : (Jvm.Cond.code ({ cls := "CoercedClasses", name := "con", desc := "(I)Ljava/lang/String;" } : Jvm.MethodName) prog_1_method_6_code (1 : Nat) (Option.some (Jvm.ClassFile.FieldType.object "java/lang/String"))) ∈ lw_all := lw_g (lw_at lw_m8 82 rfl) rfl
theorem q2005 : (Jvm.Cond.stringRef "CoercedClasses" (79 : Nat) "Int") ∈ lw_tbl := lw_at lw_m8 83 rfl
theorem q2006 : (Jvm.Cond.stringRef "CoercedClasses" (81 : Nat) "Bool") ∈ lw_tbl := lw_at lw_m8 84 rfl
theorem q2007 : (Jvm.Cond.stringRef "CoercedClasses" (83 : Nat) "List") ∈ lw_tbl := lw_at lw_m8 85 rfl
theorem q2008 : (Jvm.Cond.stringRef "CoercedClasses" (85 : Nat) "Pair") ∈ lw_tbl := lw_at lw_m8 86 rfl
theorem q2023 : (Jvm.Cond.static ({ cls := "CoercedClasses", name := "builtOf", desc := "(LCoercedClasses$Word;)I" } : Jvm.MethodName)) ∈ lw_all := lw_g (lw_at lw_m8 101 rfl) rfl
theorem q2024 : (Jvm.Cond.code ({ cls := "CoercedClasses", name := "builtOf", desc := "(LCoercedClasses$Word;)I" } : Jvm.MethodName) prog_1_method_22_code (2 : Nat) (Option.some Jvm.ClassFile.FieldType.int)) ∈ lw_all := lw_g (lw_at lw_m8 102 rfl) rfl
theorem q2025 : (Jvm.Cond.methodLink "CoercedClasses" (280 : Nat) ({ cls := "CoercedClasses", name := "built", desc := "(I)Ljava/lang/String;" } : Jvm.MethodName)) ∈ lw_all := lw_g (lw_at lw_m8 103 rfl) rfl
theorem q2026 : (Jvm.Cond.static ({ cls := "CoercedClasses", name := "built", desc := "(I)Ljava/lang/String;" } : Jvm.MethodName)) ∈ lw_all := lw_g (lw_at lw_m8 104 rfl) rfl
theorem q2027 : (Jvm.Cond.code ({ cls := "CoercedClasses", name := "built", desc := "(I)Ljava/lang/String;" } : Jvm.MethodName) prog_1_method_21_code (1 : Nat) (Option.some (Jvm.ClassFile.FieldType.object "java/lang/String"))) ∈ lw_all := lw_g (lw_at lw_m8 105 rfl) rfl
theorem q2028 : (Jvm.Cond.stringRef "CoercedClasses" (270 : Nat) "pair") ∈ lw_tbl := lw_at lw_m8 106 rfl
theorem q2029 : (Jvm.Cond.stringRef "CoercedClasses" (272 : Nat) "fst") ∈ lw_tbl := lw_at lw_m8 107 rfl
theorem q2030 : (Jvm.Cond.stringRef "CoercedClasses" (274 : Nat) "snd") ∈ lw_tbl := lw_at lw_m8 108 rfl
theorem q2031 : (Jvm.Cond.stringRef "CoercedClasses" (276 : Nat) "true") ∈ lw_tbl := lw_at lw_m8 109 rfl
theorem q2032 : (Jvm.Cond.stringRef "CoercedClasses" (278 : Nat) "false") ∈ lw_tbl := lw_at lw_m8 110 rfl
theorem q2033 : (Jvm.Cond.methodLink "CoercedClasses" (284 : Nat) ({ cls := "CoercedClasses$Word", name := "is", desc := "(Ljava/lang/String;)Z" } : Jvm.MethodName)) ∈ lw_all := lw_g (lw_at lw_m8 111 rfl) rfl
theorem q2089 : (Jvm.Cond.fieldLinkNest "CoercedClasses" (307 : Nat) "CoercedClasses$Type" "kind" "I" "CoercedClasses") ∈ lw_tbl := lw_at lw_m8 167 rfl
theorem q2096 : (Jvm.Cond.fieldLinkNest "CoercedClasses" (335 : Nat) "CoercedClasses$Type" "con" "I" "CoercedClasses") ∈ lw_tbl := lw_at lw_m8 174 rfl
theorem q2104 : (Jvm.Cond.fieldLinkNest "CoercedClasses" (329 : Nat) "CoercedClasses$Type" "name" "LCoercedClasses$Word;" "CoercedClasses") ∈ lw_tbl := lw_at lw_m8 182 rfl
theorem q2109 : (Jvm.Cond.fieldLinkNest "CoercedClasses" (340 : Nat) "CoercedClasses$Type" "family" "LCoercedClasses$ClassDecl;" "CoercedClasses") ∈ lw_tbl := lw_at lw_m8 187 rfl
theorem q2117 : (Jvm.Cond.fieldLinkNest "CoercedClasses" (314 : Nat) "CoercedClasses$Type" "a" "LCoercedClasses$Type;" "CoercedClasses") ∈ lw_tbl := lw_at lw_m8 195 rfl
theorem q2125 : (Jvm.Cond.fieldLinkNest "CoercedClasses" (325 : Nat) "CoercedClasses$Type" "b" "LCoercedClasses$Type;" "CoercedClasses") ∈ lw_tbl := lw_at lw_m8 203 rfl
theorem q2165 : (Jvm.Cond.static ({ cls := "CoercedClasses", name := "partsOf", desc := "(I)I" } : Jvm.MethodName)) ∈ lw_all := lw_g (lw_at lw_m9 3 rfl) rfl
theorem q2166 : (Jvm.Cond.code ({ cls := "CoercedClasses", name := "partsOf", desc := "(I)I" } : Jvm.MethodName) prog_1_method_7_code (1 : Nat) (Option.some Jvm.ClassFile.FieldType.int)) ∈ lw_all := lw_g (lw_at lw_m9 4 rfl) rfl
theorem q2517 : (Jvm.Cond.static ({ cls := "CoercedClasses", name := "typeFor", desc := "(LCoercedClasses$Scope;Ljava/util/ArrayList;LCoercedClasses$Word;)LCoercedClasses$Type;" } : Jvm.MethodName)) ∈ lw_all := lw_g (lw_at lw_m10 115 rfl) rfl
theorem q2518 : (Jvm.Cond.code ({ cls := "CoercedClasses", name := "typeFor", desc := "(LCoercedClasses$Scope;Ljava/util/ArrayList;LCoercedClasses$Word;)LCoercedClasses$Type;" } : Jvm.MethodName) prog_1_method_23_code (4 : Nat) (Option.some (Jvm.ClassFile.FieldType.object "CoercedClasses$Type"))) ∈ lw_all := lw_g (lw_at lw_m10 116 rfl) rfl
theorem q2519 : (Jvm.Cond.methodLink "CoercedClasses" (294 : Nat) ({ cls := "java/util/ArrayList", name := "size", desc := "()I" } : Jvm.MethodName)) ∈ lw_all := lw_g (lw_at lw_m10 117 rfl) rfl
theorem q2520 : (Jvm.Cond.methodLink "CoercedClasses" (298 : Nat) ({ cls := "java/util/ArrayList", name := "get", desc := "(I)Ljava/lang/Object;" } : Jvm.MethodName)) ∈ lw_all := lw_g (lw_at lw_m10 118 rfl) rfl
theorem q2521 : (Jvm.Cond.classLink "CoercedClasses" (285 : Nat) "CoercedClasses$Word") ∈ lw_all := lw_g (lw_at lw_m10 119 rfl) rfl
theorem q2522 : (Jvm.Cond.methodLink "CoercedClasses" (302 : Nat) ({ cls := "CoercedClasses$Word", name := "is", desc := "(LCoercedClasses$Word;)Z" } : Jvm.MethodName)) ∈ lw_all := lw_g (lw_at lw_m10 120 rfl) rfl
theorem q2523 : (Jvm.Cond.classLink "CoercedClasses" (305 : Nat) "CoercedClasses$Type") ∈ lw_all := lw_g (lw_at lw_m10 121 rfl) rfl
theorem q2631 : (Jvm.Cond.methodLink "CoercedClasses" (508 : Nat) ({ cls := "CoercedClasses", name := "measure", desc := "(LCoercedClasses$Program;I)V" } : Jvm.MethodName)) ∈ lw_all := lw_g (lw_at lw_m10 229 rfl) rfl
theorem q2632 : (Jvm.Cond.privateMethod ({ cls := "CoercedClasses", name := "measure", desc := "(LCoercedClasses$Program;I)V" } : Jvm.MethodName)) ∈ lw_tbl := lw_at lw_m10 230 rfl
theorem q2633 : (Jvm.Cond.instanceMethod ({ cls := "CoercedClasses", name := "measure", desc := "(LCoercedClasses$Program;I)V" } : Jvm.MethodName)) ∈ lw_all := lw_g (lw_at lw_m10 231 rfl) rfl
theorem q2634 : (Jvm.Cond.code ({ cls := "CoercedClasses", name := "measure", desc := "(LCoercedClasses$Program;I)V" } : Jvm.MethodName) prog_1_method_31_code (7 : Nat) (Option.none : Option Jvm.ClassFile.FieldType)) ∈ lw_all := lw_g (lw_at lw_m10 232 rfl) rfl
theorem q2635 : (Jvm.Cond.constant "CoercedClasses" (455 : Nat) (60000 : Int32)) ∈ lw_all := lw_g (lw_at lw_m10 233 rfl) rfl
theorem q2636 : (Jvm.Cond.classLink "CoercedClasses" (456 : Nat) "CoercedClasses$Function") ∈ lw_all := lw_g (lw_at lw_m10 234 rfl) rfl
theorem q2637 : (Jvm.Cond.methodLink "CoercedClasses" (449 : Nat) ({ cls := "CoercedClasses$Term", name := "is", desc := "(LCoercedClasses$Scope;LCoercedClasses$Table;LCoercedClasses$Ex;LCoercedClasses$Dictionary;LCoercedClasses$Type;)LCoercedClasses$Term;" } : Jvm.MethodName)) ∈ lw_all := lw_g (lw_at lw_m10 235 rfl) rfl
theorem q2641 : (Jvm.Cond.methodLink "CoercedClasses" (463 : Nat) ({ cls := "CoercedClasses", name := "length", desc := "(LCoercedClasses$Term;I)I" } : Jvm.MethodName)) ∈ lw_all := lw_g (lw_at lw_m10 239 rfl) rfl
theorem q2642 : (Jvm.Cond.privateMethod ({ cls := "CoercedClasses", name := "length", desc := "(LCoercedClasses$Term;I)I" } : Jvm.MethodName)) ∈ lw_tbl := lw_at lw_m11 0 rfl
theorem q2643 : (Jvm.Cond.instanceMethod ({ cls := "CoercedClasses", name := "length", desc := "(LCoercedClasses$Term;I)I" } : Jvm.MethodName)) ∈ lw_all := lw_g (lw_at lw_m11 1 rfl) rfl
theorem q2644 : (Jvm.Cond.code ({ cls := "CoercedClasses", name := "length", desc := "(LCoercedClasses$Term;I)I" } : Jvm.MethodName) prog_1_method_29_code (3 : Nat) (Option.some Jvm.ClassFile.FieldType.int)) ∈ lw_all := lw_g (lw_at lw_m11 2 rfl) rfl
theorem q2645 : (Jvm.Cond.methodLink "CoercedClasses" (423 : Nat) ({ cls := "CoercedClasses$Teller", name := "term", desc := "(LCoercedClasses$Term;I)V" } : Jvm.MethodName)) ∈ lw_all := lw_g (lw_at lw_m11 3 rfl) rfl
theorem q2684 : (Jvm.Cond.static ({ cls := "CoercedClasses", name := "tell", desc := "(LCoercedClasses$Sink;LCoercedClasses$Type;)V" } : Jvm.MethodName)) ∈ lw_all := lw_g (lw_at lw_m11 42 rfl) rfl
theorem q2685 : (Jvm.Cond.code ({ cls := "CoercedClasses", name := "tell", desc := "(LCoercedClasses$Sink;LCoercedClasses$Type;)V" } : Jvm.MethodName) prog_1_method_24_code (2 : Nat) (Option.none : Option Jvm.ClassFile.FieldType)) ∈ lw_all := lw_g (lw_at lw_m11 43 rfl) rfl
theorem q2686 : (Jvm.Cond.methodLink "CoercedClasses" (309 : Nat) ({ cls := "CoercedClasses$Sink", name := "put", desc := "(I)V" } : Jvm.MethodName)) ∈ lw_all := lw_g (lw_at lw_m11 44 rfl) rfl
theorem q2687 : (Jvm.Cond.methodLink "CoercedClasses" (317 : Nat) ({ cls := "CoercedClasses", name := "tell", desc := "(LCoercedClasses$Sink;LCoercedClasses$Type;)V" } : Jvm.MethodName)) ∈ lw_all := lw_g (lw_at lw_m11 45 rfl) rfl
theorem q2688 : (Jvm.Cond.stringRef "CoercedClasses" (321 : Nat) "->") ∈ lw_tbl := lw_at lw_m11 46 rfl
theorem q2689 : (Jvm.Cond.methodLink "CoercedClasses" (323 : Nat) ({ cls := "CoercedClasses$Sink", name := "put", desc := "(Ljava/lang/String;)V" } : Jvm.MethodName)) ∈ lw_all := lw_g (lw_at lw_m11 47 rfl) rfl
theorem q2690 : (Jvm.Cond.methodLink "CoercedClasses" (327 : Nat) ({ cls := "CoercedClasses", name := "head", desc := "(LCoercedClasses$Sink;LCoercedClasses$Type;)V" } : Jvm.MethodName)) ∈ lw_all := lw_g (lw_at lw_m11 48 rfl) rfl
theorem q2691 : (Jvm.Cond.static ({ cls := "CoercedClasses", name := "head", desc := "(LCoercedClasses$Sink;LCoercedClasses$Type;)V" } : Jvm.MethodName)) ∈ lw_all := lw_g (lw_at lw_m11 49 rfl) rfl
theorem q2692 : (Jvm.Cond.code ({ cls := "CoercedClasses", name := "head", desc := "(LCoercedClasses$Sink;LCoercedClasses$Type;)V" } : Jvm.MethodName) prog_1_method_25_code (2 : Nat) (Option.none : Option Jvm.ClassFile.FieldType)) ∈ lw_all := lw_g (lw_at lw_m11 50 rfl) rfl
theorem q2693 : (Jvm.Cond.methodLink "CoercedClasses" (332 : Nat) ({ cls := "CoercedClasses$Sink", name := "put", desc := "(LCoercedClasses$Word;)V" } : Jvm.MethodName)) ∈ lw_all := lw_g (lw_at lw_m11 51 rfl) rfl
theorem q2694 : (Jvm.Cond.methodLink "CoercedClasses" (338 : Nat) ({ cls := "CoercedClasses", name := "con", desc := "(I)Ljava/lang/String;" } : Jvm.MethodName)) ∈ lw_all := lw_g (lw_at lw_m11 52 rfl) rfl
theorem q2871 : (Jvm.Cond.constant "CoercedClasses" (427 : Nat) (2147483647 : Int32)) ∈ lw_all := lw_g (lw_at lw_m11 229 rfl) rfl
theorem q2872 : (Jvm.Cond.classLink "CoercedClasses" (432 : Nat) "CoercedClasses$Instance") ∈ lw_all := lw_g (lw_at lw_m11 230 rfl) rfl
theorem q2873 : (Jvm.Cond.classLink "CoercedClasses" (442 : Nat) "CoercedClasses$Line") ∈ lw_all := lw_g (lw_at lw_m11 231 rfl) rfl
theorem q2874 : (Jvm.Cond.methodLink "CoercedClasses" (479 : Nat) ({ cls := "CoercedClasses", name := "lineOf", desc := "(LCoercedClasses$Program;LCoercedClasses$Instance;LCoercedClasses$Line;)LCoercedClasses$Term;" } : Jvm.MethodName)) ∈ lw_all := lw_g (lw_at lw_m11 232 rfl) rfl
theorem q2875 : (Jvm.Cond.privateMethod ({ cls := "CoercedClasses", name := "lineOf", desc := "(LCoercedClasses$Program;LCoercedClasses$Instance;LCoercedClasses$Line;)LCoercedClasses$Term;" } : Jvm.MethodName)) ∈ lw_tbl := lw_at lw_m11 233 rfl
theorem q2876 : (Jvm.Cond.instanceMethod ({ cls := "CoercedClasses", name := "lineOf", desc := "(LCoercedClasses$Program;LCoercedClasses$Instance;LCoercedClasses$Line;)LCoercedClasses$Term;" } : Jvm.MethodName)) ∈ lw_all := lw_g (lw_at lw_m11 234 rfl) rfl
theorem q2877 : (Jvm.Cond.code ({ cls := "CoercedClasses", name := "lineOf", desc := "(LCoercedClasses$Program;LCoercedClasses$Instance;LCoercedClasses$Line;)LCoercedClasses$Term;" } : Jvm.MethodName) prog_1_method_30_code (4 : Nat) (Option.some (Jvm.ClassFile.FieldType.object "CoercedClasses$Term"))) ∈ lw_all := lw_g (lw_at lw_m11 235 rfl) rfl
theorem q2878 : (Jvm.Cond.methodLink "CoercedClasses" (483 : Nat) ({ cls := "CoercedClasses$Fault", name := "<init>", desc := "(II)V" } : Jvm.MethodName)) ∈ lw_all := lw_g (lw_at lw_m11 236 rfl) rfl
theorem q2879 : (Jvm.Cond.methodLink "CoercedClasses" (512 : Nat) ({ cls := "CoercedClasses", name := "told", desc := "(LCoercedClasses$Fault;)V" } : Jvm.MethodName)) ∈ lw_all := lw_g (lw_at lw_m11 237 rfl) rfl
theorem q2880 : (Jvm.Cond.privateMethod ({ cls := "CoercedClasses", name := "told", desc := "(LCoercedClasses$Fault;)V" } : Jvm.MethodName)) ∈ lw_tbl := lw_at lw_m11 238 rfl
theorem q2881 : (Jvm.Cond.instanceMethod ({ cls := "CoercedClasses", name := "told", desc := "(LCoercedClasses$Fault;)V" } : Jvm.MethodName)) ∈ lw_all := lw_g (lw_at lw_m11 239 rfl) rfl
theorem q2882 : (Jvm.Cond.code ({ cls := "CoercedClasses", name := "told", desc := "(LCoercedClasses$Fault;)V" } : Jvm.MethodName) prog_1_method_27_code (2 : Nat) (Option.none : Option Jvm.ClassFile.FieldType)) ∈ lw_all := lw_g (lw_at lw_m12 0 rfl) rfl
theorem q2884 : (Jvm.Cond.instanceMethod ({ cls := "CoercedClasses", name := "ask", desc := "(I)Z" } : Jvm.MethodName)) ∈ lw_all := lw_g (lw_at lw_m12 2 rfl) rfl
theorem q2885 : (Jvm.Cond.selects "CoercedClasses" ({ cls := "CoercedClasses", name := "ask", desc := "(I)Z" } : Jvm.MethodName) ({ cls := "CoercedClasses", name := "ask", desc := "(I)Z" } : Jvm.MethodName)) ∈ lw_all := lw_g (lw_at lw_m12 3 rfl) rfl
theorem q2886 : (Jvm.Cond.codeWith ({ cls := "CoercedClasses", name := "ask", desc := "(I)Z" } : Jvm.MethodName) prog_1_method_33_code (5 : Nat) (Option.some Jvm.ClassFile.FieldType.boolean) [((65 : Nat), (221 : Nat), (224 : Nat), (407 : Nat))]) ∈ lw_all := lw_g (lw_at lw_m12 4 rfl) rfl
theorem q2887 : (Jvm.Cond.methodLink "CoercedClasses" (527 : Nat) ({ cls := "CoercedClasses$Table", name := "clear", desc := "(LCoercedClasses$Table;)V" } : Jvm.MethodName)) ∈ lw_all := lw_g (lw_at lw_m12 5 rfl) rfl
theorem q2888 : (Jvm.Cond.fieldLink "CoercedClasses" (533 : Nat) "CoercedClasses$Kind" "END" "LCoercedClasses$Kind;") ∈ lw_all := lw_g (lw_at lw_m12 6 rfl) rfl
theorem q2889 : (Jvm.Cond.classLink "CoercedClasses" (539 : Nat) "CoercedClasses$Resolver") ∈ lw_all := lw_g (lw_at lw_m12 7 rfl) rfl
theorem q2890 : (Jvm.Cond.methodLink "CoercedClasses" (542 : Nat) ({ cls := "CoercedClasses$Resolver", name := "<init>", desc := "(LCoercedClasses$Program;LCoercedClasses$Scope;LCoercedClasses$Table;)V" } : Jvm.MethodName)) ∈ lw_all := lw_g (lw_at lw_m12 8 rfl) rfl
theorem q2891 : (Jvm.Cond.methodLink "CoercedClasses" (545 : Nat) ({ cls := "CoercedClasses$Resolver", name := "ex", desc := "(LCoercedClasses$Ex;)V" } : Jvm.MethodName)) ∈ lw_all := lw_g (lw_at lw_m12 9 rfl) rfl
theorem q2892 : (Jvm.Cond.methodLinkNest "CoercedClasses" (548 : Nat) ({ cls := "CoercedClasses$Program", name := "fail", desc := "(I)V" } : Jvm.MethodName) "CoercedClasses") ∈ lw_tbl := lw_at lw_m12 10 rfl
theorem q2893 : (Jvm.Cond.classLink "CoercedClasses" (551 : Nat) "CoercedClasses$Judge") ∈ lw_all := lw_g (lw_at lw_m12 11 rfl) rfl
theorem q2894 : (Jvm.Cond.classLink "CoercedClasses" (553 : Nat) "CoercedClasses$Finder") ∈ lw_all := lw_g (lw_at lw_m12 12 rfl) rfl
theorem q2895 : (Jvm.Cond.methodLink "CoercedClasses" (555 : Nat) ({ cls := "CoercedClasses$Finder", name := "<init>", desc := "(LCoercedClasses$Scope;LCoercedClasses$Table;)V" } : Jvm.MethodName)) ∈ lw_all := lw_g (lw_at lw_m12 13 rfl) rfl
theorem q2896 : (Jvm.Cond.methodLink "CoercedClasses" (558 : Nat) ({ cls := "CoercedClasses$Judge", name := "<init>", desc := "(LCoercedClasses$Finder;)V" } : Jvm.MethodName)) ∈ lw_all := lw_g (lw_at lw_m12 14 rfl) rfl
theorem q2897 : (Jvm.Cond.methodLink "CoercedClasses" (561 : Nat) ({ cls := "CoercedClasses$Judge", name := "typeOf", desc := "(LCoercedClasses$Ex;)LCoercedClasses$Type;" } : Jvm.MethodName)) ∈ lw_all := lw_g (lw_at lw_m12 15 rfl) rfl
theorem q2898 : (Jvm.Cond.methodLink "CoercedClasses" (566 : Nat) ({ cls := "CoercedClasses$Machine", name := "begin", desc := "(LCoercedClasses$Ex;)V" } : Jvm.MethodName)) ∈ lw_all := lw_g (lw_at lw_m12 16 rfl) rfl
theorem q2903 : (Jvm.Cond.instanceMethod ({ cls := "CoercedClasses", name := "fault", desc := "(I)I" } : Jvm.MethodName)) ∈ lw_all := lw_g (lw_at lw_m12 21 rfl) rfl
theorem q2904 : (Jvm.Cond.selects "CoercedClasses" ({ cls := "CoercedClasses", name := "fault", desc := "(I)I" } : Jvm.MethodName) ({ cls := "CoercedClasses", name := "fault", desc := "(I)I" } : Jvm.MethodName)) ∈ lw_all := lw_g (lw_at lw_m12 22 rfl) rfl
theorem q2905 : (Jvm.Cond.code ({ cls := "CoercedClasses", name := "fault", desc := "(I)I" } : Jvm.MethodName) prog_1_method_34_code (2 : Nat) (Option.some Jvm.ClassFile.FieldType.int)) ∈ lw_all := lw_g (lw_at lw_m12 23 rfl) rfl
theorem q2907 : (Jvm.Cond.instanceMethod ({ cls := "CoercedClasses", name := "run", desc := "(I)I" } : Jvm.MethodName)) ∈ lw_all := lw_g (lw_at lw_m12 25 rfl) rfl
theorem q2908 : (Jvm.Cond.selects "CoercedClasses" ({ cls := "CoercedClasses", name := "run", desc := "(I)I" } : Jvm.MethodName) ({ cls := "CoercedClasses", name := "run", desc := "(I)I" } : Jvm.MethodName)) ∈ lw_all := lw_g (lw_at lw_m12 26 rfl) rfl
theorem q2909 : (Jvm.Cond.code ({ cls := "CoercedClasses", name := "run", desc := "(I)I" } : Jvm.MethodName) prog_1_method_35_code (3 : Nat) (Option.some Jvm.ClassFile.FieldType.int)) ∈ lw_all := lw_g (lw_at lw_m12 27 rfl) rfl
theorem q2910 : (Jvm.Cond.methodLink "CoercedClasses" (571 : Nat) ({ cls := "CoercedClasses$Machine", name := "step", desc := "()V" } : Jvm.MethodName)) ∈ lw_all := lw_g (lw_at lw_m12 28 rfl) rfl
theorem q3121 : (Jvm.Cond.instanceMethod ({ cls := "CoercedClasses", name := "about", desc := "(I)I" } : Jvm.MethodName)) ∈ lw_all := lw_g (lw_at lw_m12 239 rfl) rfl
theorem q3122 : (Jvm.Cond.selects "CoercedClasses" ({ cls := "CoercedClasses", name := "about", desc := "(I)I" } : Jvm.MethodName) ({ cls := "CoercedClasses", name := "about", desc := "(I)I" } : Jvm.MethodName)) ∈ lw_all := lw_g (lw_at lw_m13 0 rfl) rfl
theorem q3123 : (Jvm.Cond.code ({ cls := "CoercedClasses", name := "about", desc := "(I)I" } : Jvm.MethodName) prog_1_method_36_code (3 : Nat) (Option.some Jvm.ClassFile.FieldType.int)) ∈ lw_all := lw_g (lw_at lw_m13 1 rfl) rfl
theorem q3125 : (Jvm.Cond.instanceMethod ({ cls := "CoercedClasses", name := "octet", desc := "(I)I" } : Jvm.MethodName)) ∈ lw_all := lw_g (lw_at lw_m13 3 rfl) rfl
theorem q3126 : (Jvm.Cond.selects "CoercedClasses" ({ cls := "CoercedClasses", name := "octet", desc := "(I)I" } : Jvm.MethodName) ({ cls := "CoercedClasses", name := "octet", desc := "(I)I" } : Jvm.MethodName)) ∈ lw_all := lw_g (lw_at lw_m13 4 rfl) rfl
theorem q3127 : (Jvm.Cond.code ({ cls := "CoercedClasses", name := "octet", desc := "(I)I" } : Jvm.MethodName) prog_1_method_37_code (2 : Nat) (Option.some Jvm.ClassFile.FieldType.int)) ∈ lw_all := lw_g (lw_at lw_m13 5 rfl) rfl
theorem q3129 : (Jvm.Cond.instanceMethod ({ cls := "CoercedClasses", name := "size", desc := "(II)I" } : Jvm.MethodName)) ∈ lw_all := lw_g (lw_at lw_m13 7 rfl) rfl
theorem q3130 : (Jvm.Cond.selects "CoercedClasses" ({ cls := "CoercedClasses", name := "size", desc := "(II)I" } : Jvm.MethodName) ({ cls := "CoercedClasses", name := "size", desc := "(II)I" } : Jvm.MethodName)) ∈ lw_all := lw_g (lw_at lw_m13 8 rfl) rfl
theorem q3131 : (Jvm.Cond.code ({ cls := "CoercedClasses", name := "size", desc := "(II)I" } : Jvm.MethodName) prog_1_method_39_code (4 : Nat) (Option.some Jvm.ClassFile.FieldType.int)) ∈ lw_all := lw_g (lw_at lw_m13 9 rfl) rfl
theorem q3132 : (Jvm.Cond.methodLink "CoercedClasses" (597 : Nat) ({ cls := "CoercedClasses", name := "termOf", desc := "(II)LCoercedClasses$Term;" } : Jvm.MethodName)) ∈ lw_all := lw_g (lw_at lw_m13 10 rfl) rfl
theorem q3133 : (Jvm.Cond.privateMethod ({ cls := "CoercedClasses", name := "termOf", desc := "(II)LCoercedClasses$Term;" } : Jvm.MethodName)) ∈ lw_tbl := lw_at lw_m13 11 rfl
theorem q3134 : (Jvm.Cond.instanceMethod ({ cls := "CoercedClasses", name := "termOf", desc := "(II)LCoercedClasses$Term;" } : Jvm.MethodName)) ∈ lw_all := lw_g (lw_at lw_m13 12 rfl) rfl
theorem q3135 : (Jvm.Cond.code ({ cls := "CoercedClasses", name := "termOf", desc := "(II)LCoercedClasses$Term;" } : Jvm.MethodName) prog_1_method_38_code (6 : Nat) (Option.some (Jvm.ClassFile.FieldType.object "CoercedClasses$Term"))) ∈ lw_all := lw_g (lw_at lw_m13 13 rfl) rfl
theorem q3137 : (Jvm.Cond.instanceMethod ({ cls := "CoercedClasses", name := "term", desc := "(III)I" } : Jvm.MethodName)) ∈ lw_all := lw_g (lw_at lw_m13 15 rfl) rfl
theorem q3138 : (Jvm.Cond.selects "CoercedClasses" ({ cls := "CoercedClasses", name := "term", desc := "(III)I" } : Jvm.MethodName) ({ cls := "CoercedClasses", name := "term", desc := "(III)I" } : Jvm.MethodName)) ∈ lw_all := lw_g (lw_at lw_m13 16 rfl) rfl
theorem q3139 : (Jvm.Cond.code ({ cls := "CoercedClasses", name := "term", desc := "(III)I" } : Jvm.MethodName) prog_1_method_40_code (5 : Nat) (Option.some Jvm.ClassFile.FieldType.int)) ∈ lw_all := lw_g (lw_at lw_m13 17 rfl) rfl
theorem q3141 : (Jvm.Cond.instanceMethod ({ cls := "CoercedClasses", name := "check", desc := "(II)I" } : Jvm.MethodName)) ∈ lw_all := lw_g (lw_at lw_m13 19 rfl) rfl
theorem q3142 : (Jvm.Cond.selects "CoercedClasses" ({ cls := "CoercedClasses", name := "check", desc := "(II)I" } : Jvm.MethodName) ({ cls := "CoercedClasses", name := "check", desc := "(II)I" } : Jvm.MethodName)) ∈ lw_all := lw_g (lw_at lw_m13 20 rfl) rfl
theorem q3143 : (Jvm.Cond.code ({ cls := "CoercedClasses", name := "check", desc := "(II)I" } : Jvm.MethodName) prog_1_method_41_code (4 : Nat) (Option.some Jvm.ClassFile.FieldType.int)) ∈ lw_all := lw_g (lw_at lw_m13 21 rfl) rfl
theorem q3144 : (Jvm.Cond.methodLink "CoercedClasses" (604 : Nat) ({ cls := "CoercedClasses$Checker", name := "check", desc := "(LCoercedClasses$Term;)I" } : Jvm.MethodName)) ∈ lw_all := lw_g (lw_at lw_m13 22 rfl) rfl
theorem q3229 : (Jvm.Cond.instanceMethod ({ cls := "CoercedClasses", name := "type", desc := "(III)I" } : Jvm.MethodName)) ∈ lw_all := lw_g (lw_at lw_m13 107 rfl) rfl
theorem q3230 : (Jvm.Cond.selects "CoercedClasses" ({ cls := "CoercedClasses", name := "type", desc := "(III)I" } : Jvm.MethodName) ({ cls := "CoercedClasses", name := "type", desc := "(III)I" } : Jvm.MethodName)) ∈ lw_all := lw_g (lw_at lw_m13 108 rfl) rfl
theorem q3231 : (Jvm.Cond.code ({ cls := "CoercedClasses", name := "type", desc := "(III)I" } : Jvm.MethodName) prog_1_method_42_code (5 : Nat) (Option.some Jvm.ClassFile.FieldType.int)) ∈ lw_all := lw_g (lw_at lw_m13 109 rfl) rfl
theorem q3232 : (Jvm.Cond.methodLink "CoercedClasses" (608 : Nat) ({ cls := "CoercedClasses$Sink", name := "begin", desc := "(I)V" } : Jvm.MethodName)) ∈ lw_all := lw_g (lw_at lw_m13 110 rfl) rfl
theorem q4472 : (Jvm.Cond.castable "CoercedClasses" "java/lang/Object") ∈ lw_tbl := lw_at lw_m18 150 rfl
theorem in_X0 : ∀ w ∈ wsX00, w ∈ lw_all := lw_in wsX00 [770, 772, 774, 776, 778, 780, 782, 784, 786, 788, 790, 792, 794, 796, 798, 800] (by decide +kernel) (by decide +kernel)
theorem q244 : (Jvm.Cond.initialized "CoercedClasses$Program") ∈ lw_all := lw_g (lw_at lw_m1 2 rfl) rfl
theorem q325 : (Jvm.Cond.instantiable "CoercedClasses$Program" (12 : Nat)) ∈ lw_all := lw_g (lw_at lw_m1 83 rfl) rfl
theorem q327 : (Jvm.Cond.instanceMethod ({ cls := "CoercedClasses$Program", name := "<init>", desc := "()V" } : Jvm.MethodName)) ∈ lw_all := lw_g (lw_at lw_m1 85 rfl) rfl
theorem q328 : (Jvm.Cond.code ({ cls := "CoercedClasses$Program", name := "<init>", desc := "()V" } : Jvm.MethodName) prog_29_method_1_code (1 : Nat) (Option.none : Option Jvm.ClassFile.FieldType)) ∈ lw_all := lw_g (lw_at lw_m1 86 rfl) rfl
theorem q329 : (Jvm.Cond.methodLink "CoercedClasses$Program" (3 : Nat) ({ cls := "java/lang/Object", name := "<init>", desc := "()V" } : Jvm.MethodName)) ∈ lw_all := lw_g (lw_at lw_m1 87 rfl) rfl
theorem q330 : (Jvm.Cond.classLink "CoercedClasses$Program" (15 : Nat) "CoercedClasses$Table") ∈ lw_all := lw_g (lw_at lw_m1 88 rfl) rfl
theorem q332 : (Jvm.Cond.methodLinkNest "CoercedClasses$Program" (17 : Nat) ({ cls := "CoercedClasses$Table", name := "<init>", desc := "()V" } : Jvm.MethodName) "CoercedClasses") ∈ lw_tbl := lw_at lw_m1 90 rfl
theorem q388 : (Jvm.Cond.classLink "CoercedClasses$Program" (22 : Nat) "java/util/ArrayList") ∈ lw_all := lw_g (lw_at lw_m1 146 rfl) rfl
theorem q389 : (Jvm.Cond.methodLink "CoercedClasses$Program" (24 : Nat) ({ cls := "java/util/ArrayList", name := "<init>", desc := "()V" } : Jvm.MethodName)) ∈ lw_all := lw_g (lw_at lw_m1 147 rfl) rfl
theorem q390 : (Jvm.Cond.fieldLink "CoercedClasses$Program" (9 : Nat) "CoercedClasses$Program" "bytes" "[B") ∈ lw_all := lw_g (lw_at lw_m1 148 rfl) rfl
theorem q392 : (Jvm.Cond.fieldLink "CoercedClasses$Program" (18 : Nat) "CoercedClasses$Program" "table" "LCoercedClasses$Table;") ∈ lw_all := lw_g (lw_at lw_m1 150 rfl) rfl
theorem q394 : (Jvm.Cond.fieldLink "CoercedClasses$Program" (25 : Nat) "CoercedClasses$Program" "classes" "Ljava/util/ArrayList;") ∈ lw_all := lw_g (lw_at lw_m1 152 rfl) rfl
theorem q396 : (Jvm.Cond.fieldLink "CoercedClasses$Program" (29 : Nat) "CoercedClasses$Program" "instances" "Ljava/util/ArrayList;") ∈ lw_all := lw_g (lw_at lw_m1 154 rfl) rfl
theorem q398 : (Jvm.Cond.fieldLink "CoercedClasses$Program" (32 : Nat) "CoercedClasses$Program" "functions" "Ljava/util/ArrayList;") ∈ lw_all := lw_g (lw_at lw_m1 156 rfl) rfl
theorem q400 : (Jvm.Cond.fieldLink "CoercedClasses$Program" (35 : Nat) "CoercedClasses$Program" "greats" "Ljava/util/ArrayList;") ∈ lw_all := lw_g (lw_at lw_m1 158 rfl) rfl
theorem q401 : (Jvm.Cond.fieldLink "CoercedClasses$Program" (38 : Nat) "CoercedClasses$Program" "names" "Ljava/util/ArrayList;") ∈ lw_all := lw_g (lw_at lw_m1 159 rfl) rfl
theorem q402 : (Jvm.Cond.fieldLink "CoercedClasses$Program" (41 : Nat) "CoercedClasses$Program" "greatOf" "Ljava/util/ArrayList;") ∈ lw_all := lw_g (lw_at lw_m1 160 rfl) rfl
theorem q403 : (Jvm.Cond.fieldLink "CoercedClasses$Program" (44 : Nat) "CoercedClasses$Program" "functionAt" "Ljava/util/ArrayList;") ∈ lw_all := lw_g (lw_at lw_m1 161 rfl) rfl
theorem q404 : (Jvm.Cond.fieldLink "CoercedClasses$Program" (47 : Nat) "CoercedClasses$Program" "methodAt" "Ljava/util/ArrayList;") ∈ lw_all := lw_g (lw_at lw_m1 162 rfl) rfl
theorem q405 : (Jvm.Cond.fieldLink "CoercedClasses$Program" (214 : Nat) "CoercedClasses$Program" "least" "I") ∈ lw_all := lw_g (lw_at lw_m1 163 rfl) rfl
theorem q407 : (Jvm.Cond.laysFinal "CoercedClasses$Program" "CoercedClasses$Program" "bytes" "[B") ∈ lw_all := lw_g (lw_at lw_m1 165 rfl) rfl
theorem q408 : (Jvm.Cond.soleField "CoercedClasses$Program" "bytes") ∈ lw_all := lw_g (lw_at lw_m1 166 rfl) rfl
theorem q409 : (Jvm.Cond.lays "CoercedClasses$Program" "CoercedClasses$Program" "size" "I") ∈ lw_all := lw_g (lw_at lw_m1 167 rfl) rfl
theorem q410 : (Jvm.Cond.soleField "CoercedClasses$Program" "size") ∈ lw_all := lw_g (lw_at lw_m1 168 rfl) rfl
theorem q411 : (Jvm.Cond.laysFinal "CoercedClasses$Program" "CoercedClasses$Program" "table" "LCoercedClasses$Table;") ∈ lw_all := lw_g (lw_at lw_m1 169 rfl) rfl
theorem q412 : (Jvm.Cond.soleField "CoercedClasses$Program" "table") ∈ lw_all := lw_g (lw_at lw_m1 170 rfl) rfl
theorem q413 : (Jvm.Cond.laysFinal "CoercedClasses$Program" "CoercedClasses$Program" "classes" "Ljava/util/ArrayList;") ∈ lw_all := lw_g (lw_at lw_m1 171 rfl) rfl
theorem q414 : (Jvm.Cond.soleField "CoercedClasses$Program" "classes") ∈ lw_all := lw_g (lw_at lw_m1 172 rfl) rfl
theorem q415 : (Jvm.Cond.laysFinal "CoercedClasses$Program" "CoercedClasses$Program" "instances" "Ljava/util/ArrayList;") ∈ lw_all := lw_g (lw_at lw_m1 173 rfl) rfl
theorem q416 : (Jvm.Cond.soleField "CoercedClasses$Program" "instances") ∈ lw_all := lw_g (lw_at lw_m1 174 rfl) rfl
theorem q417 : (Jvm.Cond.laysFinal "CoercedClasses$Program" "CoercedClasses$Program" "functions" "Ljava/util/ArrayList;") ∈ lw_all := lw_g (lw_at lw_m1 175 rfl) rfl
theorem q418 : (Jvm.Cond.soleField "CoercedClasses$Program" "functions") ∈ lw_all := lw_g (lw_at lw_m1 176 rfl) rfl
theorem q419 : (Jvm.Cond.laysFinal "CoercedClasses$Program" "CoercedClasses$Program" "greats" "Ljava/util/ArrayList;") ∈ lw_all := lw_g (lw_at lw_m1 177 rfl) rfl
theorem q420 : (Jvm.Cond.soleField "CoercedClasses$Program" "greats") ∈ lw_all := lw_g (lw_at lw_m1 178 rfl) rfl
theorem q421 : (Jvm.Cond.laysFinal "CoercedClasses$Program" "CoercedClasses$Program" "names" "Ljava/util/ArrayList;") ∈ lw_all := lw_g (lw_at lw_m1 179 rfl) rfl
theorem q422 : (Jvm.Cond.soleField "CoercedClasses$Program" "names") ∈ lw_all := lw_g (lw_at lw_m1 180 rfl) rfl
theorem q423 : (Jvm.Cond.laysFinal "CoercedClasses$Program" "CoercedClasses$Program" "greatOf" "Ljava/util/ArrayList;") ∈ lw_all := lw_g (lw_at lw_m1 181 rfl) rfl
theorem q424 : (Jvm.Cond.soleField "CoercedClasses$Program" "greatOf") ∈ lw_all := lw_g (lw_at lw_m1 182 rfl) rfl
theorem q425 : (Jvm.Cond.laysFinal "CoercedClasses$Program" "CoercedClasses$Program" "functionAt" "Ljava/util/ArrayList;") ∈ lw_all := lw_g (lw_at lw_m1 183 rfl) rfl
theorem q426 : (Jvm.Cond.soleField "CoercedClasses$Program" "functionAt") ∈ lw_all := lw_g (lw_at lw_m1 184 rfl) rfl
theorem q427 : (Jvm.Cond.laysFinal "CoercedClasses$Program" "CoercedClasses$Program" "methodAt" "Ljava/util/ArrayList;") ∈ lw_all := lw_g (lw_at lw_m1 185 rfl) rfl
theorem q428 : (Jvm.Cond.soleField "CoercedClasses$Program" "methodAt") ∈ lw_all := lw_g (lw_at lw_m1 186 rfl) rfl
theorem q429 : (Jvm.Cond.lays "CoercedClasses$Program" "CoercedClasses$Program" "least" "I") ∈ lw_all := lw_g (lw_at lw_m1 187 rfl) rfl
theorem q430 : (Jvm.Cond.soleField "CoercedClasses$Program" "least") ∈ lw_all := lw_g (lw_at lw_m1 188 rfl) rfl
theorem q431 : (Jvm.Cond.superclass "CoercedClasses$Program" "java/lang/Object") ∈ lw_all := lw_g (lw_at lw_m1 189 rfl) rfl
theorem q452 : (Jvm.Cond.fieldLinkNest "CoercedClasses$Program" (175 : Nat) "CoercedClasses$Scope" "names" "Ljava/util/ArrayList;" "CoercedClasses") ∈ lw_tbl := lw_at lw_m1 210 rfl
theorem q459 : (Jvm.Cond.fieldLinkNest "CoercedClasses$Program" (159 : Nat) "CoercedClasses$Scope" "givens" "Ljava/util/ArrayList;" "CoercedClasses") ∈ lw_tbl := lw_at lw_m1 217 rfl
theorem q813 : (Jvm.Cond.instanceMethod ({ cls := "CoercedClasses$Program", name := "clear", desc := "()V" } : Jvm.MethodName)) ∈ lw_all := lw_g (lw_at lw_m3 91 rfl) rfl
theorem q814 : (Jvm.Cond.selects "CoercedClasses$Program" ({ cls := "CoercedClasses$Program", name := "clear", desc := "()V" } : Jvm.MethodName) ({ cls := "CoercedClasses$Program", name := "clear", desc := "()V" } : Jvm.MethodName)) ∈ lw_all := lw_g (lw_at lw_m3 92 rfl) rfl
theorem q815 : (Jvm.Cond.code ({ cls := "CoercedClasses$Program", name := "clear", desc := "()V" } : Jvm.MethodName) prog_29_method_2_code (1 : Nat) (Option.none : Option Jvm.ClassFile.FieldType)) ∈ lw_all := lw_g (lw_at lw_m3 93 rfl) rfl
theorem q816 : (Jvm.Cond.methodLink "CoercedClasses$Program" (50 : Nat) ({ cls := "CoercedClasses$Table", name := "clear", desc := "(LCoercedClasses$Table;)V" } : Jvm.MethodName)) ∈ lw_all := lw_g (lw_at lw_m3 94 rfl) rfl
theorem q820 : (Jvm.Cond.methodLink "CoercedClasses$Program" (54 : Nat) ({ cls := "java/util/ArrayList", name := "clear", desc := "()V" } : Jvm.MethodName)) ∈ lw_all := lw_g (lw_at lw_m3 98 rfl) rfl
theorem q943 : (Jvm.Cond.fieldLinkNest "CoercedClasses$Program" (56 : Nat) "CoercedClasses$Tokens" "kind" "LCoercedClasses$Kind;" "CoercedClasses") ∈ lw_tbl := lw_at lw_m3 221 rfl
theorem q946 : (Jvm.Cond.fieldLinkNest "CoercedClasses$Program" (67 : Nat) "CoercedClasses$Tokens" "place" "I" "CoercedClasses") ∈ lw_tbl := lw_at lw_m3 224 rfl
theorem q972 : (Jvm.Cond.instanceMethod ({ cls := "CoercedClasses$Program", name := "read", desc := "(LCoercedClasses$Tokens;)V" } : Jvm.MethodName)) ∈ lw_all := lw_g (lw_at lw_m4 10 rfl) rfl
theorem q973 : (Jvm.Cond.selects "CoercedClasses$Program" ({ cls := "CoercedClasses$Program", name := "read", desc := "(LCoercedClasses$Tokens;)V" } : Jvm.MethodName) ({ cls := "CoercedClasses$Program", name := "read", desc := "(LCoercedClasses$Tokens;)V" } : Jvm.MethodName)) ∈ lw_all := lw_g (lw_at lw_m4 11 rfl) rfl
theorem q974 : (Jvm.Cond.code ({ cls := "CoercedClasses$Program", name := "read", desc := "(LCoercedClasses$Tokens;)V" } : Jvm.MethodName) prog_29_method_3_code (3 : Nat) (Option.none : Option Jvm.ClassFile.FieldType)) ∈ lw_all := lw_g (lw_at lw_m4 12 rfl) rfl
theorem q975 : (Jvm.Cond.fieldLink "CoercedClasses$Program" (62 : Nat) "CoercedClasses$Kind" "END" "LCoercedClasses$Kind;") ∈ lw_all := lw_g (lw_at lw_m4 13 rfl) rfl
theorem q976 : (Jvm.Cond.stringRef "CoercedClasses$Program" (71 : Nat) "class") ∈ lw_tbl := lw_at lw_m4 14 rfl
theorem q977 : (Jvm.Cond.methodLink "CoercedClasses$Program" (73 : Nat) ({ cls := "CoercedClasses$Tokens", name := "passes", desc := "(Ljava/lang/String;)Z" } : Jvm.MethodName)) ∈ lw_all := lw_g (lw_at lw_m4 15 rfl) rfl
theorem q985 : (Jvm.Cond.methodLink "CoercedClasses$Program" (77 : Nat) ({ cls := "CoercedClasses$Program", name := "readClass", desc := "(LCoercedClasses$Tokens;I)V" } : Jvm.MethodName)) ∈ lw_all := lw_g (lw_at lw_m4 23 rfl) rfl
theorem q986 : (Jvm.Cond.privateMethod ({ cls := "CoercedClasses$Program", name := "readClass", desc := "(LCoercedClasses$Tokens;I)V" } : Jvm.MethodName)) ∈ lw_tbl := lw_at lw_m4 24 rfl
theorem q987 : (Jvm.Cond.instanceMethod ({ cls := "CoercedClasses$Program", name := "readClass", desc := "(LCoercedClasses$Tokens;I)V" } : Jvm.MethodName)) ∈ lw_all := lw_g (lw_at lw_m4 25 rfl) rfl
theorem q988 : (Jvm.Cond.code ({ cls := "CoercedClasses$Program", name := "readClass", desc := "(LCoercedClasses$Tokens;I)V" } : Jvm.MethodName) prog_29_method_4_code (7 : Nat) (Option.none : Option Jvm.ClassFile.FieldType)) ∈ lw_all := lw_g (lw_at lw_m4 26 rfl) rfl
theorem q989 : (Jvm.Cond.fieldLink "CoercedClasses$Program" (94 : Nat) "CoercedClasses$Kind" "GREAT" "LCoercedClasses$Kind;") ∈ lw_all := lw_g (lw_at lw_m4 27 rfl) rfl
theorem q990 : (Jvm.Cond.methodLink "CoercedClasses$Program" (97 : Nat) ({ cls := "CoercedClasses$Tokens", name := "need", desc := "(LCoercedClasses$Kind;)LCoercedClasses$Word;" } : Jvm.MethodName)) ∈ lw_all := lw_g (lw_at lw_m4 28 rfl) rfl
theorem q1085 : (Jvm.Cond.fieldLinkNest "CoercedClasses$Program" (276 : Nat) "CoercedClasses$Word" "place" "I" "CoercedClasses") ∈ lw_tbl := lw_at lw_m4 123 rfl
theorem q1095 : (Jvm.Cond.classLink "CoercedClasses$Program" (100 : Nat) "CoercedClasses$ClassDecl") ∈ lw_all := lw_g (lw_at lw_m4 133 rfl) rfl
theorem q1097 : (Jvm.Cond.fieldLink "CoercedClasses$Program" (102 : Nat) "CoercedClasses$Kind" "NAME" "LCoercedClasses$Kind;") ∈ lw_all := lw_g (lw_at lw_m4 135 rfl) rfl
theorem q1098 : (Jvm.Cond.methodLink "CoercedClasses$Program" (105 : Nat) ({ cls := "CoercedClasses$ClassDecl", name := "<init>", desc := "(ILCoercedClasses$Word;LCoercedClasses$Word;)V" } : Jvm.MethodName)) ∈ lw_all := lw_g (lw_at lw_m4 136 rfl) rfl
theorem q1165 : (Jvm.Cond.selects "CoercedClasses$Program" ({ cls := "java/lang/Object", name := "getClass", desc := "()Ljava/lang/Class;" } : Jvm.MethodName) ({ cls := "java/lang/Object", name := "getClass", desc := "()Ljava/lang/Class;" } : Jvm.MethodName)) ∈ lw_all := lw_g (lw_at lw_m4 203 rfl) rfl
theorem q1200 : (Jvm.Cond.fieldLinkNest "CoercedClasses$Program" (328 : Nat) "CoercedClasses$ClassDecl" "place" "I" "CoercedClasses") ∈ lw_tbl := lw_at lw_m4 238 rfl
theorem q1201 : (Jvm.Cond.fieldLinkNest "CoercedClasses$Program" (112 : Nat) "CoercedClasses$ClassDecl" "number" "I" "CoercedClasses") ∈ lw_tbl := lw_at lw_m4 239 rfl
theorem q1205 : (Jvm.Cond.fieldLinkNest "CoercedClasses$Program" (243 : Nat) "CoercedClasses$ClassDecl" "name" "LCoercedClasses$Word;" "CoercedClasses") ∈ lw_tbl := lw_at lw_m5 3 rfl
theorem q1206 : (Jvm.Cond.fieldLinkNest "CoercedClasses$Program" (122 : Nat) "CoercedClasses$ClassDecl" "aboveName" "LCoercedClasses$Word;" "CoercedClasses") ∈ lw_tbl := lw_at lw_m5 4 rfl
theorem q1207 : (Jvm.Cond.fieldLinkNest "CoercedClasses$Program" (128 : Nat) "CoercedClasses$ClassDecl" "family" "LCoercedClasses$Word;" "CoercedClasses") ∈ lw_tbl := lw_at lw_m5 5 rfl
theorem q1209 : (Jvm.Cond.fieldLinkNest "CoercedClasses$Program" (239 : Nat) "CoercedClasses$ClassDecl" "stands" "Z" "CoercedClasses") ∈ lw_tbl := lw_at lw_m5 7 rfl
theorem q1210 : (Jvm.Cond.fieldLinkNest "CoercedClasses$Program" (247 : Nat) "CoercedClasses$ClassDecl" "familyStands" "Z" "CoercedClasses") ∈ lw_tbl := lw_at lw_m5 8 rfl
theorem q1214 : (Jvm.Cond.fieldLinkNest "CoercedClasses$Program" (333 : Nat) "CoercedClasses$ClassDecl" "above" "LCoercedClasses$ClassDecl;" "CoercedClasses") ∈ lw_tbl := lw_at lw_m5 12 rfl
theorem q1216 : (Jvm.Cond.fieldLinkNest "CoercedClasses$Program" (144 : Nat) "CoercedClasses$ClassDecl" "methods" "Ljava/util/ArrayList;" "CoercedClasses") ∈ lw_tbl := lw_at lw_m5 14 rfl
theorem q1220 : (Jvm.Cond.fieldLinkNest "CoercedClasses$Program" (337 : Nat) "CoercedClasses$ClassDecl" "names" "Ljava/util/ArrayList;" "CoercedClasses") ∈ lw_tbl := lw_at lw_m5 18 rfl
theorem q1224 : (Jvm.Cond.fieldLinkNest "CoercedClasses$Program" (384 : Nat) "CoercedClasses$ClassDecl" "instances" "[LCoercedClasses$Instance;" "CoercedClasses") ∈ lw_tbl := lw_at lw_m5 22 rfl
theorem q1248 : (Jvm.Cond.methodLink "CoercedClasses$Program" (108 : Nat) ({ cls := "java/util/ArrayList", name := "size", desc := "()I" } : Jvm.MethodName)) ∈ lw_all := lw_g (lw_at lw_m5 46 rfl) rfl
theorem q1252 : (Jvm.Cond.methodLink "CoercedClasses$Program" (115 : Nat) ({ cls := "java/util/ArrayList", name := "add", desc := "(Ljava/lang/Object;)Z" } : Jvm.MethodName)) ∈ lw_all := lw_g (lw_at lw_m5 50 rfl) rfl
theorem q1253 : (Jvm.Cond.methodLink "CoercedClasses$Program" (119 : Nat) ({ cls := "CoercedClasses$Tokens", name := "passes", desc := "(I)Z" } : Jvm.MethodName)) ∈ lw_all := lw_g (lw_at lw_m5 51 rfl) rfl
theorem q1261 : (Jvm.Cond.methodLink "CoercedClasses$Program" (90 : Nat) ({ cls := "CoercedClasses$Tokens", name := "need", desc := "(I)V" } : Jvm.MethodName)) ∈ lw_all := lw_g (lw_at lw_m5 59 rfl) rfl
theorem q1266 : (Jvm.Cond.stringRef "CoercedClasses$Program" (126 : Nat) "type") ∈ lw_tbl := lw_at lw_m5 64 rfl
theorem q1267 : (Jvm.Cond.classLink "CoercedClasses$Program" (131 : Nat) "CoercedClasses$Method") ∈ lw_all := lw_g (lw_at lw_m5 65 rfl) rfl
theorem q1269 : (Jvm.Cond.methodLinkNest "CoercedClasses$Program" (133 : Nat) ({ cls := "CoercedClasses", name := "readType", desc := "(LCoercedClasses$Tokens;)LCoercedClasses$Written;" } : Jvm.MethodName) "CoercedClasses") ∈ lw_tbl := lw_at lw_m5 67 rfl
theorem q1296 : (Jvm.Cond.fieldLinkNest "CoercedClasses$Program" (253 : Nat) "CoercedClasses$Written" "word" "LCoercedClasses$Word;" "CoercedClasses") ∈ lw_tbl := lw_at lw_m5 94 rfl
theorem q1298 : (Jvm.Cond.fieldLinkNest "CoercedClasses$Program" (269 : Nat) "CoercedClasses$Written" "isGreat" "Z" "CoercedClasses") ∈ lw_tbl := lw_at lw_m5 96 rfl
theorem q1301 : (Jvm.Cond.fieldLinkNest "CoercedClasses$Program" (258 : Nat) "CoercedClasses$Written" "parts" "Ljava/util/ArrayList;" "CoercedClasses") ∈ lw_tbl := lw_at lw_m5 99 rfl
theorem q1313 : (Jvm.Cond.methodLink "CoercedClasses$Program" (137 : Nat) ({ cls := "CoercedClasses$Method", name := "<init>", desc := "(LCoercedClasses$Word;LCoercedClasses$Written;)V" } : Jvm.MethodName)) ∈ lw_all := lw_g (lw_at lw_m5 111 rfl) rfl
theorem q1319 : (Jvm.Cond.fieldLinkNest "CoercedClasses$Program" (252 : Nat) "CoercedClasses$Method" "name" "LCoercedClasses$Word;" "CoercedClasses") ∈ lw_tbl := lw_at lw_m5 117 rfl
theorem q1321 : (Jvm.Cond.fieldLinkNest "CoercedClasses$Program" (336 : Nat) "CoercedClasses$Method" "written" "LCoercedClasses$Written;" "CoercedClasses") ∈ lw_tbl := lw_at lw_m5 119 rfl
theorem q1322 : (Jvm.Cond.fieldLinkNest "CoercedClasses$Program" (140 : Nat) "CoercedClasses$Method" "of" "LCoercedClasses$ClassDecl;" "CoercedClasses") ∈ lw_tbl := lw_at lw_m5 120 rfl
theorem q1325 : (Jvm.Cond.fieldLinkNest "CoercedClasses$Program" (147 : Nat) "CoercedClasses$Method" "index" "I" "CoercedClasses") ∈ lw_tbl := lw_at lw_m5 123 rfl
theorem q1327 : (Jvm.Cond.fieldLinkNest "CoercedClasses$Program" (251 : Nat) "CoercedClasses$Method" "stands" "Z" "CoercedClasses") ∈ lw_tbl := lw_at lw_m5 125 rfl
theorem q1330 : (Jvm.Cond.fieldLinkNest "CoercedClasses$Program" (338 : Nat) "CoercedClasses$Method" "type" "LCoercedClasses$Type;" "CoercedClasses") ∈ lw_tbl := lw_at lw_m5 128 rfl
theorem q1344 : (Jvm.Cond.stringRef "CoercedClasses$Program" (81 : Nat) "instance") ∈ lw_tbl := lw_at lw_m5 142 rfl
theorem q1345 : (Jvm.Cond.methodLink "CoercedClasses$Program" (83 : Nat) ({ cls := "CoercedClasses$Program", name := "readInstance", desc := "(LCoercedClasses$Tokens;I)V" } : Jvm.MethodName)) ∈ lw_all := lw_g (lw_at lw_m5 143 rfl) rfl
theorem q1346 : (Jvm.Cond.privateMethod ({ cls := "CoercedClasses$Program", name := "readInstance", desc := "(LCoercedClasses$Tokens;I)V" } : Jvm.MethodName)) ∈ lw_tbl := lw_at lw_m5 144 rfl
theorem q1347 : (Jvm.Cond.instanceMethod ({ cls := "CoercedClasses$Program", name := "readInstance", desc := "(LCoercedClasses$Tokens;I)V" } : Jvm.MethodName)) ∈ lw_all := lw_g (lw_at lw_m5 145 rfl) rfl
theorem q1348 : (Jvm.Cond.code ({ cls := "CoercedClasses$Program", name := "readInstance", desc := "(LCoercedClasses$Tokens;I)V" } : Jvm.MethodName) prog_29_method_5_code (5 : Nat) (Option.none : Option Jvm.ClassFile.FieldType)) ∈ lw_all := lw_g (lw_at lw_m5 146 rfl) rfl
theorem q1349 : (Jvm.Cond.classLink "CoercedClasses$Program" (150 : Nat) "CoercedClasses$Instance") ∈ lw_all := lw_g (lw_at lw_m5 147 rfl) rfl
theorem q1351 : (Jvm.Cond.methodLink "CoercedClasses$Program" (152 : Nat) ({ cls := "CoercedClasses$Instance", name := "<init>", desc := "(I)V" } : Jvm.MethodName)) ∈ lw_all := lw_g (lw_at lw_m5 149 rfl) rfl
theorem q1360 : (Jvm.Cond.fieldLinkNest "CoercedClasses$Program" (355 : Nat) "CoercedClasses$Instance" "place" "I" "CoercedClasses") ∈ lw_tbl := lw_at lw_m5 158 rfl
theorem q1362 : (Jvm.Cond.fieldLinkNest "CoercedClasses$Program" (154 : Nat) "CoercedClasses$Instance" "number" "I" "CoercedClasses") ∈ lw_tbl := lw_at lw_m5 160 rfl
theorem q1365 : (Jvm.Cond.fieldLinkNest "CoercedClasses$Program" (155 : Nat) "CoercedClasses$Instance" "scope" "LCoercedClasses$Scope;" "CoercedClasses") ∈ lw_tbl := lw_at lw_m5 163 rfl
theorem q1368 : (Jvm.Cond.fieldLinkNest "CoercedClasses$Program" (169 : Nat) "CoercedClasses$Instance" "className" "LCoercedClasses$Word;" "CoercedClasses") ∈ lw_tbl := lw_at lw_m5 166 rfl
theorem q1369 : (Jvm.Cond.fieldLinkNest "CoercedClasses$Program" (172 : Nat) "CoercedClasses$Instance" "con" "LCoercedClasses$Word;" "CoercedClasses") ∈ lw_tbl := lw_at lw_m5 167 rfl
theorem q1370 : (Jvm.Cond.fieldLinkNest "CoercedClasses$Program" (176 : Nat) "CoercedClasses$Instance" "familyName" "LCoercedClasses$Word;" "CoercedClasses") ∈ lw_tbl := lw_at lw_m5 168 rfl
theorem q1373 : (Jvm.Cond.fieldLinkNest "CoercedClasses$Program" (356 : Nat) "CoercedClasses$Instance" "of" "LCoercedClasses$ClassDecl;" "CoercedClasses") ∈ lw_tbl := lw_at lw_m5 171 rfl
theorem q1375 : (Jvm.Cond.fieldLinkNest "CoercedClasses$Program" (357 : Nat) "CoercedClasses$Instance" "conNumber" "I" "CoercedClasses") ∈ lw_tbl := lw_at lw_m5 173 rfl
theorem q1376 : (Jvm.Cond.fieldLinkNest "CoercedClasses$Program" (179 : Nat) "CoercedClasses$Instance" "familyWritten" "LCoercedClasses$Written;" "CoercedClasses") ∈ lw_tbl := lw_at lw_m5 174 rfl
theorem q1379 : (Jvm.Cond.fieldLinkNest "CoercedClasses$Program" (364 : Nat) "CoercedClasses$Instance" "familyType" "LCoercedClasses$Type;" "CoercedClasses") ∈ lw_tbl := lw_at lw_m5 177 rfl
theorem q1381 : (Jvm.Cond.fieldLinkNest "CoercedClasses$Program" (367 : Nat) "CoercedClasses$Instance" "head" "LCoercedClasses$Type;" "CoercedClasses") ∈ lw_tbl := lw_at lw_m5 179 rfl
theorem q1385 : (Jvm.Cond.fieldLinkNest "CoercedClasses$Program" (444 : Nat) "CoercedClasses$Instance" "heads" "Ljava/util/ArrayList;" "CoercedClasses") ∈ lw_tbl := lw_at lw_m5 183 rfl
theorem q1387 : (Jvm.Cond.fieldLinkNest "CoercedClasses$Program" (183 : Nat) "CoercedClasses$Instance" "lines" "Ljava/util/ArrayList;" "CoercedClasses") ∈ lw_tbl := lw_at lw_m5 185 rfl
theorem q1390 : (Jvm.Cond.fieldLinkNest "CoercedClasses$Program" (387 : Nat) "CoercedClasses$Instance" "byMethod" "[LCoercedClasses$Line;" "CoercedClasses") ∈ lw_tbl := lw_at lw_m5 188 rfl
theorem q1393 : (Jvm.Cond.fieldLinkNest "CoercedClasses$Program" (428 : Nat) "CoercedClasses$Instance" "above" "LCoercedClasses$Dictionary;" "CoercedClasses") ∈ lw_tbl := lw_at lw_m5 191 rfl
theorem q1426 : (Jvm.Cond.classLink "CoercedClasses$Program" (164 : Nat) "CoercedClasses$Given") ∈ lw_all := lw_g (lw_at lw_m5 224 rfl) rfl
theorem q1428 : (Jvm.Cond.methodLink "CoercedClasses$Program" (166 : Nat) ({ cls := "CoercedClasses$Given", name := "<init>", desc := "(LCoercedClasses$Word;LCoercedClasses$Word;LCoercedClasses$Written;)V" } : Jvm.MethodName)) ∈ lw_all := lw_g (lw_at lw_m5 226 rfl) rfl
theorem q1434 : (Jvm.Cond.fieldLinkNest "CoercedClasses$Program" (341 : Nat) "CoercedClasses$Given" "great" "LCoercedClasses$Word;" "CoercedClasses") ∈ lw_tbl := lw_at lw_m5 232 rfl
theorem q1440 : (Jvm.Cond.fieldLinkNest "CoercedClasses$Program" (352 : Nat) "CoercedClasses$Given" "name" "LCoercedClasses$Word;" "CoercedClasses") ∈ lw_tbl := lw_at lw_m5 238 rfl
theorem q1442 : (Jvm.Cond.fieldLinkNest "CoercedClasses$Program" (353 : Nat) "CoercedClasses$Given" "written" "LCoercedClasses$Written;" "CoercedClasses") ∈ lw_tbl := lw_at lw_m6 0 rfl
theorem q1447 : (Jvm.Cond.fieldLinkNest "CoercedClasses$Program" (351 : Nat) "CoercedClasses$Given" "of" "LCoercedClasses$ClassDecl;" "CoercedClasses") ∈ lw_tbl := lw_at lw_m6 5 rfl
theorem q1452 : (Jvm.Cond.fieldLinkNest "CoercedClasses$Program" (354 : Nat) "CoercedClasses$Given" "type" "LCoercedClasses$Type;" "CoercedClasses") ∈ lw_tbl := lw_at lw_m6 10 rfl
theorem q1467 : (Jvm.Cond.classLink "CoercedClasses$Program" (186 : Nat) "CoercedClasses$Line") ∈ lw_all := lw_g (lw_at lw_m6 25 rfl) rfl
theorem q1469 : (Jvm.Cond.methodLinkNest "CoercedClasses$Program" (188 : Nat) ({ cls := "CoercedClasses", name := "readEx", desc := "(LCoercedClasses$Tokens;)LCoercedClasses$Ex;" } : Jvm.MethodName) "CoercedClasses") ∈ lw_tbl := lw_at lw_m6 27 rfl
theorem q1904 : (Jvm.Cond.methodLink "CoercedClasses$Program" (192 : Nat) ({ cls := "CoercedClasses$Line", name := "<init>", desc := "(LCoercedClasses$Word;LCoercedClasses$Ex;)V" } : Jvm.MethodName)) ∈ lw_all := lw_g (lw_at lw_m7 222 rfl) rfl
theorem q1910 : (Jvm.Cond.fieldLinkNest "CoercedClasses$Program" (391 : Nat) "CoercedClasses$Line" "name" "LCoercedClasses$Word;" "CoercedClasses") ∈ lw_tbl := lw_at lw_m7 228 rfl
theorem q1914 : (Jvm.Cond.fieldLinkNest "CoercedClasses$Program" (375 : Nat) "CoercedClasses$Line" "ex" "LCoercedClasses$Ex;" "CoercedClasses") ∈ lw_tbl := lw_at lw_m7 232 rfl
theorem q1925 : (Jvm.Cond.methodLink "CoercedClasses$Program" (86 : Nat) ({ cls := "CoercedClasses$Program", name := "readFunction", desc := "(LCoercedClasses$Tokens;)V" } : Jvm.MethodName)) ∈ lw_all := lw_g (lw_at lw_m8 3 rfl) rfl
theorem q1926 : (Jvm.Cond.privateMethod ({ cls := "CoercedClasses$Program", name := "readFunction", desc := "(LCoercedClasses$Tokens;)V" } : Jvm.MethodName)) ∈ lw_tbl := lw_at lw_m8 4 rfl
theorem q1927 : (Jvm.Cond.instanceMethod ({ cls := "CoercedClasses$Program", name := "readFunction", desc := "(LCoercedClasses$Tokens;)V" } : Jvm.MethodName)) ∈ lw_all := lw_g (lw_at lw_m8 5 rfl) rfl
theorem q1928 : (Jvm.Cond.code ({ cls := "CoercedClasses$Program", name := "readFunction", desc := "(LCoercedClasses$Tokens;)V" } : Jvm.MethodName) prog_29_method_6_code (5 : Nat) (Option.none : Option Jvm.ClassFile.FieldType)) ∈ lw_all := lw_g (lw_at lw_m8 6 rfl) rfl
theorem q1929 : (Jvm.Cond.classLink "CoercedClasses$Program" (195 : Nat) "CoercedClasses$Function") ∈ lw_all := lw_g (lw_at lw_m8 7 rfl) rfl
theorem q1931 : (Jvm.Cond.methodLink "CoercedClasses$Program" (197 : Nat) ({ cls := "CoercedClasses$Function", name := "<init>", desc := "(LCoercedClasses$Word;)V" } : Jvm.MethodName)) ∈ lw_all := lw_g (lw_at lw_m8 9 rfl) rfl
theorem q1938 : (Jvm.Cond.fieldLinkNest "CoercedClasses$Program" (201 : Nat) "CoercedClasses$Function" "name" "LCoercedClasses$Word;" "CoercedClasses") ∈ lw_tbl := lw_at lw_m8 16 rfl
theorem q1939 : (Jvm.Cond.fieldLinkNest "CoercedClasses$Program" (200 : Nat) "CoercedClasses$Function" "number" "I" "CoercedClasses") ∈ lw_tbl := lw_at lw_m8 17 rfl
theorem q1940 : (Jvm.Cond.fieldLinkNest "CoercedClasses$Program" (250 : Nat) "CoercedClasses$Function" "stands" "Z" "CoercedClasses") ∈ lw_tbl := lw_at lw_m8 18 rfl
theorem q1942 : (Jvm.Cond.fieldLinkNest "CoercedClasses$Program" (206 : Nat) "CoercedClasses$Function" "scope" "LCoercedClasses$Scope;" "CoercedClasses") ∈ lw_tbl := lw_at lw_m8 20 rfl
theorem q1946 : (Jvm.Cond.fieldLinkNest "CoercedClasses$Program" (207 : Nat) "CoercedClasses$Function" "written" "LCoercedClasses$Written;" "CoercedClasses") ∈ lw_tbl := lw_at lw_m8 24 rfl
theorem q1949 : (Jvm.Cond.fieldLinkNest "CoercedClasses$Program" (379 : Nat) "CoercedClasses$Function" "type" "LCoercedClasses$Type;" "CoercedClasses") ∈ lw_tbl := lw_at lw_m8 27 rfl
theorem q1951 : (Jvm.Cond.fieldLinkNest "CoercedClasses$Program" (210 : Nat) "CoercedClasses$Function" "ex" "LCoercedClasses$Ex;" "CoercedClasses") ∈ lw_tbl := lw_at lw_m8 29 rfl
theorem q1969 : (Jvm.Cond.stringRef "CoercedClasses$Program" (204 : Nat) "forall") ∈ lw_tbl := lw_at lw_m8 47 rfl
theorem q1971 : (Jvm.Cond.instanceMethod ({ cls := "CoercedClasses$Program", name := "judge", desc := "()V" } : Jvm.MethodName)) ∈ lw_all := lw_g (lw_at lw_m8 49 rfl) rfl
theorem q1972 : (Jvm.Cond.selects "CoercedClasses$Program" ({ cls := "CoercedClasses$Program", name := "judge", desc := "()V" } : Jvm.MethodName) ({ cls := "CoercedClasses$Program", name := "judge", desc := "()V" } : Jvm.MethodName)) ∈ lw_all := lw_g (lw_at lw_m8 50 rfl) rfl
theorem q1973 : (Jvm.Cond.code ({ cls := "CoercedClasses$Program", name := "judge", desc := "()V" } : Jvm.MethodName) prog_29_method_29_code (5 : Nat) (Option.none : Option Jvm.ClassFile.FieldType)) ∈ lw_all := lw_g (lw_at lw_m8 51 rfl) rfl
theorem q1974 : (Jvm.Cond.methodLink "CoercedClasses$Program" (410 : Nat) ({ cls := "CoercedClasses$Program", name := "resolve", desc := "()V" } : Jvm.MethodName)) ∈ lw_all := lw_g (lw_at lw_m8 52 rfl) rfl
theorem q1975 : (Jvm.Cond.privateMethod ({ cls := "CoercedClasses$Program", name := "resolve", desc := "()V" } : Jvm.MethodName)) ∈ lw_tbl := lw_at lw_m8 53 rfl
theorem q1976 : (Jvm.Cond.instanceMethod ({ cls := "CoercedClasses$Program", name := "resolve", desc := "()V" } : Jvm.MethodName)) ∈ lw_all := lw_g (lw_at lw_m8 54 rfl) rfl
theorem q1977 : (Jvm.Cond.code ({ cls := "CoercedClasses$Program", name := "resolve", desc := "()V" } : Jvm.MethodName) prog_29_method_20_code (2 : Nat) (Option.none : Option Jvm.ClassFile.FieldType)) ∈ lw_all := lw_g (lw_at lw_m8 55 rfl) rfl
theorem q1978 : (Jvm.Cond.constant "CoercedClasses$Program" (309 : Nat) (2147483647 : Int32)) ∈ lw_all := lw_g (lw_at lw_m8 56 rfl) rfl
theorem q1979 : (Jvm.Cond.methodLink "CoercedClasses$Program" (310 : Nat) ({ cls := "CoercedClasses$Program", name := "stands", desc := "()V" } : Jvm.MethodName)) ∈ lw_all := lw_g (lw_at lw_m8 57 rfl) rfl
theorem q1980 : (Jvm.Cond.privateMethod ({ cls := "CoercedClasses$Program", name := "stands", desc := "()V" } : Jvm.MethodName)) ∈ lw_tbl := lw_at lw_m8 58 rfl
theorem q1981 : (Jvm.Cond.instanceMethod ({ cls := "CoercedClasses$Program", name := "stands", desc := "()V" } : Jvm.MethodName)) ∈ lw_all := lw_g (lw_at lw_m8 59 rfl) rfl
theorem q1982 : (Jvm.Cond.code ({ cls := "CoercedClasses$Program", name := "stands", desc := "()V" } : Jvm.MethodName) prog_29_method_19_code (4 : Nat) (Option.none : Option Jvm.ClassFile.FieldType)) ∈ lw_all := lw_g (lw_at lw_m8 60 rfl) rfl
theorem q1983 : (Jvm.Cond.methodLink "CoercedClasses$Program" (235 : Nat) ({ cls := "java/util/ArrayList", name := "get", desc := "(I)Ljava/lang/Object;" } : Jvm.MethodName)) ∈ lw_all := lw_g (lw_at lw_m8 61 rfl) rfl
theorem q1995 : (Jvm.Cond.classLink "CoercedClasses$Program" (231 : Nat) "CoercedClasses$Word") ∈ lw_all := lw_g (lw_at lw_m8 73 rfl) rfl
theorem q1996 : (Jvm.Cond.methodLink "CoercedClasses$Program" (301 : Nat) ({ cls := "CoercedClasses$Program", name := "isCon", desc := "(LCoercedClasses$Word;)Z" } : Jvm.MethodName)) ∈ lw_all := lw_g (lw_at lw_m8 74 rfl) rfl
theorem q1997 : (Jvm.Cond.static ({ cls := "CoercedClasses$Program", name := "isCon", desc := "(LCoercedClasses$Word;)Z" } : Jvm.MethodName)) ∈ lw_all := lw_g (lw_at lw_m8 75 rfl) rfl
theorem q1998 : (Jvm.Cond.code ({ cls := "CoercedClasses$Program", name := "isCon", desc := "(LCoercedClasses$Word;)Z" } : Jvm.MethodName) prog_29_method_8_code (1 : Nat) (Option.some Jvm.ClassFile.FieldType.boolean)) ∈ lw_all := lw_g (lw_at lw_m8 76 rfl) rfl
theorem q1999 : (Jvm.Cond.methodLink "CoercedClasses$Program" (223 : Nat) ({ cls := "CoercedClasses$Program", name := "conOf", desc := "(LCoercedClasses$Word;)I" } : Jvm.MethodName)) ∈ lw_all := lw_g (lw_at lw_m8 77 rfl) rfl
theorem q2000 : (Jvm.Cond.static ({ cls := "CoercedClasses$Program", name := "conOf", desc := "(LCoercedClasses$Word;)I" } : Jvm.MethodName)) ∈ lw_all := lw_g (lw_at lw_m8 78 rfl) rfl
theorem q2001 : (Jvm.Cond.code ({ cls := "CoercedClasses$Program", name := "conOf", desc := "(LCoercedClasses$Word;)I" } : Jvm.MethodName) prog_29_method_9_code (2 : Nat) (Option.some Jvm.ClassFile.FieldType.int)) ∈ lw_all := lw_g (lw_at lw_m8 79 rfl) rfl
theorem q2002 : (Jvm.Cond.methodLinkNest "CoercedClasses$Program" (227 : Nat) ({ cls := "CoercedClasses", name := "con", desc := "(I)Ljava/lang/String;" } : Jvm.MethodName) "CoercedClasses") ∈ lw_tbl := lw_at lw_m8 80 rfl
theorem q2009 : (Jvm.Cond.methodLink "CoercedClasses$Program" (230 : Nat) ({ cls := "CoercedClasses$Word", name := "is", desc := "(Ljava/lang/String;)Z" } : Jvm.MethodName)) ∈ lw_all := lw_g (lw_at lw_m8 87 rfl) rfl
theorem q2015 : (Jvm.Cond.methodLink "CoercedClasses$Program" (297 : Nat) ({ cls := "CoercedClasses$Program", name := "isTold", desc := "(Ljava/util/ArrayList;I)Z" } : Jvm.MethodName)) ∈ lw_all := lw_g (lw_at lw_m8 93 rfl) rfl
theorem q2016 : (Jvm.Cond.static ({ cls := "CoercedClasses$Program", name := "isTold", desc := "(Ljava/util/ArrayList;I)Z" } : Jvm.MethodName)) ∈ lw_all := lw_g (lw_at lw_m8 94 rfl) rfl
theorem q2017 : (Jvm.Cond.code ({ cls := "CoercedClasses$Program", name := "isTold", desc := "(Ljava/util/ArrayList;I)Z" } : Jvm.MethodName) prog_29_method_18_code (3 : Nat) (Option.some Jvm.ClassFile.FieldType.boolean)) ∈ lw_all := lw_g (lw_at lw_m8 95 rfl) rfl
theorem q2018 : (Jvm.Cond.methodLink "CoercedClasses$Program" (244 : Nat) ({ cls := "CoercedClasses$Word", name := "is", desc := "(LCoercedClasses$Word;)Z" } : Jvm.MethodName)) ∈ lw_all := lw_g (lw_at lw_m8 96 rfl) rfl
theorem q2022 : (Jvm.Cond.methodLinkNest "CoercedClasses$Program" (304 : Nat) ({ cls := "CoercedClasses", name := "builtOf", desc := "(LCoercedClasses$Word;)I" } : Jvm.MethodName) "CoercedClasses") ∈ lw_tbl := lw_at lw_m8 100 rfl
theorem q2034 : (Jvm.Cond.methodLink "CoercedClasses$Program" (277 : Nat) ({ cls := "CoercedClasses$Program", name := "rule", desc := "(I)V" } : Jvm.MethodName)) ∈ lw_all := lw_g (lw_at lw_m8 112 rfl) rfl
theorem q2035 : (Jvm.Cond.instanceMethod ({ cls := "CoercedClasses$Program", name := "rule", desc := "(I)V" } : Jvm.MethodName)) ∈ lw_all := lw_g (lw_at lw_m8 113 rfl) rfl
theorem q2036 : (Jvm.Cond.selects "CoercedClasses$Program" ({ cls := "CoercedClasses$Program", name := "rule", desc := "(I)V" } : Jvm.MethodName) ({ cls := "CoercedClasses$Program", name := "rule", desc := "(I)V" } : Jvm.MethodName)) ∈ lw_all := lw_g (lw_at lw_m8 114 rfl) rfl
theorem q2037 : (Jvm.Cond.code ({ cls := "CoercedClasses$Program", name := "rule", desc := "(I)V" } : Jvm.MethodName) prog_29_method_7_code (2 : Nat) (Option.none : Option Jvm.ClassFile.FieldType)) ∈ lw_all := lw_g (lw_at lw_m8 115 rfl) rfl
theorem q2038 : (Jvm.Cond.methodLink "CoercedClasses$Program" (217 : Nat) ({ cls := "java/lang/Math", name := "min", desc := "(II)I" } : Jvm.MethodName)) ∈ lw_all := lw_g (lw_at lw_m8 116 rfl) rfl
theorem q2039 : (Jvm.Cond.methodLink "CoercedClasses$Program" (312 : Nat) ({ cls := "CoercedClasses$Program", name := "twice", desc := "(LCoercedClasses$Program;Ljava/util/ArrayList;I)V" } : Jvm.MethodName)) ∈ lw_all := lw_g (lw_at lw_m8 117 rfl) rfl
theorem q2040 : (Jvm.Cond.static ({ cls := "CoercedClasses$Program", name := "twice", desc := "(LCoercedClasses$Program;Ljava/util/ArrayList;I)V" } : Jvm.MethodName)) ∈ lw_all := lw_g (lw_at lw_m8 118 rfl) rfl
theorem q2041 : (Jvm.Cond.code ({ cls := "CoercedClasses$Program", name := "twice", desc := "(LCoercedClasses$Program;Ljava/util/ArrayList;I)V" } : Jvm.MethodName) prog_29_method_17_code (3 : Nat) (Option.none : Option Jvm.ClassFile.FieldType)) ∈ lw_all := lw_g (lw_at lw_m8 119 rfl) rfl
theorem q2042 : (Jvm.Cond.methodLink "CoercedClasses$Program" (316 : Nat) ({ cls := "CoercedClasses$Program", name := "resolveClass", desc := "(LCoercedClasses$ClassDecl;I)V" } : Jvm.MethodName)) ∈ lw_all := lw_g (lw_at lw_m8 120 rfl) rfl
theorem q2043 : (Jvm.Cond.privateMethod ({ cls := "CoercedClasses$Program", name := "resolveClass", desc := "(LCoercedClasses$ClassDecl;I)V" } : Jvm.MethodName)) ∈ lw_tbl := lw_at lw_m8 121 rfl
theorem q2044 : (Jvm.Cond.instanceMethod ({ cls := "CoercedClasses$Program", name := "resolveClass", desc := "(LCoercedClasses$ClassDecl;I)V" } : Jvm.MethodName)) ∈ lw_all := lw_g (lw_at lw_m8 122 rfl) rfl
theorem q2045 : (Jvm.Cond.code ({ cls := "CoercedClasses$Program", name := "resolveClass", desc := "(LCoercedClasses$ClassDecl;I)V" } : Jvm.MethodName) prog_29_method_21_code (5 : Nat) (Option.none : Option Jvm.ClassFile.FieldType)) ∈ lw_all := lw_g (lw_at lw_m8 123 rfl) rfl
theorem q2046 : (Jvm.Cond.methodLink "CoercedClasses$Program" (329 : Nat) ({ cls := "CoercedClasses$Program", name := "tooMany", desc := "(III)V" } : Jvm.MethodName)) ∈ lw_all := lw_g (lw_at lw_m8 124 rfl) rfl
theorem q2047 : (Jvm.Cond.privateMethod ({ cls := "CoercedClasses$Program", name := "tooMany", desc := "(III)V" } : Jvm.MethodName)) ∈ lw_tbl := lw_at lw_m8 125 rfl
theorem q2048 : (Jvm.Cond.instanceMethod ({ cls := "CoercedClasses$Program", name := "tooMany", desc := "(III)V" } : Jvm.MethodName)) ∈ lw_all := lw_g (lw_at lw_m8 126 rfl) rfl
theorem q2049 : (Jvm.Cond.code ({ cls := "CoercedClasses$Program", name := "tooMany", desc := "(III)V" } : Jvm.MethodName) prog_29_method_16_code (4 : Nat) (Option.none : Option Jvm.ClassFile.FieldType)) ∈ lw_all := lw_g (lw_at lw_m8 127 rfl) rfl
theorem q2050 : (Jvm.Cond.methodLink "CoercedClasses$Program" (261 : Nat) ({ cls := "CoercedClasses$Program", name := "typeOf", desc := "(LCoercedClasses$Written;Ljava/util/ArrayList;LCoercedClasses$Table;)LCoercedClasses$Type;" } : Jvm.MethodName)) ∈ lw_all := lw_g (lw_at lw_m8 128 rfl) rfl
theorem q2051 : (Jvm.Cond.instanceMethod ({ cls := "CoercedClasses$Program", name := "typeOf", desc := "(LCoercedClasses$Written;Ljava/util/ArrayList;LCoercedClasses$Table;)LCoercedClasses$Type;" } : Jvm.MethodName)) ∈ lw_all := lw_g (lw_at lw_m8 129 rfl) rfl
theorem q2052 : (Jvm.Cond.selects "CoercedClasses$Program" ({ cls := "CoercedClasses$Program", name := "typeOf", desc := "(LCoercedClasses$Written;Ljava/util/ArrayList;LCoercedClasses$Table;)LCoercedClasses$Type;" } : Jvm.MethodName) ({ cls := "CoercedClasses$Program", name := "typeOf", desc := "(LCoercedClasses$Written;Ljava/util/ArrayList;LCoercedClasses$Table;)LCoercedClasses$Type;" } : Jvm.MethodName)) ∈ lw_all := lw_g (lw_at lw_m8 130 rfl) rfl
theorem q2053 : (Jvm.Cond.code ({ cls := "CoercedClasses$Program", name := "typeOf", desc := "(LCoercedClasses$Written;Ljava/util/ArrayList;LCoercedClasses$Table;)LCoercedClasses$Type;" } : Jvm.MethodName) prog_29_method_15_code (10 : Nat) (Option.some (Jvm.ClassFile.FieldType.object "CoercedClasses$Type"))) ∈ lw_all := lw_g (lw_at lw_m8 131 rfl) rfl
theorem q2054 : (Jvm.Cond.classLink "CoercedClasses$Program" (254 : Nat) "CoercedClasses$Written") ∈ lw_all := lw_g (lw_at lw_m8 132 rfl) rfl
theorem q2055 : (Jvm.Cond.methodLink "CoercedClasses$Program" (265 : Nat) ({ cls := "CoercedClasses$Table", name := "arrow", desc := "(LCoercedClasses$Type;LCoercedClasses$Type;)LCoercedClasses$Type;" } : Jvm.MethodName)) ∈ lw_all := lw_g (lw_at lw_m8 133 rfl) rfl
theorem q2128 : (Jvm.Cond.fieldLinkNest "CoercedClasses$Program" (400 : Nat) "CoercedClasses$Type" "hasFamily" "Z" "CoercedClasses") ∈ lw_tbl := lw_at lw_m8 206 rfl
theorem q2153 : (Jvm.Cond.methodLink "CoercedClasses$Program" (272 : Nat) ({ cls := "CoercedClasses$Program", name := "isAmong", desc := "(Ljava/util/ArrayList;LCoercedClasses$Word;)Z" } : Jvm.MethodName)) ∈ lw_all := lw_g (lw_at lw_m8 231 rfl) rfl
theorem q2154 : (Jvm.Cond.static ({ cls := "CoercedClasses$Program", name := "isAmong", desc := "(Ljava/util/ArrayList;LCoercedClasses$Word;)Z" } : Jvm.MethodName)) ∈ lw_all := lw_g (lw_at lw_m8 232 rfl) rfl
theorem q2155 : (Jvm.Cond.code ({ cls := "CoercedClasses$Program", name := "isAmong", desc := "(Ljava/util/ArrayList;LCoercedClasses$Word;)Z" } : Jvm.MethodName) prog_29_method_14_code (3 : Nat) (Option.some Jvm.ClassFile.FieldType.boolean)) ∈ lw_all := lw_g (lw_at lw_m8 233 rfl) rfl
theorem q2156 : (Jvm.Cond.methodLink "CoercedClasses$Program" (280 : Nat) ({ cls := "CoercedClasses$Table", name := "name", desc := "(LCoercedClasses$Word;)LCoercedClasses$Type;" } : Jvm.MethodName)) ∈ lw_all := lw_g (lw_at lw_m8 234 rfl) rfl
theorem q2160 : (Jvm.Cond.methodLink "CoercedClasses$Program" (283 : Nat) ({ cls := "CoercedClasses$Program", name := "familyOf", desc := "(LCoercedClasses$Word;)LCoercedClasses$ClassDecl;" } : Jvm.MethodName)) ∈ lw_all := lw_g (lw_at lw_m8 238 rfl) rfl
theorem q2161 : (Jvm.Cond.instanceMethod ({ cls := "CoercedClasses$Program", name := "familyOf", desc := "(LCoercedClasses$Word;)LCoercedClasses$ClassDecl;" } : Jvm.MethodName)) ∈ lw_all := lw_g (lw_at lw_m8 239 rfl) rfl
theorem q2162 : (Jvm.Cond.selects "CoercedClasses$Program" ({ cls := "CoercedClasses$Program", name := "familyOf", desc := "(LCoercedClasses$Word;)LCoercedClasses$ClassDecl;" } : Jvm.MethodName) ({ cls := "CoercedClasses$Program", name := "familyOf", desc := "(LCoercedClasses$Word;)LCoercedClasses$ClassDecl;" } : Jvm.MethodName)) ∈ lw_all := lw_g (lw_at lw_m9 0 rfl) rfl
theorem q2163 : (Jvm.Cond.code ({ cls := "CoercedClasses$Program", name := "familyOf", desc := "(LCoercedClasses$Word;)LCoercedClasses$ClassDecl;" } : Jvm.MethodName) prog_29_method_11_code (3 : Nat) (Option.some (Jvm.ClassFile.FieldType.object "CoercedClasses$ClassDecl"))) ∈ lw_all := lw_g (lw_at lw_m9 1 rfl) rfl
theorem q2164 : (Jvm.Cond.methodLinkNest "CoercedClasses$Program" (287 : Nat) ({ cls := "CoercedClasses", name := "partsOf", desc := "(I)I" } : Jvm.MethodName) "CoercedClasses") ∈ lw_tbl := lw_at lw_m9 2 rfl
theorem q2167 : (Jvm.Cond.methodLink "CoercedClasses$Program" (291 : Nat) ({ cls := "CoercedClasses$Table", name := "con", desc := "(ILCoercedClasses$Type;LCoercedClasses$Type;)LCoercedClasses$Type;" } : Jvm.MethodName)) ∈ lw_all := lw_g (lw_at lw_m9 5 rfl) rfl
theorem q2171 : (Jvm.Cond.methodLink "CoercedClasses$Program" (294 : Nat) ({ cls := "CoercedClasses$Table", name := "family", desc := "(LCoercedClasses$ClassDecl;LCoercedClasses$Type;)LCoercedClasses$Type;" } : Jvm.MethodName)) ∈ lw_all := lw_g (lw_at lw_m9 9 rfl) rfl
theorem q2175 : (Jvm.Cond.methodLink "CoercedClasses$Program" (320 : Nat) ({ cls := "CoercedClasses$Program", name := "resolveInstance", desc := "(LCoercedClasses$Instance;I)V" } : Jvm.MethodName)) ∈ lw_all := lw_g (lw_at lw_m9 13 rfl) rfl
theorem q2176 : (Jvm.Cond.privateMethod ({ cls := "CoercedClasses$Program", name := "resolveInstance", desc := "(LCoercedClasses$Instance;I)V" } : Jvm.MethodName)) ∈ lw_tbl := lw_at lw_m9 14 rfl
theorem q2177 : (Jvm.Cond.instanceMethod ({ cls := "CoercedClasses$Program", name := "resolveInstance", desc := "(LCoercedClasses$Instance;I)V" } : Jvm.MethodName)) ∈ lw_all := lw_g (lw_at lw_m9 15 rfl) rfl
theorem q2178 : (Jvm.Cond.code ({ cls := "CoercedClasses$Program", name := "resolveInstance", desc := "(LCoercedClasses$Instance;I)V" } : Jvm.MethodName) prog_29_method_23_code (4 : Nat) (Option.none : Option Jvm.ClassFile.FieldType)) ∈ lw_all := lw_g (lw_at lw_m9 16 rfl) rfl
theorem q2179 : (Jvm.Cond.methodLink "CoercedClasses$Program" (348 : Nat) ({ cls := "CoercedClasses$Program", name := "classOf", desc := "(LCoercedClasses$Word;)LCoercedClasses$ClassDecl;" } : Jvm.MethodName)) ∈ lw_all := lw_g (lw_at lw_m9 17 rfl) rfl
theorem q2180 : (Jvm.Cond.instanceMethod ({ cls := "CoercedClasses$Program", name := "classOf", desc := "(LCoercedClasses$Word;)LCoercedClasses$ClassDecl;" } : Jvm.MethodName)) ∈ lw_all := lw_g (lw_at lw_m9 18 rfl) rfl
theorem q2181 : (Jvm.Cond.selects "CoercedClasses$Program" ({ cls := "CoercedClasses$Program", name := "classOf", desc := "(LCoercedClasses$Word;)LCoercedClasses$ClassDecl;" } : Jvm.MethodName) ({ cls := "CoercedClasses$Program", name := "classOf", desc := "(LCoercedClasses$Word;)LCoercedClasses$ClassDecl;" } : Jvm.MethodName)) ∈ lw_all := lw_g (lw_at lw_m9 19 rfl) rfl
theorem q2182 : (Jvm.Cond.code ({ cls := "CoercedClasses$Program", name := "classOf", desc := "(LCoercedClasses$Word;)LCoercedClasses$ClassDecl;" } : Jvm.MethodName) prog_29_method_10_code (3 : Nat) (Option.some (Jvm.ClassFile.FieldType.object "CoercedClasses$ClassDecl"))) ∈ lw_all := lw_g (lw_at lw_m9 20 rfl) rfl
theorem q2183 : (Jvm.Cond.methodLink "CoercedClasses$Program" (360 : Nat) ({ cls := "CoercedClasses$Program", name := "resolveGivens", desc := "(LCoercedClasses$Scope;Z)V" } : Jvm.MethodName)) ∈ lw_all := lw_g (lw_at lw_m9 21 rfl) rfl
theorem q2184 : (Jvm.Cond.privateMethod ({ cls := "CoercedClasses$Program", name := "resolveGivens", desc := "(LCoercedClasses$Scope;Z)V" } : Jvm.MethodName)) ∈ lw_tbl := lw_at lw_m9 22 rfl
theorem q2185 : (Jvm.Cond.instanceMethod ({ cls := "CoercedClasses$Program", name := "resolveGivens", desc := "(LCoercedClasses$Scope;Z)V" } : Jvm.MethodName)) ∈ lw_all := lw_g (lw_at lw_m9 23 rfl) rfl
theorem q2186 : (Jvm.Cond.code ({ cls := "CoercedClasses$Program", name := "resolveGivens", desc := "(LCoercedClasses$Scope;Z)V" } : Jvm.MethodName) prog_29_method_22_code (5 : Nat) (Option.none : Option Jvm.ClassFile.FieldType)) ∈ lw_all := lw_g (lw_at lw_m9 24 rfl) rfl
theorem q2187 : (Jvm.Cond.methodLink "CoercedClasses$Program" (344 : Nat) ({ cls := "CoercedClasses$Given", name := "isEqual", desc := "()Z" } : Jvm.MethodName)) ∈ lw_all := lw_g (lw_at lw_m9 25 rfl) rfl
theorem q2191 : (Jvm.Cond.classLink "CoercedClasses$Program" (370 : Nat) "CoercedClasses$Resolver") ∈ lw_all := lw_g (lw_at lw_m9 29 rfl) rfl
theorem q2193 : (Jvm.Cond.methodLink "CoercedClasses$Program" (372 : Nat) ({ cls := "CoercedClasses$Resolver", name := "<init>", desc := "(LCoercedClasses$Program;LCoercedClasses$Scope;LCoercedClasses$Table;)V" } : Jvm.MethodName)) ∈ lw_all := lw_g (lw_at lw_m9 31 rfl) rfl
theorem q2212 : (Jvm.Cond.methodLink "CoercedClasses$Program" (376 : Nat) ({ cls := "CoercedClasses$Resolver", name := "ex", desc := "(LCoercedClasses$Ex;)V" } : Jvm.MethodName)) ∈ lw_all := lw_g (lw_at lw_m9 50 rfl) rfl
theorem q2240 : (Jvm.Cond.instanceMethod ({ cls := "CoercedClasses$Program", name := "functionOf", desc := "(LCoercedClasses$Word;)LCoercedClasses$Function;" } : Jvm.MethodName)) ∈ lw_all := lw_g (lw_at lw_m9 78 rfl) rfl
theorem q2241 : (Jvm.Cond.selects "CoercedClasses$Program" ({ cls := "CoercedClasses$Program", name := "functionOf", desc := "(LCoercedClasses$Word;)LCoercedClasses$Function;" } : Jvm.MethodName) ({ cls := "CoercedClasses$Program", name := "functionOf", desc := "(LCoercedClasses$Word;)LCoercedClasses$Function;" } : Jvm.MethodName)) ∈ lw_all := lw_g (lw_at lw_m9 79 rfl) rfl
theorem q2242 : (Jvm.Cond.code ({ cls := "CoercedClasses$Program", name := "functionOf", desc := "(LCoercedClasses$Word;)LCoercedClasses$Function;" } : Jvm.MethodName) prog_29_method_12_code (3 : Nat) (Option.some (Jvm.ClassFile.FieldType.object "CoercedClasses$Function"))) ∈ lw_all := lw_g (lw_at lw_m9 80 rfl) rfl
theorem q2244 : (Jvm.Cond.instanceMethod ({ cls := "CoercedClasses$Program", name := "methodOf", desc := "(LCoercedClasses$Word;)LCoercedClasses$Method;" } : Jvm.MethodName)) ∈ lw_all := lw_g (lw_at lw_m9 82 rfl) rfl
theorem q2245 : (Jvm.Cond.selects "CoercedClasses$Program" ({ cls := "CoercedClasses$Program", name := "methodOf", desc := "(LCoercedClasses$Word;)LCoercedClasses$Method;" } : Jvm.MethodName) ({ cls := "CoercedClasses$Program", name := "methodOf", desc := "(LCoercedClasses$Word;)LCoercedClasses$Method;" } : Jvm.MethodName)) ∈ lw_all := lw_g (lw_at lw_m9 83 rfl) rfl
theorem q2246 : (Jvm.Cond.code ({ cls := "CoercedClasses$Program", name := "methodOf", desc := "(LCoercedClasses$Word;)LCoercedClasses$Method;" } : Jvm.MethodName) prog_29_method_13_code (5 : Nat) (Option.some (Jvm.ClassFile.FieldType.object "CoercedClasses$Method"))) ∈ lw_all := lw_g (lw_at lw_m9 84 rfl) rfl
theorem q2274 : (Jvm.Cond.methodLink "CoercedClasses$Program" (324 : Nat) ({ cls := "CoercedClasses$Program", name := "resolveFunction", desc := "(LCoercedClasses$Function;I)V" } : Jvm.MethodName)) ∈ lw_all := lw_g (lw_at lw_m9 112 rfl) rfl
theorem q2275 : (Jvm.Cond.privateMethod ({ cls := "CoercedClasses$Program", name := "resolveFunction", desc := "(LCoercedClasses$Function;I)V" } : Jvm.MethodName)) ∈ lw_tbl := lw_at lw_m9 113 rfl
theorem q2276 : (Jvm.Cond.instanceMethod ({ cls := "CoercedClasses$Program", name := "resolveFunction", desc := "(LCoercedClasses$Function;I)V" } : Jvm.MethodName)) ∈ lw_all := lw_g (lw_at lw_m9 114 rfl) rfl
theorem q2277 : (Jvm.Cond.code ({ cls := "CoercedClasses$Program", name := "resolveFunction", desc := "(LCoercedClasses$Function;I)V" } : Jvm.MethodName) prog_29_method_24_code (4 : Nat) (Option.none : Option Jvm.ClassFile.FieldType)) ∈ lw_all := lw_g (lw_at lw_m9 115 rfl) rfl
theorem q2278 : (Jvm.Cond.methodLink "CoercedClasses$Program" (413 : Nat) ({ cls := "CoercedClasses$Program", name := "fail", desc := "(I)V" } : Jvm.MethodName)) ∈ lw_all := lw_g (lw_at lw_m9 116 rfl) rfl
theorem q2279 : (Jvm.Cond.privateMethod ({ cls := "CoercedClasses$Program", name := "fail", desc := "(I)V" } : Jvm.MethodName)) ∈ lw_tbl := lw_at lw_m9 117 rfl
theorem q2280 : (Jvm.Cond.instanceMethod ({ cls := "CoercedClasses$Program", name := "fail", desc := "(I)V" } : Jvm.MethodName)) ∈ lw_all := lw_g (lw_at lw_m9 118 rfl) rfl
theorem q2281 : (Jvm.Cond.code ({ cls := "CoercedClasses$Program", name := "fail", desc := "(I)V" } : Jvm.MethodName) prog_29_method_28_code (2 : Nat) (Option.none : Option Jvm.ClassFile.FieldType)) ∈ lw_all := lw_g (lw_at lw_m9 119 rfl) rfl
theorem q2282 : (Jvm.Cond.classLink "CoercedClasses$Program" (405 : Nat) "CoercedClasses$Fault") ∈ lw_all := lw_g (lw_at lw_m9 120 rfl) rfl
theorem q2283 : (Jvm.Cond.methodLink "CoercedClasses$Program" (407 : Nat) ({ cls := "CoercedClasses$Fault", name := "<init>", desc := "(II)V" } : Jvm.MethodName)) ∈ lw_all := lw_g (lw_at lw_m9 121 rfl) rfl
theorem q2284 : (Jvm.Cond.methodLink "CoercedClasses$Program" (416 : Nat) ({ cls := "CoercedClasses$Program", name := "judgeInstances", desc := "()V" } : Jvm.MethodName)) ∈ lw_all := lw_g (lw_at lw_m9 122 rfl) rfl
theorem q2285 : (Jvm.Cond.privateMethod ({ cls := "CoercedClasses$Program", name := "judgeInstances", desc := "()V" } : Jvm.MethodName)) ∈ lw_tbl := lw_at lw_m9 123 rfl
theorem q2286 : (Jvm.Cond.instanceMethod ({ cls := "CoercedClasses$Program", name := "judgeInstances", desc := "()V" } : Jvm.MethodName)) ∈ lw_all := lw_g (lw_at lw_m9 124 rfl) rfl
theorem q2287 : (Jvm.Cond.code ({ cls := "CoercedClasses$Program", name := "judgeInstances", desc := "()V" } : Jvm.MethodName) prog_29_method_26_code (8 : Nat) (Option.none : Option Jvm.ClassFile.FieldType)) ∈ lw_all := lw_g (lw_at lw_m9 125 rfl) rfl
theorem q2289 : (Jvm.Cond.methodLink "CoercedClasses$Program" (392 : Nat) ({ cls := "CoercedClasses$ClassDecl", name := "find", desc := "(LCoercedClasses$Word;)LCoercedClasses$Method;" } : Jvm.MethodName)) ∈ lw_all := lw_g (lw_at lw_m9 127 rfl) rfl
theorem q2297 : (Jvm.Cond.methodLink "CoercedClasses$Program" (380 : Nat) ({ cls := "CoercedClasses$Program", name := "families", desc := "(LCoercedClasses$Written;Ljava/util/ArrayList;I)I" } : Jvm.MethodName)) ∈ lw_all := lw_g (lw_at lw_m9 135 rfl) rfl
theorem q2298 : (Jvm.Cond.privateMethod ({ cls := "CoercedClasses$Program", name := "families", desc := "(LCoercedClasses$Written;Ljava/util/ArrayList;I)I" } : Jvm.MethodName)) ∈ lw_tbl := lw_at lw_m9 136 rfl
theorem q2299 : (Jvm.Cond.instanceMethod ({ cls := "CoercedClasses$Program", name := "families", desc := "(LCoercedClasses$Written;Ljava/util/ArrayList;I)I" } : Jvm.MethodName)) ∈ lw_all := lw_g (lw_at lw_m9 137 rfl) rfl
theorem q2300 : (Jvm.Cond.code ({ cls := "CoercedClasses$Program", name := "families", desc := "(LCoercedClasses$Written;Ljava/util/ArrayList;I)I" } : Jvm.MethodName) prog_29_method_25_code (7 : Nat) (Option.some Jvm.ClassFile.FieldType.int)) ∈ lw_all := lw_g (lw_at lw_m9 138 rfl) rfl
theorem q2301 : (Jvm.Cond.methodLink "CoercedClasses$Program" (396 : Nat) ({ cls := "CoercedClasses$Program", name := "judgeGivens", desc := "(Ljava/util/ArrayList;)V" } : Jvm.MethodName)) ∈ lw_all := lw_g (lw_at lw_m9 139 rfl) rfl
theorem q2302 : (Jvm.Cond.privateMethod ({ cls := "CoercedClasses$Program", name := "judgeGivens", desc := "(Ljava/util/ArrayList;)V" } : Jvm.MethodName)) ∈ lw_tbl := lw_at lw_m9 140 rfl
theorem q2303 : (Jvm.Cond.instanceMethod ({ cls := "CoercedClasses$Program", name := "judgeGivens", desc := "(Ljava/util/ArrayList;)V" } : Jvm.MethodName)) ∈ lw_all := lw_g (lw_at lw_m9 141 rfl) rfl
theorem q2304 : (Jvm.Cond.code ({ cls := "CoercedClasses$Program", name := "judgeGivens", desc := "(Ljava/util/ArrayList;)V" } : Jvm.MethodName) prog_29_method_27_code (5 : Nat) (Option.none : Option Jvm.ClassFile.FieldType)) ∈ lw_all := lw_g (lw_at lw_m9 142 rfl) rfl
theorem q2305 : (Jvm.Cond.classLink "CoercedClasses$Program" (419 : Nat) "CoercedClasses$Finder") ∈ lw_all := lw_g (lw_at lw_m9 143 rfl) rfl
theorem q2306 : (Jvm.Cond.methodLink "CoercedClasses$Program" (421 : Nat) ({ cls := "CoercedClasses$Finder", name := "<init>", desc := "(LCoercedClasses$Scope;LCoercedClasses$Table;)V" } : Jvm.MethodName)) ∈ lw_all := lw_g (lw_at lw_m9 144 rfl) rfl
theorem q2307 : (Jvm.Cond.methodLink "CoercedClasses$Program" (424 : Nat) ({ cls := "CoercedClasses$Finder", name := "asked", desc := "(LCoercedClasses$ClassDecl;LCoercedClasses$Type;I)LCoercedClasses$Dictionary;" } : Jvm.MethodName)) ∈ lw_all := lw_g (lw_at lw_m9 145 rfl) rfl
theorem q2462 : (Jvm.Cond.classLink "CoercedClasses$Program" (431 : Nat) "CoercedClasses$Judge") ∈ lw_all := lw_g (lw_at lw_m10 60 rfl) rfl
theorem q2464 : (Jvm.Cond.methodLink "CoercedClasses$Program" (433 : Nat) ({ cls := "CoercedClasses$Judge", name := "<init>", desc := "(LCoercedClasses$Finder;)V" } : Jvm.MethodName)) ∈ lw_all := lw_g (lw_at lw_m10 62 rfl) rfl
theorem q2480 : (Jvm.Cond.methodLink "CoercedClasses$Program" (436 : Nat) ({ cls := "CoercedClasses$Judge", name := "wanted", desc := "(LCoercedClasses$Ex;LCoercedClasses$Type;)V" } : Jvm.MethodName)) ∈ lw_all := lw_g (lw_at lw_m10 78 rfl) rfl
theorem q2622 : (Jvm.Cond.methodLink "CoercedClasses$Program" (440 : Nat) ({ cls := "CoercedClasses$Program", name := "judgeLines", desc := "(LCoercedClasses$Instance;)V" } : Jvm.MethodName)) ∈ lw_all := lw_g (lw_at lw_m10 220 rfl) rfl
theorem q2623 : (Jvm.Cond.privateMethod ({ cls := "CoercedClasses$Program", name := "judgeLines", desc := "(LCoercedClasses$Instance;)V" } : Jvm.MethodName)) ∈ lw_tbl := lw_at lw_m10 221 rfl
theorem q2624 : (Jvm.Cond.instanceMethod ({ cls := "CoercedClasses$Program", name := "judgeLines", desc := "(LCoercedClasses$Instance;)V" } : Jvm.MethodName)) ∈ lw_all := lw_g (lw_at lw_m10 222 rfl) rfl
theorem q2625 : (Jvm.Cond.code ({ cls := "CoercedClasses$Program", name := "judgeLines", desc := "(LCoercedClasses$Instance;)V" } : Jvm.MethodName) prog_29_method_30_code (5 : Nat) (Option.none : Option Jvm.ClassFile.FieldType)) ∈ lw_all := lw_g (lw_at lw_m10 223 rfl) rfl
theorem q2626 : (Jvm.Cond.methodLink "CoercedClasses$Program" (447 : Nat) ({ cls := "CoercedClasses$Judge", name := "line", desc := "(LCoercedClasses$Instance;LCoercedClasses$Line;)V" } : Jvm.MethodName)) ∈ lw_all := lw_g (lw_at lw_m10 224 rfl) rfl
theorem q4462 : (Jvm.Cond.castable "CoercedClasses$Program" "java/lang/Object") ∈ lw_tbl := lw_at lw_m18 140 rfl
theorem in_X1 : ∀ w ∈ wsX10, w ∈ lw_all := lw_in wsX10 [407, 409, 411, 413, 415, 417, 419, 421, 423, 425, 427, 429] (by decide +kernel) (by decide +kernel)
theorem q245 : (Jvm.Cond.initialized "CoercedClasses$Table") ∈ lw_all := lw_g (lw_at lw_m1 3 rfl) rfl
theorem q331 : (Jvm.Cond.instantiable "CoercedClasses$Table" (7 : Nat)) ∈ lw_all := lw_g (lw_at lw_m1 89 rfl) rfl
theorem q333 : (Jvm.Cond.instanceMethod ({ cls := "CoercedClasses$Table", name := "<init>", desc := "()V" } : Jvm.MethodName)) ∈ lw_all := lw_g (lw_at lw_m1 91 rfl) rfl
theorem q334 : (Jvm.Cond.code ({ cls := "CoercedClasses$Table", name := "<init>", desc := "()V" } : Jvm.MethodName) prog_35_method_1_code (1 : Nat) (Option.none : Option Jvm.ClassFile.FieldType)) ∈ lw_all := lw_g (lw_at lw_m1 92 rfl) rfl
theorem q335 : (Jvm.Cond.methodLink "CoercedClasses$Table" (3 : Nat) ({ cls := "java/lang/Object", name := "<init>", desc := "()V" } : Jvm.MethodName)) ∈ lw_all := lw_g (lw_at lw_m1 93 rfl) rfl
theorem q336 : (Jvm.Cond.classLink "CoercedClasses$Table" (9 : Nat) "java/util/ArrayList") ∈ lw_all := lw_g (lw_at lw_m1 94 rfl) rfl
theorem q338 : (Jvm.Cond.methodLink "CoercedClasses$Table" (11 : Nat) ({ cls := "java/util/ArrayList", name := "<init>", desc := "()V" } : Jvm.MethodName)) ∈ lw_all := lw_g (lw_at lw_m1 96 rfl) rfl
theorem q363 : (Jvm.Cond.classLink "CoercedClasses$Table" (18 : Nat) "CoercedClasses$Type") ∈ lw_all := lw_g (lw_at lw_m1 121 rfl) rfl
theorem q365 : (Jvm.Cond.fieldLink "CoercedClasses$Table" (52 : Nat) "CoercedClasses$Table" "behind" "LCoercedClasses$Table;") ∈ lw_all := lw_g (lw_at lw_m1 123 rfl) rfl
theorem q366 : (Jvm.Cond.fieldLink "CoercedClasses$Table" (12 : Nat) "CoercedClasses$Table" "all" "Ljava/util/ArrayList;") ∈ lw_all := lw_g (lw_at lw_m1 124 rfl) rfl
theorem q367 : (Jvm.Cond.fieldLink "CoercedClasses$Table" (56 : Nat) "CoercedClasses$Table" "used" "I") ∈ lw_all := lw_g (lw_at lw_m1 125 rfl) rfl
theorem q368 : (Jvm.Cond.fieldLink "CoercedClasses$Table" (59 : Nat) "CoercedClasses$Table" "count" "I") ∈ lw_all := lw_g (lw_at lw_m1 126 rfl) rfl
theorem q370 : (Jvm.Cond.fieldLink "CoercedClasses$Table" (20 : Nat) "CoercedClasses$Table" "heads" "[LCoercedClasses$Type;") ∈ lw_all := lw_g (lw_at lw_m1 128 rfl) rfl
theorem q371 : (Jvm.Cond.fieldLink "CoercedClasses$Table" (24 : Nat) "CoercedClasses$Table" "dictionaries" "Ljava/util/ArrayList;") ∈ lw_all := lw_g (lw_at lw_m1 129 rfl) rfl
theorem q372 : (Jvm.Cond.fieldLink "CoercedClasses$Table" (27 : Nat) "CoercedClasses$Table" "dictionaryMany" "I") ∈ lw_all := lw_g (lw_at lw_m1 130 rfl) rfl
theorem q373 : (Jvm.Cond.lays "CoercedClasses$Table" "CoercedClasses$Table" "behind" "LCoercedClasses$Table;") ∈ lw_all := lw_g (lw_at lw_m1 131 rfl) rfl
theorem q374 : (Jvm.Cond.soleField "CoercedClasses$Table" "behind") ∈ lw_all := lw_g (lw_at lw_m1 132 rfl) rfl
theorem q375 : (Jvm.Cond.laysFinal "CoercedClasses$Table" "CoercedClasses$Table" "all" "Ljava/util/ArrayList;") ∈ lw_all := lw_g (lw_at lw_m1 133 rfl) rfl
theorem q376 : (Jvm.Cond.soleField "CoercedClasses$Table" "all") ∈ lw_all := lw_g (lw_at lw_m1 134 rfl) rfl
theorem q377 : (Jvm.Cond.lays "CoercedClasses$Table" "CoercedClasses$Table" "used" "I") ∈ lw_all := lw_g (lw_at lw_m1 135 rfl) rfl
theorem q378 : (Jvm.Cond.soleField "CoercedClasses$Table" "used") ∈ lw_all := lw_g (lw_at lw_m1 136 rfl) rfl
theorem q379 : (Jvm.Cond.lays "CoercedClasses$Table" "CoercedClasses$Table" "count" "I") ∈ lw_all := lw_g (lw_at lw_m1 137 rfl) rfl
theorem q380 : (Jvm.Cond.soleField "CoercedClasses$Table" "count") ∈ lw_all := lw_g (lw_at lw_m1 138 rfl) rfl
theorem q381 : (Jvm.Cond.laysFinal "CoercedClasses$Table" "CoercedClasses$Table" "heads" "[LCoercedClasses$Type;") ∈ lw_all := lw_g (lw_at lw_m1 139 rfl) rfl
theorem q382 : (Jvm.Cond.soleField "CoercedClasses$Table" "heads") ∈ lw_all := lw_g (lw_at lw_m1 140 rfl) rfl
theorem q383 : (Jvm.Cond.laysFinal "CoercedClasses$Table" "CoercedClasses$Table" "dictionaries" "Ljava/util/ArrayList;") ∈ lw_all := lw_g (lw_at lw_m1 141 rfl) rfl
theorem q384 : (Jvm.Cond.soleField "CoercedClasses$Table" "dictionaries") ∈ lw_all := lw_g (lw_at lw_m1 142 rfl) rfl
theorem q385 : (Jvm.Cond.lays "CoercedClasses$Table" "CoercedClasses$Table" "dictionaryMany" "I") ∈ lw_all := lw_g (lw_at lw_m1 143 rfl) rfl
theorem q386 : (Jvm.Cond.soleField "CoercedClasses$Table" "dictionaryMany") ∈ lw_all := lw_g (lw_at lw_m1 144 rfl) rfl
theorem q387 : (Jvm.Cond.superclass "CoercedClasses$Table" "java/lang/Object") ∈ lw_all := lw_g (lw_at lw_m1 145 rfl) rfl
theorem q817 : (Jvm.Cond.instanceMethod ({ cls := "CoercedClasses$Table", name := "clear", desc := "(LCoercedClasses$Table;)V" } : Jvm.MethodName)) ∈ lw_all := lw_g (lw_at lw_m3 95 rfl) rfl
theorem q818 : (Jvm.Cond.selects "CoercedClasses$Table" ({ cls := "CoercedClasses$Table", name := "clear", desc := "(LCoercedClasses$Table;)V" } : Jvm.MethodName) ({ cls := "CoercedClasses$Table", name := "clear", desc := "(LCoercedClasses$Table;)V" } : Jvm.MethodName)) ∈ lw_all := lw_g (lw_at lw_m3 96 rfl) rfl
theorem q819 : (Jvm.Cond.code ({ cls := "CoercedClasses$Table", name := "clear", desc := "(LCoercedClasses$Table;)V" } : Jvm.MethodName) prog_35_method_3_code (3 : Nat) (Option.none : Option Jvm.ClassFile.FieldType)) ∈ lw_all := lw_g (lw_at lw_m3 97 rfl) rfl
theorem q1171 : (Jvm.Cond.selects "CoercedClasses$Table" ({ cls := "java/lang/Object", name := "getClass", desc := "()Ljava/lang/Class;" } : Jvm.MethodName) ({ cls := "java/lang/Object", name := "getClass", desc := "()Ljava/lang/Class;" } : Jvm.MethodName)) ∈ lw_all := lw_g (lw_at lw_m4 209 rfl) rfl
theorem q1202 : (Jvm.Cond.fieldLinkNest "CoercedClasses$Table" (79 : Nat) "CoercedClasses$ClassDecl" "number" "I" "CoercedClasses") ∈ lw_tbl := lw_at lw_m5 0 rfl
theorem q2056 : (Jvm.Cond.instanceMethod ({ cls := "CoercedClasses$Table", name := "arrow", desc := "(LCoercedClasses$Type;LCoercedClasses$Type;)LCoercedClasses$Type;" } : Jvm.MethodName)) ∈ lw_all := lw_g (lw_at lw_m8 134 rfl) rfl
theorem q2057 : (Jvm.Cond.selects "CoercedClasses$Table" ({ cls := "CoercedClasses$Table", name := "arrow", desc := "(LCoercedClasses$Type;LCoercedClasses$Type;)LCoercedClasses$Type;" } : Jvm.MethodName) ({ cls := "CoercedClasses$Table", name := "arrow", desc := "(LCoercedClasses$Type;LCoercedClasses$Type;)LCoercedClasses$Type;" } : Jvm.MethodName)) ∈ lw_all := lw_g (lw_at lw_m8 135 rfl) rfl
theorem q2058 : (Jvm.Cond.code ({ cls := "CoercedClasses$Table", name := "arrow", desc := "(LCoercedClasses$Type;LCoercedClasses$Type;)LCoercedClasses$Type;" } : Jvm.MethodName) prog_35_method_9_code (3 : Nat) (Option.some (Jvm.ClassFile.FieldType.object "CoercedClasses$Type"))) ∈ lw_all := lw_g (lw_at lw_m8 136 rfl) rfl
theorem q2059 : (Jvm.Cond.methodLink "CoercedClasses$Table" (114 : Nat) ({ cls := "CoercedClasses$Table", name := "get", desc := "(IILCoercedClasses$Word;LCoercedClasses$ClassDecl;LCoercedClasses$Type;LCoercedClasses$Type;)LCoercedClasses$Type;" } : Jvm.MethodName)) ∈ lw_all := lw_g (lw_at lw_m8 137 rfl) rfl
theorem q2060 : (Jvm.Cond.privateMethod ({ cls := "CoercedClasses$Table", name := "get", desc := "(IILCoercedClasses$Word;LCoercedClasses$ClassDecl;LCoercedClasses$Type;LCoercedClasses$Type;)LCoercedClasses$Type;" } : Jvm.MethodName)) ∈ lw_tbl := lw_at lw_m8 138 rfl
theorem q2061 : (Jvm.Cond.instanceMethod ({ cls := "CoercedClasses$Table", name := "get", desc := "(IILCoercedClasses$Word;LCoercedClasses$ClassDecl;LCoercedClasses$Type;LCoercedClasses$Type;)LCoercedClasses$Type;" } : Jvm.MethodName)) ∈ lw_all := lw_g (lw_at lw_m8 139 rfl) rfl
theorem q2062 : (Jvm.Cond.code ({ cls := "CoercedClasses$Table", name := "get", desc := "(IILCoercedClasses$Word;LCoercedClasses$ClassDecl;LCoercedClasses$Type;LCoercedClasses$Type;)LCoercedClasses$Type;" } : Jvm.MethodName) prog_35_method_5_code (10 : Nat) (Option.some (Jvm.ClassFile.FieldType.object "CoercedClasses$Type"))) ∈ lw_all := lw_g (lw_at lw_m8 140 rfl) rfl
theorem q2063 : (Jvm.Cond.methodLink "CoercedClasses$Table" (74 : Nat) ({ cls := "CoercedClasses$Word", name := "sum", desc := "()I" } : Jvm.MethodName)) ∈ lw_all := lw_g (lw_at lw_m8 141 rfl) rfl
theorem q2067 : (Jvm.Cond.methodLink "CoercedClasses$Table" (70 : Nat) ({ cls := "CoercedClasses$Table", name := "find", desc := "(IIILCoercedClasses$Word;LCoercedClasses$ClassDecl;LCoercedClasses$Type;LCoercedClasses$Type;)LCoercedClasses$Type;" } : Jvm.MethodName)) ∈ lw_all := lw_g (lw_at lw_m8 145 rfl) rfl
theorem q2068 : (Jvm.Cond.privateMethod ({ cls := "CoercedClasses$Table", name := "find", desc := "(IIILCoercedClasses$Word;LCoercedClasses$ClassDecl;LCoercedClasses$Type;LCoercedClasses$Type;)LCoercedClasses$Type;" } : Jvm.MethodName)) ∈ lw_tbl := lw_at lw_m8 146 rfl
theorem q2069 : (Jvm.Cond.instanceMethod ({ cls := "CoercedClasses$Table", name := "find", desc := "(IIILCoercedClasses$Word;LCoercedClasses$ClassDecl;LCoercedClasses$Type;LCoercedClasses$Type;)LCoercedClasses$Type;" } : Jvm.MethodName)) ∈ lw_all := lw_g (lw_at lw_m8 147 rfl) rfl
theorem q2070 : (Jvm.Cond.code ({ cls := "CoercedClasses$Table", name := "find", desc := "(IIILCoercedClasses$Word;LCoercedClasses$ClassDecl;LCoercedClasses$Type;LCoercedClasses$Type;)LCoercedClasses$Type;" } : Jvm.MethodName) prog_35_method_4_code (9 : Nat) (Option.some (Jvm.ClassFile.FieldType.object "CoercedClasses$Type"))) ∈ lw_all := lw_g (lw_at lw_m8 148 rfl) rfl
theorem q2071 : (Jvm.Cond.methodLink "CoercedClasses$Table" (62 : Nat) ({ cls := "CoercedClasses$Type", name := "isAlike", desc := "(IILCoercedClasses$Word;LCoercedClasses$ClassDecl;LCoercedClasses$Type;LCoercedClasses$Type;)Z" } : Jvm.MethodName)) ∈ lw_all := lw_g (lw_at lw_m8 149 rfl) rfl
theorem q2076 : (Jvm.Cond.methodLink "CoercedClasses$Table" (31 : Nat) ({ cls := "java/util/ArrayList", name := "size", desc := "()I" } : Jvm.MethodName)) ∈ lw_all := lw_g (lw_at lw_m8 154 rfl) rfl
theorem q2078 : (Jvm.Cond.methodLinkNest "CoercedClasses$Table" (87 : Nat) ({ cls := "CoercedClasses$Type", name := "<init>", desc := "()V" } : Jvm.MethodName) "CoercedClasses") ∈ lw_tbl := lw_at lw_m8 156 rfl
theorem q2085 : (Jvm.Cond.fieldLinkNest "CoercedClasses$Table" (88 : Nat) "CoercedClasses$Type" "kind" "I" "CoercedClasses") ∈ lw_tbl := lw_at lw_m8 163 rfl
theorem q2092 : (Jvm.Cond.fieldLinkNest "CoercedClasses$Table" (91 : Nat) "CoercedClasses$Type" "con" "I" "CoercedClasses") ∈ lw_tbl := lw_at lw_m8 170 rfl
theorem q2098 : (Jvm.Cond.fieldLinkNest "CoercedClasses$Table" (108 : Nat) "CoercedClasses$Type" "size" "I" "CoercedClasses") ∈ lw_tbl := lw_at lw_m8 176 rfl
theorem q2099 : (Jvm.Cond.fieldLinkNest "CoercedClasses$Table" (84 : Nat) "CoercedClasses$Type" "mark" "I" "CoercedClasses") ∈ lw_tbl := lw_at lw_m8 177 rfl
theorem q2101 : (Jvm.Cond.fieldLinkNest "CoercedClasses$Table" (94 : Nat) "CoercedClasses$Type" "name" "LCoercedClasses$Word;" "CoercedClasses") ∈ lw_tbl := lw_at lw_m8 179 rfl
theorem q2106 : (Jvm.Cond.fieldLinkNest "CoercedClasses$Table" (98 : Nat) "CoercedClasses$Type" "family" "LCoercedClasses$ClassDecl;" "CoercedClasses") ∈ lw_tbl := lw_at lw_m8 184 rfl
theorem q2112 : (Jvm.Cond.fieldLinkNest "CoercedClasses$Table" (102 : Nat) "CoercedClasses$Type" "a" "LCoercedClasses$Type;" "CoercedClasses") ∈ lw_tbl := lw_at lw_m8 190 rfl
theorem q2120 : (Jvm.Cond.fieldLinkNest "CoercedClasses$Table" (105 : Nat) "CoercedClasses$Type" "b" "LCoercedClasses$Type;" "CoercedClasses") ∈ lw_tbl := lw_at lw_m8 198 rfl
theorem q2126 : (Jvm.Cond.fieldLinkNest "CoercedClasses$Table" (110 : Nat) "CoercedClasses$Type" "hasFamily" "Z" "CoercedClasses") ∈ lw_tbl := lw_at lw_m8 204 rfl
theorem q2129 : (Jvm.Cond.fieldLinkNest "CoercedClasses$Table" (66 : Nat) "CoercedClasses$Type" "next" "LCoercedClasses$Type;" "CoercedClasses") ∈ lw_tbl := lw_at lw_m8 207 rfl
theorem q2151 : (Jvm.Cond.methodLink "CoercedClasses$Table" (40 : Nat) ({ cls := "java/util/ArrayList", name := "add", desc := "(Ljava/lang/Object;)Z" } : Jvm.MethodName)) ∈ lw_all := lw_g (lw_at lw_m8 229 rfl) rfl
theorem q2152 : (Jvm.Cond.methodLink "CoercedClasses$Table" (44 : Nat) ({ cls := "java/util/ArrayList", name := "get", desc := "(I)Ljava/lang/Object;" } : Jvm.MethodName)) ∈ lw_all := lw_g (lw_at lw_m8 230 rfl) rfl
theorem q2157 : (Jvm.Cond.instanceMethod ({ cls := "CoercedClasses$Table", name := "name", desc := "(LCoercedClasses$Word;)LCoercedClasses$Type;" } : Jvm.MethodName)) ∈ lw_all := lw_g (lw_at lw_m8 235 rfl) rfl
theorem q2158 : (Jvm.Cond.selects "CoercedClasses$Table" ({ cls := "CoercedClasses$Table", name := "name", desc := "(LCoercedClasses$Word;)LCoercedClasses$Type;" } : Jvm.MethodName) ({ cls := "CoercedClasses$Table", name := "name", desc := "(LCoercedClasses$Word;)LCoercedClasses$Type;" } : Jvm.MethodName)) ∈ lw_all := lw_g (lw_at lw_m8 236 rfl) rfl
theorem q2159 : (Jvm.Cond.code ({ cls := "CoercedClasses$Table", name := "name", desc := "(LCoercedClasses$Word;)LCoercedClasses$Type;" } : Jvm.MethodName) prog_35_method_6_code (2 : Nat) (Option.some (Jvm.ClassFile.FieldType.object "CoercedClasses$Type"))) ∈ lw_all := lw_g (lw_at lw_m8 237 rfl) rfl
theorem q2168 : (Jvm.Cond.instanceMethod ({ cls := "CoercedClasses$Table", name := "con", desc := "(ILCoercedClasses$Type;LCoercedClasses$Type;)LCoercedClasses$Type;" } : Jvm.MethodName)) ∈ lw_all := lw_g (lw_at lw_m9 6 rfl) rfl
theorem q2169 : (Jvm.Cond.selects "CoercedClasses$Table" ({ cls := "CoercedClasses$Table", name := "con", desc := "(ILCoercedClasses$Type;LCoercedClasses$Type;)LCoercedClasses$Type;" } : Jvm.MethodName) ({ cls := "CoercedClasses$Table", name := "con", desc := "(ILCoercedClasses$Type;LCoercedClasses$Type;)LCoercedClasses$Type;" } : Jvm.MethodName)) ∈ lw_all := lw_g (lw_at lw_m9 7 rfl) rfl
theorem q2170 : (Jvm.Cond.code ({ cls := "CoercedClasses$Table", name := "con", desc := "(ILCoercedClasses$Type;LCoercedClasses$Type;)LCoercedClasses$Type;" } : Jvm.MethodName) prog_35_method_7_code (4 : Nat) (Option.some (Jvm.ClassFile.FieldType.object "CoercedClasses$Type"))) ∈ lw_all := lw_g (lw_at lw_m9 8 rfl) rfl
theorem q2172 : (Jvm.Cond.instanceMethod ({ cls := "CoercedClasses$Table", name := "family", desc := "(LCoercedClasses$ClassDecl;LCoercedClasses$Type;)LCoercedClasses$Type;" } : Jvm.MethodName)) ∈ lw_all := lw_g (lw_at lw_m9 10 rfl) rfl
theorem q2173 : (Jvm.Cond.selects "CoercedClasses$Table" ({ cls := "CoercedClasses$Table", name := "family", desc := "(LCoercedClasses$ClassDecl;LCoercedClasses$Type;)LCoercedClasses$Type;" } : Jvm.MethodName) ({ cls := "CoercedClasses$Table", name := "family", desc := "(LCoercedClasses$ClassDecl;LCoercedClasses$Type;)LCoercedClasses$Type;" } : Jvm.MethodName)) ∈ lw_all := lw_g (lw_at lw_m9 11 rfl) rfl
theorem q2174 : (Jvm.Cond.code ({ cls := "CoercedClasses$Table", name := "family", desc := "(LCoercedClasses$ClassDecl;LCoercedClasses$Type;)LCoercedClasses$Type;" } : Jvm.MethodName) prog_35_method_8_code (3 : Nat) (Option.some (Jvm.ClassFile.FieldType.object "CoercedClasses$Type"))) ∈ lw_all := lw_g (lw_at lw_m9 12 rfl) rfl
theorem q2333 : (Jvm.Cond.instanceMethod ({ cls := "CoercedClasses$Table", name := "like", desc := "(LCoercedClasses$Type;LCoercedClasses$Type;LCoercedClasses$Type;)LCoercedClasses$Type;" } : Jvm.MethodName)) ∈ lw_all := lw_g (lw_at lw_m9 171 rfl) rfl
theorem q2334 : (Jvm.Cond.selects "CoercedClasses$Table" ({ cls := "CoercedClasses$Table", name := "like", desc := "(LCoercedClasses$Type;LCoercedClasses$Type;LCoercedClasses$Type;)LCoercedClasses$Type;" } : Jvm.MethodName) ({ cls := "CoercedClasses$Table", name := "like", desc := "(LCoercedClasses$Type;LCoercedClasses$Type;LCoercedClasses$Type;)LCoercedClasses$Type;" } : Jvm.MethodName)) ∈ lw_all := lw_g (lw_at lw_m9 172 rfl) rfl
theorem q2335 : (Jvm.Cond.code ({ cls := "CoercedClasses$Table", name := "like", desc := "(LCoercedClasses$Type;LCoercedClasses$Type;LCoercedClasses$Type;)LCoercedClasses$Type;" } : Jvm.MethodName) prog_35_method_10_code (4 : Nat) (Option.some (Jvm.ClassFile.FieldType.object "CoercedClasses$Type"))) ∈ lw_all := lw_g (lw_at lw_m9 173 rfl) rfl
theorem q2440 : (Jvm.Cond.instanceMethod ({ cls := "CoercedClasses$Table", name := "dictionary", desc := "(LCoercedClasses$ClassDecl;)LCoercedClasses$Dictionary;" } : Jvm.MethodName)) ∈ lw_all := lw_g (lw_at lw_m10 38 rfl) rfl
theorem q2441 : (Jvm.Cond.selects "CoercedClasses$Table" ({ cls := "CoercedClasses$Table", name := "dictionary", desc := "(LCoercedClasses$ClassDecl;)LCoercedClasses$Dictionary;" } : Jvm.MethodName) ({ cls := "CoercedClasses$Table", name := "dictionary", desc := "(LCoercedClasses$ClassDecl;)LCoercedClasses$Dictionary;" } : Jvm.MethodName)) ∈ lw_all := lw_g (lw_at lw_m10 39 rfl) rfl
theorem q2442 : (Jvm.Cond.code ({ cls := "CoercedClasses$Table", name := "dictionary", desc := "(LCoercedClasses$ClassDecl;)LCoercedClasses$Dictionary;" } : Jvm.MethodName) prog_35_method_2_code (2 : Nat) (Option.some (Jvm.ClassFile.FieldType.object "CoercedClasses$Dictionary"))) ∈ lw_all := lw_g (lw_at lw_m10 40 rfl) rfl
theorem q2443 : (Jvm.Cond.classLink "CoercedClasses$Table" (35 : Nat) "CoercedClasses$Dictionary") ∈ lw_all := lw_g (lw_at lw_m10 41 rfl) rfl
theorem q2444 : (Jvm.Cond.methodLink "CoercedClasses$Table" (37 : Nat) ({ cls := "CoercedClasses$Dictionary", name := "<init>", desc := "(LCoercedClasses$ClassDecl;)V" } : Jvm.MethodName)) ∈ lw_all := lw_g (lw_at lw_m10 42 rfl) rfl
theorem q2445 : (Jvm.Cond.methodLink "CoercedClasses$Table" (48 : Nat) ({ cls := "CoercedClasses$Dictionary", name := "begin", desc := "(LCoercedClasses$ClassDecl;)LCoercedClasses$Dictionary;" } : Jvm.MethodName)) ∈ lw_all := lw_g (lw_at lw_m10 43 rfl) rfl
theorem q4473 : (Jvm.Cond.castable "CoercedClasses$Table" "java/lang/Object") ∈ lw_tbl := lw_at lw_m18 151 rfl
theorem in_X2 : ∀ w ∈ wsX20, w ∈ lw_all := lw_in wsX20 [373, 375, 377, 379, 381, 383, 385] (by decide +kernel) (by decide +kernel)
theorem q249 : (Jvm.Cond.initialized "CoercedClasses$Asked") ∈ lw_all := lw_g (lw_at lw_m1 7 rfl) rfl
theorem q434 : (Jvm.Cond.instantiable "CoercedClasses$Asked" (4 : Nat)) ∈ lw_all := lw_g (lw_at lw_m1 192 rfl) rfl
theorem q436 : (Jvm.Cond.instanceMethod ({ cls := "CoercedClasses$Asked", name := "<init>", desc := "()V" } : Jvm.MethodName)) ∈ lw_all := lw_g (lw_at lw_m1 194 rfl) rfl
theorem q437 : (Jvm.Cond.code ({ cls := "CoercedClasses$Asked", name := "<init>", desc := "()V" } : Jvm.MethodName) prog_2_method_1_code (1 : Nat) (Option.none : Option Jvm.ClassFile.FieldType)) ∈ lw_all := lw_g (lw_at lw_m1 195 rfl) rfl
theorem q438 : (Jvm.Cond.methodLink "CoercedClasses$Asked" (3 : Nat) ({ cls := "java/lang/Object", name := "<init>", desc := "()V" } : Jvm.MethodName)) ∈ lw_all := lw_g (lw_at lw_m1 196 rfl) rfl
theorem q439 : (Jvm.Cond.classLink "CoercedClasses$Asked" (15 : Nat) "CoercedClasses$Table") ∈ lw_all := lw_g (lw_at lw_m1 197 rfl) rfl
theorem q440 : (Jvm.Cond.methodLinkNest "CoercedClasses$Asked" (17 : Nat) ({ cls := "CoercedClasses$Table", name := "<init>", desc := "()V" } : Jvm.MethodName) "CoercedClasses") ∈ lw_tbl := lw_at lw_m1 198 rfl
theorem q441 : (Jvm.Cond.classLink "CoercedClasses$Asked" (22 : Nat) "CoercedClasses$Scope") ∈ lw_all := lw_g (lw_at lw_m1 199 rfl) rfl
theorem q443 : (Jvm.Cond.methodLinkNest "CoercedClasses$Asked" (24 : Nat) ({ cls := "CoercedClasses$Scope", name := "<init>", desc := "()V" } : Jvm.MethodName) "CoercedClasses") ∈ lw_tbl := lw_at lw_m1 201 rfl
theorem q468 : (Jvm.Cond.fieldLink "CoercedClasses$Asked" (9 : Nat) "CoercedClasses$Asked" "bytes" "[B") ∈ lw_all := lw_g (lw_at lw_m1 226 rfl) rfl
theorem q470 : (Jvm.Cond.fieldLink "CoercedClasses$Asked" (18 : Nat) "CoercedClasses$Asked" "table" "LCoercedClasses$Table;") ∈ lw_all := lw_g (lw_at lw_m1 228 rfl) rfl
theorem q472 : (Jvm.Cond.fieldLink "CoercedClasses$Asked" (25 : Nat) "CoercedClasses$Asked" "scope" "LCoercedClasses$Scope;") ∈ lw_all := lw_g (lw_at lw_m1 230 rfl) rfl
theorem q475 : (Jvm.Cond.laysFinal "CoercedClasses$Asked" "CoercedClasses$Asked" "bytes" "[B") ∈ lw_all := lw_g (lw_at lw_m1 233 rfl) rfl
theorem q476 : (Jvm.Cond.soleField "CoercedClasses$Asked" "bytes") ∈ lw_all := lw_g (lw_at lw_m1 234 rfl) rfl
theorem q477 : (Jvm.Cond.laysFinal "CoercedClasses$Asked" "CoercedClasses$Asked" "table" "LCoercedClasses$Table;") ∈ lw_all := lw_g (lw_at lw_m1 235 rfl) rfl
theorem q478 : (Jvm.Cond.soleField "CoercedClasses$Asked" "table") ∈ lw_all := lw_g (lw_at lw_m1 236 rfl) rfl
theorem q479 : (Jvm.Cond.laysFinal "CoercedClasses$Asked" "CoercedClasses$Asked" "scope" "LCoercedClasses$Scope;") ∈ lw_all := lw_g (lw_at lw_m1 237 rfl) rfl
theorem q480 : (Jvm.Cond.soleField "CoercedClasses$Asked" "scope") ∈ lw_all := lw_g (lw_at lw_m1 238 rfl) rfl
theorem q481 : (Jvm.Cond.lays "CoercedClasses$Asked" "CoercedClasses$Asked" "ex" "LCoercedClasses$Ex;") ∈ lw_all := lw_g (lw_at lw_m1 239 rfl) rfl
theorem q482 : (Jvm.Cond.soleField "CoercedClasses$Asked" "ex") ∈ lw_all := lw_g (lw_at lw_m2 0 rfl) rfl
theorem q483 : (Jvm.Cond.superclass "CoercedClasses$Asked" "java/lang/Object") ∈ lw_all := lw_g (lw_at lw_m2 1 rfl) rfl
theorem q1139 : (Jvm.Cond.selects "CoercedClasses$Asked" ({ cls := "java/lang/Object", name := "getClass", desc := "()Ljava/lang/Class;" } : Jvm.MethodName) ({ cls := "java/lang/Object", name := "getClass", desc := "()Ljava/lang/Class;" } : Jvm.MethodName)) ∈ lw_all := lw_g (lw_at lw_m4 177 rfl) rfl
theorem q4464 : (Jvm.Cond.castable "CoercedClasses$Asked" "java/lang/Object") ∈ lw_tbl := lw_at lw_m18 142 rfl
theorem in_X3 : ∀ w ∈ wsX30, w ∈ lw_all := lw_in wsX30 [475, 477, 479, 481] (by decide +kernel) (by decide +kernel)
theorem q250 : (Jvm.Cond.initialized "CoercedClasses$Scope") ∈ lw_all := lw_g (lw_at lw_m1 8 rfl) rfl
theorem q442 : (Jvm.Cond.instantiable "CoercedClasses$Scope" (2 : Nat)) ∈ lw_all := lw_g (lw_at lw_m1 200 rfl) rfl
theorem q444 : (Jvm.Cond.instanceMethod ({ cls := "CoercedClasses$Scope", name := "<init>", desc := "()V" } : Jvm.MethodName)) ∈ lw_all := lw_g (lw_at lw_m1 202 rfl) rfl
theorem q445 : (Jvm.Cond.code ({ cls := "CoercedClasses$Scope", name := "<init>", desc := "()V" } : Jvm.MethodName) prog_33_method_1_code (1 : Nat) (Option.none : Option Jvm.ClassFile.FieldType)) ∈ lw_all := lw_g (lw_at lw_m1 203 rfl) rfl
theorem q446 : (Jvm.Cond.methodLink "CoercedClasses$Scope" (1 : Nat) ({ cls := "java/lang/Object", name := "<init>", desc := "()V" } : Jvm.MethodName)) ∈ lw_all := lw_g (lw_at lw_m1 204 rfl) rfl
theorem q447 : (Jvm.Cond.classLink "CoercedClasses$Scope" (7 : Nat) "java/util/ArrayList") ∈ lw_all := lw_g (lw_at lw_m1 205 rfl) rfl
theorem q448 : (Jvm.Cond.methodLink "CoercedClasses$Scope" (9 : Nat) ({ cls := "java/util/ArrayList", name := "<init>", desc := "()V" } : Jvm.MethodName)) ∈ lw_all := lw_g (lw_at lw_m1 206 rfl) rfl
theorem q449 : (Jvm.Cond.fieldLink "CoercedClasses$Scope" (10 : Nat) "CoercedClasses$Scope" "names" "Ljava/util/ArrayList;") ∈ lw_all := lw_g (lw_at lw_m1 207 rfl) rfl
theorem q457 : (Jvm.Cond.fieldLink "CoercedClasses$Scope" (16 : Nat) "CoercedClasses$Scope" "givens" "Ljava/util/ArrayList;") ∈ lw_all := lw_g (lw_at lw_m1 215 rfl) rfl
theorem q463 : (Jvm.Cond.laysFinal "CoercedClasses$Scope" "CoercedClasses$Scope" "names" "Ljava/util/ArrayList;") ∈ lw_all := lw_g (lw_at lw_m1 221 rfl) rfl
theorem q464 : (Jvm.Cond.soleField "CoercedClasses$Scope" "names") ∈ lw_all := lw_g (lw_at lw_m1 222 rfl) rfl
theorem q465 : (Jvm.Cond.laysFinal "CoercedClasses$Scope" "CoercedClasses$Scope" "givens" "Ljava/util/ArrayList;") ∈ lw_all := lw_g (lw_at lw_m1 223 rfl) rfl
theorem q466 : (Jvm.Cond.soleField "CoercedClasses$Scope" "givens") ∈ lw_all := lw_g (lw_at lw_m1 224 rfl) rfl
theorem q467 : (Jvm.Cond.superclass "CoercedClasses$Scope" "java/lang/Object") ∈ lw_all := lw_g (lw_at lw_m1 225 rfl) rfl
theorem q1169 : (Jvm.Cond.selects "CoercedClasses$Scope" ({ cls := "java/lang/Object", name := "getClass", desc := "()Ljava/lang/Class;" } : Jvm.MethodName) ({ cls := "java/lang/Object", name := "getClass", desc := "()Ljava/lang/Class;" } : Jvm.MethodName)) ∈ lw_all := lw_g (lw_at lw_m4 207 rfl) rfl
theorem q4475 : (Jvm.Cond.castable "CoercedClasses$Scope" "java/lang/Object") ∈ lw_tbl := lw_at lw_m18 153 rfl
theorem in_X4 : ∀ w ∈ wsX40, w ∈ lw_all := lw_in wsX40 [463, 465] (by decide +kernel) (by decide +kernel)
theorem q251 : (Jvm.Cond.initialized "CoercedClasses$Prover") ∈ lw_all := lw_g (lw_at lw_m1 9 rfl) rfl
theorem q485 : (Jvm.Cond.instantiable "CoercedClasses$Prover" (3 : Nat)) ∈ lw_all := lw_g (lw_at lw_m2 3 rfl) rfl
theorem q487 : (Jvm.Cond.instanceMethod ({ cls := "CoercedClasses$Prover", name := "<init>", desc := "()V" } : Jvm.MethodName)) ∈ lw_all := lw_g (lw_at lw_m2 5 rfl) rfl
theorem q488 : (Jvm.Cond.code ({ cls := "CoercedClasses$Prover", name := "<init>", desc := "()V" } : Jvm.MethodName) prog_31_method_1_code (1 : Nat) (Option.none : Option Jvm.ClassFile.FieldType)) ∈ lw_all := lw_g (lw_at lw_m2 6 rfl) rfl
theorem q489 : (Jvm.Cond.methodLink "CoercedClasses$Prover" (3 : Nat) ({ cls := "java/lang/Object", name := "<init>", desc := "()V" } : Jvm.MethodName)) ∈ lw_all := lw_g (lw_at lw_m2 7 rfl) rfl
theorem q490 : (Jvm.Cond.classLink "CoercedClasses$Prover" (9 : Nat) "java/util/ArrayList") ∈ lw_all := lw_g (lw_at lw_m2 8 rfl) rfl
theorem q491 : (Jvm.Cond.methodLink "CoercedClasses$Prover" (11 : Nat) ({ cls := "java/util/ArrayList", name := "<init>", desc := "()V" } : Jvm.MethodName)) ∈ lw_all := lw_g (lw_at lw_m2 9 rfl) rfl
theorem q492 : (Jvm.Cond.fieldLink "CoercedClasses$Prover" (12 : Nat) "CoercedClasses$Prover" "all" "Ljava/util/ArrayList;") ∈ lw_all := lw_g (lw_at lw_m2 10 rfl) rfl
theorem q493 : (Jvm.Cond.fieldLink "CoercedClasses$Prover" (28 : Nat) "CoercedClasses$Prover" "used" "I") ∈ lw_all := lw_g (lw_at lw_m2 11 rfl) rfl
theorem q494 : (Jvm.Cond.fieldLink "CoercedClasses$Prover" (18 : Nat) "CoercedClasses$Prover" "finder" "LCoercedClasses$Finder;") ∈ lw_all := lw_g (lw_at lw_m2 12 rfl) rfl
theorem q495 : (Jvm.Cond.laysFinal "CoercedClasses$Prover" "CoercedClasses$Prover" "all" "Ljava/util/ArrayList;") ∈ lw_all := lw_g (lw_at lw_m2 13 rfl) rfl
theorem q496 : (Jvm.Cond.soleField "CoercedClasses$Prover" "all") ∈ lw_all := lw_g (lw_at lw_m2 14 rfl) rfl
theorem q497 : (Jvm.Cond.lays "CoercedClasses$Prover" "CoercedClasses$Prover" "used" "I") ∈ lw_all := lw_g (lw_at lw_m2 15 rfl) rfl
theorem q498 : (Jvm.Cond.soleField "CoercedClasses$Prover" "used") ∈ lw_all := lw_g (lw_at lw_m2 16 rfl) rfl
theorem q499 : (Jvm.Cond.lays "CoercedClasses$Prover" "CoercedClasses$Prover" "finder" "LCoercedClasses$Finder;") ∈ lw_all := lw_g (lw_at lw_m2 17 rfl) rfl
theorem q500 : (Jvm.Cond.soleField "CoercedClasses$Prover" "finder") ∈ lw_all := lw_g (lw_at lw_m2 18 rfl) rfl
theorem q501 : (Jvm.Cond.superclass "CoercedClasses$Prover" "java/lang/Object") ∈ lw_all := lw_g (lw_at lw_m2 19 rfl) rfl
theorem q547 : (Jvm.Cond.fieldLinkNest "CoercedClasses$Prover" (22 : Nat) "CoercedClasses$Finder" "counts" "Z" "CoercedClasses") ∈ lw_tbl := lw_at lw_m2 65 rfl
theorem q1167 : (Jvm.Cond.selects "CoercedClasses$Prover" ({ cls := "java/lang/Object", name := "getClass", desc := "()Ljava/lang/Class;" } : Jvm.MethodName) ({ cls := "java/lang/Object", name := "getClass", desc := "()Ljava/lang/Class;" } : Jvm.MethodName)) ∈ lw_all := lw_g (lw_at lw_m4 205 rfl) rfl
theorem q1222 : (Jvm.Cond.fieldLinkNest "CoercedClasses$Prover" (122 : Nat) "CoercedClasses$ClassDecl" "instances" "[LCoercedClasses$Instance;" "CoercedClasses") ∈ lw_tbl := lw_at lw_m5 20 rfl
theorem q2088 : (Jvm.Cond.fieldLinkNest "CoercedClasses$Prover" (98 : Nat) "CoercedClasses$Type" "kind" "I" "CoercedClasses") ∈ lw_tbl := lw_at lw_m8 166 rfl
theorem q2094 : (Jvm.Cond.fieldLinkNest "CoercedClasses$Prover" (128 : Nat) "CoercedClasses$Type" "con" "I" "CoercedClasses") ∈ lw_tbl := lw_at lw_m8 172 rfl
theorem q2103 : (Jvm.Cond.fieldLinkNest "CoercedClasses$Prover" (111 : Nat) "CoercedClasses$Type" "name" "LCoercedClasses$Word;" "CoercedClasses") ∈ lw_tbl := lw_at lw_m8 181 rfl
theorem q2107 : (Jvm.Cond.fieldLinkNest "CoercedClasses$Prover" (107 : Nat) "CoercedClasses$Type" "family" "LCoercedClasses$ClassDecl;" "CoercedClasses") ∈ lw_tbl := lw_at lw_m8 185 rfl
theorem q2113 : (Jvm.Cond.fieldLinkNest "CoercedClasses$Prover" (82 : Nat) "CoercedClasses$Type" "a" "LCoercedClasses$Type;" "CoercedClasses") ∈ lw_tbl := lw_at lw_m8 191 rfl
theorem q2121 : (Jvm.Cond.fieldLinkNest "CoercedClasses$Prover" (93 : Nat) "CoercedClasses$Type" "b" "LCoercedClasses$Type;" "CoercedClasses") ∈ lw_tbl := lw_at lw_m8 199 rfl
theorem q2720 : (Jvm.Cond.instanceMethod ({ cls := "CoercedClasses$Prover", name := "begin", desc := "(LCoercedClasses$Finder;)V" } : Jvm.MethodName)) ∈ lw_all := lw_g (lw_at lw_m11 78 rfl) rfl
theorem q2721 : (Jvm.Cond.selects "CoercedClasses$Prover" ({ cls := "CoercedClasses$Prover", name := "begin", desc := "(LCoercedClasses$Finder;)V" } : Jvm.MethodName) ({ cls := "CoercedClasses$Prover", name := "begin", desc := "(LCoercedClasses$Finder;)V" } : Jvm.MethodName)) ∈ lw_all := lw_g (lw_at lw_m11 79 rfl) rfl
theorem q2722 : (Jvm.Cond.code ({ cls := "CoercedClasses$Prover", name := "begin", desc := "(LCoercedClasses$Finder;)V" } : Jvm.MethodName) prog_31_method_2_code (2 : Nat) (Option.none : Option Jvm.ClassFile.FieldType)) ∈ lw_all := lw_g (lw_at lw_m11 80 rfl) rfl
theorem q2724 : (Jvm.Cond.instanceMethod ({ cls := "CoercedClasses$Prover", name := "one", desc := "(LCoercedClasses$Type;LCoercedClasses$Type;)LCoercedClasses$Proof;" } : Jvm.MethodName)) ∈ lw_all := lw_g (lw_at lw_m11 82 rfl) rfl
theorem q2725 : (Jvm.Cond.selects "CoercedClasses$Prover" ({ cls := "CoercedClasses$Prover", name := "one", desc := "(LCoercedClasses$Type;LCoercedClasses$Type;)LCoercedClasses$Proof;" } : Jvm.MethodName) ({ cls := "CoercedClasses$Prover", name := "one", desc := "(LCoercedClasses$Type;LCoercedClasses$Type;)LCoercedClasses$Proof;" } : Jvm.MethodName)) ∈ lw_all := lw_g (lw_at lw_m11 83 rfl) rfl
theorem q2726 : (Jvm.Cond.code ({ cls := "CoercedClasses$Prover", name := "one", desc := "(LCoercedClasses$Type;LCoercedClasses$Type;)LCoercedClasses$Proof;" } : Jvm.MethodName) prog_31_method_8_code (5 : Nat) (Option.some (Jvm.ClassFile.FieldType.object "CoercedClasses$Proof"))) ∈ lw_all := lw_g (lw_at lw_m11 84 rfl) rfl
theorem q2727 : (Jvm.Cond.fieldLink "CoercedClasses$Prover" (138 : Nat) "CoercedClasses$Why" "ALIKE" "LCoercedClasses$Why;") ∈ lw_all := lw_g (lw_at lw_m11 85 rfl) rfl
theorem q2729 : (Jvm.Cond.methodLink "CoercedClasses$Prover" (71 : Nat) ({ cls := "CoercedClasses$Prover", name := "proof", desc := "(LCoercedClasses$Why;LCoercedClasses$Type;LCoercedClasses$Proof;LCoercedClasses$Proof;)LCoercedClasses$Proof;" } : Jvm.MethodName)) ∈ lw_all := lw_g (lw_at lw_m11 87 rfl) rfl
theorem q2730 : (Jvm.Cond.privateMethod ({ cls := "CoercedClasses$Prover", name := "proof", desc := "(LCoercedClasses$Why;LCoercedClasses$Type;LCoercedClasses$Proof;LCoercedClasses$Proof;)LCoercedClasses$Proof;" } : Jvm.MethodName)) ∈ lw_tbl := lw_at lw_m11 88 rfl
theorem q2731 : (Jvm.Cond.instanceMethod ({ cls := "CoercedClasses$Prover", name := "proof", desc := "(LCoercedClasses$Why;LCoercedClasses$Type;LCoercedClasses$Proof;LCoercedClasses$Proof;)LCoercedClasses$Proof;" } : Jvm.MethodName)) ∈ lw_all := lw_g (lw_at lw_m11 89 rfl) rfl
theorem q2732 : (Jvm.Cond.code ({ cls := "CoercedClasses$Prover", name := "proof", desc := "(LCoercedClasses$Why;LCoercedClasses$Type;LCoercedClasses$Proof;LCoercedClasses$Proof;)LCoercedClasses$Proof;" } : Jvm.MethodName) prog_31_method_3_code (6 : Nat) (Option.some (Jvm.ClassFile.FieldType.object "CoercedClasses$Proof"))) ∈ lw_all := lw_g (lw_at lw_m11 90 rfl) rfl
theorem q2733 : (Jvm.Cond.methodLink "CoercedClasses$Prover" (32 : Nat) ({ cls := "java/util/ArrayList", name := "size", desc := "()I" } : Jvm.MethodName)) ∈ lw_all := lw_g (lw_at lw_m11 91 rfl) rfl
theorem q2734 : (Jvm.Cond.classLink "CoercedClasses$Prover" (36 : Nat) "CoercedClasses$Proof") ∈ lw_all := lw_g (lw_at lw_m11 92 rfl) rfl
theorem q2736 : (Jvm.Cond.methodLinkNest "CoercedClasses$Prover" (38 : Nat) ({ cls := "CoercedClasses$Proof", name := "<init>", desc := "()V" } : Jvm.MethodName) "CoercedClasses") ∈ lw_tbl := lw_at lw_m11 94 rfl
theorem q2741 : (Jvm.Cond.fieldLinkNest "CoercedClasses$Prover" (47 : Nat) "CoercedClasses$Proof" "why" "LCoercedClasses$Why;" "CoercedClasses") ∈ lw_tbl := lw_at lw_m11 99 rfl
theorem q2744 : (Jvm.Cond.fieldLinkNest "CoercedClasses$Prover" (51 : Nat) "CoercedClasses$Proof" "type" "LCoercedClasses$Type;" "CoercedClasses") ∈ lw_tbl := lw_at lw_m11 102 rfl
theorem q2747 : (Jvm.Cond.fieldLinkNest "CoercedClasses$Prover" (62 : Nat) "CoercedClasses$Proof" "instance" "LCoercedClasses$Instance;" "CoercedClasses") ∈ lw_tbl := lw_at lw_m11 105 rfl
theorem q2751 : (Jvm.Cond.fieldLinkNest "CoercedClasses$Prover" (119 : Nat) "CoercedClasses$Proof" "given" "I" "CoercedClasses") ∈ lw_tbl := lw_at lw_m11 109 rfl
theorem q2752 : (Jvm.Cond.fieldLinkNest "CoercedClasses$Prover" (55 : Nat) "CoercedClasses$Proof" "a" "LCoercedClasses$Proof;" "CoercedClasses") ∈ lw_tbl := lw_at lw_m11 110 rfl
theorem q2755 : (Jvm.Cond.fieldLinkNest "CoercedClasses$Prover" (59 : Nat) "CoercedClasses$Proof" "b" "LCoercedClasses$Proof;" "CoercedClasses") ∈ lw_tbl := lw_at lw_m11 113 rfl
theorem q2771 : (Jvm.Cond.methodLink "CoercedClasses$Prover" (39 : Nat) ({ cls := "java/util/ArrayList", name := "add", desc := "(Ljava/lang/Object;)Z" } : Jvm.MethodName)) ∈ lw_all := lw_g (lw_at lw_m11 129 rfl) rfl
theorem q2772 : (Jvm.Cond.methodLink "CoercedClasses$Prover" (43 : Nat) ({ cls := "java/util/ArrayList", name := "get", desc := "(I)Ljava/lang/Object;" } : Jvm.MethodName)) ∈ lw_all := lw_g (lw_at lw_m11 130 rfl) rfl
theorem q2773 : (Jvm.Cond.methodLink "CoercedClasses$Prover" (135 : Nat) ({ cls := "CoercedClasses$Prover", name := "worked", desc := "(LCoercedClasses$Type;)LCoercedClasses$Proof;" } : Jvm.MethodName)) ∈ lw_all := lw_g (lw_at lw_m11 131 rfl) rfl
theorem q2774 : (Jvm.Cond.privateMethod ({ cls := "CoercedClasses$Prover", name := "worked", desc := "(LCoercedClasses$Type;)LCoercedClasses$Proof;" } : Jvm.MethodName)) ∈ lw_tbl := lw_at lw_m11 132 rfl
theorem q2775 : (Jvm.Cond.instanceMethod ({ cls := "CoercedClasses$Prover", name := "worked", desc := "(LCoercedClasses$Type;)LCoercedClasses$Proof;" } : Jvm.MethodName)) ∈ lw_all := lw_g (lw_at lw_m11 133 rfl) rfl
theorem q2776 : (Jvm.Cond.code ({ cls := "CoercedClasses$Prover", name := "worked", desc := "(LCoercedClasses$Type;)LCoercedClasses$Proof;" } : Jvm.MethodName) prog_31_method_6_code (7 : Nat) (Option.some (Jvm.ClassFile.FieldType.object "CoercedClasses$Proof"))) ∈ lw_all := lw_g (lw_at lw_m11 134 rfl) rfl
theorem q2777 : (Jvm.Cond.methodLink "CoercedClasses$Prover" (75 : Nat) ({ cls := "CoercedClasses$Prover", name := "nothing", desc := "()I" } : Jvm.MethodName)) ∈ lw_all := lw_g (lw_at lw_m11 135 rfl) rfl
theorem q2778 : (Jvm.Cond.static ({ cls := "CoercedClasses$Prover", name := "nothing", desc := "()I" } : Jvm.MethodName)) ∈ lw_all := lw_g (lw_at lw_m11 136 rfl) rfl
theorem q2779 : (Jvm.Cond.code ({ cls := "CoercedClasses$Prover", name := "nothing", desc := "()I" } : Jvm.MethodName) prog_31_method_4_code (0 : Nat) (Option.some Jvm.ClassFile.FieldType.int)) ∈ lw_all := lw_g (lw_at lw_m11 137 rfl) rfl
theorem q2780 : (Jvm.Cond.methodLink "CoercedClasses$Prover" (78 : Nat) ({ cls := "CoercedClasses$Finder", name := "inner", desc := "(LCoercedClasses$Type;I)LCoercedClasses$Type;" } : Jvm.MethodName)) ∈ lw_all := lw_g (lw_at lw_m11 138 rfl) rfl
theorem q2781 : (Jvm.Cond.methodLink "CoercedClasses$Prover" (86 : Nat) ({ cls := "CoercedClasses$Prover", name := "orAlike", desc := "(LCoercedClasses$Type;)LCoercedClasses$Proof;" } : Jvm.MethodName)) ∈ lw_all := lw_g (lw_at lw_m11 139 rfl) rfl
theorem q2782 : (Jvm.Cond.privateMethod ({ cls := "CoercedClasses$Prover", name := "orAlike", desc := "(LCoercedClasses$Type;)LCoercedClasses$Proof;" } : Jvm.MethodName)) ∈ lw_tbl := lw_at lw_m11 140 rfl
theorem q2783 : (Jvm.Cond.instanceMethod ({ cls := "CoercedClasses$Prover", name := "orAlike", desc := "(LCoercedClasses$Type;)LCoercedClasses$Proof;" } : Jvm.MethodName)) ∈ lw_all := lw_g (lw_at lw_m11 141 rfl) rfl
theorem q2784 : (Jvm.Cond.code ({ cls := "CoercedClasses$Prover", name := "orAlike", desc := "(LCoercedClasses$Type;)LCoercedClasses$Proof;" } : Jvm.MethodName) prog_31_method_7_code (3 : Nat) (Option.some (Jvm.ClassFile.FieldType.object "CoercedClasses$Proof"))) ∈ lw_all := lw_g (lw_at lw_m11 142 rfl) rfl
theorem q2785 : (Jvm.Cond.fieldLink "CoercedClasses$Prover" (90 : Nat) "CoercedClasses$Why" "PARTS" "LCoercedClasses$Why;") ∈ lw_all := lw_g (lw_at lw_m11 143 rfl) rfl
theorem q2787 : (Jvm.Cond.methodLink "CoercedClasses$Prover" (95 : Nat) ({ cls := "CoercedClasses$Finder", name := "goes", desc := "(LCoercedClasses$Type;I)LCoercedClasses$Type;" } : Jvm.MethodName)) ∈ lw_all := lw_g (lw_at lw_m11 145 rfl) rfl
theorem q2788 : (Jvm.Cond.fieldLink "CoercedClasses$Prover" (101 : Nat) "CoercedClasses$Why" "GIVEN" "LCoercedClasses$Why;") ∈ lw_all := lw_g (lw_at lw_m11 146 rfl) rfl
theorem q2790 : (Jvm.Cond.fieldLink "CoercedClasses$Prover" (104 : Nat) "CoercedClasses$Why" "LINE" "LCoercedClasses$Why;") ∈ lw_all := lw_g (lw_at lw_m11 148 rfl) rfl
theorem q2792 : (Jvm.Cond.methodLink "CoercedClasses$Prover" (115 : Nat) ({ cls := "CoercedClasses$Finder", name := "equalFor", desc := "(LCoercedClasses$ClassDecl;LCoercedClasses$Word;)I" } : Jvm.MethodName)) ∈ lw_all := lw_g (lw_at lw_m11 150 rfl) rfl
theorem q2793 : (Jvm.Cond.methodLink "CoercedClasses$Prover" (131 : Nat) ({ cls := "CoercedClasses$Prover", name := "then", desc := "(LCoercedClasses$Proof;LCoercedClasses$Proof;)LCoercedClasses$Proof;" } : Jvm.MethodName)) ∈ lw_all := lw_g (lw_at lw_m11 151 rfl) rfl
theorem q2794 : (Jvm.Cond.privateMethod ({ cls := "CoercedClasses$Prover", name := "then", desc := "(LCoercedClasses$Proof;LCoercedClasses$Proof;)LCoercedClasses$Proof;" } : Jvm.MethodName)) ∈ lw_tbl := lw_at lw_m11 152 rfl
theorem q2795 : (Jvm.Cond.instanceMethod ({ cls := "CoercedClasses$Prover", name := "then", desc := "(LCoercedClasses$Proof;LCoercedClasses$Proof;)LCoercedClasses$Proof;" } : Jvm.MethodName)) ∈ lw_all := lw_g (lw_at lw_m11 153 rfl) rfl
theorem q2796 : (Jvm.Cond.code ({ cls := "CoercedClasses$Prover", name := "then", desc := "(LCoercedClasses$Proof;LCoercedClasses$Proof;)LCoercedClasses$Proof;" } : Jvm.MethodName) prog_31_method_5_code (3 : Nat) (Option.some (Jvm.ClassFile.FieldType.object "CoercedClasses$Proof"))) ∈ lw_all := lw_g (lw_at lw_m11 154 rfl) rfl
theorem q2797 : (Jvm.Cond.fieldLink "CoercedClasses$Prover" (66 : Nat) "CoercedClasses$Why" "THEN" "LCoercedClasses$Why;") ∈ lw_all := lw_g (lw_at lw_m11 155 rfl) rfl
theorem q2799 : (Jvm.Cond.fieldLink "CoercedClasses$Prover" (141 : Nat) "CoercedClasses$Why" "TURNED" "LCoercedClasses$Why;") ∈ lw_all := lw_g (lw_at lw_m11 157 rfl) rfl
theorem q4476 : (Jvm.Cond.castable "CoercedClasses$Prover" "java/lang/Object") ∈ lw_tbl := lw_at lw_m18 154 rfl
theorem in_X5 : ∀ w ∈ wsX50, w ∈ lw_all := lw_in wsX50 [495, 497, 499] (by decide +kernel) (by decide +kernel)
theorem q252 : (Jvm.Cond.initialized "CoercedClasses$Teller") ∈ lw_all := lw_g (lw_at lw_m1 10 rfl) rfl
theorem q454 : (Jvm.Cond.fieldLinkNest "CoercedClasses$Teller" (329 : Nat) "CoercedClasses$Scope" "names" "Ljava/util/ArrayList;" "CoercedClasses") ∈ lw_tbl := lw_at lw_m1 212 rfl
theorem q461 : (Jvm.Cond.fieldLinkNest "CoercedClasses$Teller" (338 : Nat) "CoercedClasses$Scope" "givens" "Ljava/util/ArrayList;" "CoercedClasses") ∈ lw_tbl := lw_at lw_m1 219 rfl
theorem q503 : (Jvm.Cond.instantiable "CoercedClasses$Teller" (3 : Nat)) ∈ lw_all := lw_g (lw_at lw_m2 21 rfl) rfl
theorem q505 : (Jvm.Cond.instanceMethod ({ cls := "CoercedClasses$Teller", name := "<init>", desc := "(LCoercedClasses$Prover;)V" } : Jvm.MethodName)) ∈ lw_all := lw_g (lw_at lw_m2 23 rfl) rfl
theorem q506 : (Jvm.Cond.code ({ cls := "CoercedClasses$Teller", name := "<init>", desc := "(LCoercedClasses$Prover;)V" } : Jvm.MethodName) prog_36_method_1_code (2 : Nat) (Option.none : Option Jvm.ClassFile.FieldType)) ∈ lw_all := lw_g (lw_at lw_m2 24 rfl) rfl
theorem q507 : (Jvm.Cond.methodLink "CoercedClasses$Teller" (3 : Nat) ({ cls := "java/lang/Object", name := "<init>", desc := "()V" } : Jvm.MethodName)) ∈ lw_all := lw_g (lw_at lw_m2 25 rfl) rfl
theorem q508 : (Jvm.Cond.classLink "CoercedClasses$Teller" (9 : Nat) "CoercedClasses$Sink") ∈ lw_all := lw_g (lw_at lw_m2 26 rfl) rfl
theorem q510 : (Jvm.Cond.methodLinkNest "CoercedClasses$Teller" (11 : Nat) ({ cls := "CoercedClasses$Sink", name := "<init>", desc := "()V" } : Jvm.MethodName) "CoercedClasses") ∈ lw_tbl := lw_at lw_m2 28 rfl
theorem q531 : (Jvm.Cond.classLink "CoercedClasses$Teller" (18 : Nat) "CoercedClasses$Finder") ∈ lw_all := lw_g (lw_at lw_m2 49 rfl) rfl
theorem q533 : (Jvm.Cond.methodLink "CoercedClasses$Teller" (20 : Nat) ({ cls := "CoercedClasses$Finder", name := "<init>", desc := "(LCoercedClasses$Scope;LCoercedClasses$Table;)V" } : Jvm.MethodName)) ∈ lw_all := lw_g (lw_at lw_m2 51 rfl) rfl
theorem q559 : (Jvm.Cond.fieldLink "CoercedClasses$Teller" (12 : Nat) "CoercedClasses$Teller" "s" "LCoercedClasses$Sink;") ∈ lw_all := lw_g (lw_at lw_m2 77 rfl) rfl
theorem q561 : (Jvm.Cond.fieldLink "CoercedClasses$Teller" (27 : Nat) "CoercedClasses$Teller" "prover" "LCoercedClasses$Prover;") ∈ lw_all := lw_g (lw_at lw_m2 79 rfl) rfl
theorem q562 : (Jvm.Cond.fieldLink "CoercedClasses$Teller" (23 : Nat) "CoercedClasses$Teller" "finder" "LCoercedClasses$Finder;") ∈ lw_all := lw_g (lw_at lw_m2 80 rfl) rfl
theorem q563 : (Jvm.Cond.laysFinal "CoercedClasses$Teller" "CoercedClasses$Teller" "s" "LCoercedClasses$Sink;") ∈ lw_all := lw_g (lw_at lw_m2 81 rfl) rfl
theorem q564 : (Jvm.Cond.soleField "CoercedClasses$Teller" "s") ∈ lw_all := lw_g (lw_at lw_m2 82 rfl) rfl
theorem q565 : (Jvm.Cond.laysFinal "CoercedClasses$Teller" "CoercedClasses$Teller" "prover" "LCoercedClasses$Prover;") ∈ lw_all := lw_g (lw_at lw_m2 83 rfl) rfl
theorem q566 : (Jvm.Cond.soleField "CoercedClasses$Teller" "prover") ∈ lw_all := lw_g (lw_at lw_m2 84 rfl) rfl
theorem q567 : (Jvm.Cond.laysFinal "CoercedClasses$Teller" "CoercedClasses$Teller" "finder" "LCoercedClasses$Finder;") ∈ lw_all := lw_g (lw_at lw_m2 85 rfl) rfl
theorem q568 : (Jvm.Cond.soleField "CoercedClasses$Teller" "finder") ∈ lw_all := lw_g (lw_at lw_m2 86 rfl) rfl
theorem q569 : (Jvm.Cond.superclass "CoercedClasses$Teller" "java/lang/Object") ∈ lw_all := lw_g (lw_at lw_m2 87 rfl) rfl
theorem q730 : (Jvm.Cond.fieldLinkNest "CoercedClasses$Teller" (353 : Nat) "CoercedClasses$Term" "scope" "LCoercedClasses$Scope;" "CoercedClasses") ∈ lw_tbl := lw_at lw_m3 8 rfl
theorem q733 : (Jvm.Cond.fieldLinkNest "CoercedClasses$Teller" (359 : Nat) "CoercedClasses$Term" "table" "LCoercedClasses$Table;" "CoercedClasses") ∈ lw_tbl := lw_at lw_m3 11 rfl
theorem q736 : (Jvm.Cond.fieldLinkNest "CoercedClasses$Teller" (370 : Nat) "CoercedClasses$Term" "ex" "LCoercedClasses$Ex;" "CoercedClasses") ∈ lw_tbl := lw_at lw_m3 14 rfl
theorem q739 : (Jvm.Cond.fieldLinkNest "CoercedClasses$Teller" (369 : Nat) "CoercedClasses$Term" "dictionary" "LCoercedClasses$Dictionary;" "CoercedClasses") ∈ lw_tbl := lw_at lw_m3 17 rfl
theorem q1172 : (Jvm.Cond.selects "CoercedClasses$Teller" ({ cls := "java/lang/Object", name := "getClass", desc := "()Ljava/lang/Class;" } : Jvm.MethodName) ({ cls := "java/lang/Object", name := "getClass", desc := "()Ljava/lang/Class;" } : Jvm.MethodName)) ∈ lw_all := lw_g (lw_at lw_m4 210 rfl) rfl
theorem q1204 : (Jvm.Cond.fieldLinkNest "CoercedClasses$Teller" (144 : Nat) "CoercedClasses$ClassDecl" "name" "LCoercedClasses$Word;" "CoercedClasses") ∈ lw_tbl := lw_at lw_m5 2 rfl
theorem q1361 : (Jvm.Cond.fieldLinkNest "CoercedClasses$Teller" (83 : Nat) "CoercedClasses$Instance" "number" "I" "CoercedClasses") ∈ lw_tbl := lw_at lw_m5 159 rfl
theorem q1433 : (Jvm.Cond.fieldLinkNest "CoercedClasses$Teller" (346 : Nat) "CoercedClasses$Given" "great" "LCoercedClasses$Word;" "CoercedClasses") ∈ lw_tbl := lw_at lw_m5 231 rfl
theorem q1438 : (Jvm.Cond.fieldLinkNest "CoercedClasses$Teller" (349 : Nat) "CoercedClasses$Given" "name" "LCoercedClasses$Word;" "CoercedClasses") ∈ lw_tbl := lw_at lw_m5 236 rfl
theorem q1450 : (Jvm.Cond.fieldLinkNest "CoercedClasses$Teller" (350 : Nat) "CoercedClasses$Given" "type" "LCoercedClasses$Type;" "CoercedClasses") ∈ lw_tbl := lw_at lw_m6 8 rfl
theorem q1493 : (Jvm.Cond.fieldLinkNest "CoercedClasses$Teller" (221 : Nat) "CoercedClasses$Lambda" "word" "LCoercedClasses$Word;" "CoercedClasses") ∈ lw_tbl := lw_at lw_m6 51 rfl
theorem q1499 : (Jvm.Cond.fieldLinkNest "CoercedClasses$Teller" (222 : Nat) "CoercedClasses$Lambda" "of" "LCoercedClasses$Type;" "CoercedClasses") ∈ lw_tbl := lw_at lw_m6 57 rfl
theorem q1503 : (Jvm.Cond.fieldLinkNest "CoercedClasses$Teller" (224 : Nat) "CoercedClasses$Lambda" "body" "LCoercedClasses$Ex;" "CoercedClasses") ∈ lw_tbl := lw_at lw_m6 61 rfl
theorem q1514 : (Jvm.Cond.fieldLink "CoercedClasses$Teller" (210 : Nat) "CoercedClasses$Ex" "type" "LCoercedClasses$Type;") ∈ lw_all := lw_g (lw_at lw_m6 72 rfl) rfl
theorem q1518 : (Jvm.Cond.fieldLink "CoercedClasses$Teller" (201 : Nat) "CoercedClasses$Ex" "cast" "LCoercedClasses$Type;") ∈ lw_all := lw_g (lw_at lw_m6 76 rfl) rfl
theorem q1549 : (Jvm.Cond.fieldLinkNest "CoercedClasses$Teller" (235 : Nat) "CoercedClasses$Let" "word" "LCoercedClasses$Word;" "CoercedClasses") ∈ lw_tbl := lw_at lw_m6 107 rfl
theorem q1555 : (Jvm.Cond.fieldLinkNest "CoercedClasses$Teller" (236 : Nat) "CoercedClasses$Let" "of" "LCoercedClasses$Type;" "CoercedClasses") ∈ lw_tbl := lw_at lw_m6 113 rfl
theorem q1559 : (Jvm.Cond.fieldLinkNest "CoercedClasses$Teller" (237 : Nat) "CoercedClasses$Let" "first" "LCoercedClasses$Ex;" "CoercedClasses") ∈ lw_tbl := lw_at lw_m6 117 rfl
theorem q1565 : (Jvm.Cond.fieldLinkNest "CoercedClasses$Teller" (242 : Nat) "CoercedClasses$Let" "body" "LCoercedClasses$Ex;" "CoercedClasses") ∈ lw_tbl := lw_at lw_m6 123 rfl
theorem q1599 : (Jvm.Cond.fieldLinkNest "CoercedClasses$Teller" (247 : Nat) "CoercedClasses$If" "a" "LCoercedClasses$Ex;" "CoercedClasses") ∈ lw_tbl := lw_at lw_m6 157 rfl
theorem q1605 : (Jvm.Cond.fieldLinkNest "CoercedClasses$Teller" (251 : Nat) "CoercedClasses$If" "b" "LCoercedClasses$Ex;" "CoercedClasses") ∈ lw_tbl := lw_at lw_m6 163 rfl
theorem q1611 : (Jvm.Cond.fieldLinkNest "CoercedClasses$Teller" (255 : Nat) "CoercedClasses$If" "c" "LCoercedClasses$Ex;" "CoercedClasses") ∈ lw_tbl := lw_at lw_m6 169 rfl
theorem q1638 : (Jvm.Cond.fieldLinkNest "CoercedClasses$Teller" (262 : Nat) "CoercedClasses$Case" "subject" "LCoercedClasses$Ex;" "CoercedClasses") ∈ lw_tbl := lw_at lw_m6 196 rfl
theorem q1644 : (Jvm.Cond.fieldLinkNest "CoercedClasses$Teller" (267 : Nat) "CoercedClasses$Case" "nil" "LCoercedClasses$Ex;" "CoercedClasses") ∈ lw_tbl := lw_at lw_m6 202 rfl
theorem q1650 : (Jvm.Cond.fieldLinkNest "CoercedClasses$Teller" (278 : Nat) "CoercedClasses$Case" "cons" "LCoercedClasses$Ex;" "CoercedClasses") ∈ lw_tbl := lw_at lw_m6 208 rfl
theorem q1656 : (Jvm.Cond.fieldLinkNest "CoercedClasses$Teller" (272 : Nat) "CoercedClasses$Case" "x" "LCoercedClasses$Word;" "CoercedClasses") ∈ lw_tbl := lw_at lw_m6 214 rfl
theorem q1659 : (Jvm.Cond.fieldLinkNest "CoercedClasses$Teller" (275 : Nat) "CoercedClasses$Case" "xs" "LCoercedClasses$Word;" "CoercedClasses") ∈ lw_tbl := lw_at lw_m6 217 rfl
theorem q1704 : (Jvm.Cond.fieldLinkNest "CoercedClasses$Teller" (180 : Nat) "CoercedClasses$Name" "word" "LCoercedClasses$Word;" "CoercedClasses") ∈ lw_tbl := lw_at lw_m7 22 rfl
theorem q1710 : (Jvm.Cond.fieldLinkNest "CoercedClasses$Teller" (188 : Nat) "CoercedClasses$Name" "types" "Ljava/util/ArrayList;" "CoercedClasses") ∈ lw_tbl := lw_at lw_m7 28 rfl
theorem q1733 : (Jvm.Cond.fieldLinkNest "CoercedClasses$Teller" (192 : Nat) "CoercedClasses$Name" "evidence" "Ljava/util/ArrayList;" "CoercedClasses") ∈ lw_tbl := lw_at lw_m7 51 rfl
theorem q1761 : (Jvm.Cond.fieldLinkNest "CoercedClasses$Teller" (216 : Nat) "CoercedClasses$Num" "value" "I" "CoercedClasses") ∈ lw_tbl := lw_at lw_m7 79 rfl
theorem q1784 : (Jvm.Cond.fieldLinkNest "CoercedClasses$Teller" (293 : Nat) "CoercedClasses$Use" "head" "LCoercedClasses$Ex;" "CoercedClasses") ∈ lw_tbl := lw_at lw_m7 102 rfl
theorem q1791 : (Jvm.Cond.fieldLinkNest "CoercedClasses$Teller" (298 : Nat) "CoercedClasses$Use" "items" "Ljava/util/ArrayList;" "CoercedClasses") ∈ lw_tbl := lw_at lw_m7 109 rfl
theorem q1819 : (Jvm.Cond.fieldLinkNest "CoercedClasses$Teller" (313 : Nat) "CoercedClasses$Item" "ex" "LCoercedClasses$Ex;" "CoercedClasses") ∈ lw_tbl := lw_at lw_m7 137 rfl
theorem q1827 : (Jvm.Cond.fieldLinkNest "CoercedClasses$Teller" (303 : Nat) "CoercedClasses$Item" "before" "LCoercedClasses$Type;" "CoercedClasses") ∈ lw_tbl := lw_at lw_m7 145 rfl
theorem q1830 : (Jvm.Cond.fieldLinkNest "CoercedClasses$Teller" (306 : Nat) "CoercedClasses$Item" "arrow" "LCoercedClasses$Type;" "CoercedClasses") ∈ lw_tbl := lw_at lw_m7 148 rfl
theorem q1854 : (Jvm.Cond.fieldLinkNest "CoercedClasses$Teller" (318 : Nat) "CoercedClasses$Chain" "first" "LCoercedClasses$Ex;" "CoercedClasses") ∈ lw_tbl := lw_at lw_m7 172 rfl
theorem q1861 : (Jvm.Cond.fieldLinkNest "CoercedClasses$Teller" (315 : Nat) "CoercedClasses$Chain" "others" "Ljava/util/ArrayList;" "CoercedClasses") ∈ lw_tbl := lw_at lw_m7 179 rfl
theorem q1866 : (Jvm.Cond.fieldLinkNest "CoercedClasses$Teller" (319 : Nat) "CoercedClasses$Chain" "signs" "Ljava/util/ArrayList;" "CoercedClasses") ∈ lw_tbl := lw_at lw_m7 184 rfl
theorem q2084 : (Jvm.Cond.fieldLinkNest "CoercedClasses$Teller" (107 : Nat) "CoercedClasses$Type" "kind" "I" "CoercedClasses") ∈ lw_tbl := lw_at lw_m8 162 rfl
theorem q2111 : (Jvm.Cond.fieldLinkNest "CoercedClasses$Teller" (55 : Nat) "CoercedClasses$Type" "a" "LCoercedClasses$Type;" "CoercedClasses") ∈ lw_tbl := lw_at lw_m8 189 rfl
theorem q2119 : (Jvm.Cond.fieldLinkNest "CoercedClasses$Teller" (59 : Nat) "CoercedClasses$Type" "b" "LCoercedClasses$Type;" "CoercedClasses") ∈ lw_tbl := lw_at lw_m8 197 rfl
theorem q2384 : (Jvm.Cond.fieldLinkNest "CoercedClasses$Teller" (140 : Nat) "CoercedClasses$Dictionary" "of" "LCoercedClasses$ClassDecl;" "CoercedClasses") ∈ lw_tbl := lw_at lw_m9 222 rfl
theorem q2389 : (Jvm.Cond.fieldLinkNest "CoercedClasses$Teller" (135 : Nat) "CoercedClasses$Dictionary" "given" "I" "CoercedClasses") ∈ lw_tbl := lw_at lw_m9 227 rfl
theorem q2394 : (Jvm.Cond.fieldLinkNest "CoercedClasses$Teller" (136 : Nat) "CoercedClasses$Dictionary" "inner" "LCoercedClasses$Dictionary;" "CoercedClasses") ∈ lw_tbl := lw_at lw_m9 232 rfl
theorem q2398 : (Jvm.Cond.fieldLinkNest "CoercedClasses$Teller" (159 : Nat) "CoercedClasses$Dictionary" "instance" "LCoercedClasses$Instance;" "CoercedClasses") ∈ lw_tbl := lw_at lw_m9 236 rfl
theorem q2403 : (Jvm.Cond.fieldLinkNest "CoercedClasses$Teller" (160 : Nat) "CoercedClasses$Dictionary" "types" "Ljava/util/ArrayList;" "CoercedClasses") ∈ lw_tbl := lw_at lw_m10 1 rfl
theorem q2407 : (Jvm.Cond.fieldLinkNest "CoercedClasses$Teller" (167 : Nat) "CoercedClasses$Dictionary" "conditions" "Ljava/util/ArrayList;" "CoercedClasses") ∈ lw_tbl := lw_at lw_m10 5 rfl
theorem q2412 : (Jvm.Cond.fieldLinkNest "CoercedClasses$Teller" (130 : Nat) "CoercedClasses$Dictionary" "from" "LCoercedClasses$Type;" "CoercedClasses") ∈ lw_tbl := lw_at lw_m10 10 rfl
theorem q2416 : (Jvm.Cond.fieldLinkNest "CoercedClasses$Teller" (172 : Nat) "CoercedClasses$Dictionary" "to" "LCoercedClasses$Type;" "CoercedClasses") ∈ lw_tbl := lw_at lw_m10 14 rfl
theorem q2538 : (Jvm.Cond.fieldLinkNest "CoercedClasses$Teller" (197 : Nat) "CoercedClasses$Evidence" "dictionary" "LCoercedClasses$Dictionary;" "CoercedClasses") ∈ lw_tbl := lw_at lw_m10 136 rfl
theorem q2541 : (Jvm.Cond.fieldLinkNest "CoercedClasses$Teller" (199 : Nat) "CoercedClasses$Evidence" "from" "LCoercedClasses$Type;" "CoercedClasses") ∈ lw_tbl := lw_at lw_m10 139 rfl
theorem q2544 : (Jvm.Cond.fieldLinkNest "CoercedClasses$Teller" (200 : Nat) "CoercedClasses$Evidence" "to" "LCoercedClasses$Type;" "CoercedClasses") ∈ lw_tbl := lw_at lw_m10 142 rfl
theorem q2646 : (Jvm.Cond.instanceMethod ({ cls := "CoercedClasses$Teller", name := "term", desc := "(LCoercedClasses$Term;I)V" } : Jvm.MethodName)) ∈ lw_all := lw_g (lw_at lw_m11 4 rfl) rfl
theorem q2647 : (Jvm.Cond.selects "CoercedClasses$Teller" ({ cls := "CoercedClasses$Teller", name := "term", desc := "(LCoercedClasses$Term;I)V" } : Jvm.MethodName) ({ cls := "CoercedClasses$Teller", name := "term", desc := "(LCoercedClasses$Term;I)V" } : Jvm.MethodName)) ∈ lw_all := lw_g (lw_at lw_m11 5 rfl) rfl
theorem q2648 : (Jvm.Cond.code ({ cls := "CoercedClasses$Teller", name := "term", desc := "(LCoercedClasses$Term;I)V" } : Jvm.MethodName) prog_36_method_14_code (3 : Nat) (Option.none : Option Jvm.ClassFile.FieldType)) ∈ lw_all := lw_g (lw_at lw_m11 6 rfl) rfl
theorem q2649 : (Jvm.Cond.methodLink "CoercedClasses$Teller" (351 : Nat) ({ cls := "CoercedClasses$Sink", name := "begin", desc := "(I)V" } : Jvm.MethodName)) ∈ lw_all := lw_g (lw_at lw_m11 7 rfl) rfl
theorem q2653 : (Jvm.Cond.methodLink "CoercedClasses$Teller" (363 : Nat) ({ cls := "CoercedClasses$Finder", name := "is", desc := "(LCoercedClasses$Scope;LCoercedClasses$Table;)V" } : Jvm.MethodName)) ∈ lw_all := lw_g (lw_at lw_m11 11 rfl) rfl
theorem q2654 : (Jvm.Cond.methodLink "CoercedClasses$Teller" (366 : Nat) ({ cls := "CoercedClasses$Teller", name := "scope", desc := "(LCoercedClasses$Scope;)V" } : Jvm.MethodName)) ∈ lw_all := lw_g (lw_at lw_m11 12 rfl) rfl
theorem q2655 : (Jvm.Cond.privateMethod ({ cls := "CoercedClasses$Teller", name := "scope", desc := "(LCoercedClasses$Scope;)V" } : Jvm.MethodName)) ∈ lw_tbl := lw_at lw_m11 13 rfl
theorem q2656 : (Jvm.Cond.instanceMethod ({ cls := "CoercedClasses$Teller", name := "scope", desc := "(LCoercedClasses$Scope;)V" } : Jvm.MethodName)) ∈ lw_all := lw_g (lw_at lw_m11 14 rfl) rfl
theorem q2657 : (Jvm.Cond.code ({ cls := "CoercedClasses$Teller", name := "scope", desc := "(LCoercedClasses$Scope;)V" } : Jvm.MethodName) prog_36_method_13_code (4 : Nat) (Option.none : Option Jvm.ClassFile.FieldType)) ∈ lw_all := lw_g (lw_at lw_m11 15 rfl) rfl
theorem q2658 : (Jvm.Cond.methodLink "CoercedClasses$Teller" (41 : Nat) ({ cls := "java/util/ArrayList", name := "size", desc := "()I" } : Jvm.MethodName)) ∈ lw_all := lw_g (lw_at lw_m11 16 rfl) rfl
theorem q2659 : (Jvm.Cond.stringRef "CoercedClasses$Teller" (334 : Nat) "/\\") ∈ lw_tbl := lw_at lw_m11 17 rfl
theorem q2660 : (Jvm.Cond.methodLink "CoercedClasses$Teller" (117 : Nat) ({ cls := "CoercedClasses$Sink", name := "put", desc := "(Ljava/lang/String;)V" } : Jvm.MethodName)) ∈ lw_all := lw_g (lw_at lw_m11 18 rfl) rfl
theorem q2670 : (Jvm.Cond.methodLink "CoercedClasses$Teller" (45 : Nat) ({ cls := "java/util/ArrayList", name := "get", desc := "(I)Ljava/lang/Object;" } : Jvm.MethodName)) ∈ lw_all := lw_g (lw_at lw_m11 28 rfl) rfl
theorem q2671 : (Jvm.Cond.classLink "CoercedClasses$Teller" (336 : Nat) "CoercedClasses$Word") ∈ lw_all := lw_g (lw_at lw_m11 29 rfl) rfl
theorem q2672 : (Jvm.Cond.methodLink "CoercedClasses$Teller" (150 : Nat) ({ cls := "CoercedClasses$Sink", name := "put", desc := "(LCoercedClasses$Word;)V" } : Jvm.MethodName)) ∈ lw_all := lw_g (lw_at lw_m11 30 rfl) rfl
theorem q2676 : (Jvm.Cond.methodLink "CoercedClasses$Teller" (37 : Nat) ({ cls := "CoercedClasses$Sink", name := "put", desc := "(I)V" } : Jvm.MethodName)) ∈ lw_all := lw_g (lw_at lw_m11 34 rfl) rfl
theorem q2677 : (Jvm.Cond.classLink "CoercedClasses$Teller" (341 : Nat) "CoercedClasses$Given") ∈ lw_all := lw_g (lw_at lw_m11 35 rfl) rfl
theorem q2678 : (Jvm.Cond.methodLink "CoercedClasses$Teller" (343 : Nat) ({ cls := "CoercedClasses$Given", name := "isEqual", desc := "()Z" } : Jvm.MethodName)) ∈ lw_all := lw_g (lw_at lw_m11 36 rfl) rfl
theorem q2679 : (Jvm.Cond.methodLink "CoercedClasses$Teller" (89 : Nat) ({ cls := "CoercedClasses$Sink", name := "number", desc := "(I)V" } : Jvm.MethodName)) ∈ lw_all := lw_g (lw_at lw_m11 37 rfl) rfl
theorem q2683 : (Jvm.Cond.methodLinkNest "CoercedClasses$Teller" (51 : Nat) ({ cls := "CoercedClasses", name := "tell", desc := "(LCoercedClasses$Sink;LCoercedClasses$Type;)V" } : Jvm.MethodName) "CoercedClasses") ∈ lw_tbl := lw_at lw_m11 41 rfl
theorem q2695 : (Jvm.Cond.methodLink "CoercedClasses$Teller" (155 : Nat) ({ cls := "CoercedClasses$Teller", name := "dictionary", desc := "(LCoercedClasses$Dictionary;)V" } : Jvm.MethodName)) ∈ lw_all := lw_g (lw_at lw_m11 53 rfl) rfl
theorem q2696 : (Jvm.Cond.privateMethod ({ cls := "CoercedClasses$Teller", name := "dictionary", desc := "(LCoercedClasses$Dictionary;)V" } : Jvm.MethodName)) ∈ lw_tbl := lw_at lw_m11 54 rfl
theorem q2697 : (Jvm.Cond.instanceMethod ({ cls := "CoercedClasses$Teller", name := "dictionary", desc := "(LCoercedClasses$Dictionary;)V" } : Jvm.MethodName)) ∈ lw_all := lw_g (lw_at lw_m11 55 rfl) rfl
theorem q2698 : (Jvm.Cond.code ({ cls := "CoercedClasses$Teller", name := "dictionary", desc := "(LCoercedClasses$Dictionary;)V" } : Jvm.MethodName) prog_36_method_6_code (3 : Nat) (Option.none : Option Jvm.ClassFile.FieldType)) ∈ lw_all := lw_g (lw_at lw_m11 56 rfl) rfl
theorem q2699 : (Jvm.Cond.methodLink "CoercedClasses$Teller" (62 : Nat) ({ cls := "CoercedClasses$Sink", name := "isOver", desc := "()Z" } : Jvm.MethodName)) ∈ lw_all := lw_g (lw_at lw_m11 57 rfl) rfl
theorem q2703 : (Jvm.Cond.stringRef "CoercedClasses$Teller" (153 : Nat) "^(") ∈ lw_tbl := lw_at lw_m11 61 rfl
theorem q2704 : (Jvm.Cond.methodLink "CoercedClasses$Teller" (164 : Nat) ({ cls := "CoercedClasses$Teller", name := "types", desc := "(Ljava/util/ArrayList;)V" } : Jvm.MethodName)) ∈ lw_all := lw_g (lw_at lw_m11 62 rfl) rfl
theorem q2705 : (Jvm.Cond.privateMethod ({ cls := "CoercedClasses$Teller", name := "types", desc := "(Ljava/util/ArrayList;)V" } : Jvm.MethodName)) ∈ lw_tbl := lw_at lw_m11 63 rfl
theorem q2706 : (Jvm.Cond.instanceMethod ({ cls := "CoercedClasses$Teller", name := "types", desc := "(Ljava/util/ArrayList;)V" } : Jvm.MethodName)) ∈ lw_all := lw_g (lw_at lw_m11 64 rfl) rfl
theorem q2707 : (Jvm.Cond.code ({ cls := "CoercedClasses$Teller", name := "types", desc := "(Ljava/util/ArrayList;)V" } : Jvm.MethodName) prog_36_method_2_code (3 : Nat) (Option.none : Option Jvm.ClassFile.FieldType)) ∈ lw_all := lw_g (lw_at lw_m11 65 rfl) rfl
theorem q2708 : (Jvm.Cond.methodLink "CoercedClasses$Teller" (31 : Nat) ({ cls := "java/util/ArrayList", name := "isEmpty", desc := "()Z" } : Jvm.MethodName)) ∈ lw_all := lw_g (lw_at lw_m11 66 rfl) rfl
theorem q2712 : (Jvm.Cond.classLink "CoercedClasses$Teller" (49 : Nat) "CoercedClasses$Type") ∈ lw_all := lw_g (lw_at lw_m11 70 rfl) rfl
theorem q2713 : (Jvm.Cond.classLink "CoercedClasses$Teller" (131 : Nat) "CoercedClasses$Dictionary") ∈ lw_all := lw_g (lw_at lw_m11 71 rfl) rfl
theorem q2714 : (Jvm.Cond.stringRef "CoercedClasses$Teller" (170 : Nat) "|>") ∈ lw_tbl := lw_at lw_m11 72 rfl
theorem q2715 : (Jvm.Cond.methodLink "CoercedClasses$Teller" (175 : Nat) ({ cls := "CoercedClasses$Teller", name := "one", desc := "(LCoercedClasses$Type;LCoercedClasses$Type;)V" } : Jvm.MethodName)) ∈ lw_all := lw_g (lw_at lw_m11 73 rfl) rfl
theorem q2716 : (Jvm.Cond.privateMethod ({ cls := "CoercedClasses$Teller", name := "one", desc := "(LCoercedClasses$Type;LCoercedClasses$Type;)V" } : Jvm.MethodName)) ∈ lw_tbl := lw_at lw_m11 74 rfl
theorem q2717 : (Jvm.Cond.instanceMethod ({ cls := "CoercedClasses$Teller", name := "one", desc := "(LCoercedClasses$Type;LCoercedClasses$Type;)V" } : Jvm.MethodName)) ∈ lw_all := lw_g (lw_at lw_m11 75 rfl) rfl
theorem q2718 : (Jvm.Cond.code ({ cls := "CoercedClasses$Teller", name := "one", desc := "(LCoercedClasses$Type;LCoercedClasses$Type;)V" } : Jvm.MethodName) prog_36_method_5_code (3 : Nat) (Option.none : Option Jvm.ClassFile.FieldType)) ∈ lw_all := lw_g (lw_at lw_m11 76 rfl) rfl
theorem q2719 : (Jvm.Cond.methodLink "CoercedClasses$Teller" (120 : Nat) ({ cls := "CoercedClasses$Prover", name := "begin", desc := "(LCoercedClasses$Finder;)V" } : Jvm.MethodName)) ∈ lw_all := lw_g (lw_at lw_m11 77 rfl) rfl
theorem q2723 : (Jvm.Cond.methodLink "CoercedClasses$Teller" (126 : Nat) ({ cls := "CoercedClasses$Prover", name := "one", desc := "(LCoercedClasses$Type;LCoercedClasses$Type;)LCoercedClasses$Proof;" } : Jvm.MethodName)) ∈ lw_all := lw_g (lw_at lw_m11 81 rfl) rfl
theorem q2742 : (Jvm.Cond.fieldLinkNest "CoercedClasses$Teller" (65 : Nat) "CoercedClasses$Proof" "why" "LCoercedClasses$Why;" "CoercedClasses") ∈ lw_tbl := lw_at lw_m11 100 rfl
theorem q2745 : (Jvm.Cond.fieldLinkNest "CoercedClasses$Teller" (76 : Nat) "CoercedClasses$Proof" "type" "LCoercedClasses$Type;" "CoercedClasses") ∈ lw_tbl := lw_at lw_m11 103 rfl
theorem q2748 : (Jvm.Cond.fieldLinkNest "CoercedClasses$Teller" (79 : Nat) "CoercedClasses$Proof" "instance" "LCoercedClasses$Instance;" "CoercedClasses") ∈ lw_tbl := lw_at lw_m11 106 rfl
theorem q2750 : (Jvm.Cond.fieldLinkNest "CoercedClasses$Teller" (95 : Nat) "CoercedClasses$Proof" "given" "I" "CoercedClasses") ∈ lw_tbl := lw_at lw_m11 108 rfl
theorem q2754 : (Jvm.Cond.fieldLinkNest "CoercedClasses$Teller" (98 : Nat) "CoercedClasses$Proof" "a" "LCoercedClasses$Proof;" "CoercedClasses") ∈ lw_tbl := lw_at lw_m11 112 rfl
theorem q2757 : (Jvm.Cond.fieldLinkNest "CoercedClasses$Teller" (105 : Nat) "CoercedClasses$Proof" "b" "LCoercedClasses$Proof;" "CoercedClasses") ∈ lw_tbl := lw_at lw_m11 115 rfl
theorem q2801 : (Jvm.Cond.methodLink "CoercedClasses$Teller" (101 : Nat) ({ cls := "CoercedClasses$Teller", name := "proof", desc := "(LCoercedClasses$Proof;)V" } : Jvm.MethodName)) ∈ lw_all := lw_g (lw_at lw_m11 159 rfl) rfl
theorem q2802 : (Jvm.Cond.privateMethod ({ cls := "CoercedClasses$Teller", name := "proof", desc := "(LCoercedClasses$Proof;)V" } : Jvm.MethodName)) ∈ lw_tbl := lw_at lw_m11 160 rfl
theorem q2803 : (Jvm.Cond.instanceMethod ({ cls := "CoercedClasses$Teller", name := "proof", desc := "(LCoercedClasses$Proof;)V" } : Jvm.MethodName)) ∈ lw_all := lw_g (lw_at lw_m11 161 rfl) rfl
theorem q2804 : (Jvm.Cond.code ({ cls := "CoercedClasses$Teller", name := "proof", desc := "(LCoercedClasses$Proof;)V" } : Jvm.MethodName) prog_36_method_4_code (3 : Nat) (Option.none : Option Jvm.ClassFile.FieldType)) ∈ lw_all := lw_g (lw_at lw_m11 162 rfl) rfl
theorem q2805 : (Jvm.Cond.methodLink "CoercedClasses$Teller" (71 : Nat) ({ cls := "CoercedClasses$Why", name := "ordinal", desc := "()I" } : Jvm.MethodName)) ∈ lw_all := lw_g (lw_at lw_m11 163 rfl) rfl
theorem q2811 : (Jvm.Cond.methodLink "CoercedClasses$Teller" (91 : Nat) ({ cls := "CoercedClasses$Teller", name := "parts", desc := "(LCoercedClasses$Type;)V" } : Jvm.MethodName)) ∈ lw_all := lw_g (lw_at lw_m11 169 rfl) rfl
theorem q2812 : (Jvm.Cond.privateMethod ({ cls := "CoercedClasses$Teller", name := "parts", desc := "(LCoercedClasses$Type;)V" } : Jvm.MethodName)) ∈ lw_tbl := lw_at lw_m11 170 rfl
theorem q2813 : (Jvm.Cond.instanceMethod ({ cls := "CoercedClasses$Teller", name := "parts", desc := "(LCoercedClasses$Type;)V" } : Jvm.MethodName)) ∈ lw_all := lw_g (lw_at lw_m11 171 rfl) rfl
theorem q2814 : (Jvm.Cond.code ({ cls := "CoercedClasses$Teller", name := "parts", desc := "(LCoercedClasses$Type;)V" } : Jvm.MethodName) prog_36_method_3_code (2 : Nat) (Option.none : Option Jvm.ClassFile.FieldType)) ∈ lw_all := lw_g (lw_at lw_m11 172 rfl) rfl
theorem q2815 : (Jvm.Cond.methodLinkNest "CoercedClasses$Teller" (110 : Nat) ({ cls := "CoercedClasses", name := "head", desc := "(LCoercedClasses$Sink;LCoercedClasses$Type;)V" } : Jvm.MethodName) "CoercedClasses") ∈ lw_tbl := lw_at lw_m11 173 rfl
theorem q2816 : (Jvm.Cond.stringRef "CoercedClasses$Teller" (113 : Nat) "->") ∈ lw_tbl := lw_at lw_m11 174 rfl
theorem q2817 : (Jvm.Cond.stringRef "CoercedClasses$Teller" (115 : Nat) ",") ∈ lw_tbl := lw_at lw_m11 175 rfl
theorem q2818 : (Jvm.Cond.stringRef "CoercedClasses$Teller" (178 : Nat) "))") ∈ lw_tbl := lw_at lw_m11 176 rfl
theorem q2819 : (Jvm.Cond.methodLink "CoercedClasses$Teller" (228 : Nat) ({ cls := "CoercedClasses$Teller", name := "ex", desc := "(LCoercedClasses$Ex;)V" } : Jvm.MethodName)) ∈ lw_all := lw_g (lw_at lw_m11 177 rfl) rfl
theorem q2820 : (Jvm.Cond.instanceMethod ({ cls := "CoercedClasses$Teller", name := "ex", desc := "(LCoercedClasses$Ex;)V" } : Jvm.MethodName)) ∈ lw_all := lw_g (lw_at lw_m11 178 rfl) rfl
theorem q2821 : (Jvm.Cond.selects "CoercedClasses$Teller" ({ cls := "CoercedClasses$Teller", name := "ex", desc := "(LCoercedClasses$Ex;)V" } : Jvm.MethodName) ({ cls := "CoercedClasses$Teller", name := "ex", desc := "(LCoercedClasses$Ex;)V" } : Jvm.MethodName)) ∈ lw_all := lw_g (lw_at lw_m11 179 rfl) rfl
theorem q2822 : (Jvm.Cond.code ({ cls := "CoercedClasses$Teller", name := "ex", desc := "(LCoercedClasses$Ex;)V" } : Jvm.MethodName) prog_36_method_8_code (2 : Nat) (Option.none : Option Jvm.ClassFile.FieldType)) ∈ lw_all := lw_g (lw_at lw_m11 180 rfl) rfl
theorem q2823 : (Jvm.Cond.methodLink "CoercedClasses$Teller" (206 : Nat) ({ cls := "CoercedClasses$Teller", name := "plain", desc := "(LCoercedClasses$Ex;)V" } : Jvm.MethodName)) ∈ lw_all := lw_g (lw_at lw_m11 181 rfl) rfl
theorem q2824 : (Jvm.Cond.privateMethod ({ cls := "CoercedClasses$Teller", name := "plain", desc := "(LCoercedClasses$Ex;)V" } : Jvm.MethodName)) ∈ lw_tbl := lw_at lw_m11 182 rfl
theorem q2825 : (Jvm.Cond.instanceMethod ({ cls := "CoercedClasses$Teller", name := "plain", desc := "(LCoercedClasses$Ex;)V" } : Jvm.MethodName)) ∈ lw_all := lw_g (lw_at lw_m11 183 rfl) rfl
theorem q2826 : (Jvm.Cond.code ({ cls := "CoercedClasses$Teller", name := "plain", desc := "(LCoercedClasses$Ex;)V" } : Jvm.MethodName) prog_36_method_9_code (9 : Nat) (Option.none : Option Jvm.ClassFile.FieldType)) ∈ lw_all := lw_g (lw_at lw_m11 184 rfl) rfl
theorem q2827 : (Jvm.Cond.classLink "CoercedClasses$Teller" (181 : Nat) "CoercedClasses$Name") ∈ lw_all := lw_g (lw_at lw_m11 185 rfl) rfl
theorem q2828 : (Jvm.Cond.methodLink "CoercedClasses$Teller" (211 : Nat) ({ cls := "CoercedClasses$Teller", name := "name", desc := "(LCoercedClasses$Name;)V" } : Jvm.MethodName)) ∈ lw_all := lw_g (lw_at lw_m11 186 rfl) rfl
theorem q2829 : (Jvm.Cond.privateMethod ({ cls := "CoercedClasses$Teller", name := "name", desc := "(LCoercedClasses$Name;)V" } : Jvm.MethodName)) ∈ lw_tbl := lw_at lw_m11 187 rfl
theorem q2830 : (Jvm.Cond.instanceMethod ({ cls := "CoercedClasses$Teller", name := "name", desc := "(LCoercedClasses$Name;)V" } : Jvm.MethodName)) ∈ lw_all := lw_g (lw_at lw_m11 188 rfl) rfl
theorem q2831 : (Jvm.Cond.code ({ cls := "CoercedClasses$Teller", name := "name", desc := "(LCoercedClasses$Name;)V" } : Jvm.MethodName) prog_36_method_7_code (4 : Nat) (Option.none : Option Jvm.ClassFile.FieldType)) ∈ lw_all := lw_g (lw_at lw_m11 189 rfl) rfl
theorem q2832 : (Jvm.Cond.methodLink "CoercedClasses$Teller" (185 : Nat) ({ cls := "CoercedClasses$Name", name := "many", desc := "()I" } : Jvm.MethodName)) ∈ lw_all := lw_g (lw_at lw_m11 190 rfl) rfl
theorem q2833 : (Jvm.Cond.methodLink "CoercedClasses$Teller" (189 : Nat) ({ cls := "CoercedClasses$Name", name := "reasons", desc := "()I" } : Jvm.MethodName)) ∈ lw_all := lw_g (lw_at lw_m11 191 rfl) rfl
theorem q2837 : (Jvm.Cond.classLink "CoercedClasses$Teller" (195 : Nat) "CoercedClasses$Evidence") ∈ lw_all := lw_g (lw_at lw_m11 195 rfl) rfl
theorem q2838 : (Jvm.Cond.classLink "CoercedClasses$Teller" (214 : Nat) "CoercedClasses$Num") ∈ lw_all := lw_g (lw_at lw_m11 196 rfl) rfl
theorem q2839 : (Jvm.Cond.classLink "CoercedClasses$Teller" (219 : Nat) "CoercedClasses$Lambda") ∈ lw_all := lw_g (lw_at lw_m11 197 rfl) rfl
theorem q2840 : (Jvm.Cond.classLink "CoercedClasses$Teller" (231 : Nat) "CoercedClasses$Let") ∈ lw_all := lw_g (lw_at lw_m11 198 rfl) rfl
theorem q2841 : (Jvm.Cond.stringRef "CoercedClasses$Teller" (233 : Nat) "let ") ∈ lw_tbl := lw_at lw_m11 199 rfl
theorem q2842 : (Jvm.Cond.stringRef "CoercedClasses$Teller" (240 : Nat) " in ") ∈ lw_tbl := lw_at lw_m11 200 rfl
theorem q2843 : (Jvm.Cond.classLink "CoercedClasses$Teller" (243 : Nat) "CoercedClasses$If") ∈ lw_all := lw_g (lw_at lw_m11 201 rfl) rfl
theorem q2844 : (Jvm.Cond.stringRef "CoercedClasses$Teller" (245 : Nat) "if ") ∈ lw_tbl := lw_at lw_m11 202 rfl
theorem q2845 : (Jvm.Cond.stringRef "CoercedClasses$Teller" (249 : Nat) " then ") ∈ lw_tbl := lw_at lw_m11 203 rfl
theorem q2846 : (Jvm.Cond.stringRef "CoercedClasses$Teller" (253 : Nat) " else ") ∈ lw_tbl := lw_at lw_m11 204 rfl
theorem q2847 : (Jvm.Cond.classLink "CoercedClasses$Teller" (258 : Nat) "CoercedClasses$Case") ∈ lw_all := lw_g (lw_at lw_m11 205 rfl) rfl
theorem q2848 : (Jvm.Cond.stringRef "CoercedClasses$Teller" (260 : Nat) "case ") ∈ lw_tbl := lw_at lw_m11 206 rfl
theorem q2849 : (Jvm.Cond.stringRef "CoercedClasses$Teller" (265 : Nat) " of {nil->") ∈ lw_tbl := lw_at lw_m11 207 rfl
theorem q2850 : (Jvm.Cond.stringRef "CoercedClasses$Teller" (270 : Nat) ";cons ") ∈ lw_tbl := lw_at lw_m11 208 rfl
theorem q2851 : (Jvm.Cond.classLink "CoercedClasses$Teller" (281 : Nat) "CoercedClasses$Use") ∈ lw_all := lw_g (lw_at lw_m11 209 rfl) rfl
theorem q2852 : (Jvm.Cond.methodLink "CoercedClasses$Teller" (283 : Nat) ({ cls := "CoercedClasses$Teller", name := "use", desc := "(LCoercedClasses$Use;)V" } : Jvm.MethodName)) ∈ lw_all := lw_g (lw_at lw_m11 210 rfl) rfl
theorem q2853 : (Jvm.Cond.privateMethod ({ cls := "CoercedClasses$Teller", name := "use", desc := "(LCoercedClasses$Use;)V" } : Jvm.MethodName)) ∈ lw_tbl := lw_at lw_m11 211 rfl
theorem q2854 : (Jvm.Cond.instanceMethod ({ cls := "CoercedClasses$Teller", name := "use", desc := "(LCoercedClasses$Use;)V" } : Jvm.MethodName)) ∈ lw_all := lw_g (lw_at lw_m11 212 rfl) rfl
theorem q2855 : (Jvm.Cond.code ({ cls := "CoercedClasses$Teller", name := "use", desc := "(LCoercedClasses$Use;)V" } : Jvm.MethodName) prog_36_method_11_code (5 : Nat) (Option.none : Option Jvm.ClassFile.FieldType)) ∈ lw_all := lw_g (lw_at lw_m11 213 rfl) rfl
theorem q2856 : (Jvm.Cond.methodLink "CoercedClasses$Teller" (295 : Nat) ({ cls := "CoercedClasses$Teller", name := "first", desc := "(LCoercedClasses$Use;)I" } : Jvm.MethodName)) ∈ lw_all := lw_g (lw_at lw_m11 214 rfl) rfl
theorem q2857 : (Jvm.Cond.static ({ cls := "CoercedClasses$Teller", name := "first", desc := "(LCoercedClasses$Use;)I" } : Jvm.MethodName)) ∈ lw_all := lw_g (lw_at lw_m11 215 rfl) rfl
theorem q2858 : (Jvm.Cond.code ({ cls := "CoercedClasses$Teller", name := "first", desc := "(LCoercedClasses$Use;)I" } : Jvm.MethodName) prog_36_method_10_code (3 : Nat) (Option.some Jvm.ClassFile.FieldType.int)) ∈ lw_all := lw_g (lw_at lw_m11 216 rfl) rfl
theorem q2859 : (Jvm.Cond.classLink "CoercedClasses$Teller" (301 : Nat) "CoercedClasses$Item") ∈ lw_all := lw_g (lw_at lw_m11 217 rfl) rfl
theorem q2860 : (Jvm.Cond.stringRef "CoercedClasses$Teller" (309 : Nat) "(") ∈ lw_tbl := lw_at lw_m11 218 rfl
theorem q2861 : (Jvm.Cond.stringRef "CoercedClasses$Teller" (311 : Nat) "((") ∈ lw_tbl := lw_at lw_m11 219 rfl
theorem q2862 : (Jvm.Cond.classLink "CoercedClasses$Teller" (287 : Nat) "CoercedClasses$Chain") ∈ lw_all := lw_g (lw_at lw_m11 220 rfl) rfl
theorem q2863 : (Jvm.Cond.methodLink "CoercedClasses$Teller" (289 : Nat) ({ cls := "CoercedClasses$Teller", name := "chain", desc := "(LCoercedClasses$Chain;)V" } : Jvm.MethodName)) ∈ lw_all := lw_g (lw_at lw_m11 221 rfl) rfl
theorem q2864 : (Jvm.Cond.privateMethod ({ cls := "CoercedClasses$Teller", name := "chain", desc := "(LCoercedClasses$Chain;)V" } : Jvm.MethodName)) ∈ lw_tbl := lw_at lw_m11 222 rfl
theorem q2865 : (Jvm.Cond.instanceMethod ({ cls := "CoercedClasses$Teller", name := "chain", desc := "(LCoercedClasses$Chain;)V" } : Jvm.MethodName)) ∈ lw_all := lw_g (lw_at lw_m11 223 rfl) rfl
theorem q2866 : (Jvm.Cond.code ({ cls := "CoercedClasses$Teller", name := "chain", desc := "(LCoercedClasses$Chain;)V" } : Jvm.MethodName) prog_36_method_12_code (4 : Nat) (Option.none : Option Jvm.ClassFile.FieldType)) ∈ lw_all := lw_g (lw_at lw_m11 224 rfl) rfl
theorem q2867 : (Jvm.Cond.classLink "CoercedClasses$Teller" (322 : Nat) "java/lang/Integer") ∈ lw_all := lw_g (lw_at lw_m11 225 rfl) rfl
theorem q2868 : (Jvm.Cond.methodLink "CoercedClasses$Teller" (324 : Nat) ({ cls := "java/lang/Integer", name := "intValue", desc := "()I" } : Jvm.MethodName)) ∈ lw_all := lw_g (lw_at lw_m11 226 rfl) rfl
theorem q2869 : (Jvm.Cond.stringRef "CoercedClasses$Teller" (327 : Nat) "==") ∈ lw_tbl := lw_at lw_m11 227 rfl
theorem q2870 : (Jvm.Cond.classLink "CoercedClasses$Teller" (202 : Nat) "CoercedClasses$Ex") ∈ lw_all := lw_g (lw_at lw_m11 228 rfl) rfl
theorem q4477 : (Jvm.Cond.castable "CoercedClasses$Teller" "java/lang/Object") ∈ lw_tbl := lw_at lw_m18 155 rfl
theorem in_X6 : ∀ w ∈ wsX60, w ∈ lw_all := lw_in wsX60 [563, 565, 567] (by decide +kernel) (by decide +kernel)
theorem q253 : (Jvm.Cond.initialized "CoercedClasses$Sink") ∈ lw_all := lw_g (lw_at lw_m1 11 rfl) rfl
theorem q509 : (Jvm.Cond.instantiable "CoercedClasses$Sink" (4 : Nat)) ∈ lw_all := lw_g (lw_at lw_m2 27 rfl) rfl
theorem q511 : (Jvm.Cond.instanceMethod ({ cls := "CoercedClasses$Sink", name := "<init>", desc := "()V" } : Jvm.MethodName)) ∈ lw_all := lw_g (lw_at lw_m2 29 rfl) rfl
theorem q512 : (Jvm.Cond.code ({ cls := "CoercedClasses$Sink", name := "<init>", desc := "()V" } : Jvm.MethodName) prog_34_method_1_code (1 : Nat) (Option.none : Option Jvm.ClassFile.FieldType)) ∈ lw_all := lw_g (lw_at lw_m2 30 rfl) rfl
theorem q513 : (Jvm.Cond.methodLink "CoercedClasses$Sink" (3 : Nat) ({ cls := "java/lang/Object", name := "<init>", desc := "()V" } : Jvm.MethodName)) ∈ lw_all := lw_g (lw_at lw_m2 31 rfl) rfl
theorem q514 : (Jvm.Cond.constant "CoercedClasses$Sink" (11 : Nat) (2147483647 : Int32)) ∈ lw_all := lw_g (lw_at lw_m2 32 rfl) rfl
theorem q515 : (Jvm.Cond.fieldLink "CoercedClasses$Sink" (18 : Nat) "CoercedClasses$Sink" "count" "I") ∈ lw_all := lw_g (lw_at lw_m2 33 rfl) rfl
theorem q517 : (Jvm.Cond.fieldLink "CoercedClasses$Sink" (21 : Nat) "CoercedClasses$Sink" "wanted" "I") ∈ lw_all := lw_g (lw_at lw_m2 35 rfl) rfl
theorem q518 : (Jvm.Cond.fieldLink "CoercedClasses$Sink" (24 : Nat) "CoercedClasses$Sink" "got" "I") ∈ lw_all := lw_g (lw_at lw_m2 36 rfl) rfl
theorem q520 : (Jvm.Cond.fieldLink "CoercedClasses$Sink" (12 : Nat) "CoercedClasses$Sink" "most" "I") ∈ lw_all := lw_g (lw_at lw_m2 38 rfl) rfl
theorem q522 : (Jvm.Cond.lays "CoercedClasses$Sink" "CoercedClasses$Sink" "count" "I") ∈ lw_all := lw_g (lw_at lw_m2 40 rfl) rfl
theorem q523 : (Jvm.Cond.soleField "CoercedClasses$Sink" "count") ∈ lw_all := lw_g (lw_at lw_m2 41 rfl) rfl
theorem q524 : (Jvm.Cond.lays "CoercedClasses$Sink" "CoercedClasses$Sink" "wanted" "I") ∈ lw_all := lw_g (lw_at lw_m2 42 rfl) rfl
theorem q525 : (Jvm.Cond.soleField "CoercedClasses$Sink" "wanted") ∈ lw_all := lw_g (lw_at lw_m2 43 rfl) rfl
theorem q526 : (Jvm.Cond.lays "CoercedClasses$Sink" "CoercedClasses$Sink" "got" "I") ∈ lw_all := lw_g (lw_at lw_m2 44 rfl) rfl
theorem q527 : (Jvm.Cond.soleField "CoercedClasses$Sink" "got") ∈ lw_all := lw_g (lw_at lw_m2 45 rfl) rfl
theorem q528 : (Jvm.Cond.lays "CoercedClasses$Sink" "CoercedClasses$Sink" "most" "I") ∈ lw_all := lw_g (lw_at lw_m2 46 rfl) rfl
theorem q529 : (Jvm.Cond.soleField "CoercedClasses$Sink" "most") ∈ lw_all := lw_g (lw_at lw_m2 47 rfl) rfl
theorem q530 : (Jvm.Cond.superclass "CoercedClasses$Sink" "java/lang/Object") ∈ lw_all := lw_g (lw_at lw_m2 48 rfl) rfl
theorem q1081 : (Jvm.Cond.fieldLinkNest "CoercedClasses$Sink" (46 : Nat) "CoercedClasses$Word" "bytes" "[B" "CoercedClasses") ∈ lw_tbl := lw_at lw_m4 119 rfl
theorem q1084 : (Jvm.Cond.fieldLinkNest "CoercedClasses$Sink" (50 : Nat) "CoercedClasses$Word" "place" "I" "CoercedClasses") ∈ lw_tbl := lw_at lw_m4 122 rfl
theorem q1087 : (Jvm.Cond.fieldLinkNest "CoercedClasses$Sink" (41 : Nat) "CoercedClasses$Word" "size" "I" "CoercedClasses") ∈ lw_tbl := lw_at lw_m4 125 rfl
theorem q1170 : (Jvm.Cond.selects "CoercedClasses$Sink" ({ cls := "java/lang/Object", name := "getClass", desc := "()Ljava/lang/Class;" } : Jvm.MethodName) ({ cls := "java/lang/Object", name := "getClass", desc := "()Ljava/lang/Class;" } : Jvm.MethodName)) ∈ lw_all := lw_g (lw_at lw_m4 208 rfl) rfl
theorem q2650 : (Jvm.Cond.instanceMethod ({ cls := "CoercedClasses$Sink", name := "begin", desc := "(I)V" } : Jvm.MethodName)) ∈ lw_all := lw_g (lw_at lw_m11 8 rfl) rfl
theorem q2651 : (Jvm.Cond.selects "CoercedClasses$Sink" ({ cls := "CoercedClasses$Sink", name := "begin", desc := "(I)V" } : Jvm.MethodName) ({ cls := "CoercedClasses$Sink", name := "begin", desc := "(I)V" } : Jvm.MethodName)) ∈ lw_all := lw_g (lw_at lw_m11 9 rfl) rfl
theorem q2652 : (Jvm.Cond.code ({ cls := "CoercedClasses$Sink", name := "begin", desc := "(I)V" } : Jvm.MethodName) prog_34_method_3_code (2 : Nat) (Option.none : Option Jvm.ClassFile.FieldType)) ∈ lw_all := lw_g (lw_at lw_m11 10 rfl) rfl
theorem q2661 : (Jvm.Cond.instanceMethod ({ cls := "CoercedClasses$Sink", name := "put", desc := "(Ljava/lang/String;)V" } : Jvm.MethodName)) ∈ lw_all := lw_g (lw_at lw_m11 19 rfl) rfl
theorem q2662 : (Jvm.Cond.selects "CoercedClasses$Sink" ({ cls := "CoercedClasses$Sink", name := "put", desc := "(Ljava/lang/String;)V" } : Jvm.MethodName) ({ cls := "CoercedClasses$Sink", name := "put", desc := "(Ljava/lang/String;)V" } : Jvm.MethodName)) ∈ lw_all := lw_g (lw_at lw_m11 20 rfl) rfl
theorem q2663 : (Jvm.Cond.code ({ cls := "CoercedClasses$Sink", name := "put", desc := "(Ljava/lang/String;)V" } : Jvm.MethodName) prog_34_method_5_code (3 : Nat) (Option.none : Option Jvm.ClassFile.FieldType)) ∈ lw_all := lw_g (lw_at lw_m11 21 rfl) rfl
theorem q2664 : (Jvm.Cond.methodLink "CoercedClasses$Sink" (27 : Nat) ({ cls := "java/lang/String", name := "length", desc := "()I" } : Jvm.MethodName)) ∈ lw_all := lw_g (lw_at lw_m11 22 rfl) rfl
theorem q2665 : (Jvm.Cond.methodLink "CoercedClasses$Sink" (33 : Nat) ({ cls := "java/lang/String", name := "charAt", desc := "(I)C" } : Jvm.MethodName)) ∈ lw_all := lw_g (lw_at lw_m11 23 rfl) rfl
theorem q2666 : (Jvm.Cond.methodLink "CoercedClasses$Sink" (37 : Nat) ({ cls := "CoercedClasses$Sink", name := "put", desc := "(I)V" } : Jvm.MethodName)) ∈ lw_all := lw_g (lw_at lw_m11 24 rfl) rfl
theorem q2667 : (Jvm.Cond.instanceMethod ({ cls := "CoercedClasses$Sink", name := "put", desc := "(I)V" } : Jvm.MethodName)) ∈ lw_all := lw_g (lw_at lw_m11 25 rfl) rfl
theorem q2668 : (Jvm.Cond.selects "CoercedClasses$Sink" ({ cls := "CoercedClasses$Sink", name := "put", desc := "(I)V" } : Jvm.MethodName) ({ cls := "CoercedClasses$Sink", name := "put", desc := "(I)V" } : Jvm.MethodName)) ∈ lw_all := lw_g (lw_at lw_m11 26 rfl) rfl
theorem q2669 : (Jvm.Cond.code ({ cls := "CoercedClasses$Sink", name := "put", desc := "(I)V" } : Jvm.MethodName) prog_34_method_4_code (2 : Nat) (Option.none : Option Jvm.ClassFile.FieldType)) ∈ lw_all := lw_g (lw_at lw_m11 27 rfl) rfl
theorem q2673 : (Jvm.Cond.instanceMethod ({ cls := "CoercedClasses$Sink", name := "put", desc := "(LCoercedClasses$Word;)V" } : Jvm.MethodName)) ∈ lw_all := lw_g (lw_at lw_m11 31 rfl) rfl
theorem q2674 : (Jvm.Cond.selects "CoercedClasses$Sink" ({ cls := "CoercedClasses$Sink", name := "put", desc := "(LCoercedClasses$Word;)V" } : Jvm.MethodName) ({ cls := "CoercedClasses$Sink", name := "put", desc := "(LCoercedClasses$Word;)V" } : Jvm.MethodName)) ∈ lw_all := lw_g (lw_at lw_m11 32 rfl) rfl
theorem q2675 : (Jvm.Cond.code ({ cls := "CoercedClasses$Sink", name := "put", desc := "(LCoercedClasses$Word;)V" } : Jvm.MethodName) prog_34_method_6_code (3 : Nat) (Option.none : Option Jvm.ClassFile.FieldType)) ∈ lw_all := lw_g (lw_at lw_m11 33 rfl) rfl
theorem q2680 : (Jvm.Cond.instanceMethod ({ cls := "CoercedClasses$Sink", name := "number", desc := "(I)V" } : Jvm.MethodName)) ∈ lw_all := lw_g (lw_at lw_m11 38 rfl) rfl
theorem q2681 : (Jvm.Cond.selects "CoercedClasses$Sink" ({ cls := "CoercedClasses$Sink", name := "number", desc := "(I)V" } : Jvm.MethodName) ({ cls := "CoercedClasses$Sink", name := "number", desc := "(I)V" } : Jvm.MethodName)) ∈ lw_all := lw_g (lw_at lw_m11 39 rfl) rfl
theorem q2682 : (Jvm.Cond.code ({ cls := "CoercedClasses$Sink", name := "number", desc := "(I)V" } : Jvm.MethodName) prog_34_method_7_code (3 : Nat) (Option.none : Option Jvm.ClassFile.FieldType)) ∈ lw_all := lw_g (lw_at lw_m11 40 rfl) rfl
theorem q2700 : (Jvm.Cond.instanceMethod ({ cls := "CoercedClasses$Sink", name := "isOver", desc := "()Z" } : Jvm.MethodName)) ∈ lw_all := lw_g (lw_at lw_m11 58 rfl) rfl
theorem q2701 : (Jvm.Cond.selects "CoercedClasses$Sink" ({ cls := "CoercedClasses$Sink", name := "isOver", desc := "()Z" } : Jvm.MethodName) ({ cls := "CoercedClasses$Sink", name := "isOver", desc := "()Z" } : Jvm.MethodName)) ∈ lw_all := lw_g (lw_at lw_m11 59 rfl) rfl
theorem q2702 : (Jvm.Cond.code ({ cls := "CoercedClasses$Sink", name := "isOver", desc := "()Z" } : Jvm.MethodName) prog_34_method_2_code (1 : Nat) (Option.some Jvm.ClassFile.FieldType.boolean)) ∈ lw_all := lw_g (lw_at lw_m11 60 rfl) rfl
theorem q4478 : (Jvm.Cond.castable "CoercedClasses$Sink" "java/lang/Object") ∈ lw_tbl := lw_at lw_m18 156 rfl
theorem in_X7 : ∀ w ∈ wsX70, w ∈ lw_all := lw_in wsX70 [522, 524, 526, 528] (by decide +kernel) (by decide +kernel)
theorem q254 : (Jvm.Cond.initialized "CoercedClasses$Finder") ∈ lw_all := lw_g (lw_at lw_m1 12 rfl) rfl
theorem q369 : (Jvm.Cond.fieldLinkNest "CoercedClasses$Finder" (34 : Nat) "CoercedClasses$Table" "count" "I" "CoercedClasses") ∈ lw_tbl := lw_at lw_m1 127 rfl
theorem q453 : (Jvm.Cond.fieldLinkNest "CoercedClasses$Finder" (143 : Nat) "CoercedClasses$Scope" "names" "Ljava/util/ArrayList;" "CoercedClasses") ∈ lw_tbl := lw_at lw_m1 211 rfl
theorem q460 : (Jvm.Cond.fieldLinkNest "CoercedClasses$Finder" (91 : Nat) "CoercedClasses$Scope" "givens" "Ljava/util/ArrayList;" "CoercedClasses") ∈ lw_tbl := lw_at lw_m1 218 rfl
theorem q532 : (Jvm.Cond.instantiable "CoercedClasses$Finder" (5 : Nat)) ∈ lw_all := lw_g (lw_at lw_m2 50 rfl) rfl
theorem q534 : (Jvm.Cond.instanceMethod ({ cls := "CoercedClasses$Finder", name := "<init>", desc := "(LCoercedClasses$Scope;LCoercedClasses$Table;)V" } : Jvm.MethodName)) ∈ lw_all := lw_g (lw_at lw_m2 52 rfl) rfl
theorem q535 : (Jvm.Cond.code ({ cls := "CoercedClasses$Finder", name := "<init>", desc := "(LCoercedClasses$Scope;LCoercedClasses$Table;)V" } : Jvm.MethodName) prog_12_method_1_code (3 : Nat) (Option.none : Option Jvm.ClassFile.FieldType)) ∈ lw_all := lw_g (lw_at lw_m2 53 rfl) rfl
theorem q536 : (Jvm.Cond.methodLink "CoercedClasses$Finder" (3 : Nat) ({ cls := "java/lang/Object", name := "<init>", desc := "()V" } : Jvm.MethodName)) ∈ lw_all := lw_g (lw_at lw_m2 54 rfl) rfl
theorem q537 : (Jvm.Cond.methodLink "CoercedClasses$Finder" (15 : Nat) ({ cls := "CoercedClasses$Finder", name := "is", desc := "(LCoercedClasses$Scope;LCoercedClasses$Table;)V" } : Jvm.MethodName)) ∈ lw_all := lw_g (lw_at lw_m2 55 rfl) rfl
theorem q538 : (Jvm.Cond.instanceMethod ({ cls := "CoercedClasses$Finder", name := "is", desc := "(LCoercedClasses$Scope;LCoercedClasses$Table;)V" } : Jvm.MethodName)) ∈ lw_all := lw_g (lw_at lw_m2 56 rfl) rfl
theorem q539 : (Jvm.Cond.selects "CoercedClasses$Finder" ({ cls := "CoercedClasses$Finder", name := "is", desc := "(LCoercedClasses$Scope;LCoercedClasses$Table;)V" } : Jvm.MethodName) ({ cls := "CoercedClasses$Finder", name := "is", desc := "(LCoercedClasses$Scope;LCoercedClasses$Table;)V" } : Jvm.MethodName)) ∈ lw_all := lw_g (lw_at lw_m2 57 rfl) rfl
theorem q540 : (Jvm.Cond.code ({ cls := "CoercedClasses$Finder", name := "is", desc := "(LCoercedClasses$Scope;LCoercedClasses$Table;)V" } : Jvm.MethodName) prog_12_method_2_code (3 : Nat) (Option.none : Option Jvm.ClassFile.FieldType)) ∈ lw_all := lw_g (lw_at lw_m2 58 rfl) rfl
theorem q541 : (Jvm.Cond.fieldLink "CoercedClasses$Finder" (19 : Nat) "CoercedClasses$Finder" "scope" "LCoercedClasses$Scope;") ∈ lw_all := lw_g (lw_at lw_m2 59 rfl) rfl
theorem q543 : (Jvm.Cond.fieldLink "CoercedClasses$Finder" (23 : Nat) "CoercedClasses$Finder" "table" "LCoercedClasses$Table;") ∈ lw_all := lw_g (lw_at lw_m2 61 rfl) rfl
theorem q544 : (Jvm.Cond.fieldLink "CoercedClasses$Finder" (27 : Nat) "CoercedClasses$Finder" "count" "I") ∈ lw_all := lw_g (lw_at lw_m2 62 rfl) rfl
theorem q545 : (Jvm.Cond.fieldLink "CoercedClasses$Finder" (31 : Nat) "CoercedClasses$Finder" "begun" "I") ∈ lw_all := lw_g (lw_at lw_m2 63 rfl) rfl
theorem q546 : (Jvm.Cond.fieldLink "CoercedClasses$Finder" (9 : Nat) "CoercedClasses$Finder" "counts" "Z") ∈ lw_all := lw_g (lw_at lw_m2 64 rfl) rfl
theorem q548 : (Jvm.Cond.lays "CoercedClasses$Finder" "CoercedClasses$Finder" "scope" "LCoercedClasses$Scope;") ∈ lw_all := lw_g (lw_at lw_m2 66 rfl) rfl
theorem q549 : (Jvm.Cond.soleField "CoercedClasses$Finder" "scope") ∈ lw_all := lw_g (lw_at lw_m2 67 rfl) rfl
theorem q550 : (Jvm.Cond.lays "CoercedClasses$Finder" "CoercedClasses$Finder" "table" "LCoercedClasses$Table;") ∈ lw_all := lw_g (lw_at lw_m2 68 rfl) rfl
theorem q551 : (Jvm.Cond.soleField "CoercedClasses$Finder" "table") ∈ lw_all := lw_g (lw_at lw_m2 69 rfl) rfl
theorem q552 : (Jvm.Cond.lays "CoercedClasses$Finder" "CoercedClasses$Finder" "count" "I") ∈ lw_all := lw_g (lw_at lw_m2 70 rfl) rfl
theorem q553 : (Jvm.Cond.soleField "CoercedClasses$Finder" "count") ∈ lw_all := lw_g (lw_at lw_m2 71 rfl) rfl
theorem q554 : (Jvm.Cond.lays "CoercedClasses$Finder" "CoercedClasses$Finder" "begun" "I") ∈ lw_all := lw_g (lw_at lw_m2 72 rfl) rfl
theorem q555 : (Jvm.Cond.soleField "CoercedClasses$Finder" "begun") ∈ lw_all := lw_g (lw_at lw_m2 73 rfl) rfl
theorem q556 : (Jvm.Cond.lays "CoercedClasses$Finder" "CoercedClasses$Finder" "counts" "Z") ∈ lw_all := lw_g (lw_at lw_m2 74 rfl) rfl
theorem q557 : (Jvm.Cond.soleField "CoercedClasses$Finder" "counts") ∈ lw_all := lw_g (lw_at lw_m2 75 rfl) rfl
theorem q558 : (Jvm.Cond.superclass "CoercedClasses$Finder" "java/lang/Object") ∈ lw_all := lw_g (lw_at lw_m2 76 rfl) rfl
theorem q1148 : (Jvm.Cond.selects "CoercedClasses$Finder" ({ cls := "java/lang/Object", name := "getClass", desc := "()Ljava/lang/Class;" } : Jvm.MethodName) ({ cls := "java/lang/Object", name := "getClass", desc := "()Ljava/lang/Class;" } : Jvm.MethodName)) ∈ lw_all := lw_g (lw_at lw_m4 186 rfl) rfl
theorem q1223 : (Jvm.Cond.fieldLinkNest "CoercedClasses$Finder" (128 : Nat) "CoercedClasses$ClassDecl" "instances" "[LCoercedClasses$Instance;" "CoercedClasses") ∈ lw_tbl := lw_at lw_m5 21 rfl
theorem q1366 : (Jvm.Cond.fieldLinkNest "CoercedClasses$Finder" (142 : Nat) "CoercedClasses$Instance" "scope" "LCoercedClasses$Scope;" "CoercedClasses") ∈ lw_tbl := lw_at lw_m5 164 rfl
theorem q1378 : (Jvm.Cond.fieldLinkNest "CoercedClasses$Finder" (137 : Nat) "CoercedClasses$Instance" "familyType" "LCoercedClasses$Type;" "CoercedClasses") ∈ lw_tbl := lw_at lw_m5 176 rfl
theorem q1437 : (Jvm.Cond.fieldLinkNest "CoercedClasses$Finder" (107 : Nat) "CoercedClasses$Given" "name" "LCoercedClasses$Word;" "CoercedClasses") ∈ lw_tbl := lw_at lw_m5 235 rfl
theorem q1445 : (Jvm.Cond.fieldLinkNest "CoercedClasses$Finder" (103 : Nat) "CoercedClasses$Given" "of" "LCoercedClasses$ClassDecl;" "CoercedClasses") ∈ lw_tbl := lw_at lw_m6 3 rfl
theorem q1449 : (Jvm.Cond.fieldLinkNest "CoercedClasses$Finder" (125 : Nat) "CoercedClasses$Given" "type" "LCoercedClasses$Type;" "CoercedClasses") ∈ lw_tbl := lw_at lw_m6 7 rfl
theorem q2086 : (Jvm.Cond.fieldLinkNest "CoercedClasses$Finder" (47 : Nat) "CoercedClasses$Type" "kind" "I" "CoercedClasses") ∈ lw_tbl := lw_at lw_m8 164 rfl
theorem q2095 : (Jvm.Cond.fieldLinkNest "CoercedClasses$Finder" (134 : Nat) "CoercedClasses$Type" "con" "I" "CoercedClasses") ∈ lw_tbl := lw_at lw_m8 173 rfl
theorem q2097 : (Jvm.Cond.fieldLinkNest "CoercedClasses$Finder" (42 : Nat) "CoercedClasses$Type" "size" "I" "CoercedClasses") ∈ lw_tbl := lw_at lw_m8 175 rfl
theorem q2102 : (Jvm.Cond.fieldLinkNest "CoercedClasses$Finder" (61 : Nat) "CoercedClasses$Type" "name" "LCoercedClasses$Word;" "CoercedClasses") ∈ lw_tbl := lw_at lw_m8 180 rfl
theorem q2108 : (Jvm.Cond.fieldLinkNest "CoercedClasses$Finder" (114 : Nat) "CoercedClasses$Type" "family" "LCoercedClasses$ClassDecl;" "CoercedClasses") ∈ lw_tbl := lw_at lw_m8 186 rfl
theorem q2114 : (Jvm.Cond.fieldLinkNest "CoercedClasses$Finder" (72 : Nat) "CoercedClasses$Type" "a" "LCoercedClasses$Type;" "CoercedClasses") ∈ lw_tbl := lw_at lw_m8 192 rfl
theorem q2122 : (Jvm.Cond.fieldLinkNest "CoercedClasses$Finder" (80 : Nat) "CoercedClasses$Type" "b" "LCoercedClasses$Type;" "CoercedClasses") ∈ lw_tbl := lw_at lw_m8 200 rfl
theorem q2127 : (Jvm.Cond.fieldLinkNest "CoercedClasses$Finder" (108 : Nat) "CoercedClasses$Type" "hasFamily" "Z" "CoercedClasses") ∈ lw_tbl := lw_at lw_m8 205 rfl
theorem q2308 : (Jvm.Cond.instanceMethod ({ cls := "CoercedClasses$Finder", name := "asked", desc := "(LCoercedClasses$ClassDecl;LCoercedClasses$Type;I)LCoercedClasses$Dictionary;" } : Jvm.MethodName)) ∈ lw_all := lw_g (lw_at lw_m9 146 rfl) rfl
theorem q2309 : (Jvm.Cond.selects "CoercedClasses$Finder" ({ cls := "CoercedClasses$Finder", name := "asked", desc := "(LCoercedClasses$ClassDecl;LCoercedClasses$Type;I)LCoercedClasses$Dictionary;" } : Jvm.MethodName) ({ cls := "CoercedClasses$Finder", name := "asked", desc := "(LCoercedClasses$ClassDecl;LCoercedClasses$Type;I)LCoercedClasses$Dictionary;" } : Jvm.MethodName)) ∈ lw_all := lw_g (lw_at lw_m9 147 rfl) rfl
theorem q2310 : (Jvm.Cond.code ({ cls := "CoercedClasses$Finder", name := "asked", desc := "(LCoercedClasses$ClassDecl;LCoercedClasses$Type;I)LCoercedClasses$Dictionary;" } : Jvm.MethodName) prog_12_method_15_code (4 : Nat) (Option.some (Jvm.ClassFile.FieldType.object "CoercedClasses$Dictionary"))) ∈ lw_all := lw_g (lw_at lw_m9 148 rfl) rfl
theorem q2311 : (Jvm.Cond.methodLink "CoercedClasses$Finder" (152 : Nat) ({ cls := "CoercedClasses$Finder", name := "begin", desc := "()V" } : Jvm.MethodName)) ∈ lw_all := lw_g (lw_at lw_m9 149 rfl) rfl
theorem q2312 : (Jvm.Cond.instanceMethod ({ cls := "CoercedClasses$Finder", name := "begin", desc := "()V" } : Jvm.MethodName)) ∈ lw_all := lw_g (lw_at lw_m9 150 rfl) rfl
theorem q2313 : (Jvm.Cond.selects "CoercedClasses$Finder" ({ cls := "CoercedClasses$Finder", name := "begin", desc := "()V" } : Jvm.MethodName) ({ cls := "CoercedClasses$Finder", name := "begin", desc := "()V" } : Jvm.MethodName)) ∈ lw_all := lw_g (lw_at lw_m9 151 rfl) rfl
theorem q2314 : (Jvm.Cond.code ({ cls := "CoercedClasses$Finder", name := "begin", desc := "()V" } : Jvm.MethodName) prog_12_method_3_code (1 : Nat) (Option.none : Option Jvm.ClassFile.FieldType)) ∈ lw_all := lw_g (lw_at lw_m9 152 rfl) rfl
theorem q2315 : (Jvm.Cond.methodLink "CoercedClasses$Finder" (191 : Nat) ({ cls := "CoercedClasses$Finder", name := "had", desc := "(LCoercedClasses$ClassDecl;LCoercedClasses$Type;I)LCoercedClasses$Dictionary;" } : Jvm.MethodName)) ∈ lw_all := lw_g (lw_at lw_m9 153 rfl) rfl
theorem q2316 : (Jvm.Cond.instanceMethod ({ cls := "CoercedClasses$Finder", name := "had", desc := "(LCoercedClasses$ClassDecl;LCoercedClasses$Type;I)LCoercedClasses$Dictionary;" } : Jvm.MethodName)) ∈ lw_all := lw_g (lw_at lw_m9 154 rfl) rfl
theorem q2317 : (Jvm.Cond.selects "CoercedClasses$Finder" ({ cls := "CoercedClasses$Finder", name := "had", desc := "(LCoercedClasses$ClassDecl;LCoercedClasses$Type;I)LCoercedClasses$Dictionary;" } : Jvm.MethodName) ({ cls := "CoercedClasses$Finder", name := "had", desc := "(LCoercedClasses$ClassDecl;LCoercedClasses$Type;I)LCoercedClasses$Dictionary;" } : Jvm.MethodName)) ∈ lw_all := lw_g (lw_at lw_m9 155 rfl) rfl
theorem q2318 : (Jvm.Cond.code ({ cls := "CoercedClasses$Finder", name := "had", desc := "(LCoercedClasses$ClassDecl;LCoercedClasses$Type;I)LCoercedClasses$Dictionary;" } : Jvm.MethodName) prog_12_method_14_code (6 : Nat) (Option.some (Jvm.ClassFile.FieldType.object "CoercedClasses$Dictionary"))) ∈ lw_all := lw_g (lw_at lw_m9 156 rfl) rfl
theorem q2319 : (Jvm.Cond.methodLink "CoercedClasses$Finder" (111 : Nat) ({ cls := "CoercedClasses$Finder", name := "worked", desc := "(LCoercedClasses$Type;I)LCoercedClasses$Type;" } : Jvm.MethodName)) ∈ lw_all := lw_g (lw_at lw_m9 157 rfl) rfl
theorem q2320 : (Jvm.Cond.instanceMethod ({ cls := "CoercedClasses$Finder", name := "worked", desc := "(LCoercedClasses$Type;I)LCoercedClasses$Type;" } : Jvm.MethodName)) ∈ lw_all := lw_g (lw_at lw_m9 158 rfl) rfl
theorem q2321 : (Jvm.Cond.selects "CoercedClasses$Finder" ({ cls := "CoercedClasses$Finder", name := "worked", desc := "(LCoercedClasses$Type;I)LCoercedClasses$Type;" } : Jvm.MethodName) ({ cls := "CoercedClasses$Finder", name := "worked", desc := "(LCoercedClasses$Type;I)LCoercedClasses$Type;" } : Jvm.MethodName)) ∈ lw_all := lw_g (lw_at lw_m9 159 rfl) rfl
theorem q2322 : (Jvm.Cond.code ({ cls := "CoercedClasses$Finder", name := "worked", desc := "(LCoercedClasses$Type;I)LCoercedClasses$Type;" } : Jvm.MethodName) prog_12_method_11_code (5 : Nat) (Option.some (Jvm.ClassFile.FieldType.object "CoercedClasses$Type"))) ∈ lw_all := lw_g (lw_at lw_m9 160 rfl) rfl
theorem q2323 : (Jvm.Cond.methodLink "CoercedClasses$Finder" (87 : Nat) ({ cls := "CoercedClasses$Finder", name := "fit", desc := "(LCoercedClasses$Type;I)LCoercedClasses$Type;" } : Jvm.MethodName)) ∈ lw_all := lw_g (lw_at lw_m9 161 rfl) rfl
theorem q2324 : (Jvm.Cond.static ({ cls := "CoercedClasses$Finder", name := "fit", desc := "(LCoercedClasses$Type;I)LCoercedClasses$Type;" } : Jvm.MethodName)) ∈ lw_all := lw_g (lw_at lw_m9 162 rfl) rfl
theorem q2325 : (Jvm.Cond.code ({ cls := "CoercedClasses$Finder", name := "fit", desc := "(LCoercedClasses$Type;I)LCoercedClasses$Type;" } : Jvm.MethodName) prog_12_method_5_code (2 : Nat) (Option.some (Jvm.ClassFile.FieldType.object "CoercedClasses$Type"))) ∈ lw_all := lw_g (lw_at lw_m9 163 rfl) rfl
theorem q2326 : (Jvm.Cond.classLink "CoercedClasses$Finder" (37 : Nat) "CoercedClasses$Fault") ∈ lw_all := lw_g (lw_at lw_m9 164 rfl) rfl
theorem q2327 : (Jvm.Cond.methodLink "CoercedClasses$Finder" (39 : Nat) ({ cls := "CoercedClasses$Fault", name := "<init>", desc := "(II)V" } : Jvm.MethodName)) ∈ lw_all := lw_g (lw_at lw_m9 165 rfl) rfl
theorem q2328 : (Jvm.Cond.methodLink "CoercedClasses$Finder" (146 : Nat) ({ cls := "CoercedClasses$Finder", name := "inner", desc := "(LCoercedClasses$Type;I)LCoercedClasses$Type;" } : Jvm.MethodName)) ∈ lw_all := lw_g (lw_at lw_m9 166 rfl) rfl
theorem q2329 : (Jvm.Cond.instanceMethod ({ cls := "CoercedClasses$Finder", name := "inner", desc := "(LCoercedClasses$Type;I)LCoercedClasses$Type;" } : Jvm.MethodName)) ∈ lw_all := lw_g (lw_at lw_m9 167 rfl) rfl
theorem q2330 : (Jvm.Cond.selects "CoercedClasses$Finder" ({ cls := "CoercedClasses$Finder", name := "inner", desc := "(LCoercedClasses$Type;I)LCoercedClasses$Type;" } : Jvm.MethodName) ({ cls := "CoercedClasses$Finder", name := "inner", desc := "(LCoercedClasses$Type;I)LCoercedClasses$Type;" } : Jvm.MethodName)) ∈ lw_all := lw_g (lw_at lw_m9 168 rfl) rfl
theorem q2331 : (Jvm.Cond.code ({ cls := "CoercedClasses$Finder", name := "inner", desc := "(LCoercedClasses$Type;I)LCoercedClasses$Type;" } : Jvm.MethodName) prog_12_method_9_code (5 : Nat) (Option.some (Jvm.ClassFile.FieldType.object "CoercedClasses$Type"))) ∈ lw_all := lw_g (lw_at lw_m9 169 rfl) rfl
theorem q2332 : (Jvm.Cond.methodLink "CoercedClasses$Finder" (83 : Nat) ({ cls := "CoercedClasses$Table", name := "like", desc := "(LCoercedClasses$Type;LCoercedClasses$Type;LCoercedClasses$Type;)LCoercedClasses$Type;" } : Jvm.MethodName)) ∈ lw_all := lw_g (lw_at lw_m9 170 rfl) rfl
theorem q2336 : (Jvm.Cond.methodLink "CoercedClasses$Finder" (149 : Nat) ({ cls := "CoercedClasses$Finder", name := "goes", desc := "(LCoercedClasses$Type;I)LCoercedClasses$Type;" } : Jvm.MethodName)) ∈ lw_all := lw_g (lw_at lw_m9 174 rfl) rfl
theorem q2337 : (Jvm.Cond.instanceMethod ({ cls := "CoercedClasses$Finder", name := "goes", desc := "(LCoercedClasses$Type;I)LCoercedClasses$Type;" } : Jvm.MethodName)) ∈ lw_all := lw_g (lw_at lw_m9 175 rfl) rfl
theorem q2338 : (Jvm.Cond.selects "CoercedClasses$Finder" ({ cls := "CoercedClasses$Finder", name := "goes", desc := "(LCoercedClasses$Type;I)LCoercedClasses$Type;" } : Jvm.MethodName) ({ cls := "CoercedClasses$Finder", name := "goes", desc := "(LCoercedClasses$Type;I)LCoercedClasses$Type;" } : Jvm.MethodName)) ∈ lw_all := lw_g (lw_at lw_m9 176 rfl) rfl
theorem q2339 : (Jvm.Cond.code ({ cls := "CoercedClasses$Finder", name := "goes", desc := "(LCoercedClasses$Type;I)LCoercedClasses$Type;" } : Jvm.MethodName) prog_12_method_10_code (4 : Nat) (Option.some (Jvm.ClassFile.FieldType.object "CoercedClasses$Type"))) ∈ lw_all := lw_g (lw_at lw_m9 177 rfl) rfl
theorem q2340 : (Jvm.Cond.methodLink "CoercedClasses$Finder" (117 : Nat) ({ cls := "CoercedClasses$Finder", name := "equalFor", desc := "(LCoercedClasses$ClassDecl;LCoercedClasses$Word;)I" } : Jvm.MethodName)) ∈ lw_all := lw_g (lw_at lw_m9 178 rfl) rfl
theorem q2341 : (Jvm.Cond.instanceMethod ({ cls := "CoercedClasses$Finder", name := "equalFor", desc := "(LCoercedClasses$ClassDecl;LCoercedClasses$Word;)I" } : Jvm.MethodName)) ∈ lw_all := lw_g (lw_at lw_m9 179 rfl) rfl
theorem q2342 : (Jvm.Cond.selects "CoercedClasses$Finder" ({ cls := "CoercedClasses$Finder", name := "equalFor", desc := "(LCoercedClasses$ClassDecl;LCoercedClasses$Word;)I" } : Jvm.MethodName) ({ cls := "CoercedClasses$Finder", name := "equalFor", desc := "(LCoercedClasses$ClassDecl;LCoercedClasses$Word;)I" } : Jvm.MethodName)) ∈ lw_all := lw_g (lw_at lw_m9 180 rfl) rfl
theorem q2343 : (Jvm.Cond.code ({ cls := "CoercedClasses$Finder", name := "equalFor", desc := "(LCoercedClasses$ClassDecl;LCoercedClasses$Word;)I" } : Jvm.MethodName) prog_12_method_8_code (5 : Nat) (Option.some Jvm.ClassFile.FieldType.int)) ∈ lw_all := lw_g (lw_at lw_m9 181 rfl) rfl
theorem q2344 : (Jvm.Cond.methodLink "CoercedClasses$Finder" (50 : Nat) ({ cls := "java/util/ArrayList", name := "size", desc := "()I" } : Jvm.MethodName)) ∈ lw_all := lw_g (lw_at lw_m9 182 rfl) rfl
theorem q2345 : (Jvm.Cond.methodLink "CoercedClasses$Finder" (55 : Nat) ({ cls := "java/util/ArrayList", name := "get", desc := "(I)Ljava/lang/Object;" } : Jvm.MethodName)) ∈ lw_all := lw_g (lw_at lw_m9 183 rfl) rfl
theorem q2346 : (Jvm.Cond.classLink "CoercedClasses$Finder" (97 : Nat) "CoercedClasses$Given") ∈ lw_all := lw_g (lw_at lw_m9 184 rfl) rfl
theorem q2347 : (Jvm.Cond.methodLink "CoercedClasses$Finder" (99 : Nat) ({ cls := "CoercedClasses$Given", name := "isEqual", desc := "()Z" } : Jvm.MethodName)) ∈ lw_all := lw_g (lw_at lw_m9 185 rfl) rfl
theorem q2348 : (Jvm.Cond.methodLink "CoercedClasses$Finder" (65 : Nat) ({ cls := "CoercedClasses$Word", name := "is", desc := "(LCoercedClasses$Word;)Z" } : Jvm.MethodName)) ∈ lw_all := lw_g (lw_at lw_m9 186 rfl) rfl
theorem q2349 : (Jvm.Cond.methodLink "CoercedClasses$Finder" (121 : Nat) ({ cls := "CoercedClasses$Finder", name := "counted", desc := "(I)V" } : Jvm.MethodName)) ∈ lw_all := lw_g (lw_at lw_m9 187 rfl) rfl
theorem q2350 : (Jvm.Cond.privateMethod ({ cls := "CoercedClasses$Finder", name := "counted", desc := "(I)V" } : Jvm.MethodName)) ∈ lw_tbl := lw_at lw_m9 188 rfl
theorem q2351 : (Jvm.Cond.instanceMethod ({ cls := "CoercedClasses$Finder", name := "counted", desc := "(I)V" } : Jvm.MethodName)) ∈ lw_all := lw_g (lw_at lw_m9 189 rfl) rfl
theorem q2352 : (Jvm.Cond.code ({ cls := "CoercedClasses$Finder", name := "counted", desc := "(I)V" } : Jvm.MethodName) prog_12_method_4_code (2 : Nat) (Option.none : Option Jvm.ClassFile.FieldType)) ∈ lw_all := lw_g (lw_at lw_m9 190 rfl) rfl
theorem q2353 : (Jvm.Cond.methodLink "CoercedClasses$Finder" (76 : Nat) ({ cls := "CoercedClasses$Finder", name := "put0", desc := "(LCoercedClasses$Type;Ljava/util/ArrayList;Ljava/util/ArrayList;LCoercedClasses$Type;)LCoercedClasses$Type;" } : Jvm.MethodName)) ∈ lw_all := lw_g (lw_at lw_m9 191 rfl) rfl
theorem q2354 : (Jvm.Cond.privateMethod ({ cls := "CoercedClasses$Finder", name := "put0", desc := "(LCoercedClasses$Type;Ljava/util/ArrayList;Ljava/util/ArrayList;LCoercedClasses$Type;)LCoercedClasses$Type;" } : Jvm.MethodName)) ∈ lw_tbl := lw_at lw_m9 192 rfl
theorem q2355 : (Jvm.Cond.instanceMethod ({ cls := "CoercedClasses$Finder", name := "put0", desc := "(LCoercedClasses$Type;Ljava/util/ArrayList;Ljava/util/ArrayList;LCoercedClasses$Type;)LCoercedClasses$Type;" } : Jvm.MethodName)) ∈ lw_all := lw_g (lw_at lw_m9 193 rfl) rfl
theorem q2356 : (Jvm.Cond.code ({ cls := "CoercedClasses$Finder", name := "put0", desc := "(LCoercedClasses$Type;Ljava/util/ArrayList;Ljava/util/ArrayList;LCoercedClasses$Type;)LCoercedClasses$Type;" } : Jvm.MethodName) prog_12_method_6_code (7 : Nat) (Option.some (Jvm.ClassFile.FieldType.object "CoercedClasses$Type"))) ∈ lw_all := lw_g (lw_at lw_m9 194 rfl) rfl
theorem q2357 : (Jvm.Cond.classLink "CoercedClasses$Finder" (59 : Nat) "CoercedClasses$Word") ∈ lw_all := lw_g (lw_at lw_m9 195 rfl) rfl
theorem q2358 : (Jvm.Cond.classLink "CoercedClasses$Finder" (43 : Nat) "CoercedClasses$Type") ∈ lw_all := lw_g (lw_at lw_m9 196 rfl) rfl
theorem q2359 : (Jvm.Cond.methodLink "CoercedClasses$Finder" (68 : Nat) ({ cls := "CoercedClasses$Type", name := "part", desc := "(I)LCoercedClasses$Type;" } : Jvm.MethodName)) ∈ lw_all := lw_g (lw_at lw_m9 197 rfl) rfl
theorem q2363 : (Jvm.Cond.methodLink "CoercedClasses$Finder" (163 : Nat) ({ cls := "CoercedClasses$Finder", name := "byGiven", desc := "(LCoercedClasses$ClassDecl;LCoercedClasses$Word;)LCoercedClasses$Dictionary;" } : Jvm.MethodName)) ∈ lw_all := lw_g (lw_at lw_m9 201 rfl) rfl
theorem q2364 : (Jvm.Cond.privateMethod ({ cls := "CoercedClasses$Finder", name := "byGiven", desc := "(LCoercedClasses$ClassDecl;LCoercedClasses$Word;)LCoercedClasses$Dictionary;" } : Jvm.MethodName)) ∈ lw_tbl := lw_at lw_m9 202 rfl
theorem q2365 : (Jvm.Cond.instanceMethod ({ cls := "CoercedClasses$Finder", name := "byGiven", desc := "(LCoercedClasses$ClassDecl;LCoercedClasses$Word;)LCoercedClasses$Dictionary;" } : Jvm.MethodName)) ∈ lw_all := lw_g (lw_at lw_m9 203 rfl) rfl
theorem q2366 : (Jvm.Cond.code ({ cls := "CoercedClasses$Finder", name := "byGiven", desc := "(LCoercedClasses$ClassDecl;LCoercedClasses$Word;)LCoercedClasses$Dictionary;" } : Jvm.MethodName) prog_12_method_13_code (6 : Nat) (Option.some (Jvm.ClassFile.FieldType.object "CoercedClasses$Dictionary"))) ∈ lw_all := lw_g (lw_at lw_m9 204 rfl) rfl
theorem q2367 : (Jvm.Cond.methodLink "CoercedClasses$Finder" (155 : Nat) ({ cls := "CoercedClasses$ClassDecl", name := "stepsTo", desc := "(LCoercedClasses$ClassDecl;)I" } : Jvm.MethodName)) ∈ lw_all := lw_g (lw_at lw_m9 205 rfl) rfl
theorem q2371 : (Jvm.Cond.methodLink "CoercedClasses$Finder" (159 : Nat) ({ cls := "CoercedClasses$Given", name := "dictionary", desc := "(II)LCoercedClasses$Dictionary;" } : Jvm.MethodName)) ∈ lw_all := lw_g (lw_at lw_m9 209 rfl) rfl
theorem q2385 : (Jvm.Cond.fieldLinkNest "CoercedClasses$Finder" (177 : Nat) "CoercedClasses$Dictionary" "of" "LCoercedClasses$ClassDecl;" "CoercedClasses") ∈ lw_tbl := lw_at lw_m9 223 rfl
theorem q2399 : (Jvm.Cond.fieldLinkNest "CoercedClasses$Finder" (171 : Nat) "CoercedClasses$Dictionary" "instance" "LCoercedClasses$Instance;" "CoercedClasses") ∈ lw_tbl := lw_at lw_m9 237 rfl
theorem q2404 : (Jvm.Cond.fieldLinkNest "CoercedClasses$Finder" (194 : Nat) "CoercedClasses$Dictionary" "types" "Ljava/util/ArrayList;" "CoercedClasses") ∈ lw_tbl := lw_at lw_m10 2 rfl
theorem q2408 : (Jvm.Cond.fieldLinkNest "CoercedClasses$Finder" (199 : Nat) "CoercedClasses$Dictionary" "conditions" "Ljava/util/ArrayList;" "CoercedClasses") ∈ lw_tbl := lw_at lw_m10 6 rfl
theorem q2413 : (Jvm.Cond.fieldLinkNest "CoercedClasses$Finder" (185 : Nat) "CoercedClasses$Dictionary" "from" "LCoercedClasses$Type;" "CoercedClasses") ∈ lw_tbl := lw_at lw_m10 11 rfl
theorem q2417 : (Jvm.Cond.fieldLinkNest "CoercedClasses$Finder" (188 : Nat) "CoercedClasses$Dictionary" "to" "LCoercedClasses$Type;" "CoercedClasses") ∈ lw_tbl := lw_at lw_m10 15 rfl
theorem q2435 : (Jvm.Cond.methodLink "CoercedClasses$Finder" (167 : Nat) ({ cls := "CoercedClasses$Finder", name := "byInstance", desc := "(LCoercedClasses$ClassDecl;LCoercedClasses$Type;I)LCoercedClasses$Dictionary;" } : Jvm.MethodName)) ∈ lw_all := lw_g (lw_at lw_m10 33 rfl) rfl
theorem q2436 : (Jvm.Cond.privateMethod ({ cls := "CoercedClasses$Finder", name := "byInstance", desc := "(LCoercedClasses$ClassDecl;LCoercedClasses$Type;I)LCoercedClasses$Dictionary;" } : Jvm.MethodName)) ∈ lw_tbl := lw_at lw_m10 34 rfl
theorem q2437 : (Jvm.Cond.instanceMethod ({ cls := "CoercedClasses$Finder", name := "byInstance", desc := "(LCoercedClasses$ClassDecl;LCoercedClasses$Type;I)LCoercedClasses$Dictionary;" } : Jvm.MethodName)) ∈ lw_all := lw_g (lw_at lw_m10 35 rfl) rfl
theorem q2438 : (Jvm.Cond.code ({ cls := "CoercedClasses$Finder", name := "byInstance", desc := "(LCoercedClasses$ClassDecl;LCoercedClasses$Type;I)LCoercedClasses$Dictionary;" } : Jvm.MethodName) prog_12_method_16_code (10 : Nat) (Option.some (Jvm.ClassFile.FieldType.object "CoercedClasses$Dictionary"))) ∈ lw_all := lw_g (lw_at lw_m10 36 rfl) rfl
theorem q2439 : (Jvm.Cond.methodLink "CoercedClasses$Finder" (178 : Nat) ({ cls := "CoercedClasses$Table", name := "dictionary", desc := "(LCoercedClasses$ClassDecl;)LCoercedClasses$Dictionary;" } : Jvm.MethodName)) ∈ lw_all := lw_g (lw_at lw_m10 37 rfl) rfl
theorem q2450 : (Jvm.Cond.classLink "CoercedClasses$Finder" (51 : Nat) "java/util/ArrayList") ∈ lw_all := lw_g (lw_at lw_m10 48 rfl) rfl
theorem q2451 : (Jvm.Cond.methodLink "CoercedClasses$Finder" (197 : Nat) ({ cls := "java/util/ArrayList", name := "<init>", desc := "(I)V" } : Jvm.MethodName)) ∈ lw_all := lw_g (lw_at lw_m10 49 rfl) rfl
theorem q2452 : (Jvm.Cond.methodLink "CoercedClasses$Finder" (202 : Nat) ({ cls := "CoercedClasses$Type", name := "many", desc := "()I" } : Jvm.MethodName)) ∈ lw_all := lw_g (lw_at lw_m10 50 rfl) rfl
theorem q2457 : (Jvm.Cond.methodLink "CoercedClasses$Finder" (205 : Nat) ({ cls := "java/util/ArrayList", name := "add", desc := "(Ljava/lang/Object;)Z" } : Jvm.MethodName)) ∈ lw_all := lw_g (lw_at lw_m10 55 rfl) rfl
theorem q2458 : (Jvm.Cond.methodLink "CoercedClasses$Finder" (181 : Nat) ({ cls := "CoercedClasses$Dictionary", name := "cast", desc := "(LCoercedClasses$Dictionary;LCoercedClasses$Type;LCoercedClasses$Type;)LCoercedClasses$Dictionary;" } : Jvm.MethodName)) ∈ lw_all := lw_g (lw_at lw_m10 56 rfl) rfl
theorem q2512 : (Jvm.Cond.instanceMethod ({ cls := "CoercedClasses$Finder", name := "put", desc := "(LCoercedClasses$Type;Ljava/util/ArrayList;Ljava/util/ArrayList;I)LCoercedClasses$Type;" } : Jvm.MethodName)) ∈ lw_all := lw_g (lw_at lw_m10 110 rfl) rfl
theorem q2513 : (Jvm.Cond.selects "CoercedClasses$Finder" ({ cls := "CoercedClasses$Finder", name := "put", desc := "(LCoercedClasses$Type;Ljava/util/ArrayList;Ljava/util/ArrayList;I)LCoercedClasses$Type;" } : Jvm.MethodName) ({ cls := "CoercedClasses$Finder", name := "put", desc := "(LCoercedClasses$Type;Ljava/util/ArrayList;Ljava/util/ArrayList;I)LCoercedClasses$Type;" } : Jvm.MethodName)) ∈ lw_all := lw_g (lw_at lw_m10 111 rfl) rfl
theorem q2514 : (Jvm.Cond.code ({ cls := "CoercedClasses$Finder", name := "put", desc := "(LCoercedClasses$Type;Ljava/util/ArrayList;Ljava/util/ArrayList;I)LCoercedClasses$Type;" } : Jvm.MethodName) prog_12_method_7_code (5 : Nat) (Option.some (Jvm.ClassFile.FieldType.object "CoercedClasses$Type"))) ∈ lw_all := lw_g (lw_at lw_m10 112 rfl) rfl
theorem q2560 : (Jvm.Cond.instanceMethod ({ cls := "CoercedClasses$Finder", name := "areOne", desc := "(LCoercedClasses$Type;LCoercedClasses$Type;I)Z" } : Jvm.MethodName)) ∈ lw_all := lw_g (lw_at lw_m10 158 rfl) rfl
theorem q2561 : (Jvm.Cond.selects "CoercedClasses$Finder" ({ cls := "CoercedClasses$Finder", name := "areOne", desc := "(LCoercedClasses$Type;LCoercedClasses$Type;I)Z" } : Jvm.MethodName) ({ cls := "CoercedClasses$Finder", name := "areOne", desc := "(LCoercedClasses$Type;LCoercedClasses$Type;I)Z" } : Jvm.MethodName)) ∈ lw_all := lw_g (lw_at lw_m10 159 rfl) rfl
theorem q2562 : (Jvm.Cond.code ({ cls := "CoercedClasses$Finder", name := "areOne", desc := "(LCoercedClasses$Type;LCoercedClasses$Type;I)Z" } : Jvm.MethodName) prog_12_method_12_code (5 : Nat) (Option.some Jvm.ClassFile.FieldType.boolean)) ∈ lw_all := lw_g (lw_at lw_m10 160 rfl) rfl
theorem q4479 : (Jvm.Cond.castable "CoercedClasses$Finder" "java/lang/Object") ∈ lw_tbl := lw_at lw_m18 157 rfl
theorem in_X8 : ∀ w ∈ wsX80, w ∈ lw_all := lw_in wsX80 [548, 550, 552, 554, 556] (by decide +kernel) (by decide +kernel)
theorem q255 : (Jvm.Cond.initialized "CoercedClasses$Checker") ∈ lw_all := lw_g (lw_at lw_m1 13 rfl) rfl
theorem q451 : (Jvm.Cond.fieldLinkNest "CoercedClasses$Checker" (121 : Nat) "CoercedClasses$Scope" "names" "Ljava/util/ArrayList;" "CoercedClasses") ∈ lw_tbl := lw_at lw_m1 209 rfl
theorem q458 : (Jvm.Cond.fieldLinkNest "CoercedClasses$Checker" (130 : Nat) "CoercedClasses$Scope" "givens" "Ljava/util/ArrayList;" "CoercedClasses") ∈ lw_tbl := lw_at lw_m1 216 rfl
theorem q571 : (Jvm.Cond.instantiable "CoercedClasses$Checker" (8 : Nat)) ∈ lw_all := lw_g (lw_at lw_m2 89 rfl) rfl
theorem q573 : (Jvm.Cond.instanceMethod ({ cls := "CoercedClasses$Checker", name := "<init>", desc := "(LCoercedClasses$Prover;)V" } : Jvm.MethodName)) ∈ lw_all := lw_g (lw_at lw_m2 91 rfl) rfl
theorem q574 : (Jvm.Cond.code ({ cls := "CoercedClasses$Checker", name := "<init>", desc := "(LCoercedClasses$Prover;)V" } : Jvm.MethodName) prog_6_method_1_code (2 : Nat) (Option.none : Option Jvm.ClassFile.FieldType)) ∈ lw_all := lw_g (lw_at lw_m2 92 rfl) rfl
theorem q575 : (Jvm.Cond.methodLink "CoercedClasses$Checker" (3 : Nat) ({ cls := "java/lang/Object", name := "<init>", desc := "()V" } : Jvm.MethodName)) ∈ lw_all := lw_g (lw_at lw_m2 93 rfl) rfl
theorem q576 : (Jvm.Cond.classLink "CoercedClasses$Checker" (9 : Nat) "CoercedClasses$Finder") ∈ lw_all := lw_g (lw_at lw_m2 94 rfl) rfl
theorem q577 : (Jvm.Cond.methodLink "CoercedClasses$Checker" (11 : Nat) ({ cls := "CoercedClasses$Finder", name := "<init>", desc := "(LCoercedClasses$Scope;LCoercedClasses$Table;)V" } : Jvm.MethodName)) ∈ lw_all := lw_g (lw_at lw_m2 95 rfl) rfl
theorem q578 : (Jvm.Cond.classLink "CoercedClasses$Checker" (20 : Nat) "java/util/ArrayList") ∈ lw_all := lw_g (lw_at lw_m2 96 rfl) rfl
theorem q579 : (Jvm.Cond.methodLink "CoercedClasses$Checker" (22 : Nat) ({ cls := "java/util/ArrayList", name := "<init>", desc := "()V" } : Jvm.MethodName)) ∈ lw_all := lw_g (lw_at lw_m2 97 rfl) rfl
theorem q580 : (Jvm.Cond.fieldLink "CoercedClasses$Checker" (27 : Nat) "CoercedClasses$Checker" "prover" "LCoercedClasses$Prover;") ∈ lw_all := lw_g (lw_at lw_m2 98 rfl) rfl
theorem q581 : (Jvm.Cond.fieldLink "CoercedClasses$Checker" (14 : Nat) "CoercedClasses$Checker" "finder" "LCoercedClasses$Finder;") ∈ lw_all := lw_g (lw_at lw_m2 99 rfl) rfl
theorem q582 : (Jvm.Cond.fieldLink "CoercedClasses$Checker" (44 : Nat) "CoercedClasses$Checker" "table" "LCoercedClasses$Table;") ∈ lw_all := lw_g (lw_at lw_m2 100 rfl) rfl
theorem q583 : (Jvm.Cond.fieldLink "CoercedClasses$Checker" (45 : Nat) "CoercedClasses$Checker" "scope" "LCoercedClasses$Scope;") ∈ lw_all := lw_g (lw_at lw_m2 101 rfl) rfl
theorem q584 : (Jvm.Cond.fieldLink "CoercedClasses$Checker" (46 : Nat) "CoercedClasses$Checker" "casts" "I") ∈ lw_all := lw_g (lw_at lw_m2 102 rfl) rfl
theorem q585 : (Jvm.Cond.fieldLink "CoercedClasses$Checker" (23 : Nat) "CoercedClasses$Checker" "bound" "Ljava/util/ArrayList;") ∈ lw_all := lw_g (lw_at lw_m2 103 rfl) rfl
theorem q586 : (Jvm.Cond.fieldLink "CoercedClasses$Checker" (84 : Nat) "CoercedClasses$Checker" "from" "LCoercedClasses$Type;") ∈ lw_all := lw_g (lw_at lw_m2 104 rfl) rfl
theorem q587 : (Jvm.Cond.fieldLink "CoercedClasses$Checker" (87 : Nat) "CoercedClasses$Checker" "to" "LCoercedClasses$Type;") ∈ lw_all := lw_g (lw_at lw_m2 105 rfl) rfl
theorem q588 : (Jvm.Cond.laysFinal "CoercedClasses$Checker" "CoercedClasses$Checker" "prover" "LCoercedClasses$Prover;") ∈ lw_all := lw_g (lw_at lw_m2 106 rfl) rfl
theorem q589 : (Jvm.Cond.soleField "CoercedClasses$Checker" "prover") ∈ lw_all := lw_g (lw_at lw_m2 107 rfl) rfl
theorem q590 : (Jvm.Cond.laysFinal "CoercedClasses$Checker" "CoercedClasses$Checker" "finder" "LCoercedClasses$Finder;") ∈ lw_all := lw_g (lw_at lw_m2 108 rfl) rfl
theorem q591 : (Jvm.Cond.soleField "CoercedClasses$Checker" "finder") ∈ lw_all := lw_g (lw_at lw_m2 109 rfl) rfl
theorem q592 : (Jvm.Cond.lays "CoercedClasses$Checker" "CoercedClasses$Checker" "table" "LCoercedClasses$Table;") ∈ lw_all := lw_g (lw_at lw_m2 110 rfl) rfl
theorem q593 : (Jvm.Cond.soleField "CoercedClasses$Checker" "table") ∈ lw_all := lw_g (lw_at lw_m2 111 rfl) rfl
theorem q594 : (Jvm.Cond.lays "CoercedClasses$Checker" "CoercedClasses$Checker" "scope" "LCoercedClasses$Scope;") ∈ lw_all := lw_g (lw_at lw_m2 112 rfl) rfl
theorem q595 : (Jvm.Cond.soleField "CoercedClasses$Checker" "scope") ∈ lw_all := lw_g (lw_at lw_m2 113 rfl) rfl
theorem q596 : (Jvm.Cond.lays "CoercedClasses$Checker" "CoercedClasses$Checker" "casts" "I") ∈ lw_all := lw_g (lw_at lw_m2 114 rfl) rfl
theorem q597 : (Jvm.Cond.soleField "CoercedClasses$Checker" "casts") ∈ lw_all := lw_g (lw_at lw_m2 115 rfl) rfl
theorem q598 : (Jvm.Cond.laysFinal "CoercedClasses$Checker" "CoercedClasses$Checker" "bound" "Ljava/util/ArrayList;") ∈ lw_all := lw_g (lw_at lw_m2 116 rfl) rfl
theorem q599 : (Jvm.Cond.soleField "CoercedClasses$Checker" "bound") ∈ lw_all := lw_g (lw_at lw_m2 117 rfl) rfl
theorem q600 : (Jvm.Cond.lays "CoercedClasses$Checker" "CoercedClasses$Checker" "from" "LCoercedClasses$Type;") ∈ lw_all := lw_g (lw_at lw_m2 118 rfl) rfl
theorem q601 : (Jvm.Cond.soleField "CoercedClasses$Checker" "from") ∈ lw_all := lw_g (lw_at lw_m2 119 rfl) rfl
theorem q602 : (Jvm.Cond.lays "CoercedClasses$Checker" "CoercedClasses$Checker" "to" "LCoercedClasses$Type;") ∈ lw_all := lw_g (lw_at lw_m2 120 rfl) rfl
theorem q603 : (Jvm.Cond.soleField "CoercedClasses$Checker" "to") ∈ lw_all := lw_g (lw_at lw_m2 121 rfl) rfl
theorem q604 : (Jvm.Cond.superclass "CoercedClasses$Checker" "java/lang/Object") ∈ lw_all := lw_g (lw_at lw_m2 122 rfl) rfl
theorem q729 : (Jvm.Cond.fieldLinkNest "CoercedClasses$Checker" (31 : Nat) "CoercedClasses$Term" "scope" "LCoercedClasses$Scope;" "CoercedClasses") ∈ lw_tbl := lw_at lw_m3 7 rfl
theorem q732 : (Jvm.Cond.fieldLinkNest "CoercedClasses$Checker" (37 : Nat) "CoercedClasses$Term" "table" "LCoercedClasses$Table;" "CoercedClasses") ∈ lw_tbl := lw_at lw_m3 10 rfl
theorem q735 : (Jvm.Cond.fieldLinkNest "CoercedClasses$Checker" (64 : Nat) "CoercedClasses$Term" "ex" "LCoercedClasses$Ex;" "CoercedClasses") ∈ lw_tbl := lw_at lw_m3 13 rfl
theorem q738 : (Jvm.Cond.fieldLinkNest "CoercedClasses$Checker" (53 : Nat) "CoercedClasses$Term" "dictionary" "LCoercedClasses$Dictionary;" "CoercedClasses") ∈ lw_tbl := lw_at lw_m3 16 rfl
theorem q741 : (Jvm.Cond.fieldLinkNest "CoercedClasses$Checker" (60 : Nat) "CoercedClasses$Term" "type" "LCoercedClasses$Type;" "CoercedClasses") ∈ lw_tbl := lw_at lw_m3 19 rfl
theorem q1143 : (Jvm.Cond.selects "CoercedClasses$Checker" ({ cls := "java/lang/Object", name := "getClass", desc := "()Ljava/lang/Class;" } : Jvm.MethodName) ({ cls := "java/lang/Object", name := "getClass", desc := "()Ljava/lang/Class;" } : Jvm.MethodName)) ∈ lw_all := lw_g (lw_at lw_m4 181 rfl) rfl
theorem q1213 : (Jvm.Cond.fieldLinkNest "CoercedClasses$Checker" (187 : Nat) "CoercedClasses$ClassDecl" "above" "LCoercedClasses$ClassDecl;" "CoercedClasses") ∈ lw_tbl := lw_at lw_m5 11 rfl
theorem q1219 : (Jvm.Cond.fieldLinkNest "CoercedClasses$Checker" (241 : Nat) "CoercedClasses$ClassDecl" "names" "Ljava/util/ArrayList;" "CoercedClasses") ∈ lw_tbl := lw_at lw_m5 17 rfl
theorem q1323 : (Jvm.Cond.fieldLinkNest "CoercedClasses$Checker" (236 : Nat) "CoercedClasses$Method" "of" "LCoercedClasses$ClassDecl;" "CoercedClasses") ∈ lw_tbl := lw_at lw_m5 121 rfl
theorem q1329 : (Jvm.Cond.fieldLinkNest "CoercedClasses$Checker" (240 : Nat) "CoercedClasses$Method" "type" "LCoercedClasses$Type;" "CoercedClasses") ∈ lw_tbl := lw_at lw_m5 127 rfl
theorem q1364 : (Jvm.Cond.fieldLinkNest "CoercedClasses$Checker" (120 : Nat) "CoercedClasses$Instance" "scope" "LCoercedClasses$Scope;" "CoercedClasses") ∈ lw_tbl := lw_at lw_m5 162 rfl
theorem q1371 : (Jvm.Cond.fieldLinkNest "CoercedClasses$Checker" (94 : Nat) "CoercedClasses$Instance" "of" "LCoercedClasses$ClassDecl;" "CoercedClasses") ∈ lw_tbl := lw_at lw_m5 169 rfl
theorem q1374 : (Jvm.Cond.fieldLinkNest "CoercedClasses$Checker" (114 : Nat) "CoercedClasses$Instance" "conNumber" "I" "CoercedClasses") ∈ lw_tbl := lw_at lw_m5 172 rfl
theorem q1377 : (Jvm.Cond.fieldLinkNest "CoercedClasses$Checker" (117 : Nat) "CoercedClasses$Instance" "familyType" "LCoercedClasses$Type;" "CoercedClasses") ∈ lw_tbl := lw_at lw_m5 175 rfl
theorem q1380 : (Jvm.Cond.fieldLinkNest "CoercedClasses$Checker" (215 : Nat) "CoercedClasses$Instance" "head" "LCoercedClasses$Type;" "CoercedClasses") ∈ lw_tbl := lw_at lw_m5 178 rfl
theorem q1436 : (Jvm.Cond.fieldLinkNest "CoercedClasses$Checker" (143 : Nat) "CoercedClasses$Given" "name" "LCoercedClasses$Word;" "CoercedClasses") ∈ lw_tbl := lw_at lw_m5 234 rfl
theorem q1444 : (Jvm.Cond.fieldLinkNest "CoercedClasses$Checker" (142 : Nat) "CoercedClasses$Given" "of" "LCoercedClasses$ClassDecl;" "CoercedClasses") ∈ lw_tbl := lw_at lw_m6 2 rfl
theorem q1448 : (Jvm.Cond.fieldLinkNest "CoercedClasses$Checker" (150 : Nat) "CoercedClasses$Given" "type" "LCoercedClasses$Type;" "CoercedClasses") ∈ lw_tbl := lw_at lw_m6 6 rfl
theorem q1500 : (Jvm.Cond.fieldLinkNest "CoercedClasses$Checker" (285 : Nat) "CoercedClasses$Lambda" "of" "LCoercedClasses$Type;" "CoercedClasses") ∈ lw_tbl := lw_at lw_m6 58 rfl
theorem q1504 : (Jvm.Cond.fieldLinkNest "CoercedClasses$Checker" (287 : Nat) "CoercedClasses$Lambda" "body" "LCoercedClasses$Ex;" "CoercedClasses") ∈ lw_tbl := lw_at lw_m6 62 rfl
theorem q1517 : (Jvm.Cond.fieldLink "CoercedClasses$Checker" (263 : Nat) "CoercedClasses$Ex" "cast" "LCoercedClasses$Type;") ∈ lw_all := lw_g (lw_at lw_m6 75 rfl) rfl
theorem q1556 : (Jvm.Cond.fieldLinkNest "CoercedClasses$Checker" (303 : Nat) "CoercedClasses$Let" "of" "LCoercedClasses$Type;" "CoercedClasses") ∈ lw_tbl := lw_at lw_m6 114 rfl
theorem q1560 : (Jvm.Cond.fieldLinkNest "CoercedClasses$Checker" (300 : Nat) "CoercedClasses$Let" "first" "LCoercedClasses$Ex;" "CoercedClasses") ∈ lw_tbl := lw_at lw_m6 118 rfl
theorem q1566 : (Jvm.Cond.fieldLinkNest "CoercedClasses$Checker" (304 : Nat) "CoercedClasses$Let" "body" "LCoercedClasses$Ex;" "CoercedClasses") ∈ lw_tbl := lw_at lw_m6 124 rfl
theorem q1601 : (Jvm.Cond.fieldLinkNest "CoercedClasses$Checker" (307 : Nat) "CoercedClasses$If" "a" "LCoercedClasses$Ex;" "CoercedClasses") ∈ lw_tbl := lw_at lw_m6 159 rfl
theorem q1607 : (Jvm.Cond.fieldLinkNest "CoercedClasses$Checker" (309 : Nat) "CoercedClasses$If" "b" "LCoercedClasses$Ex;" "CoercedClasses") ∈ lw_tbl := lw_at lw_m6 165 rfl
theorem q1613 : (Jvm.Cond.fieldLinkNest "CoercedClasses$Checker" (311 : Nat) "CoercedClasses$If" "c" "LCoercedClasses$Ex;" "CoercedClasses") ∈ lw_tbl := lw_at lw_m6 171 rfl
theorem q1640 : (Jvm.Cond.fieldLinkNest "CoercedClasses$Checker" (332 : Nat) "CoercedClasses$Case" "subject" "LCoercedClasses$Ex;" "CoercedClasses") ∈ lw_tbl := lw_at lw_m6 198 rfl
theorem q1645 : (Jvm.Cond.fieldLinkNest "CoercedClasses$Checker" (335 : Nat) "CoercedClasses$Case" "nil" "LCoercedClasses$Ex;" "CoercedClasses") ∈ lw_tbl := lw_at lw_m6 203 rfl
theorem q1651 : (Jvm.Cond.fieldLinkNest "CoercedClasses$Checker" (340 : Nat) "CoercedClasses$Case" "cons" "LCoercedClasses$Ex;" "CoercedClasses") ∈ lw_tbl := lw_at lw_m6 209 rfl
theorem q1711 : (Jvm.Cond.fieldLinkNest "CoercedClasses$Checker" (239 : Nat) "CoercedClasses$Name" "types" "Ljava/util/ArrayList;" "CoercedClasses") ∈ lw_tbl := lw_at lw_m7 29 rfl
theorem q1715 : (Jvm.Cond.fieldLinkNest "CoercedClasses$Checker" (223 : Nat) "CoercedClasses$Name" "up" "I" "CoercedClasses") ∈ lw_tbl := lw_at lw_m7 33 rfl
theorem q1719 : (Jvm.Cond.fieldLinkNest "CoercedClasses$Checker" (242 : Nat) "CoercedClasses$Name" "function" "LCoercedClasses$Function;" "CoercedClasses") ∈ lw_tbl := lw_at lw_m7 37 rfl
theorem q1723 : (Jvm.Cond.fieldLinkNest "CoercedClasses$Checker" (226 : Nat) "CoercedClasses$Name" "method" "LCoercedClasses$Method;" "CoercedClasses") ∈ lw_tbl := lw_at lw_m7 41 rfl
theorem q1728 : (Jvm.Cond.fieldLinkNest "CoercedClasses$Checker" (246 : Nat) "CoercedClasses$Name" "built" "I" "CoercedClasses") ∈ lw_tbl := lw_at lw_m7 46 rfl
theorem q1732 : (Jvm.Cond.fieldLinkNest "CoercedClasses$Checker" (230 : Nat) "CoercedClasses$Name" "evidence" "Ljava/util/ArrayList;" "CoercedClasses") ∈ lw_tbl := lw_at lw_m7 50 rfl
theorem q1785 : (Jvm.Cond.fieldLinkNest "CoercedClasses$Checker" (343 : Nat) "CoercedClasses$Use" "head" "LCoercedClasses$Ex;" "CoercedClasses") ∈ lw_tbl := lw_at lw_m7 103 rfl
theorem q1793 : (Jvm.Cond.fieldLinkNest "CoercedClasses$Checker" (350 : Nat) "CoercedClasses$Use" "items" "Ljava/util/ArrayList;" "CoercedClasses") ∈ lw_tbl := lw_at lw_m7 111 rfl
theorem q1820 : (Jvm.Cond.fieldLinkNest "CoercedClasses$Checker" (360 : Nat) "CoercedClasses$Item" "ex" "LCoercedClasses$Ex;" "CoercedClasses") ∈ lw_tbl := lw_at lw_m7 138 rfl
theorem q1828 : (Jvm.Cond.fieldLinkNest "CoercedClasses$Checker" (357 : Nat) "CoercedClasses$Item" "before" "LCoercedClasses$Type;" "CoercedClasses") ∈ lw_tbl := lw_at lw_m7 146 rfl
theorem q1831 : (Jvm.Cond.fieldLinkNest "CoercedClasses$Checker" (355 : Nat) "CoercedClasses$Item" "arrow" "LCoercedClasses$Type;" "CoercedClasses") ∈ lw_tbl := lw_at lw_m7 149 rfl
theorem q1855 : (Jvm.Cond.fieldLinkNest "CoercedClasses$Checker" (363 : Nat) "CoercedClasses$Chain" "first" "LCoercedClasses$Ex;" "CoercedClasses") ∈ lw_tbl := lw_at lw_m7 173 rfl
theorem q1863 : (Jvm.Cond.fieldLinkNest "CoercedClasses$Checker" (364 : Nat) "CoercedClasses$Chain" "others" "Ljava/util/ArrayList;" "CoercedClasses") ∈ lw_tbl := lw_at lw_m7 181 rfl
theorem q1868 : (Jvm.Cond.fieldLinkNest "CoercedClasses$Checker" (367 : Nat) "CoercedClasses$Chain" "signs" "Ljava/util/ArrayList;" "CoercedClasses") ∈ lw_tbl := lw_at lw_m7 186 rfl
theorem q1943 : (Jvm.Cond.fieldLinkNest "CoercedClasses$Checker" (254 : Nat) "CoercedClasses$Function" "scope" "LCoercedClasses$Scope;" "CoercedClasses") ∈ lw_tbl := lw_at lw_m8 21 rfl
theorem q1947 : (Jvm.Cond.fieldLinkNest "CoercedClasses$Checker" (259 : Nat) "CoercedClasses$Function" "type" "LCoercedClasses$Type;" "CoercedClasses") ∈ lw_tbl := lw_at lw_m8 25 rfl
theorem q2083 : (Jvm.Cond.fieldLinkNest "CoercedClasses$Checker" (106 : Nat) "CoercedClasses$Type" "kind" "I" "CoercedClasses") ∈ lw_tbl := lw_at lw_m8 161 rfl
theorem q2091 : (Jvm.Cond.fieldLinkNest "CoercedClasses$Checker" (111 : Nat) "CoercedClasses$Type" "con" "I" "CoercedClasses") ∈ lw_tbl := lw_at lw_m8 169 rfl
theorem q2115 : (Jvm.Cond.fieldLinkNest "CoercedClasses$Checker" (338 : Nat) "CoercedClasses$Type" "a" "LCoercedClasses$Type;" "CoercedClasses") ∈ lw_tbl := lw_at lw_m8 193 rfl
theorem q2123 : (Jvm.Cond.fieldLinkNest "CoercedClasses$Checker" (361 : Nat) "CoercedClasses$Type" "b" "LCoercedClasses$Type;" "CoercedClasses") ∈ lw_tbl := lw_at lw_m8 201 rfl
theorem q2383 : (Jvm.Cond.fieldLinkNest "CoercedClasses$Checker" (183 : Nat) "CoercedClasses$Dictionary" "of" "LCoercedClasses$ClassDecl;" "CoercedClasses") ∈ lw_tbl := lw_at lw_m9 221 rfl
theorem q2388 : (Jvm.Cond.fieldLinkNest "CoercedClasses$Checker" (176 : Nat) "CoercedClasses$Dictionary" "given" "I" "CoercedClasses") ∈ lw_tbl := lw_at lw_m9 226 rfl
theorem q2393 : (Jvm.Cond.fieldLinkNest "CoercedClasses$Checker" (184 : Nat) "CoercedClasses$Dictionary" "inner" "LCoercedClasses$Dictionary;" "CoercedClasses") ∈ lw_tbl := lw_at lw_m9 231 rfl
theorem q2397 : (Jvm.Cond.fieldLinkNest "CoercedClasses$Checker" (201 : Nat) "CoercedClasses$Dictionary" "instance" "LCoercedClasses$Instance;" "CoercedClasses") ∈ lw_tbl := lw_at lw_m9 235 rfl
theorem q2402 : (Jvm.Cond.fieldLinkNest "CoercedClasses$Checker" (208 : Nat) "CoercedClasses$Dictionary" "types" "Ljava/util/ArrayList;" "CoercedClasses") ∈ lw_tbl := lw_at lw_m10 0 rfl
theorem q2406 : (Jvm.Cond.fieldLinkNest "CoercedClasses$Checker" (205 : Nat) "CoercedClasses$Dictionary" "conditions" "Ljava/util/ArrayList;" "CoercedClasses") ∈ lw_tbl := lw_at lw_m10 4 rfl
theorem q2411 : (Jvm.Cond.fieldLinkNest "CoercedClasses$Checker" (195 : Nat) "CoercedClasses$Dictionary" "from" "LCoercedClasses$Type;" "CoercedClasses") ∈ lw_tbl := lw_at lw_m10 9 rfl
theorem q2415 : (Jvm.Cond.fieldLinkNest "CoercedClasses$Checker" (196 : Nat) "CoercedClasses$Dictionary" "to" "LCoercedClasses$Type;" "CoercedClasses") ∈ lw_tbl := lw_at lw_m10 13 rfl
theorem q2537 : (Jvm.Cond.fieldLinkNest "CoercedClasses$Checker" (235 : Nat) "CoercedClasses$Evidence" "dictionary" "LCoercedClasses$Dictionary;" "CoercedClasses") ∈ lw_tbl := lw_at lw_m10 135 rfl
theorem q2542 : (Jvm.Cond.fieldLinkNest "CoercedClasses$Checker" (257 : Nat) "CoercedClasses$Evidence" "from" "LCoercedClasses$Type;" "CoercedClasses") ∈ lw_tbl := lw_at lw_m10 140 rfl
theorem q2545 : (Jvm.Cond.fieldLinkNest "CoercedClasses$Checker" (258 : Nat) "CoercedClasses$Evidence" "to" "LCoercedClasses$Type;" "CoercedClasses") ∈ lw_tbl := lw_at lw_m10 143 rfl
theorem q2740 : (Jvm.Cond.fieldLinkNest "CoercedClasses$Checker" (71 : Nat) "CoercedClasses$Proof" "why" "LCoercedClasses$Why;" "CoercedClasses") ∈ lw_tbl := lw_at lw_m11 98 rfl
theorem q2743 : (Jvm.Cond.fieldLinkNest "CoercedClasses$Checker" (83 : Nat) "CoercedClasses$Proof" "type" "LCoercedClasses$Type;" "CoercedClasses") ∈ lw_tbl := lw_at lw_m11 101 rfl
theorem q2746 : (Jvm.Cond.fieldLinkNest "CoercedClasses$Checker" (90 : Nat) "CoercedClasses$Proof" "instance" "LCoercedClasses$Instance;" "CoercedClasses") ∈ lw_tbl := lw_at lw_m11 104 rfl
theorem q2749 : (Jvm.Cond.fieldLinkNest "CoercedClasses$Checker" (133 : Nat) "CoercedClasses$Proof" "given" "I" "CoercedClasses") ∈ lw_tbl := lw_at lw_m11 107 rfl
theorem q2753 : (Jvm.Cond.fieldLinkNest "CoercedClasses$Checker" (151 : Nat) "CoercedClasses$Proof" "a" "LCoercedClasses$Proof;" "CoercedClasses") ∈ lw_tbl := lw_at lw_m11 111 rfl
theorem q2756 : (Jvm.Cond.fieldLinkNest "CoercedClasses$Checker" (159 : Nat) "CoercedClasses$Proof" "b" "LCoercedClasses$Proof;" "CoercedClasses") ∈ lw_tbl := lw_at lw_m11 114 rfl
theorem q3145 : (Jvm.Cond.instanceMethod ({ cls := "CoercedClasses$Checker", name := "check", desc := "(LCoercedClasses$Term;)I" } : Jvm.MethodName)) ∈ lw_all := lw_g (lw_at lw_m13 23 rfl) rfl
theorem q3146 : (Jvm.Cond.selects "CoercedClasses$Checker" ({ cls := "CoercedClasses$Checker", name := "check", desc := "(LCoercedClasses$Term;)I" } : Jvm.MethodName) ({ cls := "CoercedClasses$Checker", name := "check", desc := "(LCoercedClasses$Term;)I" } : Jvm.MethodName)) ∈ lw_all := lw_g (lw_at lw_m13 24 rfl) rfl
theorem q3147 : (Jvm.Cond.code ({ cls := "CoercedClasses$Checker", name := "check", desc := "(LCoercedClasses$Term;)I" } : Jvm.MethodName) prog_6_method_2_code (3 : Nat) (Option.some Jvm.ClassFile.FieldType.int)) ∈ lw_all := lw_g (lw_at lw_m13 25 rfl) rfl
theorem q3148 : (Jvm.Cond.methodLink "CoercedClasses$Checker" (41 : Nat) ({ cls := "CoercedClasses$Finder", name := "is", desc := "(LCoercedClasses$Scope;LCoercedClasses$Table;)V" } : Jvm.MethodName)) ∈ lw_all := lw_g (lw_at lw_m13 26 rfl) rfl
theorem q3149 : (Jvm.Cond.methodLink "CoercedClasses$Checker" (50 : Nat) ({ cls := "java/util/ArrayList", name := "clear", desc := "()V" } : Jvm.MethodName)) ∈ lw_all := lw_g (lw_at lw_m13 27 rfl) rfl
theorem q3150 : (Jvm.Cond.methodLink "CoercedClasses$Checker" (57 : Nat) ({ cls := "CoercedClasses$Checker", name := "dictionary", desc := "(LCoercedClasses$Dictionary;)LCoercedClasses$Type;" } : Jvm.MethodName)) ∈ lw_all := lw_g (lw_at lw_m13 28 rfl) rfl
theorem q3151 : (Jvm.Cond.privateMethod ({ cls := "CoercedClasses$Checker", name := "dictionary", desc := "(LCoercedClasses$Dictionary;)LCoercedClasses$Type;" } : Jvm.MethodName)) ∈ lw_tbl := lw_at lw_m13 29 rfl
theorem q3152 : (Jvm.Cond.instanceMethod ({ cls := "CoercedClasses$Checker", name := "dictionary", desc := "(LCoercedClasses$Dictionary;)LCoercedClasses$Type;" } : Jvm.MethodName)) ∈ lw_all := lw_g (lw_at lw_m13 30 rfl) rfl
theorem q3153 : (Jvm.Cond.code ({ cls := "CoercedClasses$Checker", name := "dictionary", desc := "(LCoercedClasses$Dictionary;)LCoercedClasses$Type;" } : Jvm.MethodName) prog_6_method_5_code (4 : Nat) (Option.some (Jvm.ClassFile.FieldType.object "CoercedClasses$Type"))) ∈ lw_all := lw_g (lw_at lw_m13 31 rfl) rfl
theorem q3154 : (Jvm.Cond.methodLink "CoercedClasses$Checker" (136 : Nat) ({ cls := "java/util/ArrayList", name := "get", desc := "(I)Ljava/lang/Object;" } : Jvm.MethodName)) ∈ lw_all := lw_g (lw_at lw_m13 32 rfl) rfl
theorem q3155 : (Jvm.Cond.classLink "CoercedClasses$Checker" (140 : Nat) "CoercedClasses$Given") ∈ lw_all := lw_g (lw_at lw_m13 33 rfl) rfl
theorem q3156 : (Jvm.Cond.methodLink "CoercedClasses$Checker" (179 : Nat) ({ cls := "CoercedClasses$Given", name := "isEqual", desc := "()Z" } : Jvm.MethodName)) ∈ lw_all := lw_g (lw_at lw_m13 34 rfl) rfl
theorem q3157 : (Jvm.Cond.methodLink "CoercedClasses$Checker" (147 : Nat) ({ cls := "CoercedClasses$Table", name := "name", desc := "(LCoercedClasses$Word;)LCoercedClasses$Type;" } : Jvm.MethodName)) ∈ lw_all := lw_g (lw_at lw_m13 35 rfl) rfl
theorem q3158 : (Jvm.Cond.methodLink "CoercedClasses$Checker" (192 : Nat) ({ cls := "CoercedClasses$Checker", name := "byInstance", desc := "(LCoercedClasses$Dictionary;)LCoercedClasses$Type;" } : Jvm.MethodName)) ∈ lw_all := lw_g (lw_at lw_m13 36 rfl) rfl
theorem q3159 : (Jvm.Cond.privateMethod ({ cls := "CoercedClasses$Checker", name := "byInstance", desc := "(LCoercedClasses$Dictionary;)LCoercedClasses$Type;" } : Jvm.MethodName)) ∈ lw_tbl := lw_at lw_m13 37 rfl
theorem q3160 : (Jvm.Cond.instanceMethod ({ cls := "CoercedClasses$Checker", name := "byInstance", desc := "(LCoercedClasses$Dictionary;)LCoercedClasses$Type;" } : Jvm.MethodName)) ∈ lw_all := lw_g (lw_at lw_m13 38 rfl) rfl
theorem q3161 : (Jvm.Cond.code ({ cls := "CoercedClasses$Checker", name := "byInstance", desc := "(LCoercedClasses$Dictionary;)LCoercedClasses$Type;" } : Jvm.MethodName) prog_6_method_6_code (5 : Nat) (Option.some (Jvm.ClassFile.FieldType.object "CoercedClasses$Type"))) ∈ lw_all := lw_g (lw_at lw_m13 39 rfl) rfl
theorem q3162 : (Jvm.Cond.methodLink "CoercedClasses$Checker" (202 : Nat) ({ cls := "java/util/ArrayList", name := "size", desc := "()I" } : Jvm.MethodName)) ∈ lw_all := lw_g (lw_at lw_m13 40 rfl) rfl
theorem q3163 : (Jvm.Cond.classLink "CoercedClasses$Checker" (177 : Nat) "CoercedClasses$Dictionary") ∈ lw_all := lw_g (lw_at lw_m13 41 rfl) rfl
theorem q3164 : (Jvm.Cond.methodLinkNest "CoercedClasses$Checker" (211 : Nat) ({ cls := "CoercedClasses", name := "typeFor", desc := "(LCoercedClasses$Scope;Ljava/util/ArrayList;LCoercedClasses$Word;)LCoercedClasses$Type;" } : Jvm.MethodName) "CoercedClasses") ∈ lw_tbl := lw_at lw_m13 42 rfl
theorem q3165 : (Jvm.Cond.methodLinkNest "CoercedClasses$Checker" (126 : Nat) ({ cls := "CoercedClasses$Finder", name := "put0", desc := "(LCoercedClasses$Type;Ljava/util/ArrayList;Ljava/util/ArrayList;LCoercedClasses$Type;)LCoercedClasses$Type;" } : Jvm.MethodName) "CoercedClasses") ∈ lw_tbl := lw_at lw_m13 43 rfl
theorem q3166 : (Jvm.Cond.methodLink "CoercedClasses$Checker" (197 : Nat) ({ cls := "CoercedClasses$Checker", name := "isOne", desc := "(LCoercedClasses$Type;LCoercedClasses$Type;)Z" } : Jvm.MethodName)) ∈ lw_all := lw_g (lw_at lw_m13 44 rfl) rfl
theorem q3167 : (Jvm.Cond.privateMethod ({ cls := "CoercedClasses$Checker", name := "isOne", desc := "(LCoercedClasses$Type;LCoercedClasses$Type;)Z" } : Jvm.MethodName)) ∈ lw_tbl := lw_at lw_m13 45 rfl
theorem q3168 : (Jvm.Cond.instanceMethod ({ cls := "CoercedClasses$Checker", name := "isOne", desc := "(LCoercedClasses$Type;LCoercedClasses$Type;)Z" } : Jvm.MethodName)) ∈ lw_all := lw_g (lw_at lw_m13 46 rfl) rfl
theorem q3169 : (Jvm.Cond.code ({ cls := "CoercedClasses$Checker", name := "isOne", desc := "(LCoercedClasses$Type;LCoercedClasses$Type;)Z" } : Jvm.MethodName) prog_6_method_4_code (3 : Nat) (Option.some Jvm.ClassFile.FieldType.boolean)) ∈ lw_all := lw_g (lw_at lw_m13 47 rfl) rfl
theorem q3170 : (Jvm.Cond.methodLink "CoercedClasses$Checker" (166 : Nat) ({ cls := "CoercedClasses$Prover", name := "begin", desc := "(LCoercedClasses$Finder;)V" } : Jvm.MethodName)) ∈ lw_all := lw_g (lw_at lw_m13 48 rfl) rfl
theorem q3171 : (Jvm.Cond.methodLink "CoercedClasses$Checker" (172 : Nat) ({ cls := "CoercedClasses$Prover", name := "one", desc := "(LCoercedClasses$Type;LCoercedClasses$Type;)LCoercedClasses$Proof;" } : Jvm.MethodName)) ∈ lw_all := lw_g (lw_at lw_m13 49 rfl) rfl
theorem q3172 : (Jvm.Cond.methodLink "CoercedClasses$Checker" (155 : Nat) ({ cls := "CoercedClasses$Checker", name := "isProof", desc := "(LCoercedClasses$Proof;)Z" } : Jvm.MethodName)) ∈ lw_all := lw_g (lw_at lw_m13 50 rfl) rfl
theorem q3173 : (Jvm.Cond.privateMethod ({ cls := "CoercedClasses$Checker", name := "isProof", desc := "(LCoercedClasses$Proof;)Z" } : Jvm.MethodName)) ∈ lw_tbl := lw_at lw_m13 51 rfl
theorem q3174 : (Jvm.Cond.instanceMethod ({ cls := "CoercedClasses$Checker", name := "isProof", desc := "(LCoercedClasses$Proof;)Z" } : Jvm.MethodName)) ∈ lw_all := lw_g (lw_at lw_m13 52 rfl) rfl
theorem q3175 : (Jvm.Cond.code ({ cls := "CoercedClasses$Checker", name := "isProof", desc := "(LCoercedClasses$Proof;)Z" } : Jvm.MethodName) prog_6_method_3_code (6 : Nat) (Option.some Jvm.ClassFile.FieldType.boolean)) ∈ lw_all := lw_g (lw_at lw_m13 53 rfl) rfl
theorem q3176 : (Jvm.Cond.methodLink "CoercedClasses$Checker" (77 : Nat) ({ cls := "CoercedClasses$Why", name := "ordinal", desc := "()I" } : Jvm.MethodName)) ∈ lw_all := lw_g (lw_at lw_m13 54 rfl) rfl
theorem q3177 : (Jvm.Cond.methodLink "CoercedClasses$Checker" (100 : Nat) ({ cls := "CoercedClasses$Table", name := "family", desc := "(LCoercedClasses$ClassDecl;LCoercedClasses$Type;)LCoercedClasses$Type;" } : Jvm.MethodName)) ∈ lw_all := lw_g (lw_at lw_m13 55 rfl) rfl
theorem q3178 : (Jvm.Cond.methodLink "CoercedClasses$Checker" (162 : Nat) ({ cls := "CoercedClasses$Table", name := "like", desc := "(LCoercedClasses$Type;LCoercedClasses$Type;LCoercedClasses$Type;)LCoercedClasses$Type;" } : Jvm.MethodName)) ∈ lw_all := lw_g (lw_at lw_m13 56 rfl) rfl
theorem q3179 : (Jvm.Cond.methodLink "CoercedClasses$Checker" (68 : Nat) ({ cls := "CoercedClasses$Checker", name := "ex", desc := "(LCoercedClasses$Ex;)LCoercedClasses$Type;" } : Jvm.MethodName)) ∈ lw_all := lw_g (lw_at lw_m13 57 rfl) rfl
theorem q3180 : (Jvm.Cond.privateMethod ({ cls := "CoercedClasses$Checker", name := "ex", desc := "(LCoercedClasses$Ex;)LCoercedClasses$Type;" } : Jvm.MethodName)) ∈ lw_tbl := lw_at lw_m13 58 rfl
theorem q3181 : (Jvm.Cond.instanceMethod ({ cls := "CoercedClasses$Checker", name := "ex", desc := "(LCoercedClasses$Ex;)LCoercedClasses$Type;" } : Jvm.MethodName)) ∈ lw_all := lw_g (lw_at lw_m13 59 rfl) rfl
theorem q3182 : (Jvm.Cond.code ({ cls := "CoercedClasses$Checker", name := "ex", desc := "(LCoercedClasses$Ex;)LCoercedClasses$Type;" } : Jvm.MethodName) prog_6_method_8_code (3 : Nat) (Option.some (Jvm.ClassFile.FieldType.object "CoercedClasses$Type"))) ∈ lw_all := lw_g (lw_at lw_m13 60 rfl) rfl
theorem q3183 : (Jvm.Cond.methodLink "CoercedClasses$Checker" (260 : Nat) ({ cls := "CoercedClasses$Checker", name := "plain", desc := "(LCoercedClasses$Ex;)LCoercedClasses$Type;" } : Jvm.MethodName)) ∈ lw_all := lw_g (lw_at lw_m13 61 rfl) rfl
theorem q3184 : (Jvm.Cond.privateMethod ({ cls := "CoercedClasses$Checker", name := "plain", desc := "(LCoercedClasses$Ex;)LCoercedClasses$Type;" } : Jvm.MethodName)) ∈ lw_tbl := lw_at lw_m13 62 rfl
theorem q3185 : (Jvm.Cond.instanceMethod ({ cls := "CoercedClasses$Checker", name := "plain", desc := "(LCoercedClasses$Ex;)LCoercedClasses$Type;" } : Jvm.MethodName)) ∈ lw_all := lw_g (lw_at lw_m13 63 rfl) rfl
theorem q3186 : (Jvm.Cond.code ({ cls := "CoercedClasses$Checker", name := "plain", desc := "(LCoercedClasses$Ex;)LCoercedClasses$Type;" } : Jvm.MethodName) prog_6_method_10_code (4 : Nat) (Option.some (Jvm.ClassFile.FieldType.object "CoercedClasses$Type"))) ∈ lw_all := lw_g (lw_at lw_m13 64 rfl) rfl
theorem q3187 : (Jvm.Cond.classLink "CoercedClasses$Checker" (219 : Nat) "CoercedClasses$Name") ∈ lw_all := lw_g (lw_at lw_m13 65 rfl) rfl
theorem q3188 : (Jvm.Cond.methodLink "CoercedClasses$Checker" (275 : Nat) ({ cls := "CoercedClasses$Checker", name := "name", desc := "(LCoercedClasses$Name;)LCoercedClasses$Type;" } : Jvm.MethodName)) ∈ lw_all := lw_g (lw_at lw_m13 66 rfl) rfl
theorem q3189 : (Jvm.Cond.privateMethod ({ cls := "CoercedClasses$Checker", name := "name", desc := "(LCoercedClasses$Name;)LCoercedClasses$Type;" } : Jvm.MethodName)) ∈ lw_tbl := lw_at lw_m13 67 rfl
theorem q3190 : (Jvm.Cond.instanceMethod ({ cls := "CoercedClasses$Checker", name := "name", desc := "(LCoercedClasses$Name;)LCoercedClasses$Type;" } : Jvm.MethodName)) ∈ lw_all := lw_g (lw_at lw_m13 68 rfl) rfl
theorem q3191 : (Jvm.Cond.code ({ cls := "CoercedClasses$Checker", name := "name", desc := "(LCoercedClasses$Name;)LCoercedClasses$Type;" } : Jvm.MethodName) prog_6_method_7_code (7 : Nat) (Option.some (Jvm.ClassFile.FieldType.object "CoercedClasses$Type"))) ∈ lw_all := lw_g (lw_at lw_m13 69 rfl) rfl
theorem q3192 : (Jvm.Cond.methodLink "CoercedClasses$Checker" (218 : Nat) ({ cls := "CoercedClasses$Name", name := "isBound", desc := "()Z" } : Jvm.MethodName)) ∈ lw_all := lw_g (lw_at lw_m13 70 rfl) rfl
theorem q3193 : (Jvm.Cond.classLink "CoercedClasses$Checker" (107 : Nat) "CoercedClasses$Type") ∈ lw_all := lw_g (lw_at lw_m13 71 rfl) rfl
theorem q3194 : (Jvm.Cond.classLink "CoercedClasses$Checker" (233 : Nat) "CoercedClasses$Evidence") ∈ lw_all := lw_g (lw_at lw_m13 72 rfl) rfl
theorem q3195 : (Jvm.Cond.methodLink "CoercedClasses$Checker" (249 : Nat) ({ cls := "CoercedClasses$Judge", name := "built", desc := "(LCoercedClasses$Table;ILjava/util/ArrayList;)LCoercedClasses$Type;" } : Jvm.MethodName)) ∈ lw_all := lw_g (lw_at lw_m13 73 rfl) rfl
theorem q3196 : (Jvm.Cond.classLink "CoercedClasses$Checker" (278 : Nat) "CoercedClasses$Num") ∈ lw_all := lw_g (lw_at lw_m13 74 rfl) rfl
theorem q3197 : (Jvm.Cond.methodLink "CoercedClasses$Checker" (280 : Nat) ({ cls := "CoercedClasses$Table", name := "con", desc := "(ILCoercedClasses$Type;LCoercedClasses$Type;)LCoercedClasses$Type;" } : Jvm.MethodName)) ∈ lw_all := lw_g (lw_at lw_m13 75 rfl) rfl
theorem q3198 : (Jvm.Cond.classLink "CoercedClasses$Checker" (283 : Nat) "CoercedClasses$Lambda") ∈ lw_all := lw_g (lw_at lw_m13 76 rfl) rfl
theorem q3199 : (Jvm.Cond.methodLink "CoercedClasses$Checker" (290 : Nat) ({ cls := "CoercedClasses$Checker", name := "inside", desc := "(LCoercedClasses$Type;LCoercedClasses$Ex;)LCoercedClasses$Type;" } : Jvm.MethodName)) ∈ lw_all := lw_g (lw_at lw_m13 77 rfl) rfl
theorem q3200 : (Jvm.Cond.privateMethod ({ cls := "CoercedClasses$Checker", name := "inside", desc := "(LCoercedClasses$Type;LCoercedClasses$Ex;)LCoercedClasses$Type;" } : Jvm.MethodName)) ∈ lw_tbl := lw_at lw_m13 78 rfl
theorem q3201 : (Jvm.Cond.instanceMethod ({ cls := "CoercedClasses$Checker", name := "inside", desc := "(LCoercedClasses$Type;LCoercedClasses$Ex;)LCoercedClasses$Type;" } : Jvm.MethodName)) ∈ lw_all := lw_g (lw_at lw_m13 79 rfl) rfl
theorem q3202 : (Jvm.Cond.code ({ cls := "CoercedClasses$Checker", name := "inside", desc := "(LCoercedClasses$Type;LCoercedClasses$Ex;)LCoercedClasses$Type;" } : Jvm.MethodName) prog_6_method_9_code (4 : Nat) (Option.some (Jvm.ClassFile.FieldType.object "CoercedClasses$Type"))) ∈ lw_all := lw_g (lw_at lw_m13 80 rfl) rfl
theorem q3203 : (Jvm.Cond.methodLink "CoercedClasses$Checker" (268 : Nat) ({ cls := "java/util/ArrayList", name := "add", desc := "(Ljava/lang/Object;)Z" } : Jvm.MethodName)) ∈ lw_all := lw_g (lw_at lw_m13 81 rfl) rfl
theorem q3204 : (Jvm.Cond.methodLink "CoercedClasses$Checker" (272 : Nat) ({ cls := "java/util/ArrayList", name := "remove", desc := "(I)Ljava/lang/Object;" } : Jvm.MethodName)) ∈ lw_all := lw_g (lw_at lw_m13 82 rfl) rfl
theorem q3205 : (Jvm.Cond.methodLink "CoercedClasses$Checker" (294 : Nat) ({ cls := "CoercedClasses$Table", name := "arrow", desc := "(LCoercedClasses$Type;LCoercedClasses$Type;)LCoercedClasses$Type;" } : Jvm.MethodName)) ∈ lw_all := lw_g (lw_at lw_m13 83 rfl) rfl
theorem q3206 : (Jvm.Cond.classLink "CoercedClasses$Checker" (298 : Nat) "CoercedClasses$Let") ∈ lw_all := lw_g (lw_at lw_m13 84 rfl) rfl
theorem q3207 : (Jvm.Cond.classLink "CoercedClasses$Checker" (305 : Nat) "CoercedClasses$If") ∈ lw_all := lw_g (lw_at lw_m13 85 rfl) rfl
theorem q3208 : (Jvm.Cond.classLink "CoercedClasses$Checker" (314 : Nat) "CoercedClasses$Case") ∈ lw_all := lw_g (lw_at lw_m13 86 rfl) rfl
theorem q3209 : (Jvm.Cond.methodLink "CoercedClasses$Checker" (316 : Nat) ({ cls := "CoercedClasses$Checker", name := "cases", desc := "(LCoercedClasses$Case;)LCoercedClasses$Type;" } : Jvm.MethodName)) ∈ lw_all := lw_g (lw_at lw_m13 87 rfl) rfl
theorem q3210 : (Jvm.Cond.privateMethod ({ cls := "CoercedClasses$Checker", name := "cases", desc := "(LCoercedClasses$Case;)LCoercedClasses$Type;" } : Jvm.MethodName)) ∈ lw_tbl := lw_at lw_m13 88 rfl
theorem q3211 : (Jvm.Cond.instanceMethod ({ cls := "CoercedClasses$Checker", name := "cases", desc := "(LCoercedClasses$Case;)LCoercedClasses$Type;" } : Jvm.MethodName)) ∈ lw_all := lw_g (lw_at lw_m13 89 rfl) rfl
theorem q3212 : (Jvm.Cond.code ({ cls := "CoercedClasses$Checker", name := "cases", desc := "(LCoercedClasses$Case;)LCoercedClasses$Type;" } : Jvm.MethodName) prog_6_method_11_code (5 : Nat) (Option.some (Jvm.ClassFile.FieldType.object "CoercedClasses$Type"))) ∈ lw_all := lw_g (lw_at lw_m13 90 rfl) rfl
theorem q3213 : (Jvm.Cond.classLink "CoercedClasses$Checker" (320 : Nat) "CoercedClasses$Use") ∈ lw_all := lw_g (lw_at lw_m13 91 rfl) rfl
theorem q3214 : (Jvm.Cond.methodLink "CoercedClasses$Checker" (322 : Nat) ({ cls := "CoercedClasses$Checker", name := "use", desc := "(LCoercedClasses$Use;)LCoercedClasses$Type;" } : Jvm.MethodName)) ∈ lw_all := lw_g (lw_at lw_m13 92 rfl) rfl
theorem q3215 : (Jvm.Cond.privateMethod ({ cls := "CoercedClasses$Checker", name := "use", desc := "(LCoercedClasses$Use;)LCoercedClasses$Type;" } : Jvm.MethodName)) ∈ lw_tbl := lw_at lw_m13 93 rfl
theorem q3216 : (Jvm.Cond.instanceMethod ({ cls := "CoercedClasses$Checker", name := "use", desc := "(LCoercedClasses$Use;)LCoercedClasses$Type;" } : Jvm.MethodName)) ∈ lw_all := lw_g (lw_at lw_m13 94 rfl) rfl
theorem q3217 : (Jvm.Cond.code ({ cls := "CoercedClasses$Checker", name := "use", desc := "(LCoercedClasses$Use;)LCoercedClasses$Type;" } : Jvm.MethodName) prog_6_method_12_code (5 : Nat) (Option.some (Jvm.ClassFile.FieldType.object "CoercedClasses$Type"))) ∈ lw_all := lw_g (lw_at lw_m13 95 rfl) rfl
theorem q3218 : (Jvm.Cond.methodLinkNest "CoercedClasses$Checker" (345 : Nat) ({ cls := "CoercedClasses$Teller", name := "first", desc := "(LCoercedClasses$Use;)I" } : Jvm.MethodName) "CoercedClasses") ∈ lw_tbl := lw_at lw_m13 96 rfl
theorem q3219 : (Jvm.Cond.classLink "CoercedClasses$Checker" (353 : Nat) "CoercedClasses$Item") ∈ lw_all := lw_g (lw_at lw_m13 97 rfl) rfl
theorem q3220 : (Jvm.Cond.classLink "CoercedClasses$Checker" (326 : Nat) "CoercedClasses$Chain") ∈ lw_all := lw_g (lw_at lw_m13 98 rfl) rfl
theorem q3221 : (Jvm.Cond.methodLink "CoercedClasses$Checker" (328 : Nat) ({ cls := "CoercedClasses$Checker", name := "chain", desc := "(LCoercedClasses$Chain;)LCoercedClasses$Type;" } : Jvm.MethodName)) ∈ lw_all := lw_g (lw_at lw_m13 99 rfl) rfl
theorem q3222 : (Jvm.Cond.privateMethod ({ cls := "CoercedClasses$Checker", name := "chain", desc := "(LCoercedClasses$Chain;)LCoercedClasses$Type;" } : Jvm.MethodName)) ∈ lw_tbl := lw_at lw_m13 100 rfl
theorem q3223 : (Jvm.Cond.instanceMethod ({ cls := "CoercedClasses$Checker", name := "chain", desc := "(LCoercedClasses$Chain;)LCoercedClasses$Type;" } : Jvm.MethodName)) ∈ lw_all := lw_g (lw_at lw_m13 101 rfl) rfl
theorem q3224 : (Jvm.Cond.code ({ cls := "CoercedClasses$Checker", name := "chain", desc := "(LCoercedClasses$Chain;)LCoercedClasses$Type;" } : Jvm.MethodName) prog_6_method_13_code (4 : Nat) (Option.some (Jvm.ClassFile.FieldType.object "CoercedClasses$Type"))) ∈ lw_all := lw_g (lw_at lw_m13 102 rfl) rfl
theorem q3225 : (Jvm.Cond.classLink "CoercedClasses$Checker" (264 : Nat) "CoercedClasses$Ex") ∈ lw_all := lw_g (lw_at lw_m13 103 rfl) rfl
theorem q3226 : (Jvm.Cond.classLink "CoercedClasses$Checker" (370 : Nat) "java/lang/Integer") ∈ lw_all := lw_g (lw_at lw_m13 104 rfl) rfl
theorem q3227 : (Jvm.Cond.methodLink "CoercedClasses$Checker" (372 : Nat) ({ cls := "java/lang/Integer", name := "intValue", desc := "()I" } : Jvm.MethodName)) ∈ lw_all := lw_g (lw_at lw_m13 105 rfl) rfl
theorem q4480 : (Jvm.Cond.castable "CoercedClasses$Checker" "java/lang/Object") ∈ lw_tbl := lw_at lw_m18 158 rfl
theorem in_X9 : ∀ w ∈ wsX90, w ∈ lw_all := lw_in wsX90 [588, 590, 592, 594, 596, 598, 600, 602] (by decide +kernel) (by decide +kernel)
theorem q256 : (Jvm.Cond.initialized "CoercedClasses$Machine") ∈ lw_all := lw_g (lw_at lw_m1 14 rfl) rfl
theorem q606 : (Jvm.Cond.instantiable "CoercedClasses$Machine" (23 : Nat)) ∈ lw_all := lw_g (lw_at lw_m2 124 rfl) rfl
theorem q608 : (Jvm.Cond.instanceMethod ({ cls := "CoercedClasses$Machine", name := "<init>", desc := "()V" } : Jvm.MethodName)) ∈ lw_all := lw_g (lw_at lw_m2 126 rfl) rfl
theorem q609 : (Jvm.Cond.code ({ cls := "CoercedClasses$Machine", name := "<init>", desc := "()V" } : Jvm.MethodName) prog_25_method_1_code (2 : Nat) (Option.none : Option Jvm.ClassFile.FieldType)) ∈ lw_all := lw_g (lw_at lw_m2 127 rfl) rfl
theorem q610 : (Jvm.Cond.methodLink "CoercedClasses$Machine" (3 : Nat) ({ cls := "java/lang/Object", name := "<init>", desc := "()V" } : Jvm.MethodName)) ∈ lw_all := lw_g (lw_at lw_m2 128 rfl) rfl
theorem q611 : (Jvm.Cond.classLink "CoercedClasses$Machine" (9 : Nat) "java/util/ArrayList") ∈ lw_all := lw_g (lw_at lw_m2 129 rfl) rfl
theorem q612 : (Jvm.Cond.methodLink "CoercedClasses$Machine" (11 : Nat) ({ cls := "java/util/ArrayList", name := "<init>", desc := "()V" } : Jvm.MethodName)) ∈ lw_all := lw_g (lw_at lw_m2 130 rfl) rfl
theorem q613 : (Jvm.Cond.classLink "CoercedClasses$Machine" (18 : Nat) "CoercedClasses$Frame") ∈ lw_all := lw_g (lw_at lw_m2 131 rfl) rfl
theorem q615 : (Jvm.Cond.constant "CoercedClasses$Machine" (35 : Nat) (48200 : Int32)) ∈ lw_all := lw_g (lw_at lw_m2 133 rfl) rfl
theorem q616 : (Jvm.Cond.classLink "CoercedClasses$Machine" (36 : Nat) "CoercedClasses$Dictionary") ∈ lw_all := lw_g (lw_at lw_m2 134 rfl) rfl
theorem q619 : (Jvm.Cond.methodLinkNest "CoercedClasses$Machine" (55 : Nat) ({ cls := "CoercedClasses$Frame", name := "<init>", desc := "()V" } : Jvm.MethodName) "CoercedClasses") ∈ lw_tbl := lw_at lw_m2 137 rfl
theorem q623 : (Jvm.Cond.fieldLinkNest "CoercedClasses$Machine" (110 : Nat) "CoercedClasses$Frame" "wait" "LCoercedClasses$Wait;" "CoercedClasses") ∈ lw_tbl := lw_at lw_m2 141 rfl
theorem q624 : (Jvm.Cond.fieldLinkNest "CoercedClasses$Machine" (114 : Nat) "CoercedClasses$Frame" "code" "LCoercedClasses$Ex;" "CoercedClasses") ∈ lw_tbl := lw_at lw_m2 142 rfl
theorem q625 : (Jvm.Cond.fieldLinkNest "CoercedClasses$Machine" (115 : Nat) "CoercedClasses$Frame" "level" "I" "CoercedClasses") ∈ lw_tbl := lw_at lw_m2 143 rfl
theorem q626 : (Jvm.Cond.fieldLinkNest "CoercedClasses$Machine" (116 : Nat) "CoercedClasses$Frame" "around" "I" "CoercedClasses") ∈ lw_tbl := lw_at lw_m2 144 rfl
theorem q627 : (Jvm.Cond.fieldLinkNest "CoercedClasses$Machine" (348 : Nat) "CoercedClasses$Frame" "thing" "J" "CoercedClasses") ∈ lw_tbl := lw_at lw_m2 145 rfl
theorem q629 : (Jvm.Cond.fieldLinkNest "CoercedClasses$Machine" (117 : Nat) "CoercedClasses$Frame" "with" "[I" "CoercedClasses") ∈ lw_tbl := lw_at lw_m2 147 rfl
theorem q645 : (Jvm.Cond.fieldLink "CoercedClasses$Machine" (12 : Nat) "CoercedClasses$Machine" "cells" "Ljava/util/ArrayList;") ∈ lw_all := lw_g (lw_at lw_m2 163 rfl) rfl
theorem q646 : (Jvm.Cond.fieldLink "CoercedClasses$Machine" (56 : Nat) "CoercedClasses$Machine" "used" "I") ∈ lw_all := lw_g (lw_at lw_m2 164 rfl) rfl
theorem q648 : (Jvm.Cond.fieldLink "CoercedClasses$Machine" (20 : Nat) "CoercedClasses$Machine" "frames" "[LCoercedClasses$Frame;") ∈ lw_all := lw_g (lw_at lw_m2 166 rfl) rfl
theorem q649 : (Jvm.Cond.fieldLink "CoercedClasses$Machine" (60 : Nat) "CoercedClasses$Machine" "many" "I") ∈ lw_all := lw_g (lw_at lw_m2 167 rfl) rfl
theorem q651 : (Jvm.Cond.fieldLink "CoercedClasses$Machine" (63 : Nat) "CoercedClasses$Machine" "most" "I") ∈ lw_all := lw_g (lw_at lw_m2 169 rfl) rfl
theorem q653 : (Jvm.Cond.fieldLink "CoercedClasses$Machine" (72 : Nat) "CoercedClasses$Machine" "state" "I") ∈ lw_all := lw_g (lw_at lw_m2 171 rfl) rfl
theorem q655 : (Jvm.Cond.fieldLink "CoercedClasses$Machine" (66 : Nat) "CoercedClasses$Machine" "steps" "I") ∈ lw_all := lw_g (lw_at lw_m2 173 rfl) rfl
theorem q657 : (Jvm.Cond.fieldLink "CoercedClasses$Machine" (75 : Nat) "CoercedClasses$Machine" "code" "LCoercedClasses$Ex;") ∈ lw_all := lw_g (lw_at lw_m2 175 rfl) rfl
theorem q658 : (Jvm.Cond.fieldLink "CoercedClasses$Machine" (79 : Nat) "CoercedClasses$Machine" "level" "I") ∈ lw_all := lw_g (lw_at lw_m2 176 rfl) rfl
theorem q659 : (Jvm.Cond.fieldLink "CoercedClasses$Machine" (82 : Nat) "CoercedClasses$Machine" "around" "I") ∈ lw_all := lw_g (lw_at lw_m2 177 rfl) rfl
theorem q660 : (Jvm.Cond.fieldLink "CoercedClasses$Machine" (24 : Nat) "CoercedClasses$Machine" "with" "[I") ∈ lw_all := lw_g (lw_at lw_m2 178 rfl) rfl
theorem q661 : (Jvm.Cond.fieldLink "CoercedClasses$Machine" (28 : Nat) "CoercedClasses$Machine" "other" "[I") ∈ lw_all := lw_g (lw_at lw_m2 179 rfl) rfl
theorem q662 : (Jvm.Cond.fieldLink "CoercedClasses$Machine" (333 : Nat) "CoercedClasses$Machine" "result" "J") ∈ lw_all := lw_g (lw_at lw_m2 180 rfl) rfl
theorem q663 : (Jvm.Cond.fieldLink "CoercedClasses$Machine" (31 : Nat) "CoercedClasses$Machine" "shown" "[B") ∈ lw_all := lw_g (lw_at lw_m2 181 rfl) rfl
theorem q665 : (Jvm.Cond.fieldLink "CoercedClasses$Machine" (69 : Nat) "CoercedClasses$Machine" "said" "I") ∈ lw_all := lw_g (lw_at lw_m2 183 rfl) rfl
theorem q667 : (Jvm.Cond.fieldLink "CoercedClasses$Machine" (38 : Nat) "CoercedClasses$Machine" "dueOf" "[LCoercedClasses$Dictionary;") ∈ lw_all := lw_g (lw_at lw_m2 185 rfl) rfl
theorem q668 : (Jvm.Cond.fieldLink "CoercedClasses$Machine" (42 : Nat) "CoercedClasses$Machine" "dueBy" "[I") ∈ lw_all := lw_g (lw_at lw_m2 186 rfl) rfl
theorem q669 : (Jvm.Cond.fieldLink "CoercedClasses$Machine" (45 : Nat) "CoercedClasses$Machine" "dueInto" "[I") ∈ lw_all := lw_g (lw_at lw_m2 187 rfl) rfl
theorem q670 : (Jvm.Cond.fieldLink "CoercedClasses$Machine" (48 : Nat) "CoercedClasses$Machine" "duePlace" "[I") ∈ lw_all := lw_g (lw_at lw_m2 188 rfl) rfl
theorem q671 : (Jvm.Cond.fieldLink "CoercedClasses$Machine" (303 : Nat) "CoercedClasses$Machine" "dues" "I") ∈ lw_all := lw_g (lw_at lw_m2 189 rfl) rfl
theorem q672 : (Jvm.Cond.fieldLink "CoercedClasses$Machine" (306 : Nat) "CoercedClasses$Machine" "answer" "I") ∈ lw_all := lw_g (lw_at lw_m2 190 rfl) rfl
theorem q673 : (Jvm.Cond.fieldLink "CoercedClasses$Machine" (51 : Nat) "CoercedClasses$Machine" "todo" "[J") ∈ lw_all := lw_g (lw_at lw_m2 191 rfl) rfl
theorem q674 : (Jvm.Cond.fieldLink "CoercedClasses$Machine" (421 : Nat) "CoercedClasses$Machine" "waiting" "I") ∈ lw_all := lw_g (lw_at lw_m2 192 rfl) rfl
theorem q675 : (Jvm.Cond.laysFinal "CoercedClasses$Machine" "CoercedClasses$Machine" "cells" "Ljava/util/ArrayList;") ∈ lw_all := lw_g (lw_at lw_m2 193 rfl) rfl
theorem q676 : (Jvm.Cond.soleField "CoercedClasses$Machine" "cells") ∈ lw_all := lw_g (lw_at lw_m2 194 rfl) rfl
theorem q677 : (Jvm.Cond.lays "CoercedClasses$Machine" "CoercedClasses$Machine" "used" "I") ∈ lw_all := lw_g (lw_at lw_m2 195 rfl) rfl
theorem q678 : (Jvm.Cond.soleField "CoercedClasses$Machine" "used") ∈ lw_all := lw_g (lw_at lw_m2 196 rfl) rfl
theorem q679 : (Jvm.Cond.laysFinal "CoercedClasses$Machine" "CoercedClasses$Machine" "frames" "[LCoercedClasses$Frame;") ∈ lw_all := lw_g (lw_at lw_m2 197 rfl) rfl
theorem q680 : (Jvm.Cond.soleField "CoercedClasses$Machine" "frames") ∈ lw_all := lw_g (lw_at lw_m2 198 rfl) rfl
theorem q681 : (Jvm.Cond.lays "CoercedClasses$Machine" "CoercedClasses$Machine" "many" "I") ∈ lw_all := lw_g (lw_at lw_m2 199 rfl) rfl
theorem q682 : (Jvm.Cond.soleField "CoercedClasses$Machine" "many") ∈ lw_all := lw_g (lw_at lw_m2 200 rfl) rfl
theorem q683 : (Jvm.Cond.lays "CoercedClasses$Machine" "CoercedClasses$Machine" "most" "I") ∈ lw_all := lw_g (lw_at lw_m2 201 rfl) rfl
theorem q684 : (Jvm.Cond.soleField "CoercedClasses$Machine" "most") ∈ lw_all := lw_g (lw_at lw_m2 202 rfl) rfl
theorem q685 : (Jvm.Cond.lays "CoercedClasses$Machine" "CoercedClasses$Machine" "state" "I") ∈ lw_all := lw_g (lw_at lw_m2 203 rfl) rfl
theorem q686 : (Jvm.Cond.soleField "CoercedClasses$Machine" "state") ∈ lw_all := lw_g (lw_at lw_m2 204 rfl) rfl
theorem q687 : (Jvm.Cond.lays "CoercedClasses$Machine" "CoercedClasses$Machine" "steps" "I") ∈ lw_all := lw_g (lw_at lw_m2 205 rfl) rfl
theorem q688 : (Jvm.Cond.soleField "CoercedClasses$Machine" "steps") ∈ lw_all := lw_g (lw_at lw_m2 206 rfl) rfl
theorem q689 : (Jvm.Cond.lays "CoercedClasses$Machine" "CoercedClasses$Machine" "code" "LCoercedClasses$Ex;") ∈ lw_all := lw_g (lw_at lw_m2 207 rfl) rfl
theorem q690 : (Jvm.Cond.soleField "CoercedClasses$Machine" "code") ∈ lw_all := lw_g (lw_at lw_m2 208 rfl) rfl
theorem q691 : (Jvm.Cond.lays "CoercedClasses$Machine" "CoercedClasses$Machine" "level" "I") ∈ lw_all := lw_g (lw_at lw_m2 209 rfl) rfl
theorem q692 : (Jvm.Cond.soleField "CoercedClasses$Machine" "level") ∈ lw_all := lw_g (lw_at lw_m2 210 rfl) rfl
theorem q693 : (Jvm.Cond.lays "CoercedClasses$Machine" "CoercedClasses$Machine" "around" "I") ∈ lw_all := lw_g (lw_at lw_m2 211 rfl) rfl
theorem q694 : (Jvm.Cond.soleField "CoercedClasses$Machine" "around") ∈ lw_all := lw_g (lw_at lw_m2 212 rfl) rfl
theorem q695 : (Jvm.Cond.laysFinal "CoercedClasses$Machine" "CoercedClasses$Machine" "with" "[I") ∈ lw_all := lw_g (lw_at lw_m2 213 rfl) rfl
theorem q696 : (Jvm.Cond.soleField "CoercedClasses$Machine" "with") ∈ lw_all := lw_g (lw_at lw_m2 214 rfl) rfl
theorem q697 : (Jvm.Cond.laysFinal "CoercedClasses$Machine" "CoercedClasses$Machine" "other" "[I") ∈ lw_all := lw_g (lw_at lw_m2 215 rfl) rfl
theorem q698 : (Jvm.Cond.soleField "CoercedClasses$Machine" "other") ∈ lw_all := lw_g (lw_at lw_m2 216 rfl) rfl
theorem q699 : (Jvm.Cond.lays "CoercedClasses$Machine" "CoercedClasses$Machine" "result" "J") ∈ lw_all := lw_g (lw_at lw_m2 217 rfl) rfl
theorem q700 : (Jvm.Cond.soleField "CoercedClasses$Machine" "result") ∈ lw_all := lw_g (lw_at lw_m2 218 rfl) rfl
theorem q701 : (Jvm.Cond.laysFinal "CoercedClasses$Machine" "CoercedClasses$Machine" "shown" "[B") ∈ lw_all := lw_g (lw_at lw_m2 219 rfl) rfl
theorem q702 : (Jvm.Cond.soleField "CoercedClasses$Machine" "shown") ∈ lw_all := lw_g (lw_at lw_m2 220 rfl) rfl
theorem q703 : (Jvm.Cond.lays "CoercedClasses$Machine" "CoercedClasses$Machine" "said" "I") ∈ lw_all := lw_g (lw_at lw_m2 221 rfl) rfl
theorem q704 : (Jvm.Cond.soleField "CoercedClasses$Machine" "said") ∈ lw_all := lw_g (lw_at lw_m2 222 rfl) rfl
theorem q705 : (Jvm.Cond.laysFinal "CoercedClasses$Machine" "CoercedClasses$Machine" "dueOf" "[LCoercedClasses$Dictionary;") ∈ lw_all := lw_g (lw_at lw_m2 223 rfl) rfl
theorem q706 : (Jvm.Cond.soleField "CoercedClasses$Machine" "dueOf") ∈ lw_all := lw_g (lw_at lw_m2 224 rfl) rfl
theorem q707 : (Jvm.Cond.laysFinal "CoercedClasses$Machine" "CoercedClasses$Machine" "dueBy" "[I") ∈ lw_all := lw_g (lw_at lw_m2 225 rfl) rfl
theorem q708 : (Jvm.Cond.soleField "CoercedClasses$Machine" "dueBy") ∈ lw_all := lw_g (lw_at lw_m2 226 rfl) rfl
theorem q709 : (Jvm.Cond.laysFinal "CoercedClasses$Machine" "CoercedClasses$Machine" "dueInto" "[I") ∈ lw_all := lw_g (lw_at lw_m2 227 rfl) rfl
theorem q710 : (Jvm.Cond.soleField "CoercedClasses$Machine" "dueInto") ∈ lw_all := lw_g (lw_at lw_m2 228 rfl) rfl
theorem q711 : (Jvm.Cond.laysFinal "CoercedClasses$Machine" "CoercedClasses$Machine" "duePlace" "[I") ∈ lw_all := lw_g (lw_at lw_m2 229 rfl) rfl
theorem q712 : (Jvm.Cond.soleField "CoercedClasses$Machine" "duePlace") ∈ lw_all := lw_g (lw_at lw_m2 230 rfl) rfl
theorem q713 : (Jvm.Cond.lays "CoercedClasses$Machine" "CoercedClasses$Machine" "dues" "I") ∈ lw_all := lw_g (lw_at lw_m2 231 rfl) rfl
theorem q714 : (Jvm.Cond.soleField "CoercedClasses$Machine" "dues") ∈ lw_all := lw_g (lw_at lw_m2 232 rfl) rfl
theorem q715 : (Jvm.Cond.lays "CoercedClasses$Machine" "CoercedClasses$Machine" "answer" "I") ∈ lw_all := lw_g (lw_at lw_m2 233 rfl) rfl
theorem q716 : (Jvm.Cond.soleField "CoercedClasses$Machine" "answer") ∈ lw_all := lw_g (lw_at lw_m2 234 rfl) rfl
theorem q717 : (Jvm.Cond.laysFinal "CoercedClasses$Machine" "CoercedClasses$Machine" "todo" "[J") ∈ lw_all := lw_g (lw_at lw_m2 235 rfl) rfl
theorem q718 : (Jvm.Cond.soleField "CoercedClasses$Machine" "todo") ∈ lw_all := lw_g (lw_at lw_m2 236 rfl) rfl
theorem q719 : (Jvm.Cond.lays "CoercedClasses$Machine" "CoercedClasses$Machine" "waiting" "I") ∈ lw_all := lw_g (lw_at lw_m2 237 rfl) rfl
theorem q720 : (Jvm.Cond.soleField "CoercedClasses$Machine" "waiting") ∈ lw_all := lw_g (lw_at lw_m2 238 rfl) rfl
theorem q721 : (Jvm.Cond.superclass "CoercedClasses$Machine" "java/lang/Object") ∈ lw_all := lw_g (lw_at lw_m2 239 rfl) rfl
theorem q1161 : (Jvm.Cond.selects "CoercedClasses$Machine" ({ cls := "java/lang/Object", name := "getClass", desc := "()Ljava/lang/Class;" } : Jvm.MethodName) ({ cls := "java/lang/Object", name := "getClass", desc := "()Ljava/lang/Class;" } : Jvm.MethodName)) ∈ lw_all := lw_g (lw_at lw_m4 199 rfl) rfl
theorem q1326 : (Jvm.Cond.fieldLinkNest "CoercedClasses$Machine" (272 : Nat) "CoercedClasses$Method" "index" "I" "CoercedClasses") ∈ lw_tbl := lw_at lw_m5 124 rfl
theorem q1389 : (Jvm.Cond.fieldLinkNest "CoercedClasses$Machine" (266 : Nat) "CoercedClasses$Instance" "byMethod" "[LCoercedClasses$Line;" "CoercedClasses") ∈ lw_tbl := lw_at lw_m5 187 rfl
theorem q1392 : (Jvm.Cond.fieldLinkNest "CoercedClasses$Machine" (313 : Nat) "CoercedClasses$Instance" "above" "LCoercedClasses$Dictionary;" "CoercedClasses") ∈ lw_tbl := lw_at lw_m5 190 rfl
theorem q1506 : (Jvm.Cond.fieldLinkNest "CoercedClasses$Machine" (420 : Nat) "CoercedClasses$Lambda" "body" "LCoercedClasses$Ex;" "CoercedClasses") ∈ lw_tbl := lw_at lw_m6 64 rfl
theorem q1562 : (Jvm.Cond.fieldLinkNest "CoercedClasses$Machine" (210 : Nat) "CoercedClasses$Let" "first" "LCoercedClasses$Ex;" "CoercedClasses") ∈ lw_tbl := lw_at lw_m6 120 rfl
theorem q1568 : (Jvm.Cond.fieldLinkNest "CoercedClasses$Machine" (362 : Nat) "CoercedClasses$Let" "body" "LCoercedClasses$Ex;" "CoercedClasses") ∈ lw_tbl := lw_at lw_m6 126 rfl
theorem q1603 : (Jvm.Cond.fieldLinkNest "CoercedClasses$Machine" (220 : Nat) "CoercedClasses$If" "a" "LCoercedClasses$Ex;" "CoercedClasses") ∈ lw_tbl := lw_at lw_m6 161 rfl
theorem q1609 : (Jvm.Cond.fieldLinkNest "CoercedClasses$Machine" (365 : Nat) "CoercedClasses$If" "b" "LCoercedClasses$Ex;" "CoercedClasses") ∈ lw_tbl := lw_at lw_m6 167 rfl
theorem q1615 : (Jvm.Cond.fieldLinkNest "CoercedClasses$Machine" (368 : Nat) "CoercedClasses$If" "c" "LCoercedClasses$Ex;" "CoercedClasses") ∈ lw_tbl := lw_at lw_m6 173 rfl
theorem q1641 : (Jvm.Cond.fieldLinkNest "CoercedClasses$Machine" (227 : Nat) "CoercedClasses$Case" "subject" "LCoercedClasses$Ex;" "CoercedClasses") ∈ lw_tbl := lw_at lw_m6 199 rfl
theorem q1648 : (Jvm.Cond.fieldLinkNest "CoercedClasses$Machine" (396 : Nat) "CoercedClasses$Case" "nil" "LCoercedClasses$Ex;" "CoercedClasses") ∈ lw_tbl := lw_at lw_m6 206 rfl
theorem q1654 : (Jvm.Cond.fieldLinkNest "CoercedClasses$Machine" (405 : Nat) "CoercedClasses$Case" "cons" "LCoercedClasses$Ex;" "CoercedClasses") ∈ lw_tbl := lw_at lw_m6 212 rfl
theorem q1716 : (Jvm.Cond.fieldLinkNest "CoercedClasses$Machine" (243 : Nat) "CoercedClasses$Name" "up" "I" "CoercedClasses") ∈ lw_tbl := lw_at lw_m7 34 rfl
theorem q1721 : (Jvm.Cond.fieldLinkNest "CoercedClasses$Machine" (286 : Nat) "CoercedClasses$Name" "function" "LCoercedClasses$Function;" "CoercedClasses") ∈ lw_tbl := lw_at lw_m7 39 rfl
theorem q1725 : (Jvm.Cond.fieldLinkNest "CoercedClasses$Machine" (246 : Nat) "CoercedClasses$Name" "method" "LCoercedClasses$Method;" "CoercedClasses") ∈ lw_tbl := lw_at lw_m7 43 rfl
theorem q1730 : (Jvm.Cond.fieldLinkNest "CoercedClasses$Machine" (296 : Nat) "CoercedClasses$Name" "built" "I" "CoercedClasses") ∈ lw_tbl := lw_at lw_m7 48 rfl
theorem q1734 : (Jvm.Cond.fieldLinkNest "CoercedClasses$Machine" (250 : Nat) "CoercedClasses$Name" "evidence" "Ljava/util/ArrayList;" "CoercedClasses") ∈ lw_tbl := lw_at lw_m7 52 rfl
theorem q1762 : (Jvm.Cond.fieldLinkNest "CoercedClasses$Machine" (188 : Nat) "CoercedClasses$Num" "value" "I" "CoercedClasses") ∈ lw_tbl := lw_at lw_m7 80 rfl
theorem q1787 : (Jvm.Cond.fieldLinkNest "CoercedClasses$Machine" (158 : Nat) "CoercedClasses$Use" "head" "LCoercedClasses$Ex;" "CoercedClasses") ∈ lw_tbl := lw_at lw_m7 105 rfl
theorem q1792 : (Jvm.Cond.fieldLinkNest "CoercedClasses$Machine" (140 : Nat) "CoercedClasses$Use" "items" "Ljava/util/ArrayList;" "CoercedClasses") ∈ lw_tbl := lw_at lw_m7 110 rfl
theorem q1822 : (Jvm.Cond.fieldLinkNest "CoercedClasses$Machine" (353 : Nat) "CoercedClasses$Item" "ex" "LCoercedClasses$Ex;" "CoercedClasses") ∈ lw_tbl := lw_at lw_m7 140 rfl
theorem q1856 : (Jvm.Cond.fieldLinkNest "CoercedClasses$Machine" (173 : Nat) "CoercedClasses$Chain" "first" "LCoercedClasses$Ex;" "CoercedClasses") ∈ lw_tbl := lw_at lw_m7 174 rfl
theorem q1862 : (Jvm.Cond.fieldLinkNest "CoercedClasses$Machine" (151 : Nat) "CoercedClasses$Chain" "others" "Ljava/util/ArrayList;" "CoercedClasses") ∈ lw_tbl := lw_at lw_m7 180 rfl
theorem q1870 : (Jvm.Cond.fieldLinkNest "CoercedClasses$Machine" (380 : Nat) "CoercedClasses$Chain" "signs" "Ljava/util/ArrayList;" "CoercedClasses") ∈ lw_tbl := lw_at lw_m7 188 rfl
theorem q1913 : (Jvm.Cond.fieldLinkNest "CoercedClasses$Machine" (277 : Nat) "CoercedClasses$Line" "ex" "LCoercedClasses$Ex;" "CoercedClasses") ∈ lw_tbl := lw_at lw_m7 231 rfl
theorem q1952 : (Jvm.Cond.fieldLinkNest "CoercedClasses$Machine" (293 : Nat) "CoercedClasses$Function" "ex" "LCoercedClasses$Ex;" "CoercedClasses") ∈ lw_tbl := lw_at lw_m8 30 rfl
theorem q2390 : (Jvm.Cond.fieldLinkNest "CoercedClasses$Machine" (316 : Nat) "CoercedClasses$Dictionary" "given" "I" "CoercedClasses") ∈ lw_tbl := lw_at lw_m9 228 rfl
theorem q2395 : (Jvm.Cond.fieldLinkNest "CoercedClasses$Machine" (323 : Nat) "CoercedClasses$Dictionary" "inner" "LCoercedClasses$Dictionary;" "CoercedClasses") ∈ lw_tbl := lw_at lw_m9 233 rfl
theorem q2400 : (Jvm.Cond.fieldLinkNest "CoercedClasses$Machine" (329 : Nat) "CoercedClasses$Dictionary" "instance" "LCoercedClasses$Instance;" "CoercedClasses") ∈ lw_tbl := lw_at lw_m9 238 rfl
theorem q2409 : (Jvm.Cond.fieldLinkNest "CoercedClasses$Machine" (330 : Nat) "CoercedClasses$Dictionary" "conditions" "Ljava/util/ArrayList;" "CoercedClasses") ∈ lw_tbl := lw_at lw_m10 7 rfl
theorem q2539 : (Jvm.Cond.fieldLinkNest "CoercedClasses$Machine" (255 : Nat) "CoercedClasses$Evidence" "dictionary" "LCoercedClasses$Dictionary;" "CoercedClasses") ∈ lw_tbl := lw_at lw_m10 137 rfl
theorem q2899 : (Jvm.Cond.instanceMethod ({ cls := "CoercedClasses$Machine", name := "begin", desc := "(LCoercedClasses$Ex;)V" } : Jvm.MethodName)) ∈ lw_all := lw_g (lw_at lw_m12 17 rfl) rfl
theorem q2900 : (Jvm.Cond.selects "CoercedClasses$Machine" ({ cls := "CoercedClasses$Machine", name := "begin", desc := "(LCoercedClasses$Ex;)V" } : Jvm.MethodName) ({ cls := "CoercedClasses$Machine", name := "begin", desc := "(LCoercedClasses$Ex;)V" } : Jvm.MethodName)) ∈ lw_all := lw_g (lw_at lw_m12 18 rfl) rfl
theorem q2901 : (Jvm.Cond.code ({ cls := "CoercedClasses$Machine", name := "begin", desc := "(LCoercedClasses$Ex;)V" } : Jvm.MethodName) prog_25_method_2_code (2 : Nat) (Option.none : Option Jvm.ClassFile.FieldType)) ∈ lw_all := lw_g (lw_at lw_m12 19 rfl) rfl
theorem q2911 : (Jvm.Cond.instanceMethod ({ cls := "CoercedClasses$Machine", name := "step", desc := "()V" } : Jvm.MethodName)) ∈ lw_all := lw_g (lw_at lw_m12 29 rfl) rfl
theorem q2912 : (Jvm.Cond.selects "CoercedClasses$Machine" ({ cls := "CoercedClasses$Machine", name := "step", desc := "()V" } : Jvm.MethodName) ({ cls := "CoercedClasses$Machine", name := "step", desc := "()V" } : Jvm.MethodName)) ∈ lw_all := lw_g (lw_at lw_m12 30 rfl) rfl
theorem q2913 : (Jvm.Cond.code ({ cls := "CoercedClasses$Machine", name := "step", desc := "()V" } : Jvm.MethodName) prog_25_method_13_code (11 : Nat) (Option.none : Option Jvm.ClassFile.FieldType)) ∈ lw_all := lw_g (lw_at lw_m12 31 rfl) rfl
theorem q2914 : (Jvm.Cond.methodLink "CoercedClasses$Machine" (154 : Nat) ({ cls := "CoercedClasses$Machine", name := "levels", desc := "(LCoercedClasses$Ex;)I" } : Jvm.MethodName)) ∈ lw_all := lw_g (lw_at lw_m12 32 rfl) rfl
theorem q2915 : (Jvm.Cond.static ({ cls := "CoercedClasses$Machine", name := "levels", desc := "(LCoercedClasses$Ex;)I" } : Jvm.MethodName)) ∈ lw_all := lw_g (lw_at lw_m12 33 rfl) rfl
theorem q2916 : (Jvm.Cond.code ({ cls := "CoercedClasses$Machine", name := "levels", desc := "(LCoercedClasses$Ex;)I" } : Jvm.MethodName) prog_25_method_12_code (3 : Nat) (Option.some Jvm.ClassFile.FieldType.int)) ∈ lw_all := lw_g (lw_at lw_m12 34 rfl) rfl
theorem q2917 : (Jvm.Cond.classLink "CoercedClasses$Machine" (138 : Nat) "CoercedClasses$Use") ∈ lw_all := lw_g (lw_at lw_m12 35 rfl) rfl
theorem q2918 : (Jvm.Cond.methodLink "CoercedClasses$Machine" (85 : Nat) ({ cls := "java/util/ArrayList", name := "size", desc := "()I" } : Jvm.MethodName)) ∈ lw_all := lw_g (lw_at lw_m12 36 rfl) rfl
theorem q2919 : (Jvm.Cond.methodLinkNest "CoercedClasses$Machine" (143 : Nat) ({ cls := "CoercedClasses$Teller", name := "first", desc := "(LCoercedClasses$Use;)I" } : Jvm.MethodName) "CoercedClasses") ∈ lw_tbl := lw_at lw_m12 37 rfl
theorem q2920 : (Jvm.Cond.classLink "CoercedClasses$Machine" (149 : Nat) "CoercedClasses$Chain") ∈ lw_all := lw_g (lw_at lw_m12 38 rfl) rfl
theorem q2921 : (Jvm.Cond.methodLink "CoercedClasses$Machine" (161 : Nat) ({ cls := "CoercedClasses$Machine", name := "step", desc := "()V" } : Jvm.MethodName)) ∈ lw_all := lw_g (lw_at lw_m12 39 rfl) rfl
theorem q2922 : (Jvm.Cond.fieldLink "CoercedClasses$Machine" (164 : Nat) "CoercedClasses$Wait" "ARGUMENT" "LCoercedClasses$Wait;") ∈ lw_all := lw_g (lw_at lw_m12 40 rfl) rfl
theorem q2924 : (Jvm.Cond.methodLink "CoercedClasses$Machine" (169 : Nat) ({ cls := "CoercedClasses$Machine", name := "push", desc := "(LCoercedClasses$Wait;I)Z" } : Jvm.MethodName)) ∈ lw_all := lw_g (lw_at lw_m12 42 rfl) rfl
theorem q2925 : (Jvm.Cond.privateMethod ({ cls := "CoercedClasses$Machine", name := "push", desc := "(LCoercedClasses$Wait;I)Z" } : Jvm.MethodName)) ∈ lw_tbl := lw_at lw_m12 43 rfl
theorem q2926 : (Jvm.Cond.instanceMethod ({ cls := "CoercedClasses$Machine", name := "push", desc := "(LCoercedClasses$Wait;I)Z" } : Jvm.MethodName)) ∈ lw_all := lw_g (lw_at lw_m12 44 rfl) rfl
theorem q2927 : (Jvm.Cond.code ({ cls := "CoercedClasses$Machine", name := "push", desc := "(LCoercedClasses$Wait;I)Z" } : Jvm.MethodName) prog_25_method_8_code (5 : Nat) (Option.some Jvm.ClassFile.FieldType.boolean)) ∈ lw_all := lw_g (lw_at lw_m12 45 rfl) rfl
theorem q2928 : (Jvm.Cond.methodLink "CoercedClasses$Machine" (118 : Nat) ({ cls := "java/lang/Math", name := "max", desc := "(II)I" } : Jvm.MethodName)) ∈ lw_all := lw_g (lw_at lw_m12 46 rfl) rfl
theorem q2929 : (Jvm.Cond.fieldLink "CoercedClasses$Machine" (175 : Nat) "CoercedClasses$Wait" "LEFT" "LCoercedClasses$Wait;") ∈ lw_all := lw_g (lw_at lw_m12 47 rfl) rfl
theorem q2931 : (Jvm.Cond.classLink "CoercedClasses$Machine" (178 : Nat) "CoercedClasses$Name") ∈ lw_all := lw_g (lw_at lw_m12 49 rfl) rfl
theorem q2932 : (Jvm.Cond.methodLink "CoercedClasses$Machine" (180 : Nat) ({ cls := "CoercedClasses$Machine", name := "name", desc := "(LCoercedClasses$Name;)V" } : Jvm.MethodName)) ∈ lw_all := lw_g (lw_at lw_m12 50 rfl) rfl
theorem q2933 : (Jvm.Cond.privateMethod ({ cls := "CoercedClasses$Machine", name := "name", desc := "(LCoercedClasses$Name;)V" } : Jvm.MethodName)) ∈ lw_tbl := lw_at lw_m12 51 rfl
theorem q2934 : (Jvm.Cond.instanceMethod ({ cls := "CoercedClasses$Machine", name := "name", desc := "(LCoercedClasses$Name;)V" } : Jvm.MethodName)) ∈ lw_all := lw_g (lw_at lw_m12 52 rfl) rfl
theorem q2935 : (Jvm.Cond.code ({ cls := "CoercedClasses$Machine", name := "name", desc := "(LCoercedClasses$Name;)V" } : Jvm.MethodName) prog_25_method_15_code (4 : Nat) (Option.none : Option Jvm.ClassFile.FieldType)) ∈ lw_all := lw_g (lw_at lw_m12 53 rfl) rfl
theorem q2936 : (Jvm.Cond.methodLink "CoercedClasses$Machine" (239 : Nat) ({ cls := "CoercedClasses$Name", name := "isBound", desc := "()Z" } : Jvm.MethodName)) ∈ lw_all := lw_g (lw_at lw_m12 54 rfl) rfl
theorem q2937 : (Jvm.Cond.methodLink "CoercedClasses$Machine" (96 : Nat) ({ cls := "java/util/ArrayList", name := "get", desc := "(I)Ljava/lang/Object;" } : Jvm.MethodName)) ∈ lw_all := lw_g (lw_at lw_m12 55 rfl) rfl
theorem q2938 : (Jvm.Cond.classLink "CoercedClasses$Machine" (89 : Nat) "CoercedClasses$Cell") ∈ lw_all := lw_g (lw_at lw_m12 56 rfl) rfl
theorem q2939 : (Jvm.Cond.methodLink "CoercedClasses$Machine" (195 : Nat) ({ cls := "CoercedClasses$Machine", name := "comes", desc := "(J)V" } : Jvm.MethodName)) ∈ lw_all := lw_g (lw_at lw_m12 57 rfl) rfl
theorem q2940 : (Jvm.Cond.privateMethod ({ cls := "CoercedClasses$Machine", name := "comes", desc := "(J)V" } : Jvm.MethodName)) ∈ lw_tbl := lw_at lw_m12 58 rfl
theorem q2941 : (Jvm.Cond.instanceMethod ({ cls := "CoercedClasses$Machine", name := "comes", desc := "(J)V" } : Jvm.MethodName)) ∈ lw_all := lw_g (lw_at lw_m12 59 rfl) rfl
theorem q2942 : (Jvm.Cond.code ({ cls := "CoercedClasses$Machine", name := "comes", desc := "(J)V" } : Jvm.MethodName) prog_25_method_20_code (12 : Nat) (Option.none : Option Jvm.ClassFile.FieldType)) ∈ lw_all := lw_g (lw_at lw_m12 60 rfl) rfl
theorem q2943 : (Jvm.Cond.methodLink "CoercedClasses$Machine" (336 : Nat) ({ cls := "CoercedClasses$Machine", name := "show", desc := "()V" } : Jvm.MethodName)) ∈ lw_all := lw_g (lw_at lw_m12 61 rfl) rfl
theorem q2944 : (Jvm.Cond.privateMethod ({ cls := "CoercedClasses$Machine", name := "show", desc := "()V" } : Jvm.MethodName)) ∈ lw_tbl := lw_at lw_m12 62 rfl
theorem q2945 : (Jvm.Cond.instanceMethod ({ cls := "CoercedClasses$Machine", name := "show", desc := "()V" } : Jvm.MethodName)) ∈ lw_all := lw_g (lw_at lw_m12 63 rfl) rfl
theorem q2946 : (Jvm.Cond.code ({ cls := "CoercedClasses$Machine", name := "show", desc := "()V" } : Jvm.MethodName) prog_25_method_27_code (3 : Nat) (Option.none : Option Jvm.ClassFile.FieldType)) ∈ lw_all := lw_g (lw_at lw_m12 64 rfl) rfl
theorem q2947 : (Jvm.Cond.methodLink "CoercedClasses$Machine" (424 : Nat) ({ cls := "CoercedClasses$Machine", name := "later", desc := "(J)V" } : Jvm.MethodName)) ∈ lw_all := lw_g (lw_at lw_m12 65 rfl) rfl
theorem q2948 : (Jvm.Cond.privateMethod ({ cls := "CoercedClasses$Machine", name := "later", desc := "(J)V" } : Jvm.MethodName)) ∈ lw_tbl := lw_at lw_m12 66 rfl
theorem q2949 : (Jvm.Cond.instanceMethod ({ cls := "CoercedClasses$Machine", name := "later", desc := "(J)V" } : Jvm.MethodName)) ∈ lw_all := lw_g (lw_at lw_m12 67 rfl) rfl
theorem q2950 : (Jvm.Cond.code ({ cls := "CoercedClasses$Machine", name := "later", desc := "(J)V" } : Jvm.MethodName) prog_25_method_25_code (3 : Nat) (Option.none : Option Jvm.ClassFile.FieldType)) ∈ lw_all := lw_g (lw_at lw_m12 68 rfl) rfl
theorem q2951 : (Jvm.Cond.constantLong "CoercedClasses$Machine" (427 : Nat) (256 : Int64)) ∈ lw_all := lw_g (lw_at lw_m12 69 rfl) rfl
theorem q2952 : (Jvm.Cond.methodLink "CoercedClasses$Machine" (429 : Nat) ({ cls := "CoercedClasses$Machine", name := "say", desc := "(I)V" } : Jvm.MethodName)) ∈ lw_all := lw_g (lw_at lw_m12 70 rfl) rfl
theorem q2953 : (Jvm.Cond.privateMethod ({ cls := "CoercedClasses$Machine", name := "say", desc := "(I)V" } : Jvm.MethodName)) ∈ lw_tbl := lw_at lw_m12 71 rfl
theorem q2954 : (Jvm.Cond.instanceMethod ({ cls := "CoercedClasses$Machine", name := "say", desc := "(I)V" } : Jvm.MethodName)) ∈ lw_all := lw_g (lw_at lw_m12 72 rfl) rfl
theorem q2955 : (Jvm.Cond.code ({ cls := "CoercedClasses$Machine", name := "say", desc := "(I)V" } : Jvm.MethodName) prog_25_method_26_code (2 : Nat) (Option.none : Option Jvm.ClassFile.FieldType)) ∈ lw_all := lw_g (lw_at lw_m12 73 rfl) rfl
theorem q2956 : (Jvm.Cond.constantLong "CoercedClasses$Machine" (186 : Nat) (4294967296 : Int64)) ∈ lw_all := lw_g (lw_at lw_m12 74 rfl) rfl
theorem q2957 : (Jvm.Cond.methodLink "CoercedClasses$Machine" (392 : Nat) ({ cls := "CoercedClasses$Machine", name := "is", desc := "(JJ)Z" } : Jvm.MethodName)) ∈ lw_all := lw_g (lw_at lw_m12 75 rfl) rfl
theorem q2958 : (Jvm.Cond.static ({ cls := "CoercedClasses$Machine", name := "is", desc := "(JJ)Z" } : Jvm.MethodName)) ∈ lw_all := lw_g (lw_at lw_m12 76 rfl) rfl
theorem q2959 : (Jvm.Cond.code ({ cls := "CoercedClasses$Machine", name := "is", desc := "(JJ)Z" } : Jvm.MethodName) prog_25_method_6_code (4 : Nat) (Option.some Jvm.ClassFile.FieldType.boolean)) ∈ lw_all := lw_g (lw_at lw_m12 77 rfl) rfl
theorem q2960 : (Jvm.Cond.methodLink "CoercedClasses$Machine" (106 : Nat) ({ cls := "CoercedClasses$Machine", name := "low", desc := "(J)I" } : Jvm.MethodName)) ∈ lw_all := lw_g (lw_at lw_m12 78 rfl) rfl
theorem q2961 : (Jvm.Cond.static ({ cls := "CoercedClasses$Machine", name := "low", desc := "(J)I" } : Jvm.MethodName)) ∈ lw_all := lw_g (lw_at lw_m12 79 rfl) rfl
theorem q2962 : (Jvm.Cond.code ({ cls := "CoercedClasses$Machine", name := "low", desc := "(J)I" } : Jvm.MethodName) prog_25_method_5_code (2 : Nat) (Option.some Jvm.ClassFile.FieldType.int)) ∈ lw_all := lw_g (lw_at lw_m12 80 rfl) rfl
theorem q2963 : (Jvm.Cond.methodLink "CoercedClasses$Machine" (433 : Nat) ({ cls := "CoercedClasses$Machine", name := "number", desc := "(I)V" } : Jvm.MethodName)) ∈ lw_all := lw_g (lw_at lw_m12 81 rfl) rfl
theorem q2964 : (Jvm.Cond.privateMethod ({ cls := "CoercedClasses$Machine", name := "number", desc := "(I)V" } : Jvm.MethodName)) ∈ lw_tbl := lw_at lw_m12 82 rfl
theorem q2965 : (Jvm.Cond.instanceMethod ({ cls := "CoercedClasses$Machine", name := "number", desc := "(I)V" } : Jvm.MethodName)) ∈ lw_all := lw_g (lw_at lw_m12 83 rfl) rfl
theorem q2966 : (Jvm.Cond.code ({ cls := "CoercedClasses$Machine", name := "number", desc := "(I)V" } : Jvm.MethodName) prog_25_method_30_code (4 : Nat) (Option.none : Option Jvm.ClassFile.FieldType)) ∈ lw_all := lw_g (lw_at lw_m12 84 rfl) rfl
theorem q2967 : (Jvm.Cond.constantLong "CoercedClasses$Machine" (299 : Nat) (8589934592 : Int64)) ∈ lw_all := lw_g (lw_at lw_m12 85 rfl) rfl
theorem q2968 : (Jvm.Cond.stringRef "CoercedClasses$Machine" (436 : Nat) "true") ∈ lw_tbl := lw_at lw_m12 86 rfl
theorem q2969 : (Jvm.Cond.stringRef "CoercedClasses$Machine" (438 : Nat) "false") ∈ lw_tbl := lw_at lw_m12 87 rfl
theorem q2970 : (Jvm.Cond.methodLink "CoercedClasses$Machine" (440 : Nat) ({ cls := "CoercedClasses$Machine", name := "words", desc := "(Ljava/lang/String;)V" } : Jvm.MethodName)) ∈ lw_all := lw_g (lw_at lw_m12 88 rfl) rfl
theorem q2971 : (Jvm.Cond.privateMethod ({ cls := "CoercedClasses$Machine", name := "words", desc := "(Ljava/lang/String;)V" } : Jvm.MethodName)) ∈ lw_tbl := lw_at lw_m12 89 rfl
theorem q2972 : (Jvm.Cond.instanceMethod ({ cls := "CoercedClasses$Machine", name := "words", desc := "(Ljava/lang/String;)V" } : Jvm.MethodName)) ∈ lw_all := lw_g (lw_at lw_m12 90 rfl) rfl
theorem q2973 : (Jvm.Cond.code ({ cls := "CoercedClasses$Machine", name := "words", desc := "(Ljava/lang/String;)V" } : Jvm.MethodName) prog_25_method_29_code (3 : Nat) (Option.none : Option Jvm.ClassFile.FieldType)) ∈ lw_all := lw_g (lw_at lw_m12 91 rfl) rfl
theorem q2974 : (Jvm.Cond.methodLink "CoercedClasses$Machine" (460 : Nat) ({ cls := "java/lang/String", name := "length", desc := "()I" } : Jvm.MethodName)) ∈ lw_all := lw_g (lw_at lw_m12 92 rfl) rfl
theorem q2975 : (Jvm.Cond.methodLink "CoercedClasses$Machine" (465 : Nat) ({ cls := "java/lang/String", name := "charAt", desc := "(I)C" } : Jvm.MethodName)) ∈ lw_all := lw_g (lw_at lw_m12 93 rfl) rfl
theorem q2976 : (Jvm.Cond.constantLong "CoercedClasses$Machine" (301 : Nat) (12884901888 : Int64)) ∈ lw_all := lw_g (lw_at lw_m12 94 rfl) rfl
theorem q2977 : (Jvm.Cond.stringRef "CoercedClasses$Machine" (444 : Nat) "[]") ∈ lw_tbl := lw_at lw_m12 95 rfl
theorem q2978 : (Jvm.Cond.stringRef "CoercedClasses$Machine" (446 : Nat) "?") ∈ lw_tbl := lw_at lw_m12 96 rfl
theorem q2979 : (Jvm.Cond.constantLong "CoercedClasses$Machine" (448 : Nat) (21474836480 : Int64)) ∈ lw_all := lw_g (lw_at lw_m12 97 rfl) rfl
theorem q2980 : (Jvm.Cond.methodLink "CoercedClasses$Machine" (399 : Nat) ({ cls := "CoercedClasses$Machine", name := "cell", desc := "(J)LCoercedClasses$Cell;" } : Jvm.MethodName)) ∈ lw_all := lw_g (lw_at lw_m12 98 rfl) rfl
theorem q2981 : (Jvm.Cond.privateMethod ({ cls := "CoercedClasses$Machine", name := "cell", desc := "(J)LCoercedClasses$Cell;" } : Jvm.MethodName)) ∈ lw_tbl := lw_at lw_m12 99 rfl
theorem q2982 : (Jvm.Cond.instanceMethod ({ cls := "CoercedClasses$Machine", name := "cell", desc := "(J)LCoercedClasses$Cell;" } : Jvm.MethodName)) ∈ lw_all := lw_g (lw_at lw_m12 100 rfl) rfl
theorem q2983 : (Jvm.Cond.code ({ cls := "CoercedClasses$Machine", name := "cell", desc := "(J)LCoercedClasses$Cell;" } : Jvm.MethodName) prog_25_method_7_code (3 : Nat) (Option.some (Jvm.ClassFile.FieldType.object "CoercedClasses$Cell"))) ∈ lw_all := lw_g (lw_at lw_m12 101 rfl) rfl
theorem q2984 : (Jvm.Cond.methodLink "CoercedClasses$Machine" (450 : Nat) ({ cls := "CoercedClasses$Machine", name := "rest", desc := "(LCoercedClasses$Cell;)V" } : Jvm.MethodName)) ∈ lw_all := lw_g (lw_at lw_m12 102 rfl) rfl
theorem q2985 : (Jvm.Cond.privateMethod ({ cls := "CoercedClasses$Machine", name := "rest", desc := "(LCoercedClasses$Cell;)V" } : Jvm.MethodName)) ∈ lw_tbl := lw_at lw_m12 103 rfl
theorem q2986 : (Jvm.Cond.instanceMethod ({ cls := "CoercedClasses$Machine", name := "rest", desc := "(LCoercedClasses$Cell;)V" } : Jvm.MethodName)) ∈ lw_all := lw_g (lw_at lw_m12 104 rfl) rfl
theorem q2987 : (Jvm.Cond.code ({ cls := "CoercedClasses$Machine", name := "rest", desc := "(LCoercedClasses$Cell;)V" } : Jvm.MethodName) prog_25_method_28_code (2 : Nat) (Option.none : Option Jvm.ClassFile.FieldType)) ∈ lw_all := lw_g (lw_at lw_m12 105 rfl) rfl
theorem q2988 : (Jvm.Cond.methodLink "CoercedClasses$Machine" (457 : Nat) ({ cls := "CoercedClasses$Machine", name := "list", desc := "(LCoercedClasses$Cell;)V" } : Jvm.MethodName)) ∈ lw_all := lw_g (lw_at lw_m12 106 rfl) rfl
theorem q2989 : (Jvm.Cond.privateMethod ({ cls := "CoercedClasses$Machine", name := "list", desc := "(LCoercedClasses$Cell;)V" } : Jvm.MethodName)) ∈ lw_tbl := lw_at lw_m12 107 rfl
theorem q2990 : (Jvm.Cond.instanceMethod ({ cls := "CoercedClasses$Machine", name := "list", desc := "(LCoercedClasses$Cell;)V" } : Jvm.MethodName)) ∈ lw_all := lw_g (lw_at lw_m12 108 rfl) rfl
theorem q2991 : (Jvm.Cond.code ({ cls := "CoercedClasses$Machine", name := "list", desc := "(LCoercedClasses$Cell;)V" } : Jvm.MethodName) prog_25_method_32_code (3 : Nat) (Option.none : Option Jvm.ClassFile.FieldType)) ∈ lw_all := lw_g (lw_at lw_m12 109 rfl) rfl
theorem q2992 : (Jvm.Cond.constantLong "CoercedClasses$Machine" (473 : Nat) (93 : Int64)) ∈ lw_all := lw_g (lw_at lw_m12 110 rfl) rfl
theorem q2993 : (Jvm.Cond.methodLink "CoercedClasses$Machine" (191 : Nat) ({ cls := "CoercedClasses$Machine", name := "of", desc := "(JI)J" } : Jvm.MethodName)) ∈ lw_all := lw_g (lw_at lw_m12 111 rfl) rfl
theorem q2994 : (Jvm.Cond.static ({ cls := "CoercedClasses$Machine", name := "of", desc := "(JI)J" } : Jvm.MethodName)) ∈ lw_all := lw_g (lw_at lw_m12 112 rfl) rfl
theorem q2995 : (Jvm.Cond.code ({ cls := "CoercedClasses$Machine", name := "of", desc := "(JI)J" } : Jvm.MethodName) prog_25_method_4_code (3 : Nat) (Option.some Jvm.ClassFile.FieldType.long)) ∈ lw_all := lw_g (lw_at lw_m12 113 rfl) rfl
theorem q2996 : (Jvm.Cond.constantLong "CoercedClasses$Machine" (104 : Nat) (4294967295 : Int64)) ∈ lw_all := lw_g (lw_at lw_m12 114 rfl) rfl
theorem q2997 : (Jvm.Cond.methodLink "CoercedClasses$Machine" (454 : Nat) ({ cls := "CoercedClasses$Machine", name := "part", desc := "(J)V" } : Jvm.MethodName)) ∈ lw_all := lw_g (lw_at lw_m12 115 rfl) rfl
theorem q2998 : (Jvm.Cond.privateMethod ({ cls := "CoercedClasses$Machine", name := "part", desc := "(J)V" } : Jvm.MethodName)) ∈ lw_tbl := lw_at lw_m12 116 rfl
theorem q2999 : (Jvm.Cond.instanceMethod ({ cls := "CoercedClasses$Machine", name := "part", desc := "(J)V" } : Jvm.MethodName)) ∈ lw_all := lw_g (lw_at lw_m12 117 rfl) rfl
theorem q3000 : (Jvm.Cond.code ({ cls := "CoercedClasses$Machine", name := "part", desc := "(J)V" } : Jvm.MethodName) prog_25_method_31_code (4 : Nat) (Option.none : Option Jvm.ClassFile.FieldType)) ∈ lw_all := lw_g (lw_at lw_m12 118 rfl) rfl
theorem q3001 : (Jvm.Cond.fieldLink "CoercedClasses$Machine" (417 : Nat) "CoercedClasses$Form" "PAIR" "LCoercedClasses$Form;") ∈ lw_all := lw_g (lw_at lw_m12 119 rfl) rfl
theorem q3003 : (Jvm.Cond.constantLong "CoercedClasses$Machine" (469 : Nat) (41 : Int64)) ∈ lw_all := lw_g (lw_at lw_m12 121 rfl) rfl
theorem q3004 : (Jvm.Cond.constantLong "CoercedClasses$Machine" (471 : Nat) (44 : Int64)) ∈ lw_all := lw_g (lw_at lw_m12 122 rfl) rfl
theorem q3005 : (Jvm.Cond.fieldLink "CoercedClasses$Machine" (414 : Nat) "CoercedClasses$Form" "LIST" "LCoercedClasses$Form;") ∈ lw_all := lw_g (lw_at lw_m12 123 rfl) rfl
theorem q3007 : (Jvm.Cond.methodLink "CoercedClasses$Machine" (339 : Nat) ({ cls := "CoercedClasses$Machine", name := "back", desc := "(LCoercedClasses$Frame;)V" } : Jvm.MethodName)) ∈ lw_all := lw_g (lw_at lw_m12 125 rfl) rfl
theorem q3008 : (Jvm.Cond.privateMethod ({ cls := "CoercedClasses$Machine", name := "back", desc := "(LCoercedClasses$Frame;)V" } : Jvm.MethodName)) ∈ lw_tbl := lw_at lw_m12 126 rfl
theorem q3009 : (Jvm.Cond.instanceMethod ({ cls := "CoercedClasses$Machine", name := "back", desc := "(LCoercedClasses$Frame;)V" } : Jvm.MethodName)) ∈ lw_all := lw_g (lw_at lw_m12 127 rfl) rfl
theorem q3010 : (Jvm.Cond.code ({ cls := "CoercedClasses$Machine", name := "back", desc := "(LCoercedClasses$Frame;)V" } : Jvm.MethodName) prog_25_method_10_code (3 : Nat) (Option.none : Option Jvm.ClassFile.FieldType)) ∈ lw_all := lw_g (lw_at lw_m12 128 rfl) rfl
theorem q3011 : (Jvm.Cond.methodLink "CoercedClasses$Machine" (343 : Nat) ({ cls := "CoercedClasses$Wait", name := "ordinal", desc := "()I" } : Jvm.MethodName)) ∈ lw_all := lw_g (lw_at lw_m12 129 rfl) rfl
theorem q3014 : (Jvm.Cond.fieldLink "CoercedClasses$Machine" (346 : Nat) "CoercedClasses$Wait" "FUNCTION" "LCoercedClasses$Wait;") ∈ lw_all := lw_g (lw_at lw_m12 132 rfl) rfl
theorem q3016 : (Jvm.Cond.classLink "CoercedClasses$Machine" (351 : Nat) "CoercedClasses$Item") ∈ lw_all := lw_g (lw_at lw_m12 134 rfl) rfl
theorem q3017 : (Jvm.Cond.methodLink "CoercedClasses$Machine" (211 : Nat) ({ cls := "CoercedClasses$Machine", name := "next", desc := "(LCoercedClasses$Ex;)V" } : Jvm.MethodName)) ∈ lw_all := lw_g (lw_at lw_m12 135 rfl) rfl
theorem q3018 : (Jvm.Cond.privateMethod ({ cls := "CoercedClasses$Machine", name := "next", desc := "(LCoercedClasses$Ex;)V" } : Jvm.MethodName)) ∈ lw_tbl := lw_at lw_m12 136 rfl
theorem q3019 : (Jvm.Cond.instanceMethod ({ cls := "CoercedClasses$Machine", name := "next", desc := "(LCoercedClasses$Ex;)V" } : Jvm.MethodName)) ∈ lw_all := lw_g (lw_at lw_m12 137 rfl) rfl
theorem q3020 : (Jvm.Cond.code ({ cls := "CoercedClasses$Machine", name := "next", desc := "(LCoercedClasses$Ex;)V" } : Jvm.MethodName) prog_25_method_9_code (2 : Nat) (Option.none : Option Jvm.ClassFile.FieldType)) ∈ lw_all := lw_g (lw_at lw_m12 138 rfl) rfl
theorem q3021 : (Jvm.Cond.methodLink "CoercedClasses$Machine" (354 : Nat) ({ cls := "CoercedClasses$Machine", name := "apply", desc := "(JJ)J" } : Jvm.MethodName)) ∈ lw_all := lw_g (lw_at lw_m12 139 rfl) rfl
theorem q3022 : (Jvm.Cond.privateMethod ({ cls := "CoercedClasses$Machine", name := "apply", desc := "(JJ)J" } : Jvm.MethodName)) ∈ lw_tbl := lw_at lw_m12 140 rfl
theorem q3023 : (Jvm.Cond.instanceMethod ({ cls := "CoercedClasses$Machine", name := "apply", desc := "(JJ)J" } : Jvm.MethodName)) ∈ lw_all := lw_g (lw_at lw_m12 141 rfl) rfl
theorem q3024 : (Jvm.Cond.code ({ cls := "CoercedClasses$Machine", name := "apply", desc := "(JJ)J" } : Jvm.MethodName) prog_25_method_23_code (7 : Nat) (Option.some Jvm.ClassFile.FieldType.long)) ∈ lw_all := lw_g (lw_at lw_m12 142 rfl) rfl
theorem q3025 : (Jvm.Cond.methodLink "CoercedClasses$Machine" (408 : Nat) ({ cls := "CoercedClasses$Machine", name := "built", desc := "(IJ)J" } : Jvm.MethodName)) ∈ lw_all := lw_g (lw_at lw_m12 143 rfl) rfl
theorem q3026 : (Jvm.Cond.privateMethod ({ cls := "CoercedClasses$Machine", name := "built", desc := "(IJ)J" } : Jvm.MethodName)) ∈ lw_tbl := lw_at lw_m12 144 rfl
theorem q3027 : (Jvm.Cond.instanceMethod ({ cls := "CoercedClasses$Machine", name := "built", desc := "(IJ)J" } : Jvm.MethodName)) ∈ lw_all := lw_g (lw_at lw_m12 145 rfl) rfl
theorem q3028 : (Jvm.Cond.code ({ cls := "CoercedClasses$Machine", name := "built", desc := "(IJ)J" } : Jvm.MethodName) prog_25_method_24_code (5 : Nat) (Option.some Jvm.ClassFile.FieldType.long)) ∈ lw_all := lw_g (lw_at lw_m12 146 rfl) rfl
theorem q3029 : (Jvm.Cond.fieldLink "CoercedClasses$Machine" (411 : Nat) "CoercedClasses$Form" "PART" "LCoercedClasses$Form;") ∈ lw_all := lw_g (lw_at lw_m12 147 rfl) rfl
theorem q3031 : (Jvm.Cond.methodLink "CoercedClasses$Machine" (129 : Nat) ({ cls := "CoercedClasses$Machine", name := "fresh", desc := "(LCoercedClasses$Form;)LCoercedClasses$Cell;" } : Jvm.MethodName)) ∈ lw_all := lw_g (lw_at lw_m12 149 rfl) rfl
theorem q3032 : (Jvm.Cond.privateMethod ({ cls := "CoercedClasses$Machine", name := "fresh", desc := "(LCoercedClasses$Form;)LCoercedClasses$Cell;" } : Jvm.MethodName)) ∈ lw_tbl := lw_at lw_m12 150 rfl
theorem q3033 : (Jvm.Cond.instanceMethod ({ cls := "CoercedClasses$Machine", name := "fresh", desc := "(LCoercedClasses$Form;)LCoercedClasses$Cell;" } : Jvm.MethodName)) ∈ lw_all := lw_g (lw_at lw_m12 151 rfl) rfl
theorem q3034 : (Jvm.Cond.code ({ cls := "CoercedClasses$Machine", name := "fresh", desc := "(LCoercedClasses$Form;)LCoercedClasses$Cell;" } : Jvm.MethodName) prog_25_method_3_code (3 : Nat) (Option.some (Jvm.ClassFile.FieldType.object "CoercedClasses$Cell"))) ∈ lw_all := lw_g (lw_at lw_m12 152 rfl) rfl
theorem q3036 : (Jvm.Cond.methodLinkNest "CoercedClasses$Machine" (91 : Nat) ({ cls := "CoercedClasses$Cell", name := "<init>", desc := "()V" } : Jvm.MethodName) "CoercedClasses") ∈ lw_tbl := lw_at lw_m12 154 rfl
theorem q3040 : (Jvm.Cond.fieldLinkNest "CoercedClasses$Machine" (100 : Nat) "CoercedClasses$Cell" "form" "LCoercedClasses$Form;" "CoercedClasses") ∈ lw_tbl := lw_at lw_m12 158 rfl
theorem q3041 : (Jvm.Cond.fieldLinkNest "CoercedClasses$Machine" (133 : Nat) "CoercedClasses$Cell" "a" "J" "CoercedClasses") ∈ lw_tbl := lw_at lw_m12 159 rfl
theorem q3042 : (Jvm.Cond.fieldLinkNest "CoercedClasses$Machine" (403 : Nat) "CoercedClasses$Cell" "b" "J" "CoercedClasses") ∈ lw_tbl := lw_at lw_m12 160 rfl
theorem q3043 : (Jvm.Cond.fieldLinkNest "CoercedClasses$Machine" (233 : Nat) "CoercedClasses$Cell" "code" "LCoercedClasses$Lambda;" "CoercedClasses") ∈ lw_tbl := lw_at lw_m12 161 rfl
theorem q3044 : (Jvm.Cond.fieldLinkNest "CoercedClasses$Machine" (137 : Nat) "CoercedClasses$Cell" "around" "I" "CoercedClasses") ∈ lw_tbl := lw_at lw_m12 162 rfl
theorem q3045 : (Jvm.Cond.fieldLinkNest "CoercedClasses$Machine" (262 : Nat) "CoercedClasses$Cell" "instance" "LCoercedClasses$Instance;" "CoercedClasses") ∈ lw_tbl := lw_at lw_m12 163 rfl
theorem q3047 : (Jvm.Cond.fieldLinkNest "CoercedClasses$Machine" (236 : Nat) "CoercedClasses$Cell" "with" "[I" "CoercedClasses") ∈ lw_tbl := lw_at lw_m12 165 rfl
theorem q3063 : (Jvm.Cond.methodLink "CoercedClasses$Machine" (92 : Nat) ({ cls := "java/util/ArrayList", name := "add", desc := "(Ljava/lang/Object;)Z" } : Jvm.MethodName)) ∈ lw_all := lw_g (lw_at lw_m12 181 rfl) rfl
theorem q3064 : (Jvm.Cond.constantLong "CoercedClasses$Machine" (237 : Nat) (17179869184 : Int64)) ∈ lw_all := lw_g (lw_at lw_m12 182 rfl) rfl
theorem q3065 : (Jvm.Cond.methodLink "CoercedClasses$Machine" (358 : Nat) ({ cls := "CoercedClasses$Machine", name := "bind", desc := "(J)Z" } : Jvm.MethodName)) ∈ lw_all := lw_g (lw_at lw_m12 183 rfl) rfl
theorem q3066 : (Jvm.Cond.privateMethod ({ cls := "CoercedClasses$Machine", name := "bind", desc := "(J)Z" } : Jvm.MethodName)) ∈ lw_tbl := lw_at lw_m12 184 rfl
theorem q3067 : (Jvm.Cond.instanceMethod ({ cls := "CoercedClasses$Machine", name := "bind", desc := "(J)Z" } : Jvm.MethodName)) ∈ lw_all := lw_g (lw_at lw_m12 185 rfl) rfl
theorem q3068 : (Jvm.Cond.code ({ cls := "CoercedClasses$Machine", name := "bind", desc := "(J)Z" } : Jvm.MethodName) prog_25_method_11_code (4 : Nat) (Option.some Jvm.ClassFile.FieldType.boolean)) ∈ lw_all := lw_g (lw_at lw_m12 186 rfl) rfl
theorem q3069 : (Jvm.Cond.fieldLink "CoercedClasses$Machine" (124 : Nat) "CoercedClasses$Form" "BOUND" "LCoercedClasses$Form;") ∈ lw_all := lw_g (lw_at lw_m12 187 rfl) rfl
theorem q3071 : (Jvm.Cond.classLink "CoercedClasses$Machine" (205 : Nat) "CoercedClasses$Let") ∈ lw_all := lw_g (lw_at lw_m12 189 rfl) rfl
theorem q3072 : (Jvm.Cond.classLink "CoercedClasses$Machine" (215 : Nat) "CoercedClasses$If") ∈ lw_all := lw_g (lw_at lw_m12 190 rfl) rfl
theorem q3073 : (Jvm.Cond.classLink "CoercedClasses$Machine" (222 : Nat) "CoercedClasses$Case") ∈ lw_all := lw_g (lw_at lw_m12 191 rfl) rfl
theorem q3074 : (Jvm.Cond.methodLink "CoercedClasses$Machine" (371 : Nat) ({ cls := "CoercedClasses$Machine", name := "cases", desc := "(LCoercedClasses$Case;J)V" } : Jvm.MethodName)) ∈ lw_all := lw_g (lw_at lw_m12 192 rfl) rfl
theorem q3075 : (Jvm.Cond.privateMethod ({ cls := "CoercedClasses$Machine", name := "cases", desc := "(LCoercedClasses$Case;J)V" } : Jvm.MethodName)) ∈ lw_tbl := lw_at lw_m12 193 rfl
theorem q3076 : (Jvm.Cond.instanceMethod ({ cls := "CoercedClasses$Machine", name := "cases", desc := "(LCoercedClasses$Case;J)V" } : Jvm.MethodName)) ∈ lw_all := lw_g (lw_at lw_m12 194 rfl) rfl
theorem q3077 : (Jvm.Cond.code ({ cls := "CoercedClasses$Machine", name := "cases", desc := "(LCoercedClasses$Case;J)V" } : Jvm.MethodName) prog_25_method_22_code (5 : Nat) (Option.none : Option Jvm.ClassFile.FieldType)) ∈ lw_all := lw_g (lw_at lw_m12 195 rfl) rfl
theorem q3078 : (Jvm.Cond.fieldLink "CoercedClasses$Machine" (375 : Nat) "CoercedClasses$Wait" "RIGHT" "LCoercedClasses$Wait;") ∈ lw_all := lw_g (lw_at lw_m12 196 rfl) rfl
theorem q3080 : (Jvm.Cond.classLink "CoercedClasses$Machine" (378 : Nat) "CoercedClasses$Ex") ∈ lw_all := lw_g (lw_at lw_m12 198 rfl) rfl
theorem q3081 : (Jvm.Cond.classLink "CoercedClasses$Machine" (383 : Nat) "java/lang/Integer") ∈ lw_all := lw_g (lw_at lw_m12 199 rfl) rfl
theorem q3082 : (Jvm.Cond.methodLink "CoercedClasses$Machine" (385 : Nat) ({ cls := "java/lang/Integer", name := "intValue", desc := "()I" } : Jvm.MethodName)) ∈ lw_all := lw_g (lw_at lw_m12 200 rfl) rfl
theorem q3083 : (Jvm.Cond.methodLink "CoercedClasses$Machine" (388 : Nat) ({ cls := "CoercedClasses$Machine", name := "signed", desc := "(III)J" } : Jvm.MethodName)) ∈ lw_all := lw_g (lw_at lw_m12 201 rfl) rfl
theorem q3084 : (Jvm.Cond.static ({ cls := "CoercedClasses$Machine", name := "signed", desc := "(III)J" } : Jvm.MethodName)) ∈ lw_all := lw_g (lw_at lw_m12 202 rfl) rfl
theorem q3085 : (Jvm.Cond.code ({ cls := "CoercedClasses$Machine", name := "signed", desc := "(III)J" } : Jvm.MethodName) prog_25_method_21_code (3 : Nat) (Option.some Jvm.ClassFile.FieldType.long)) ∈ lw_all := lw_g (lw_at lw_m12 203 rfl) rfl
theorem q3086 : (Jvm.Cond.classLink "CoercedClasses$Machine" (253 : Nat) "CoercedClasses$Evidence") ∈ lw_all := lw_g (lw_at lw_m12 204 rfl) rfl
theorem q3087 : (Jvm.Cond.methodLink "CoercedClasses$Machine" (259 : Nat) ({ cls := "CoercedClasses$Machine", name := "dictionary", desc := "(LCoercedClasses$Dictionary;)I" } : Jvm.MethodName)) ∈ lw_all := lw_g (lw_at lw_m12 205 rfl) rfl
theorem q3088 : (Jvm.Cond.privateMethod ({ cls := "CoercedClasses$Machine", name := "dictionary", desc := "(LCoercedClasses$Dictionary;)I" } : Jvm.MethodName)) ∈ lw_tbl := lw_at lw_m12 206 rfl
theorem q3089 : (Jvm.Cond.instanceMethod ({ cls := "CoercedClasses$Machine", name := "dictionary", desc := "(LCoercedClasses$Dictionary;)I" } : Jvm.MethodName)) ∈ lw_all := lw_g (lw_at lw_m12 207 rfl) rfl
theorem q3090 : (Jvm.Cond.code ({ cls := "CoercedClasses$Machine", name := "dictionary", desc := "(LCoercedClasses$Dictionary;)I" } : Jvm.MethodName) prog_25_method_19_code (9 : Nat) (Option.some Jvm.ClassFile.FieldType.int)) ∈ lw_all := lw_g (lw_at lw_m12 208 rfl) rfl
theorem q3091 : (Jvm.Cond.methodLink "CoercedClasses$Machine" (309 : Nat) ({ cls := "CoercedClasses$Machine", name := "due", desc := "(LCoercedClasses$Dictionary;III)V" } : Jvm.MethodName)) ∈ lw_all := lw_g (lw_at lw_m12 209 rfl) rfl
theorem q3092 : (Jvm.Cond.privateMethod ({ cls := "CoercedClasses$Machine", name := "due", desc := "(LCoercedClasses$Dictionary;III)V" } : Jvm.MethodName)) ∈ lw_tbl := lw_at lw_m12 210 rfl
theorem q3093 : (Jvm.Cond.instanceMethod ({ cls := "CoercedClasses$Machine", name := "due", desc := "(LCoercedClasses$Dictionary;III)V" } : Jvm.MethodName)) ∈ lw_all := lw_g (lw_at lw_m12 211 rfl) rfl
theorem q3094 : (Jvm.Cond.code ({ cls := "CoercedClasses$Machine", name := "due", desc := "(LCoercedClasses$Dictionary;III)V" } : Jvm.MethodName) prog_25_method_17_code (5 : Nat) (Option.none : Option Jvm.ClassFile.FieldType)) ∈ lw_all := lw_g (lw_at lw_m12 212 rfl) rfl
theorem q3095 : (Jvm.Cond.methodLink "CoercedClasses$Machine" (319 : Nat) ({ cls := "CoercedClasses$Machine", name := "puts", desc := "(III)V" } : Jvm.MethodName)) ∈ lw_all := lw_g (lw_at lw_m12 213 rfl) rfl
theorem q3096 : (Jvm.Cond.privateMethod ({ cls := "CoercedClasses$Machine", name := "puts", desc := "(III)V" } : Jvm.MethodName)) ∈ lw_tbl := lw_at lw_m12 214 rfl
theorem q3097 : (Jvm.Cond.instanceMethod ({ cls := "CoercedClasses$Machine", name := "puts", desc := "(III)V" } : Jvm.MethodName)) ∈ lw_all := lw_g (lw_at lw_m12 215 rfl) rfl
theorem q3098 : (Jvm.Cond.code ({ cls := "CoercedClasses$Machine", name := "puts", desc := "(III)V" } : Jvm.MethodName) prog_25_method_18_code (4 : Nat) (Option.none : Option Jvm.ClassFile.FieldType)) ∈ lw_all := lw_g (lw_at lw_m12 216 rfl) rfl
theorem q3099 : (Jvm.Cond.fieldLink "CoercedClasses$Machine" (326 : Nat) "CoercedClasses$Form" "DICTIONARY" "LCoercedClasses$Form;") ∈ lw_all := lw_g (lw_at lw_m12 217 rfl) rfl
theorem q3101 : (Jvm.Cond.methodLink "CoercedClasses$Machine" (282 : Nat) ({ cls := "CoercedClasses$Machine", name := "enter", desc := "([ILCoercedClasses$Ex;)V" } : Jvm.MethodName)) ∈ lw_all := lw_g (lw_at lw_m12 219 rfl) rfl
theorem q3102 : (Jvm.Cond.privateMethod ({ cls := "CoercedClasses$Machine", name := "enter", desc := "([ILCoercedClasses$Ex;)V" } : Jvm.MethodName)) ∈ lw_tbl := lw_at lw_m12 220 rfl
theorem q3103 : (Jvm.Cond.instanceMethod ({ cls := "CoercedClasses$Machine", name := "enter", desc := "([ILCoercedClasses$Ex;)V" } : Jvm.MethodName)) ∈ lw_all := lw_g (lw_at lw_m12 221 rfl) rfl
theorem q3104 : (Jvm.Cond.code ({ cls := "CoercedClasses$Machine", name := "enter", desc := "([ILCoercedClasses$Ex;)V" } : Jvm.MethodName) prog_25_method_16_code (4 : Nat) (Option.none : Option Jvm.ClassFile.FieldType)) ∈ lw_all := lw_g (lw_at lw_m12 222 rfl) rfl
theorem q3105 : (Jvm.Cond.methodLink "CoercedClasses$Machine" (290 : Nat) ({ cls := "CoercedClasses$Name", name := "reasons", desc := "()I" } : Jvm.MethodName)) ∈ lw_all := lw_g (lw_at lw_m12 223 rfl) rfl
theorem q3106 : (Jvm.Cond.classLink "CoercedClasses$Machine" (184 : Nat) "CoercedClasses$Num") ∈ lw_all := lw_g (lw_at lw_m12 224 rfl) rfl
theorem q3107 : (Jvm.Cond.classLink "CoercedClasses$Machine" (199 : Nat) "CoercedClasses$Lambda") ∈ lw_all := lw_g (lw_at lw_m12 225 rfl) rfl
theorem q3108 : (Jvm.Cond.methodLink "CoercedClasses$Machine" (201 : Nat) ({ cls := "CoercedClasses$Machine", name := "lambda", desc := "(LCoercedClasses$Lambda;)V" } : Jvm.MethodName)) ∈ lw_all := lw_g (lw_at lw_m12 226 rfl) rfl
theorem q3109 : (Jvm.Cond.privateMethod ({ cls := "CoercedClasses$Machine", name := "lambda", desc := "(LCoercedClasses$Lambda;)V" } : Jvm.MethodName)) ∈ lw_tbl := lw_at lw_m12 227 rfl
theorem q3110 : (Jvm.Cond.instanceMethod ({ cls := "CoercedClasses$Machine", name := "lambda", desc := "(LCoercedClasses$Lambda;)V" } : Jvm.MethodName)) ∈ lw_all := lw_g (lw_at lw_m12 228 rfl) rfl
theorem q3111 : (Jvm.Cond.code ({ cls := "CoercedClasses$Machine", name := "lambda", desc := "(LCoercedClasses$Lambda;)V" } : Jvm.MethodName) prog_25_method_14_code (4 : Nat) (Option.none : Option Jvm.ClassFile.FieldType)) ∈ lw_all := lw_g (lw_at lw_m12 229 rfl) rfl
theorem q3112 : (Jvm.Cond.fieldLink "CoercedClasses$Machine" (230 : Nat) "CoercedClasses$Form" "FUNCTION" "LCoercedClasses$Form;") ∈ lw_all := lw_g (lw_at lw_m12 230 rfl) rfl
theorem q3114 : (Jvm.Cond.fieldLink "CoercedClasses$Machine" (207 : Nat) "CoercedClasses$Wait" "LET" "LCoercedClasses$Wait;") ∈ lw_all := lw_g (lw_at lw_m12 232 rfl) rfl
theorem q3116 : (Jvm.Cond.fieldLink "CoercedClasses$Machine" (217 : Nat) "CoercedClasses$Wait" "IF" "LCoercedClasses$Wait;") ∈ lw_all := lw_g (lw_at lw_m12 234 rfl) rfl
theorem q3118 : (Jvm.Cond.fieldLink "CoercedClasses$Machine" (224 : Nat) "CoercedClasses$Wait" "CASE" "LCoercedClasses$Wait;") ∈ lw_all := lw_g (lw_at lw_m12 236 rfl) rfl
theorem q4481 : (Jvm.Cond.castable "CoercedClasses$Machine" "java/lang/Object") ∈ lw_tbl := lw_at lw_m18 159 rfl
theorem in_X10 : ∀ w ∈ wsX100, w ∈ lw_all := lw_in wsX100 [675, 677, 679, 681, 683, 685, 687, 689, 691, 693, 695, 697, 699, 701, 703, 705, 707, 709, 711, 713, 715, 717, 719] (by decide +kernel) (by decide +kernel)
theorem q257 : (Jvm.Cond.initialized "CoercedClasses$Frame") ∈ lw_all := lw_g (lw_at lw_m1 15 rfl) rfl
theorem q618 : (Jvm.Cond.instantiable "CoercedClasses$Frame" (6 : Nat)) ∈ lw_all := lw_g (lw_at lw_m2 136 rfl) rfl
theorem q620 : (Jvm.Cond.instanceMethod ({ cls := "CoercedClasses$Frame", name := "<init>", desc := "()V" } : Jvm.MethodName)) ∈ lw_all := lw_g (lw_at lw_m2 138 rfl) rfl
theorem q621 : (Jvm.Cond.code ({ cls := "CoercedClasses$Frame", name := "<init>", desc := "()V" } : Jvm.MethodName) prog_14_method_1_code (1 : Nat) (Option.none : Option Jvm.ClassFile.FieldType)) ∈ lw_all := lw_g (lw_at lw_m2 139 rfl) rfl
theorem q622 : (Jvm.Cond.methodLink "CoercedClasses$Frame" (1 : Nat) ({ cls := "java/lang/Object", name := "<init>", desc := "()V" } : Jvm.MethodName)) ∈ lw_all := lw_g (lw_at lw_m2 140 rfl) rfl
theorem q628 : (Jvm.Cond.fieldLink "CoercedClasses$Frame" (7 : Nat) "CoercedClasses$Frame" "with" "[I") ∈ lw_all := lw_g (lw_at lw_m2 146 rfl) rfl
theorem q630 : (Jvm.Cond.lays "CoercedClasses$Frame" "CoercedClasses$Frame" "wait" "LCoercedClasses$Wait;") ∈ lw_all := lw_g (lw_at lw_m2 148 rfl) rfl
theorem q631 : (Jvm.Cond.soleField "CoercedClasses$Frame" "wait") ∈ lw_all := lw_g (lw_at lw_m2 149 rfl) rfl
theorem q632 : (Jvm.Cond.lays "CoercedClasses$Frame" "CoercedClasses$Frame" "code" "LCoercedClasses$Ex;") ∈ lw_all := lw_g (lw_at lw_m2 150 rfl) rfl
theorem q633 : (Jvm.Cond.soleField "CoercedClasses$Frame" "code") ∈ lw_all := lw_g (lw_at lw_m2 151 rfl) rfl
theorem q634 : (Jvm.Cond.lays "CoercedClasses$Frame" "CoercedClasses$Frame" "level" "I") ∈ lw_all := lw_g (lw_at lw_m2 152 rfl) rfl
theorem q635 : (Jvm.Cond.soleField "CoercedClasses$Frame" "level") ∈ lw_all := lw_g (lw_at lw_m2 153 rfl) rfl
theorem q636 : (Jvm.Cond.lays "CoercedClasses$Frame" "CoercedClasses$Frame" "around" "I") ∈ lw_all := lw_g (lw_at lw_m2 154 rfl) rfl
theorem q637 : (Jvm.Cond.soleField "CoercedClasses$Frame" "around") ∈ lw_all := lw_g (lw_at lw_m2 155 rfl) rfl
theorem q638 : (Jvm.Cond.lays "CoercedClasses$Frame" "CoercedClasses$Frame" "thing" "J") ∈ lw_all := lw_g (lw_at lw_m2 156 rfl) rfl
theorem q639 : (Jvm.Cond.soleField "CoercedClasses$Frame" "thing") ∈ lw_all := lw_g (lw_at lw_m2 157 rfl) rfl
theorem q640 : (Jvm.Cond.laysFinal "CoercedClasses$Frame" "CoercedClasses$Frame" "with" "[I") ∈ lw_all := lw_g (lw_at lw_m2 158 rfl) rfl
theorem q641 : (Jvm.Cond.soleField "CoercedClasses$Frame" "with") ∈ lw_all := lw_g (lw_at lw_m2 159 rfl) rfl
theorem q642 : (Jvm.Cond.superclass "CoercedClasses$Frame" "java/lang/Object") ∈ lw_all := lw_g (lw_at lw_m2 160 rfl) rfl
theorem q1150 : (Jvm.Cond.selects "CoercedClasses$Frame" ({ cls := "java/lang/Object", name := "getClass", desc := "()Ljava/lang/Class;" } : Jvm.MethodName) ({ cls := "java/lang/Object", name := "getClass", desc := "()Ljava/lang/Class;" } : Jvm.MethodName)) ∈ lw_all := lw_g (lw_at lw_m4 188 rfl) rfl
theorem q4465 : (Jvm.Cond.castable "CoercedClasses$Frame" "java/lang/Object") ∈ lw_tbl := lw_at lw_m18 143 rfl
theorem in_X11 : ∀ w ∈ wsX110, w ∈ lw_all := lw_in wsX110 [630, 632, 634, 636, 638, 640] (by decide +kernel) (by decide +kernel)
theorem q258 : (Jvm.Cond.initialized "CoercedClasses$Term") ∈ lw_all := lw_g (lw_at lw_m1 16 rfl) rfl
theorem q723 : (Jvm.Cond.instantiable "CoercedClasses$Term" (5 : Nat)) ∈ lw_all := lw_g (lw_at lw_m3 1 rfl) rfl
theorem q725 : (Jvm.Cond.instanceMethod ({ cls := "CoercedClasses$Term", name := "<init>", desc := "()V" } : Jvm.MethodName)) ∈ lw_all := lw_g (lw_at lw_m3 3 rfl) rfl
theorem q726 : (Jvm.Cond.code ({ cls := "CoercedClasses$Term", name := "<init>", desc := "()V" } : Jvm.MethodName) prog_37_method_1_code (1 : Nat) (Option.none : Option Jvm.ClassFile.FieldType)) ∈ lw_all := lw_g (lw_at lw_m3 4 rfl) rfl
theorem q727 : (Jvm.Cond.methodLink "CoercedClasses$Term" (1 : Nat) ({ cls := "java/lang/Object", name := "<init>", desc := "()V" } : Jvm.MethodName)) ∈ lw_all := lw_g (lw_at lw_m3 5 rfl) rfl
theorem q728 : (Jvm.Cond.fieldLink "CoercedClasses$Term" (7 : Nat) "CoercedClasses$Term" "scope" "LCoercedClasses$Scope;") ∈ lw_all := lw_g (lw_at lw_m3 6 rfl) rfl
theorem q731 : (Jvm.Cond.fieldLink "CoercedClasses$Term" (13 : Nat) "CoercedClasses$Term" "table" "LCoercedClasses$Table;") ∈ lw_all := lw_g (lw_at lw_m3 9 rfl) rfl
theorem q734 : (Jvm.Cond.fieldLink "CoercedClasses$Term" (17 : Nat) "CoercedClasses$Term" "ex" "LCoercedClasses$Ex;") ∈ lw_all := lw_g (lw_at lw_m3 12 rfl) rfl
theorem q737 : (Jvm.Cond.fieldLink "CoercedClasses$Term" (21 : Nat) "CoercedClasses$Term" "dictionary" "LCoercedClasses$Dictionary;") ∈ lw_all := lw_g (lw_at lw_m3 15 rfl) rfl
theorem q740 : (Jvm.Cond.fieldLink "CoercedClasses$Term" (25 : Nat) "CoercedClasses$Term" "type" "LCoercedClasses$Type;") ∈ lw_all := lw_g (lw_at lw_m3 18 rfl) rfl
theorem q743 : (Jvm.Cond.lays "CoercedClasses$Term" "CoercedClasses$Term" "scope" "LCoercedClasses$Scope;") ∈ lw_all := lw_g (lw_at lw_m3 21 rfl) rfl
theorem q744 : (Jvm.Cond.soleField "CoercedClasses$Term" "scope") ∈ lw_all := lw_g (lw_at lw_m3 22 rfl) rfl
theorem q745 : (Jvm.Cond.lays "CoercedClasses$Term" "CoercedClasses$Term" "table" "LCoercedClasses$Table;") ∈ lw_all := lw_g (lw_at lw_m3 23 rfl) rfl
theorem q746 : (Jvm.Cond.soleField "CoercedClasses$Term" "table") ∈ lw_all := lw_g (lw_at lw_m3 24 rfl) rfl
theorem q747 : (Jvm.Cond.lays "CoercedClasses$Term" "CoercedClasses$Term" "ex" "LCoercedClasses$Ex;") ∈ lw_all := lw_g (lw_at lw_m3 25 rfl) rfl
theorem q748 : (Jvm.Cond.soleField "CoercedClasses$Term" "ex") ∈ lw_all := lw_g (lw_at lw_m3 26 rfl) rfl
theorem q749 : (Jvm.Cond.lays "CoercedClasses$Term" "CoercedClasses$Term" "dictionary" "LCoercedClasses$Dictionary;") ∈ lw_all := lw_g (lw_at lw_m3 27 rfl) rfl
theorem q750 : (Jvm.Cond.soleField "CoercedClasses$Term" "dictionary") ∈ lw_all := lw_g (lw_at lw_m3 28 rfl) rfl
theorem q751 : (Jvm.Cond.lays "CoercedClasses$Term" "CoercedClasses$Term" "type" "LCoercedClasses$Type;") ∈ lw_all := lw_g (lw_at lw_m3 29 rfl) rfl
theorem q752 : (Jvm.Cond.soleField "CoercedClasses$Term" "type") ∈ lw_all := lw_g (lw_at lw_m3 30 rfl) rfl
theorem q753 : (Jvm.Cond.superclass "CoercedClasses$Term" "java/lang/Object") ∈ lw_all := lw_g (lw_at lw_m3 31 rfl) rfl
theorem q1173 : (Jvm.Cond.selects "CoercedClasses$Term" ({ cls := "java/lang/Object", name := "getClass", desc := "()Ljava/lang/Class;" } : Jvm.MethodName) ({ cls := "java/lang/Object", name := "getClass", desc := "()Ljava/lang/Class;" } : Jvm.MethodName)) ∈ lw_all := lw_g (lw_at lw_m4 211 rfl) rfl
theorem q2638 : (Jvm.Cond.instanceMethod ({ cls := "CoercedClasses$Term", name := "is", desc := "(LCoercedClasses$Scope;LCoercedClasses$Table;LCoercedClasses$Ex;LCoercedClasses$Dictionary;LCoercedClasses$Type;)LCoercedClasses$Term;" } : Jvm.MethodName)) ∈ lw_all := lw_g (lw_at lw_m10 236 rfl) rfl
theorem q2639 : (Jvm.Cond.selects "CoercedClasses$Term" ({ cls := "CoercedClasses$Term", name := "is", desc := "(LCoercedClasses$Scope;LCoercedClasses$Table;LCoercedClasses$Ex;LCoercedClasses$Dictionary;LCoercedClasses$Type;)LCoercedClasses$Term;" } : Jvm.MethodName) ({ cls := "CoercedClasses$Term", name := "is", desc := "(LCoercedClasses$Scope;LCoercedClasses$Table;LCoercedClasses$Ex;LCoercedClasses$Dictionary;LCoercedClasses$Type;)LCoercedClasses$Term;" } : Jvm.MethodName)) ∈ lw_all := lw_g (lw_at lw_m10 237 rfl) rfl
theorem q2640 : (Jvm.Cond.code ({ cls := "CoercedClasses$Term", name := "is", desc := "(LCoercedClasses$Scope;LCoercedClasses$Table;LCoercedClasses$Ex;LCoercedClasses$Dictionary;LCoercedClasses$Type;)LCoercedClasses$Term;" } : Jvm.MethodName) prog_37_method_2_code (6 : Nat) (Option.some (Jvm.ClassFile.FieldType.object "CoercedClasses$Term"))) ∈ lw_all := lw_g (lw_at lw_m10 238 rfl) rfl
theorem q4482 : (Jvm.Cond.castable "CoercedClasses$Term" "java/lang/Object") ∈ lw_tbl := lw_at lw_m18 160 rfl
theorem in_X12 : ∀ w ∈ wsX120, w ∈ lw_all := lw_in wsX120 [743, 745, 747, 749, 751] (by decide +kernel) (by decide +kernel)
theorem q260 : (Jvm.Cond.initialized "CoercedClasses$Tokens") ∈ lw_all := lw_g (lw_at lw_m1 18 rfl) rfl
theorem q825 : (Jvm.Cond.instantiable "CoercedClasses$Tokens" (8 : Nat)) ∈ lw_all := lw_g (lw_at lw_m3 103 rfl) rfl
theorem q827 : (Jvm.Cond.instanceMethod ({ cls := "CoercedClasses$Tokens", name := "<init>", desc := "([BI)V" } : Jvm.MethodName)) ∈ lw_all := lw_g (lw_at lw_m3 105 rfl) rfl
theorem q828 : (Jvm.Cond.code ({ cls := "CoercedClasses$Tokens", name := "<init>", desc := "([BI)V" } : Jvm.MethodName) prog_38_method_1_code (3 : Nat) (Option.none : Option Jvm.ClassFile.FieldType)) ∈ lw_all := lw_g (lw_at lw_m3 106 rfl) rfl
theorem q829 : (Jvm.Cond.methodLink "CoercedClasses$Tokens" (3 : Nat) ({ cls := "java/lang/Object", name := "<init>", desc := "()V" } : Jvm.MethodName)) ∈ lw_all := lw_g (lw_at lw_m3 107 rfl) rfl
theorem q830 : (Jvm.Cond.methodLink "CoercedClasses$Tokens" (19 : Nat) ({ cls := "CoercedClasses$Tokens", name := "advance", desc := "()V" } : Jvm.MethodName)) ∈ lw_all := lw_g (lw_at lw_m3 108 rfl) rfl
theorem q831 : (Jvm.Cond.instanceMethod ({ cls := "CoercedClasses$Tokens", name := "advance", desc := "()V" } : Jvm.MethodName)) ∈ lw_all := lw_g (lw_at lw_m3 109 rfl) rfl
theorem q832 : (Jvm.Cond.selects "CoercedClasses$Tokens" ({ cls := "CoercedClasses$Tokens", name := "advance", desc := "()V" } : Jvm.MethodName) ({ cls := "CoercedClasses$Tokens", name := "advance", desc := "()V" } : Jvm.MethodName)) ∈ lw_all := lw_g (lw_at lw_m3 110 rfl) rfl
theorem q833 : (Jvm.Cond.code ({ cls := "CoercedClasses$Tokens", name := "advance", desc := "()V" } : Jvm.MethodName) prog_38_method_6_code (2 : Nat) (Option.none : Option Jvm.ClassFile.FieldType)) ∈ lw_all := lw_g (lw_at lw_m3 111 rfl) rfl
theorem q834 : (Jvm.Cond.methodLink "CoercedClasses$Tokens" (25 : Nat) ({ cls := "CoercedClasses$Tokens", name := "at", desc := "(I)I" } : Jvm.MethodName)) ∈ lw_all := lw_g (lw_at lw_m3 112 rfl) rfl
theorem q835 : (Jvm.Cond.privateMethod ({ cls := "CoercedClasses$Tokens", name := "at", desc := "(I)I" } : Jvm.MethodName)) ∈ lw_tbl := lw_at lw_m3 113 rfl
theorem q836 : (Jvm.Cond.instanceMethod ({ cls := "CoercedClasses$Tokens", name := "at", desc := "(I)I" } : Jvm.MethodName)) ∈ lw_all := lw_g (lw_at lw_m3 114 rfl) rfl
theorem q837 : (Jvm.Cond.code ({ cls := "CoercedClasses$Tokens", name := "at", desc := "(I)I" } : Jvm.MethodName) prog_38_method_2_code (2 : Nat) (Option.some Jvm.ClassFile.FieldType.int)) ∈ lw_all := lw_g (lw_at lw_m3 115 rfl) rfl
theorem q838 : (Jvm.Cond.fieldLink "CoercedClasses$Tokens" (35 : Nat) "CoercedClasses$Kind" "END" "LCoercedClasses$Kind;") ∈ lw_all := lw_g (lw_at lw_m3 116 rfl) rfl
theorem q840 : (Jvm.Cond.methodLink "CoercedClasses$Tokens" (44 : Nat) ({ cls := "CoercedClasses$Tokens", name := "isSmall", desc := "(I)Z" } : Jvm.MethodName)) ∈ lw_all := lw_g (lw_at lw_m3 118 rfl) rfl
theorem q841 : (Jvm.Cond.static ({ cls := "CoercedClasses$Tokens", name := "isSmall", desc := "(I)Z" } : Jvm.MethodName)) ∈ lw_all := lw_g (lw_at lw_m3 119 rfl) rfl
theorem q842 : (Jvm.Cond.code ({ cls := "CoercedClasses$Tokens", name := "isSmall", desc := "(I)Z" } : Jvm.MethodName) prog_38_method_3_code (1 : Nat) (Option.some Jvm.ClassFile.FieldType.boolean)) ∈ lw_all := lw_g (lw_at lw_m3 120 rfl) rfl
theorem q843 : (Jvm.Cond.methodLink "CoercedClasses$Tokens" (48 : Nat) ({ cls := "CoercedClasses$Tokens", name := "isGreat", desc := "(I)Z" } : Jvm.MethodName)) ∈ lw_all := lw_g (lw_at lw_m3 121 rfl) rfl
theorem q844 : (Jvm.Cond.static ({ cls := "CoercedClasses$Tokens", name := "isGreat", desc := "(I)Z" } : Jvm.MethodName)) ∈ lw_all := lw_g (lw_at lw_m3 122 rfl) rfl
theorem q845 : (Jvm.Cond.code ({ cls := "CoercedClasses$Tokens", name := "isGreat", desc := "(I)Z" } : Jvm.MethodName) prog_38_method_4_code (1 : Nat) (Option.some Jvm.ClassFile.FieldType.boolean)) ∈ lw_all := lw_g (lw_at lw_m3 123 rfl) rfl
theorem q846 : (Jvm.Cond.methodLink "CoercedClasses$Tokens" (51 : Nat) ({ cls := "CoercedClasses$Tokens", name := "name", desc := "()V" } : Jvm.MethodName)) ∈ lw_all := lw_g (lw_at lw_m3 124 rfl) rfl
theorem q847 : (Jvm.Cond.privateMethod ({ cls := "CoercedClasses$Tokens", name := "name", desc := "()V" } : Jvm.MethodName)) ∈ lw_tbl := lw_at lw_m3 125 rfl
theorem q848 : (Jvm.Cond.instanceMethod ({ cls := "CoercedClasses$Tokens", name := "name", desc := "()V" } : Jvm.MethodName)) ∈ lw_all := lw_g (lw_at lw_m3 126 rfl) rfl
theorem q849 : (Jvm.Cond.code ({ cls := "CoercedClasses$Tokens", name := "name", desc := "()V" } : Jvm.MethodName) prog_38_method_7_code (2 : Nat) (Option.none : Option Jvm.ClassFile.FieldType)) ∈ lw_all := lw_g (lw_at lw_m3 127 rfl) rfl
theorem q850 : (Jvm.Cond.methodLink "CoercedClasses$Tokens" (54 : Nat) ({ cls := "CoercedClasses$Tokens", name := "isDigit", desc := "(I)Z" } : Jvm.MethodName)) ∈ lw_all := lw_g (lw_at lw_m3 128 rfl) rfl
theorem q851 : (Jvm.Cond.static ({ cls := "CoercedClasses$Tokens", name := "isDigit", desc := "(I)Z" } : Jvm.MethodName)) ∈ lw_all := lw_g (lw_at lw_m3 129 rfl) rfl
theorem q852 : (Jvm.Cond.code ({ cls := "CoercedClasses$Tokens", name := "isDigit", desc := "(I)Z" } : Jvm.MethodName) prog_38_method_5_code (1 : Nat) (Option.some Jvm.ClassFile.FieldType.boolean)) ∈ lw_all := lw_g (lw_at lw_m3 130 rfl) rfl
theorem q853 : (Jvm.Cond.fieldLink "CoercedClasses$Tokens" (64 : Nat) "CoercedClasses$Kind" "BAD" "LCoercedClasses$Kind;") ∈ lw_all := lw_g (lw_at lw_m3 131 rfl) rfl
theorem q855 : (Jvm.Cond.fieldLink "CoercedClasses$Tokens" (67 : Nat) "CoercedClasses$Kind" "GREAT" "LCoercedClasses$Kind;") ∈ lw_all := lw_g (lw_at lw_m3 133 rfl) rfl
theorem q857 : (Jvm.Cond.methodLink "CoercedClasses$Tokens" (70 : Nat) ({ cls := "CoercedClasses$Tokens", name := "isWord", desc := "()Z" } : Jvm.MethodName)) ∈ lw_all := lw_g (lw_at lw_m3 135 rfl) rfl
theorem q858 : (Jvm.Cond.privateMethod ({ cls := "CoercedClasses$Tokens", name := "isWord", desc := "()Z" } : Jvm.MethodName)) ∈ lw_tbl := lw_at lw_m3 136 rfl
theorem q859 : (Jvm.Cond.instanceMethod ({ cls := "CoercedClasses$Tokens", name := "isWord", desc := "()Z" } : Jvm.MethodName)) ∈ lw_all := lw_g (lw_at lw_m3 137 rfl) rfl
theorem q860 : (Jvm.Cond.code ({ cls := "CoercedClasses$Tokens", name := "isWord", desc := "()Z" } : Jvm.MethodName) prog_38_method_8_code (1 : Nat) (Option.some Jvm.ClassFile.FieldType.boolean)) ∈ lw_all := lw_g (lw_at lw_m3 138 rfl) rfl
theorem q861 : (Jvm.Cond.stringRef "CoercedClasses$Tokens" (80 : Nat) "class") ∈ lw_tbl := lw_at lw_m3 139 rfl
theorem q862 : (Jvm.Cond.methodLink "CoercedClasses$Tokens" (82 : Nat) ({ cls := "CoercedClasses$Tokens", name := "is", desc := "(Ljava/lang/String;)Z" } : Jvm.MethodName)) ∈ lw_all := lw_g (lw_at lw_m3 140 rfl) rfl
theorem q863 : (Jvm.Cond.privateMethod ({ cls := "CoercedClasses$Tokens", name := "is", desc := "(Ljava/lang/String;)Z" } : Jvm.MethodName)) ∈ lw_tbl := lw_at lw_m3 141 rfl
theorem q864 : (Jvm.Cond.instanceMethod ({ cls := "CoercedClasses$Tokens", name := "is", desc := "(Ljava/lang/String;)Z" } : Jvm.MethodName)) ∈ lw_all := lw_g (lw_at lw_m3 142 rfl) rfl
theorem q865 : (Jvm.Cond.code ({ cls := "CoercedClasses$Tokens", name := "is", desc := "(Ljava/lang/String;)Z" } : Jvm.MethodName) prog_38_method_9_code (3 : Nat) (Option.some Jvm.ClassFile.FieldType.boolean)) ∈ lw_all := lw_g (lw_at lw_m3 143 rfl) rfl
theorem q866 : (Jvm.Cond.methodLink "CoercedClasses$Tokens" (106 : Nat) ({ cls := "java/lang/String", name := "length", desc := "()I" } : Jvm.MethodName)) ∈ lw_all := lw_g (lw_at lw_m3 144 rfl) rfl
theorem q876 : (Jvm.Cond.methodLink "CoercedClasses$Tokens" (111 : Nat) ({ cls := "java/lang/String", name := "charAt", desc := "(I)C" } : Jvm.MethodName)) ∈ lw_all := lw_g (lw_at lw_m3 154 rfl) rfl
theorem q914 : (Jvm.Cond.stringRef "CoercedClasses$Tokens" (86 : Nat) "instance") ∈ lw_tbl := lw_at lw_m3 192 rfl
theorem q915 : (Jvm.Cond.stringRef "CoercedClasses$Tokens" (88 : Nat) "type") ∈ lw_tbl := lw_at lw_m3 193 rfl
theorem q916 : (Jvm.Cond.stringRef "CoercedClasses$Tokens" (90 : Nat) "forall") ∈ lw_tbl := lw_at lw_m3 194 rfl
theorem q917 : (Jvm.Cond.stringRef "CoercedClasses$Tokens" (92 : Nat) "if") ∈ lw_tbl := lw_at lw_m3 195 rfl
theorem q918 : (Jvm.Cond.stringRef "CoercedClasses$Tokens" (94 : Nat) "then") ∈ lw_tbl := lw_at lw_m3 196 rfl
theorem q919 : (Jvm.Cond.stringRef "CoercedClasses$Tokens" (96 : Nat) "else") ∈ lw_tbl := lw_at lw_m3 197 rfl
theorem q920 : (Jvm.Cond.stringRef "CoercedClasses$Tokens" (98 : Nat) "let") ∈ lw_tbl := lw_at lw_m3 198 rfl
theorem q921 : (Jvm.Cond.stringRef "CoercedClasses$Tokens" (100 : Nat) "in") ∈ lw_tbl := lw_at lw_m3 199 rfl
theorem q922 : (Jvm.Cond.stringRef "CoercedClasses$Tokens" (102 : Nat) "case") ∈ lw_tbl := lw_at lw_m3 200 rfl
theorem q923 : (Jvm.Cond.stringRef "CoercedClasses$Tokens" (104 : Nat) "of") ∈ lw_tbl := lw_at lw_m3 201 rfl
theorem q924 : (Jvm.Cond.fieldLink "CoercedClasses$Tokens" (74 : Nat) "CoercedClasses$Kind" "WORD" "LCoercedClasses$Kind;") ∈ lw_all := lw_g (lw_at lw_m3 202 rfl) rfl
theorem q926 : (Jvm.Cond.fieldLink "CoercedClasses$Tokens" (77 : Nat) "CoercedClasses$Kind" "NAME" "LCoercedClasses$Kind;") ∈ lw_all := lw_g (lw_at lw_m3 204 rfl) rfl
theorem q928 : (Jvm.Cond.methodLink "CoercedClasses$Tokens" (57 : Nat) ({ cls := "CoercedClasses$Tokens", name := "number", desc := "()V" } : Jvm.MethodName)) ∈ lw_all := lw_g (lw_at lw_m3 206 rfl) rfl
theorem q929 : (Jvm.Cond.privateMethod ({ cls := "CoercedClasses$Tokens", name := "number", desc := "()V" } : Jvm.MethodName)) ∈ lw_tbl := lw_at lw_m3 207 rfl
theorem q930 : (Jvm.Cond.instanceMethod ({ cls := "CoercedClasses$Tokens", name := "number", desc := "()V" } : Jvm.MethodName)) ∈ lw_all := lw_g (lw_at lw_m3 208 rfl) rfl
theorem q931 : (Jvm.Cond.code ({ cls := "CoercedClasses$Tokens", name := "number", desc := "()V" } : Jvm.MethodName) prog_38_method_10_code (2 : Nat) (Option.none : Option Jvm.ClassFile.FieldType)) ∈ lw_all := lw_g (lw_at lw_m3 209 rfl) rfl
theorem q932 : (Jvm.Cond.fieldLink "CoercedClasses$Tokens" (118 : Nat) "CoercedClasses$Kind" "NUMBER" "LCoercedClasses$Kind;") ∈ lw_all := lw_g (lw_at lw_m3 210 rfl) rfl
theorem q934 : (Jvm.Cond.methodLink "CoercedClasses$Tokens" (60 : Nat) ({ cls := "CoercedClasses$Tokens", name := "sign", desc := "(I)V" } : Jvm.MethodName)) ∈ lw_all := lw_g (lw_at lw_m3 212 rfl) rfl
theorem q935 : (Jvm.Cond.privateMethod ({ cls := "CoercedClasses$Tokens", name := "sign", desc := "(I)V" } : Jvm.MethodName)) ∈ lw_tbl := lw_at lw_m3 213 rfl
theorem q936 : (Jvm.Cond.instanceMethod ({ cls := "CoercedClasses$Tokens", name := "sign", desc := "(I)V" } : Jvm.MethodName)) ∈ lw_all := lw_g (lw_at lw_m3 214 rfl) rfl
theorem q937 : (Jvm.Cond.code ({ cls := "CoercedClasses$Tokens", name := "sign", desc := "(I)V" } : Jvm.MethodName) prog_38_method_11_code (4 : Nat) (Option.none : Option Jvm.ClassFile.FieldType)) ∈ lw_all := lw_g (lw_at lw_m3 215 rfl) rfl
theorem q938 : (Jvm.Cond.fieldLink "CoercedClasses$Tokens" (121 : Nat) "CoercedClasses$Kind" "SIGN" "LCoercedClasses$Kind;") ∈ lw_all := lw_g (lw_at lw_m3 216 rfl) rfl
theorem q940 : (Jvm.Cond.fieldLink "CoercedClasses$Tokens" (9 : Nat) "CoercedClasses$Tokens" "bytes" "[B") ∈ lw_all := lw_g (lw_at lw_m3 218 rfl) rfl
theorem q941 : (Jvm.Cond.fieldLink "CoercedClasses$Tokens" (15 : Nat) "CoercedClasses$Tokens" "size" "I") ∈ lw_all := lw_g (lw_at lw_m3 219 rfl) rfl
theorem q942 : (Jvm.Cond.fieldLink "CoercedClasses$Tokens" (22 : Nat) "CoercedClasses$Tokens" "next" "I") ∈ lw_all := lw_g (lw_at lw_m3 220 rfl) rfl
theorem q945 : (Jvm.Cond.fieldLink "CoercedClasses$Tokens" (41 : Nat) "CoercedClasses$Tokens" "kind" "LCoercedClasses$Kind;") ∈ lw_all := lw_g (lw_at lw_m3 223 rfl) rfl
theorem q947 : (Jvm.Cond.fieldLink "CoercedClasses$Tokens" (29 : Nat) "CoercedClasses$Tokens" "place" "I") ∈ lw_all := lw_g (lw_at lw_m3 225 rfl) rfl
theorem q949 : (Jvm.Cond.fieldLink "CoercedClasses$Tokens" (32 : Nat) "CoercedClasses$Tokens" "length" "I") ∈ lw_all := lw_g (lw_at lw_m3 227 rfl) rfl
theorem q950 : (Jvm.Cond.fieldLink "CoercedClasses$Tokens" (115 : Nat) "CoercedClasses$Tokens" "value" "I") ∈ lw_all := lw_g (lw_at lw_m3 228 rfl) rfl
theorem q953 : (Jvm.Cond.fieldLink "CoercedClasses$Tokens" (152 : Nat) "CoercedClasses$Tokens" "begun" "I") ∈ lw_all := lw_g (lw_at lw_m3 231 rfl) rfl
theorem q954 : (Jvm.Cond.laysFinal "CoercedClasses$Tokens" "CoercedClasses$Tokens" "bytes" "[B") ∈ lw_all := lw_g (lw_at lw_m3 232 rfl) rfl
theorem q955 : (Jvm.Cond.soleField "CoercedClasses$Tokens" "bytes") ∈ lw_all := lw_g (lw_at lw_m3 233 rfl) rfl
theorem q956 : (Jvm.Cond.laysFinal "CoercedClasses$Tokens" "CoercedClasses$Tokens" "size" "I") ∈ lw_all := lw_g (lw_at lw_m3 234 rfl) rfl
theorem q957 : (Jvm.Cond.soleField "CoercedClasses$Tokens" "size") ∈ lw_all := lw_g (lw_at lw_m3 235 rfl) rfl
theorem q958 : (Jvm.Cond.lays "CoercedClasses$Tokens" "CoercedClasses$Tokens" "next" "I") ∈ lw_all := lw_g (lw_at lw_m3 236 rfl) rfl
theorem q959 : (Jvm.Cond.soleField "CoercedClasses$Tokens" "next") ∈ lw_all := lw_g (lw_at lw_m3 237 rfl) rfl
theorem q960 : (Jvm.Cond.lays "CoercedClasses$Tokens" "CoercedClasses$Tokens" "kind" "LCoercedClasses$Kind;") ∈ lw_all := lw_g (lw_at lw_m3 238 rfl) rfl
theorem q961 : (Jvm.Cond.soleField "CoercedClasses$Tokens" "kind") ∈ lw_all := lw_g (lw_at lw_m3 239 rfl) rfl
theorem q962 : (Jvm.Cond.lays "CoercedClasses$Tokens" "CoercedClasses$Tokens" "place" "I") ∈ lw_all := lw_g (lw_at lw_m4 0 rfl) rfl
theorem q963 : (Jvm.Cond.soleField "CoercedClasses$Tokens" "place") ∈ lw_all := lw_g (lw_at lw_m4 1 rfl) rfl
theorem q964 : (Jvm.Cond.lays "CoercedClasses$Tokens" "CoercedClasses$Tokens" "length" "I") ∈ lw_all := lw_g (lw_at lw_m4 2 rfl) rfl
theorem q965 : (Jvm.Cond.soleField "CoercedClasses$Tokens" "length") ∈ lw_all := lw_g (lw_at lw_m4 3 rfl) rfl
theorem q966 : (Jvm.Cond.lays "CoercedClasses$Tokens" "CoercedClasses$Tokens" "value" "I") ∈ lw_all := lw_g (lw_at lw_m4 4 rfl) rfl
theorem q967 : (Jvm.Cond.soleField "CoercedClasses$Tokens" "value") ∈ lw_all := lw_g (lw_at lw_m4 5 rfl) rfl
theorem q968 : (Jvm.Cond.lays "CoercedClasses$Tokens" "CoercedClasses$Tokens" "begun" "I") ∈ lw_all := lw_g (lw_at lw_m4 6 rfl) rfl
theorem q969 : (Jvm.Cond.soleField "CoercedClasses$Tokens" "begun") ∈ lw_all := lw_g (lw_at lw_m4 7 rfl) rfl
theorem q970 : (Jvm.Cond.superclass "CoercedClasses$Tokens" "java/lang/Object") ∈ lw_all := lw_g (lw_at lw_m4 8 rfl) rfl
theorem q978 : (Jvm.Cond.instanceMethod ({ cls := "CoercedClasses$Tokens", name := "passes", desc := "(Ljava/lang/String;)Z" } : Jvm.MethodName)) ∈ lw_all := lw_g (lw_at lw_m4 16 rfl) rfl
theorem q979 : (Jvm.Cond.selects "CoercedClasses$Tokens" ({ cls := "CoercedClasses$Tokens", name := "passes", desc := "(Ljava/lang/String;)Z" } : Jvm.MethodName) ({ cls := "CoercedClasses$Tokens", name := "passes", desc := "(Ljava/lang/String;)Z" } : Jvm.MethodName)) ∈ lw_all := lw_g (lw_at lw_m4 17 rfl) rfl
theorem q980 : (Jvm.Cond.code ({ cls := "CoercedClasses$Tokens", name := "passes", desc := "(Ljava/lang/String;)Z" } : Jvm.MethodName) prog_38_method_17_code (3 : Nat) (Option.some Jvm.ClassFile.FieldType.boolean)) ∈ lw_all := lw_g (lw_at lw_m4 18 rfl) rfl
theorem q981 : (Jvm.Cond.methodLink "CoercedClasses$Tokens" (137 : Nat) ({ cls := "CoercedClasses$Tokens", name := "isWord", desc := "(Ljava/lang/String;)Z" } : Jvm.MethodName)) ∈ lw_all := lw_g (lw_at lw_m4 19 rfl) rfl
theorem q982 : (Jvm.Cond.instanceMethod ({ cls := "CoercedClasses$Tokens", name := "isWord", desc := "(Ljava/lang/String;)Z" } : Jvm.MethodName)) ∈ lw_all := lw_g (lw_at lw_m4 20 rfl) rfl
theorem q983 : (Jvm.Cond.selects "CoercedClasses$Tokens" ({ cls := "CoercedClasses$Tokens", name := "isWord", desc := "(Ljava/lang/String;)Z" } : Jvm.MethodName) ({ cls := "CoercedClasses$Tokens", name := "isWord", desc := "(Ljava/lang/String;)Z" } : Jvm.MethodName)) ∈ lw_all := lw_g (lw_at lw_m4 21 rfl) rfl
theorem q984 : (Jvm.Cond.code ({ cls := "CoercedClasses$Tokens", name := "isWord", desc := "(Ljava/lang/String;)Z" } : Jvm.MethodName) prog_38_method_15_code (2 : Nat) (Option.some Jvm.ClassFile.FieldType.boolean)) ∈ lw_all := lw_g (lw_at lw_m4 22 rfl) rfl
theorem q991 : (Jvm.Cond.instanceMethod ({ cls := "CoercedClasses$Tokens", name := "need", desc := "(LCoercedClasses$Kind;)LCoercedClasses$Word;" } : Jvm.MethodName)) ∈ lw_all := lw_g (lw_at lw_m4 29 rfl) rfl
theorem q992 : (Jvm.Cond.selects "CoercedClasses$Tokens" ({ cls := "CoercedClasses$Tokens", name := "need", desc := "(LCoercedClasses$Kind;)LCoercedClasses$Word;" } : Jvm.MethodName) ({ cls := "CoercedClasses$Tokens", name := "need", desc := "(LCoercedClasses$Kind;)LCoercedClasses$Word;" } : Jvm.MethodName)) ∈ lw_all := lw_g (lw_at lw_m4 30 rfl) rfl
theorem q993 : (Jvm.Cond.code ({ cls := "CoercedClasses$Tokens", name := "need", desc := "(LCoercedClasses$Kind;)LCoercedClasses$Word;" } : Jvm.MethodName) prog_38_method_20_code (3 : Nat) (Option.some (Jvm.ClassFile.FieldType.object "CoercedClasses$Word"))) ∈ lw_all := lw_g (lw_at lw_m4 31 rfl) rfl
theorem q994 : (Jvm.Cond.methodLink "CoercedClasses$Tokens" (142 : Nat) ({ cls := "CoercedClasses$Tokens", name := "wrong", desc := "()LCoercedClasses$Fault;" } : Jvm.MethodName)) ∈ lw_all := lw_g (lw_at lw_m4 32 rfl) rfl
theorem q995 : (Jvm.Cond.instanceMethod ({ cls := "CoercedClasses$Tokens", name := "wrong", desc := "()LCoercedClasses$Fault;" } : Jvm.MethodName)) ∈ lw_all := lw_g (lw_at lw_m4 33 rfl) rfl
theorem q996 : (Jvm.Cond.selects "CoercedClasses$Tokens" ({ cls := "CoercedClasses$Tokens", name := "wrong", desc := "()LCoercedClasses$Fault;" } : Jvm.MethodName) ({ cls := "CoercedClasses$Tokens", name := "wrong", desc := "()LCoercedClasses$Fault;" } : Jvm.MethodName)) ∈ lw_all := lw_g (lw_at lw_m4 34 rfl) rfl
theorem q997 : (Jvm.Cond.code ({ cls := "CoercedClasses$Tokens", name := "wrong", desc := "()LCoercedClasses$Fault;" } : Jvm.MethodName) prog_38_method_13_code (1 : Nat) (Option.some (Jvm.ClassFile.FieldType.object "CoercedClasses$Fault"))) ∈ lw_all := lw_g (lw_at lw_m4 35 rfl) rfl
theorem q998 : (Jvm.Cond.classLink "CoercedClasses$Tokens" (129 : Nat) "CoercedClasses$Fault") ∈ lw_all := lw_g (lw_at lw_m4 36 rfl) rfl
theorem q1037 : (Jvm.Cond.methodLink "CoercedClasses$Tokens" (131 : Nat) ({ cls := "CoercedClasses$Fault", name := "<init>", desc := "(II)V" } : Jvm.MethodName)) ∈ lw_all := lw_g (lw_at lw_m4 75 rfl) rfl
theorem q1070 : (Jvm.Cond.methodLink "CoercedClasses$Tokens" (148 : Nat) ({ cls := "CoercedClasses$Tokens", name := "word", desc := "()LCoercedClasses$Word;" } : Jvm.MethodName)) ∈ lw_all := lw_g (lw_at lw_m4 108 rfl) rfl
theorem q1071 : (Jvm.Cond.instanceMethod ({ cls := "CoercedClasses$Tokens", name := "word", desc := "()LCoercedClasses$Word;" } : Jvm.MethodName)) ∈ lw_all := lw_g (lw_at lw_m4 109 rfl) rfl
theorem q1072 : (Jvm.Cond.selects "CoercedClasses$Tokens" ({ cls := "CoercedClasses$Tokens", name := "word", desc := "()LCoercedClasses$Word;" } : Jvm.MethodName) ({ cls := "CoercedClasses$Tokens", name := "word", desc := "()LCoercedClasses$Word;" } : Jvm.MethodName)) ∈ lw_all := lw_g (lw_at lw_m4 110 rfl) rfl
theorem q1073 : (Jvm.Cond.code ({ cls := "CoercedClasses$Tokens", name := "word", desc := "()LCoercedClasses$Word;" } : Jvm.MethodName) prog_38_method_12_code (1 : Nat) (Option.some (Jvm.ClassFile.FieldType.object "CoercedClasses$Word"))) ∈ lw_all := lw_g (lw_at lw_m4 111 rfl) rfl
theorem q1074 : (Jvm.Cond.classLink "CoercedClasses$Tokens" (124 : Nat) "CoercedClasses$Word") ∈ lw_all := lw_g (lw_at lw_m4 112 rfl) rfl
theorem q1076 : (Jvm.Cond.methodLink "CoercedClasses$Tokens" (126 : Nat) ({ cls := "CoercedClasses$Word", name := "<init>", desc := "([BII)V" } : Jvm.MethodName)) ∈ lw_all := lw_g (lw_at lw_m4 114 rfl) rfl
theorem q1174 : (Jvm.Cond.selects "CoercedClasses$Tokens" ({ cls := "java/lang/Object", name := "getClass", desc := "()Ljava/lang/Class;" } : Jvm.MethodName) ({ cls := "java/lang/Object", name := "getClass", desc := "()Ljava/lang/Class;" } : Jvm.MethodName)) ∈ lw_all := lw_g (lw_at lw_m4 212 rfl) rfl
theorem q1254 : (Jvm.Cond.instanceMethod ({ cls := "CoercedClasses$Tokens", name := "passes", desc := "(I)Z" } : Jvm.MethodName)) ∈ lw_all := lw_g (lw_at lw_m5 52 rfl) rfl
theorem q1255 : (Jvm.Cond.selects "CoercedClasses$Tokens" ({ cls := "CoercedClasses$Tokens", name := "passes", desc := "(I)Z" } : Jvm.MethodName) ({ cls := "CoercedClasses$Tokens", name := "passes", desc := "(I)Z" } : Jvm.MethodName)) ∈ lw_all := lw_g (lw_at lw_m5 53 rfl) rfl
theorem q1256 : (Jvm.Cond.code ({ cls := "CoercedClasses$Tokens", name := "passes", desc := "(I)Z" } : Jvm.MethodName) prog_38_method_16_code (3 : Nat) (Option.some Jvm.ClassFile.FieldType.boolean)) ∈ lw_all := lw_g (lw_at lw_m5 54 rfl) rfl
theorem q1257 : (Jvm.Cond.methodLink "CoercedClasses$Tokens" (134 : Nat) ({ cls := "CoercedClasses$Tokens", name := "isSign", desc := "(I)Z" } : Jvm.MethodName)) ∈ lw_all := lw_g (lw_at lw_m5 55 rfl) rfl
theorem q1258 : (Jvm.Cond.instanceMethod ({ cls := "CoercedClasses$Tokens", name := "isSign", desc := "(I)Z" } : Jvm.MethodName)) ∈ lw_all := lw_g (lw_at lw_m5 56 rfl) rfl
theorem q1259 : (Jvm.Cond.selects "CoercedClasses$Tokens" ({ cls := "CoercedClasses$Tokens", name := "isSign", desc := "(I)Z" } : Jvm.MethodName) ({ cls := "CoercedClasses$Tokens", name := "isSign", desc := "(I)Z" } : Jvm.MethodName)) ∈ lw_all := lw_g (lw_at lw_m5 57 rfl) rfl
theorem q1260 : (Jvm.Cond.code ({ cls := "CoercedClasses$Tokens", name := "isSign", desc := "(I)Z" } : Jvm.MethodName) prog_38_method_14_code (2 : Nat) (Option.some Jvm.ClassFile.FieldType.boolean)) ∈ lw_all := lw_g (lw_at lw_m5 58 rfl) rfl
theorem q1262 : (Jvm.Cond.instanceMethod ({ cls := "CoercedClasses$Tokens", name := "need", desc := "(I)V" } : Jvm.MethodName)) ∈ lw_all := lw_g (lw_at lw_m5 60 rfl) rfl
theorem q1263 : (Jvm.Cond.selects "CoercedClasses$Tokens" ({ cls := "CoercedClasses$Tokens", name := "need", desc := "(I)V" } : Jvm.MethodName) ({ cls := "CoercedClasses$Tokens", name := "need", desc := "(I)V" } : Jvm.MethodName)) ∈ lw_all := lw_g (lw_at lw_m5 61 rfl) rfl
theorem q1264 : (Jvm.Cond.code ({ cls := "CoercedClasses$Tokens", name := "need", desc := "(I)V" } : Jvm.MethodName) prog_38_method_18_code (2 : Nat) (Option.none : Option Jvm.ClassFile.FieldType)) ∈ lw_all := lw_g (lw_at lw_m5 62 rfl) rfl
theorem q1265 : (Jvm.Cond.methodLink "CoercedClasses$Tokens" (139 : Nat) ({ cls := "CoercedClasses$Tokens", name := "passes", desc := "(I)Z" } : Jvm.MethodName)) ∈ lw_all := lw_g (lw_at lw_m5 63 rfl) rfl
theorem q1277 : (Jvm.Cond.instanceMethod ({ cls := "CoercedClasses$Tokens", name := "begin", desc := "()V" } : Jvm.MethodName)) ∈ lw_all := lw_g (lw_at lw_m5 75 rfl) rfl
theorem q1278 : (Jvm.Cond.selects "CoercedClasses$Tokens" ({ cls := "CoercedClasses$Tokens", name := "begin", desc := "()V" } : Jvm.MethodName) ({ cls := "CoercedClasses$Tokens", name := "begin", desc := "()V" } : Jvm.MethodName)) ∈ lw_all := lw_g (lw_at lw_m5 76 rfl) rfl
theorem q1279 : (Jvm.Cond.code ({ cls := "CoercedClasses$Tokens", name := "begin", desc := "()V" } : Jvm.MethodName) prog_38_method_22_code (1 : Nat) (Option.none : Option Jvm.ClassFile.FieldType)) ∈ lw_all := lw_g (lw_at lw_m5 77 rfl) rfl
theorem q1585 : (Jvm.Cond.instanceMethod ({ cls := "CoercedClasses$Tokens", name := "need", desc := "(Ljava/lang/String;)V" } : Jvm.MethodName)) ∈ lw_all := lw_g (lw_at lw_m6 143 rfl) rfl
theorem q1586 : (Jvm.Cond.selects "CoercedClasses$Tokens" ({ cls := "CoercedClasses$Tokens", name := "need", desc := "(Ljava/lang/String;)V" } : Jvm.MethodName) ({ cls := "CoercedClasses$Tokens", name := "need", desc := "(Ljava/lang/String;)V" } : Jvm.MethodName)) ∈ lw_all := lw_g (lw_at lw_m6 144 rfl) rfl
theorem q1587 : (Jvm.Cond.code ({ cls := "CoercedClasses$Tokens", name := "need", desc := "(Ljava/lang/String;)V" } : Jvm.MethodName) prog_38_method_19_code (2 : Nat) (Option.none : Option Jvm.ClassFile.FieldType)) ∈ lw_all := lw_g (lw_at lw_m6 145 rfl) rfl
theorem q1588 : (Jvm.Cond.methodLink "CoercedClasses$Tokens" (146 : Nat) ({ cls := "CoercedClasses$Tokens", name := "passes", desc := "(Ljava/lang/String;)Z" } : Jvm.MethodName)) ∈ lw_all := lw_g (lw_at lw_m6 146 rfl) rfl
theorem q1678 : (Jvm.Cond.instanceMethod ({ cls := "CoercedClasses$Tokens", name := "needName", desc := "(Ljava/lang/String;)V" } : Jvm.MethodName)) ∈ lw_all := lw_g (lw_at lw_m6 236 rfl) rfl
theorem q1679 : (Jvm.Cond.selects "CoercedClasses$Tokens" ({ cls := "CoercedClasses$Tokens", name := "needName", desc := "(Ljava/lang/String;)V" } : Jvm.MethodName) ({ cls := "CoercedClasses$Tokens", name := "needName", desc := "(Ljava/lang/String;)V" } : Jvm.MethodName)) ∈ lw_all := lw_g (lw_at lw_m6 237 rfl) rfl
theorem q1680 : (Jvm.Cond.code ({ cls := "CoercedClasses$Tokens", name := "needName", desc := "(Ljava/lang/String;)V" } : Jvm.MethodName) prog_38_method_21_code (2 : Nat) (Option.none : Option Jvm.ClassFile.FieldType)) ∈ lw_all := lw_g (lw_at lw_m6 238 rfl) rfl
theorem q4484 : (Jvm.Cond.castable "CoercedClasses$Tokens" "java/lang/Object") ∈ lw_tbl := lw_at lw_m18 162 rfl
theorem in_X14 : ∀ w ∈ wsX140, w ∈ lw_all := lw_in wsX140 [954, 956, 958, 960, 962, 964, 966, 968] (by decide +kernel) (by decide +kernel)
theorem q270 : (Jvm.Cond.initialized "CoercedClasses$Fault") ∈ lw_all := lw_g (lw_at lw_m1 28 rfl) rfl
theorem q999 : (Jvm.Cond.instantiable "CoercedClasses$Fault" (8 : Nat)) ∈ lw_all := lw_g (lw_at lw_m4 37 rfl) rfl
theorem q1000 : (Jvm.Cond.castable "CoercedClasses$Fault" "CoercedClasses$Fault") ∈ lw_tbl := lw_at lw_m4 38 rfl
theorem q1007 : (Jvm.Cond.selects "CoercedClasses$Fault" ({ cls := "java/lang/Throwable", name := "fillInStackTrace", desc := "(I)Ljava/lang/Throwable;" } : Jvm.MethodName) ({ cls := "java/lang/Throwable", name := "fillInStackTrace", desc := "(I)Ljava/lang/Throwable;" } : Jvm.MethodName)) ∈ lw_all := lw_g (lw_at lw_m4 45 rfl) rfl
theorem q1008 : (Jvm.Cond.selects "CoercedClasses$Fault" ({ cls := "java/lang/Throwable", name := "fillInStackTrace", desc := "()Ljava/lang/Throwable;" } : Jvm.MethodName) ({ cls := "java/lang/Throwable", name := "fillInStackTrace", desc := "()Ljava/lang/Throwable;" } : Jvm.MethodName)) ∈ lw_all := lw_g (lw_at lw_m4 46 rfl) rfl
theorem q1009 : (Jvm.Cond.lays "CoercedClasses$Fault" "java/lang/Throwable" "cause" "Ljava/lang/Throwable;") ∈ lw_all := lw_g (lw_at lw_m4 47 rfl) rfl
theorem q1011 : (Jvm.Cond.lays "CoercedClasses$Fault" "java/lang/Throwable" "stackTrace" "[Ljava/lang/StackTraceElement;") ∈ lw_all := lw_g (lw_at lw_m4 49 rfl) rfl
theorem q1013 : (Jvm.Cond.lays "CoercedClasses$Fault" "java/lang/Throwable" "suppressedExceptions" "Ljava/util/List;") ∈ lw_all := lw_g (lw_at lw_m4 51 rfl) rfl
theorem q1015 : (Jvm.Cond.lays "CoercedClasses$Fault" "java/lang/Throwable" "detailMessage" "Ljava/lang/String;") ∈ lw_all := lw_g (lw_at lw_m4 53 rfl) rfl
theorem q1017 : (Jvm.Cond.lays "CoercedClasses$Fault" "java/lang/Throwable" "backtrace" "Ljava/lang/Object;") ∈ lw_all := lw_g (lw_at lw_m4 55 rfl) rfl
theorem q1038 : (Jvm.Cond.instanceMethod ({ cls := "CoercedClasses$Fault", name := "<init>", desc := "(II)V" } : Jvm.MethodName)) ∈ lw_all := lw_g (lw_at lw_m4 76 rfl) rfl
theorem q1039 : (Jvm.Cond.code ({ cls := "CoercedClasses$Fault", name := "<init>", desc := "(II)V" } : Jvm.MethodName) prog_11_method_1_code (3 : Nat) (Option.none : Option Jvm.ClassFile.FieldType)) ∈ lw_all := lw_g (lw_at lw_m4 77 rfl) rfl
theorem q1040 : (Jvm.Cond.methodLink "CoercedClasses$Fault" (1 : Nat) ({ cls := "java/lang/RuntimeException", name := "<init>", desc := "(Ljava/lang/String;Ljava/lang/Throwable;ZZ)V" } : Jvm.MethodName)) ∈ lw_all := lw_g (lw_at lw_m4 78 rfl) rfl
theorem q1049 : (Jvm.Cond.fieldLink "CoercedClasses$Fault" (7 : Nat) "CoercedClasses$Fault" "kind" "I") ∈ lw_all := lw_g (lw_at lw_m4 87 rfl) rfl
theorem q1051 : (Jvm.Cond.fieldLink "CoercedClasses$Fault" (13 : Nat) "CoercedClasses$Fault" "place" "I") ∈ lw_all := lw_g (lw_at lw_m4 89 rfl) rfl
theorem q1058 : (Jvm.Cond.laysFinal "CoercedClasses$Fault" "CoercedClasses$Fault" "kind" "I") ∈ lw_all := lw_g (lw_at lw_m4 96 rfl) rfl
theorem q1059 : (Jvm.Cond.soleField "CoercedClasses$Fault" "kind") ∈ lw_all := lw_g (lw_at lw_m4 97 rfl) rfl
theorem q1060 : (Jvm.Cond.laysFinal "CoercedClasses$Fault" "CoercedClasses$Fault" "place" "I") ∈ lw_all := lw_g (lw_at lw_m4 98 rfl) rfl
theorem q1061 : (Jvm.Cond.soleField "CoercedClasses$Fault" "place") ∈ lw_all := lw_g (lw_at lw_m4 99 rfl) rfl
theorem q1066 : (Jvm.Cond.lays "CoercedClasses$Fault" "java/lang/Throwable" "depth" "I") ∈ lw_all := lw_g (lw_at lw_m4 104 rfl) rfl
theorem q1069 : (Jvm.Cond.superclass "CoercedClasses$Fault" "java/lang/RuntimeException") ∈ lw_all := lw_g (lw_at lw_m4 107 rfl) rfl
theorem q1147 : (Jvm.Cond.selects "CoercedClasses$Fault" ({ cls := "java/lang/Object", name := "getClass", desc := "()Ljava/lang/Class;" } : Jvm.MethodName) ({ cls := "java/lang/Object", name := "getClass", desc := "()Ljava/lang/Class;" } : Jvm.MethodName)) ∈ lw_all := lw_g (lw_at lw_m4 185 rfl) rfl
theorem q4485 : (Jvm.Cond.castable "CoercedClasses$Fault" "java/lang/Object") ∈ lw_tbl := lw_at lw_m18 163 rfl
theorem in_X15 : ∀ w ∈ wsX150, w ∈ lw_all := lw_in wsX150 [1009, 1011, 1013, 1015, 1017, 1066, 1058, 1060] (by decide +kernel) (by decide +kernel)
theorem q271 : (Jvm.Cond.initialized "CoercedClasses$Word") ∈ lw_all := lw_g (lw_at lw_m1 29 rfl) rfl
theorem q1075 : (Jvm.Cond.instantiable "CoercedClasses$Word" (3 : Nat)) ∈ lw_all := lw_g (lw_at lw_m4 113 rfl) rfl
theorem q1077 : (Jvm.Cond.instanceMethod ({ cls := "CoercedClasses$Word", name := "<init>", desc := "([BII)V" } : Jvm.MethodName)) ∈ lw_all := lw_g (lw_at lw_m4 115 rfl) rfl
theorem q1078 : (Jvm.Cond.code ({ cls := "CoercedClasses$Word", name := "<init>", desc := "([BII)V" } : Jvm.MethodName) prog_43_method_1_code (4 : Nat) (Option.none : Option Jvm.ClassFile.FieldType)) ∈ lw_all := lw_g (lw_at lw_m4 116 rfl) rfl
theorem q1079 : (Jvm.Cond.methodLink "CoercedClasses$Word" (1 : Nat) ({ cls := "java/lang/Object", name := "<init>", desc := "()V" } : Jvm.MethodName)) ∈ lw_all := lw_g (lw_at lw_m4 117 rfl) rfl
theorem q1080 : (Jvm.Cond.fieldLink "CoercedClasses$Word" (7 : Nat) "CoercedClasses$Word" "bytes" "[B") ∈ lw_all := lw_g (lw_at lw_m4 118 rfl) rfl
theorem q1082 : (Jvm.Cond.fieldLink "CoercedClasses$Word" (13 : Nat) "CoercedClasses$Word" "place" "I") ∈ lw_all := lw_g (lw_at lw_m4 120 rfl) rfl
theorem q1086 : (Jvm.Cond.fieldLink "CoercedClasses$Word" (17 : Nat) "CoercedClasses$Word" "size" "I") ∈ lw_all := lw_g (lw_at lw_m4 124 rfl) rfl
theorem q1088 : (Jvm.Cond.laysFinal "CoercedClasses$Word" "CoercedClasses$Word" "bytes" "[B") ∈ lw_all := lw_g (lw_at lw_m4 126 rfl) rfl
theorem q1089 : (Jvm.Cond.soleField "CoercedClasses$Word" "bytes") ∈ lw_all := lw_g (lw_at lw_m4 127 rfl) rfl
theorem q1090 : (Jvm.Cond.laysFinal "CoercedClasses$Word" "CoercedClasses$Word" "place" "I") ∈ lw_all := lw_g (lw_at lw_m4 128 rfl) rfl
theorem q1091 : (Jvm.Cond.soleField "CoercedClasses$Word" "place") ∈ lw_all := lw_g (lw_at lw_m4 129 rfl) rfl
theorem q1092 : (Jvm.Cond.laysFinal "CoercedClasses$Word" "CoercedClasses$Word" "size" "I") ∈ lw_all := lw_g (lw_at lw_m4 130 rfl) rfl
theorem q1093 : (Jvm.Cond.soleField "CoercedClasses$Word" "size") ∈ lw_all := lw_g (lw_at lw_m4 131 rfl) rfl
theorem q1094 : (Jvm.Cond.superclass "CoercedClasses$Word" "java/lang/Object") ∈ lw_all := lw_g (lw_at lw_m4 132 rfl) rfl
theorem q1179 : (Jvm.Cond.selects "CoercedClasses$Word" ({ cls := "java/lang/Object", name := "getClass", desc := "()Ljava/lang/Class;" } : Jvm.MethodName) ({ cls := "java/lang/Object", name := "getClass", desc := "()Ljava/lang/Class;" } : Jvm.MethodName)) ∈ lw_all := lw_g (lw_at lw_m4 217 rfl) rfl
theorem q2010 : (Jvm.Cond.instanceMethod ({ cls := "CoercedClasses$Word", name := "is", desc := "(Ljava/lang/String;)Z" } : Jvm.MethodName)) ∈ lw_all := lw_g (lw_at lw_m8 88 rfl) rfl
theorem q2011 : (Jvm.Cond.selects "CoercedClasses$Word" ({ cls := "CoercedClasses$Word", name := "is", desc := "(Ljava/lang/String;)Z" } : Jvm.MethodName) ({ cls := "CoercedClasses$Word", name := "is", desc := "(Ljava/lang/String;)Z" } : Jvm.MethodName)) ∈ lw_all := lw_g (lw_at lw_m8 89 rfl) rfl
theorem q2012 : (Jvm.Cond.code ({ cls := "CoercedClasses$Word", name := "is", desc := "(Ljava/lang/String;)Z" } : Jvm.MethodName) prog_43_method_3_code (3 : Nat) (Option.some Jvm.ClassFile.FieldType.boolean)) ∈ lw_all := lw_g (lw_at lw_m8 90 rfl) rfl
theorem q2013 : (Jvm.Cond.methodLink "CoercedClasses$Word" (20 : Nat) ({ cls := "java/lang/String", name := "length", desc := "()I" } : Jvm.MethodName)) ∈ lw_all := lw_g (lw_at lw_m8 91 rfl) rfl
theorem q2014 : (Jvm.Cond.methodLink "CoercedClasses$Word" (26 : Nat) ({ cls := "java/lang/String", name := "charAt", desc := "(I)C" } : Jvm.MethodName)) ∈ lw_all := lw_g (lw_at lw_m8 92 rfl) rfl
theorem q2019 : (Jvm.Cond.instanceMethod ({ cls := "CoercedClasses$Word", name := "is", desc := "(LCoercedClasses$Word;)Z" } : Jvm.MethodName)) ∈ lw_all := lw_g (lw_at lw_m8 97 rfl) rfl
theorem q2020 : (Jvm.Cond.selects "CoercedClasses$Word" ({ cls := "CoercedClasses$Word", name := "is", desc := "(LCoercedClasses$Word;)Z" } : Jvm.MethodName) ({ cls := "CoercedClasses$Word", name := "is", desc := "(LCoercedClasses$Word;)Z" } : Jvm.MethodName)) ∈ lw_all := lw_g (lw_at lw_m8 98 rfl) rfl
theorem q2021 : (Jvm.Cond.code ({ cls := "CoercedClasses$Word", name := "is", desc := "(LCoercedClasses$Word;)Z" } : Jvm.MethodName) prog_43_method_2_code (3 : Nat) (Option.some Jvm.ClassFile.FieldType.boolean)) ∈ lw_all := lw_g (lw_at lw_m8 99 rfl) rfl
theorem q2064 : (Jvm.Cond.instanceMethod ({ cls := "CoercedClasses$Word", name := "sum", desc := "()I" } : Jvm.MethodName)) ∈ lw_all := lw_g (lw_at lw_m8 142 rfl) rfl
theorem q2065 : (Jvm.Cond.selects "CoercedClasses$Word" ({ cls := "CoercedClasses$Word", name := "sum", desc := "()I" } : Jvm.MethodName) ({ cls := "CoercedClasses$Word", name := "sum", desc := "()I" } : Jvm.MethodName)) ∈ lw_all := lw_g (lw_at lw_m8 143 rfl) rfl
theorem q2066 : (Jvm.Cond.code ({ cls := "CoercedClasses$Word", name := "sum", desc := "()I" } : Jvm.MethodName) prog_43_method_4_code (3 : Nat) (Option.some Jvm.ClassFile.FieldType.int)) ∈ lw_all := lw_g (lw_at lw_m8 144 rfl) rfl
theorem q4486 : (Jvm.Cond.castable "CoercedClasses$Word" "java/lang/Object") ∈ lw_tbl := lw_at lw_m18 164 rfl
theorem in_X16 : ∀ w ∈ wsX160, w ∈ lw_all := lw_in wsX160 [1088, 1090, 1092] (by decide +kernel) (by decide +kernel)
theorem q272 : (Jvm.Cond.initialized "CoercedClasses$ClassDecl") ∈ lw_all := lw_g (lw_at lw_m1 30 rfl) rfl
theorem q1096 : (Jvm.Cond.instantiable "CoercedClasses$ClassDecl" (11 : Nat)) ∈ lw_all := lw_g (lw_at lw_m4 134 rfl) rfl
theorem q1099 : (Jvm.Cond.instanceMethod ({ cls := "CoercedClasses$ClassDecl", name := "<init>", desc := "(ILCoercedClasses$Word;LCoercedClasses$Word;)V" } : Jvm.MethodName)) ∈ lw_all := lw_g (lw_at lw_m4 137 rfl) rfl
theorem q1100 : (Jvm.Cond.code ({ cls := "CoercedClasses$ClassDecl", name := "<init>", desc := "(ILCoercedClasses$Word;LCoercedClasses$Word;)V" } : Jvm.MethodName) prog_7_method_1_code (4 : Nat) (Option.none : Option Jvm.ClassFile.FieldType)) ∈ lw_all := lw_g (lw_at lw_m4 138 rfl) rfl
theorem q1101 : (Jvm.Cond.methodLink "CoercedClasses$ClassDecl" (3 : Nat) ({ cls := "java/lang/Object", name := "<init>", desc := "()V" } : Jvm.MethodName)) ∈ lw_all := lw_g (lw_at lw_m4 139 rfl) rfl
theorem q1102 : (Jvm.Cond.classLink "CoercedClasses$ClassDecl" (9 : Nat) "java/util/ArrayList") ∈ lw_all := lw_g (lw_at lw_m4 140 rfl) rfl
theorem q1103 : (Jvm.Cond.methodLink "CoercedClasses$ClassDecl" (11 : Nat) ({ cls := "java/util/ArrayList", name := "<init>", desc := "()V" } : Jvm.MethodName)) ∈ lw_all := lw_g (lw_at lw_m4 141 rfl) rfl
theorem q1104 : (Jvm.Cond.classLink "CoercedClasses$ClassDecl" (21 : Nat) "CoercedClasses$Instance") ∈ lw_all := lw_g (lw_at lw_m4 142 rfl) rfl
theorem q1106 : (Jvm.Cond.methodLink "CoercedClasses$ClassDecl" (35 : Nat) ({ cls := "java/util/ArrayList", name := "add", desc := "(Ljava/lang/Object;)Z" } : Jvm.MethodName)) ∈ lw_all := lw_g (lw_at lw_m4 144 rfl) rfl
theorem q1144 : (Jvm.Cond.selects "CoercedClasses$ClassDecl" ({ cls := "java/lang/Object", name := "getClass", desc := "()Ljava/lang/Class;" } : Jvm.MethodName) ({ cls := "java/lang/Object", name := "getClass", desc := "()Ljava/lang/Class;" } : Jvm.MethodName)) ∈ lw_all := lw_g (lw_at lw_m4 182 rfl) rfl
theorem q1199 : (Jvm.Cond.fieldLink "CoercedClasses$ClassDecl" (27 : Nat) "CoercedClasses$ClassDecl" "place" "I") ∈ lw_all := lw_g (lw_at lw_m4 237 rfl) rfl
theorem q1203 : (Jvm.Cond.fieldLink "CoercedClasses$ClassDecl" (31 : Nat) "CoercedClasses$ClassDecl" "name" "LCoercedClasses$Word;") ∈ lw_all := lw_g (lw_at lw_m5 1 rfl) rfl
theorem q1211 : (Jvm.Cond.fieldLink "CoercedClasses$ClassDecl" (56 : Nat) "CoercedClasses$ClassDecl" "above" "LCoercedClasses$ClassDecl;") ∈ lw_all := lw_g (lw_at lw_m5 9 rfl) rfl
theorem q1215 : (Jvm.Cond.fieldLink "CoercedClasses$ClassDecl" (12 : Nat) "CoercedClasses$ClassDecl" "methods" "Ljava/util/ArrayList;") ∈ lw_all := lw_g (lw_at lw_m5 13 rfl) rfl
theorem q1217 : (Jvm.Cond.fieldLink "CoercedClasses$ClassDecl" (18 : Nat) "CoercedClasses$ClassDecl" "names" "Ljava/util/ArrayList;") ∈ lw_all := lw_g (lw_at lw_m5 15 rfl) rfl
theorem q1221 : (Jvm.Cond.fieldLink "CoercedClasses$ClassDecl" (23 : Nat) "CoercedClasses$ClassDecl" "instances" "[LCoercedClasses$Instance;") ∈ lw_all := lw_g (lw_at lw_m5 19 rfl) rfl
theorem q1225 : (Jvm.Cond.laysFinal "CoercedClasses$ClassDecl" "CoercedClasses$ClassDecl" "place" "I") ∈ lw_all := lw_g (lw_at lw_m5 23 rfl) rfl
theorem q1226 : (Jvm.Cond.soleField "CoercedClasses$ClassDecl" "place") ∈ lw_all := lw_g (lw_at lw_m5 24 rfl) rfl
theorem q1227 : (Jvm.Cond.lays "CoercedClasses$ClassDecl" "CoercedClasses$ClassDecl" "number" "I") ∈ lw_all := lw_g (lw_at lw_m5 25 rfl) rfl
theorem q1228 : (Jvm.Cond.soleField "CoercedClasses$ClassDecl" "number") ∈ lw_all := lw_g (lw_at lw_m5 26 rfl) rfl
theorem q1229 : (Jvm.Cond.laysFinal "CoercedClasses$ClassDecl" "CoercedClasses$ClassDecl" "name" "LCoercedClasses$Word;") ∈ lw_all := lw_g (lw_at lw_m5 27 rfl) rfl
theorem q1230 : (Jvm.Cond.soleField "CoercedClasses$ClassDecl" "name") ∈ lw_all := lw_g (lw_at lw_m5 28 rfl) rfl
theorem q1231 : (Jvm.Cond.lays "CoercedClasses$ClassDecl" "CoercedClasses$ClassDecl" "aboveName" "LCoercedClasses$Word;") ∈ lw_all := lw_g (lw_at lw_m5 29 rfl) rfl
theorem q1232 : (Jvm.Cond.soleField "CoercedClasses$ClassDecl" "aboveName") ∈ lw_all := lw_g (lw_at lw_m5 30 rfl) rfl
theorem q1233 : (Jvm.Cond.lays "CoercedClasses$ClassDecl" "CoercedClasses$ClassDecl" "family" "LCoercedClasses$Word;") ∈ lw_all := lw_g (lw_at lw_m5 31 rfl) rfl
theorem q1234 : (Jvm.Cond.soleField "CoercedClasses$ClassDecl" "family") ∈ lw_all := lw_g (lw_at lw_m5 32 rfl) rfl
theorem q1235 : (Jvm.Cond.lays "CoercedClasses$ClassDecl" "CoercedClasses$ClassDecl" "stands" "Z") ∈ lw_all := lw_g (lw_at lw_m5 33 rfl) rfl
theorem q1236 : (Jvm.Cond.soleField "CoercedClasses$ClassDecl" "stands") ∈ lw_all := lw_g (lw_at lw_m5 34 rfl) rfl
theorem q1237 : (Jvm.Cond.lays "CoercedClasses$ClassDecl" "CoercedClasses$ClassDecl" "familyStands" "Z") ∈ lw_all := lw_g (lw_at lw_m5 35 rfl) rfl
theorem q1238 : (Jvm.Cond.soleField "CoercedClasses$ClassDecl" "familyStands") ∈ lw_all := lw_g (lw_at lw_m5 36 rfl) rfl
theorem q1239 : (Jvm.Cond.lays "CoercedClasses$ClassDecl" "CoercedClasses$ClassDecl" "above" "LCoercedClasses$ClassDecl;") ∈ lw_all := lw_g (lw_at lw_m5 37 rfl) rfl
theorem q1240 : (Jvm.Cond.soleField "CoercedClasses$ClassDecl" "above") ∈ lw_all := lw_g (lw_at lw_m5 38 rfl) rfl
theorem q1241 : (Jvm.Cond.laysFinal "CoercedClasses$ClassDecl" "CoercedClasses$ClassDecl" "methods" "Ljava/util/ArrayList;") ∈ lw_all := lw_g (lw_at lw_m5 39 rfl) rfl
theorem q1242 : (Jvm.Cond.soleField "CoercedClasses$ClassDecl" "methods") ∈ lw_all := lw_g (lw_at lw_m5 40 rfl) rfl
theorem q1243 : (Jvm.Cond.laysFinal "CoercedClasses$ClassDecl" "CoercedClasses$ClassDecl" "names" "Ljava/util/ArrayList;") ∈ lw_all := lw_g (lw_at lw_m5 41 rfl) rfl
theorem q1244 : (Jvm.Cond.soleField "CoercedClasses$ClassDecl" "names") ∈ lw_all := lw_g (lw_at lw_m5 42 rfl) rfl
theorem q1245 : (Jvm.Cond.laysFinal "CoercedClasses$ClassDecl" "CoercedClasses$ClassDecl" "instances" "[LCoercedClasses$Instance;") ∈ lw_all := lw_g (lw_at lw_m5 43 rfl) rfl
theorem q1246 : (Jvm.Cond.soleField "CoercedClasses$ClassDecl" "instances") ∈ lw_all := lw_g (lw_at lw_m5 44 rfl) rfl
theorem q1247 : (Jvm.Cond.superclass "CoercedClasses$ClassDecl" "java/lang/Object") ∈ lw_all := lw_g (lw_at lw_m5 45 rfl) rfl
theorem q1318 : (Jvm.Cond.fieldLinkNest "CoercedClasses$ClassDecl" (49 : Nat) "CoercedClasses$Method" "name" "LCoercedClasses$Word;" "CoercedClasses") ∈ lw_tbl := lw_at lw_m5 116 rfl
theorem q2290 : (Jvm.Cond.instanceMethod ({ cls := "CoercedClasses$ClassDecl", name := "find", desc := "(LCoercedClasses$Word;)LCoercedClasses$Method;" } : Jvm.MethodName)) ∈ lw_all := lw_g (lw_at lw_m9 128 rfl) rfl
theorem q2291 : (Jvm.Cond.selects "CoercedClasses$ClassDecl" ({ cls := "CoercedClasses$ClassDecl", name := "find", desc := "(LCoercedClasses$Word;)LCoercedClasses$Method;" } : Jvm.MethodName) ({ cls := "CoercedClasses$ClassDecl", name := "find", desc := "(LCoercedClasses$Word;)LCoercedClasses$Method;" } : Jvm.MethodName)) ∈ lw_all := lw_g (lw_at lw_m9 129 rfl) rfl
theorem q2292 : (Jvm.Cond.code ({ cls := "CoercedClasses$ClassDecl", name := "find", desc := "(LCoercedClasses$Word;)LCoercedClasses$Method;" } : Jvm.MethodName) prog_7_method_2_code (3 : Nat) (Option.some (Jvm.ClassFile.FieldType.object "CoercedClasses$Method"))) ∈ lw_all := lw_g (lw_at lw_m9 130 rfl) rfl
theorem q2293 : (Jvm.Cond.methodLink "CoercedClasses$ClassDecl" (39 : Nat) ({ cls := "java/util/ArrayList", name := "size", desc := "()I" } : Jvm.MethodName)) ∈ lw_all := lw_g (lw_at lw_m9 131 rfl) rfl
theorem q2294 : (Jvm.Cond.methodLink "CoercedClasses$ClassDecl" (43 : Nat) ({ cls := "java/util/ArrayList", name := "get", desc := "(I)Ljava/lang/Object;" } : Jvm.MethodName)) ∈ lw_all := lw_g (lw_at lw_m9 132 rfl) rfl
theorem q2295 : (Jvm.Cond.classLink "CoercedClasses$ClassDecl" (47 : Nat) "CoercedClasses$Method") ∈ lw_all := lw_g (lw_at lw_m9 133 rfl) rfl
theorem q2296 : (Jvm.Cond.methodLink "CoercedClasses$ClassDecl" (50 : Nat) ({ cls := "CoercedClasses$Word", name := "is", desc := "(LCoercedClasses$Word;)Z" } : Jvm.MethodName)) ∈ lw_all := lw_g (lw_at lw_m9 134 rfl) rfl
theorem q2368 : (Jvm.Cond.instanceMethod ({ cls := "CoercedClasses$ClassDecl", name := "stepsTo", desc := "(LCoercedClasses$ClassDecl;)I" } : Jvm.MethodName)) ∈ lw_all := lw_g (lw_at lw_m9 206 rfl) rfl
theorem q2369 : (Jvm.Cond.selects "CoercedClasses$ClassDecl" ({ cls := "CoercedClasses$ClassDecl", name := "stepsTo", desc := "(LCoercedClasses$ClassDecl;)I" } : Jvm.MethodName) ({ cls := "CoercedClasses$ClassDecl", name := "stepsTo", desc := "(LCoercedClasses$ClassDecl;)I" } : Jvm.MethodName)) ∈ lw_all := lw_g (lw_at lw_m9 207 rfl) rfl
theorem q2370 : (Jvm.Cond.code ({ cls := "CoercedClasses$ClassDecl", name := "stepsTo", desc := "(LCoercedClasses$ClassDecl;)I" } : Jvm.MethodName) prog_7_method_3_code (4 : Nat) (Option.some Jvm.ClassFile.FieldType.int)) ∈ lw_all := lw_g (lw_at lw_m9 208 rfl) rfl
theorem q4487 : (Jvm.Cond.castable "CoercedClasses$ClassDecl" "java/lang/Object") ∈ lw_tbl := lw_at lw_m18 165 rfl
theorem in_X17 : ∀ w ∈ wsX170, w ∈ lw_all := lw_in wsX170 [1225, 1227, 1229, 1231, 1233, 1235, 1237, 1239, 1241, 1243, 1245] (by decide +kernel) (by decide +kernel)
theorem q277 : (Jvm.Cond.initialized "CoercedClasses$Method") ∈ lw_all := lw_g (lw_at lw_m1 35 rfl) rfl
theorem q1162 : (Jvm.Cond.selects "CoercedClasses$Method" ({ cls := "java/lang/Object", name := "getClass", desc := "()Ljava/lang/Class;" } : Jvm.MethodName) ({ cls := "java/lang/Object", name := "getClass", desc := "()Ljava/lang/Class;" } : Jvm.MethodName)) ∈ lw_all := lw_g (lw_at lw_m4 200 rfl) rfl
theorem q1268 : (Jvm.Cond.instantiable "CoercedClasses$Method" (6 : Nat)) ∈ lw_all := lw_g (lw_at lw_m5 66 rfl) rfl
theorem q1314 : (Jvm.Cond.instanceMethod ({ cls := "CoercedClasses$Method", name := "<init>", desc := "(LCoercedClasses$Word;LCoercedClasses$Written;)V" } : Jvm.MethodName)) ∈ lw_all := lw_g (lw_at lw_m5 112 rfl) rfl
theorem q1315 : (Jvm.Cond.code ({ cls := "CoercedClasses$Method", name := "<init>", desc := "(LCoercedClasses$Word;LCoercedClasses$Written;)V" } : Jvm.MethodName) prog_26_method_1_code (3 : Nat) (Option.none : Option Jvm.ClassFile.FieldType)) ∈ lw_all := lw_g (lw_at lw_m5 113 rfl) rfl
theorem q1316 : (Jvm.Cond.methodLink "CoercedClasses$Method" (1 : Nat) ({ cls := "java/lang/Object", name := "<init>", desc := "()V" } : Jvm.MethodName)) ∈ lw_all := lw_g (lw_at lw_m5 114 rfl) rfl
theorem q1317 : (Jvm.Cond.fieldLink "CoercedClasses$Method" (7 : Nat) "CoercedClasses$Method" "name" "LCoercedClasses$Word;") ∈ lw_all := lw_g (lw_at lw_m5 115 rfl) rfl
theorem q1320 : (Jvm.Cond.fieldLink "CoercedClasses$Method" (13 : Nat) "CoercedClasses$Method" "written" "LCoercedClasses$Written;") ∈ lw_all := lw_g (lw_at lw_m5 118 rfl) rfl
theorem q1331 : (Jvm.Cond.laysFinal "CoercedClasses$Method" "CoercedClasses$Method" "name" "LCoercedClasses$Word;") ∈ lw_all := lw_g (lw_at lw_m5 129 rfl) rfl
theorem q1332 : (Jvm.Cond.soleField "CoercedClasses$Method" "name") ∈ lw_all := lw_g (lw_at lw_m5 130 rfl) rfl
theorem q1333 : (Jvm.Cond.laysFinal "CoercedClasses$Method" "CoercedClasses$Method" "written" "LCoercedClasses$Written;") ∈ lw_all := lw_g (lw_at lw_m5 131 rfl) rfl
theorem q1334 : (Jvm.Cond.soleField "CoercedClasses$Method" "written") ∈ lw_all := lw_g (lw_at lw_m5 132 rfl) rfl
theorem q1335 : (Jvm.Cond.lays "CoercedClasses$Method" "CoercedClasses$Method" "of" "LCoercedClasses$ClassDecl;") ∈ lw_all := lw_g (lw_at lw_m5 133 rfl) rfl
theorem q1336 : (Jvm.Cond.soleField "CoercedClasses$Method" "of") ∈ lw_all := lw_g (lw_at lw_m5 134 rfl) rfl
theorem q1337 : (Jvm.Cond.lays "CoercedClasses$Method" "CoercedClasses$Method" "index" "I") ∈ lw_all := lw_g (lw_at lw_m5 135 rfl) rfl
theorem q1338 : (Jvm.Cond.soleField "CoercedClasses$Method" "index") ∈ lw_all := lw_g (lw_at lw_m5 136 rfl) rfl
theorem q1339 : (Jvm.Cond.lays "CoercedClasses$Method" "CoercedClasses$Method" "stands" "Z") ∈ lw_all := lw_g (lw_at lw_m5 137 rfl) rfl
theorem q1340 : (Jvm.Cond.soleField "CoercedClasses$Method" "stands") ∈ lw_all := lw_g (lw_at lw_m5 138 rfl) rfl
theorem q1341 : (Jvm.Cond.lays "CoercedClasses$Method" "CoercedClasses$Method" "type" "LCoercedClasses$Type;") ∈ lw_all := lw_g (lw_at lw_m5 139 rfl) rfl
theorem q1342 : (Jvm.Cond.soleField "CoercedClasses$Method" "type") ∈ lw_all := lw_g (lw_at lw_m5 140 rfl) rfl
theorem q1343 : (Jvm.Cond.superclass "CoercedClasses$Method" "java/lang/Object") ∈ lw_all := lw_g (lw_at lw_m5 141 rfl) rfl
theorem q4488 : (Jvm.Cond.castable "CoercedClasses$Method" "java/lang/Object") ∈ lw_tbl := lw_at lw_m18 166 rfl
theorem in_X18 : ∀ w ∈ wsX180, w ∈ lw_all := lw_in wsX180 [1331, 1333, 1335, 1337, 1339, 1341] (by decide +kernel) (by decide +kernel)
theorem q278 : (Jvm.Cond.initialized "CoercedClasses$Written") ∈ lw_all := lw_g (lw_at lw_m1 36 rfl) rfl
theorem q1180 : (Jvm.Cond.selects "CoercedClasses$Written" ({ cls := "java/lang/Object", name := "getClass", desc := "()Ljava/lang/Class;" } : Jvm.MethodName) ({ cls := "java/lang/Object", name := "getClass", desc := "()Ljava/lang/Class;" } : Jvm.MethodName)) ∈ lw_all := lw_g (lw_at lw_m4 218 rfl) rfl
theorem q1287 : (Jvm.Cond.instantiable "CoercedClasses$Written" (3 : Nat)) ∈ lw_all := lw_g (lw_at lw_m5 85 rfl) rfl
theorem q1290 : (Jvm.Cond.instanceMethod ({ cls := "CoercedClasses$Written", name := "<init>", desc := "(LCoercedClasses$Word;Z)V" } : Jvm.MethodName)) ∈ lw_all := lw_g (lw_at lw_m5 88 rfl) rfl
theorem q1291 : (Jvm.Cond.code ({ cls := "CoercedClasses$Written", name := "<init>", desc := "(LCoercedClasses$Word;Z)V" } : Jvm.MethodName) prog_44_method_1_code (3 : Nat) (Option.none : Option Jvm.ClassFile.FieldType)) ∈ lw_all := lw_g (lw_at lw_m5 89 rfl) rfl
theorem q1292 : (Jvm.Cond.methodLink "CoercedClasses$Written" (1 : Nat) ({ cls := "java/lang/Object", name := "<init>", desc := "()V" } : Jvm.MethodName)) ∈ lw_all := lw_g (lw_at lw_m5 90 rfl) rfl
theorem q1293 : (Jvm.Cond.classLink "CoercedClasses$Written" (7 : Nat) "java/util/ArrayList") ∈ lw_all := lw_g (lw_at lw_m5 91 rfl) rfl
theorem q1294 : (Jvm.Cond.methodLink "CoercedClasses$Written" (9 : Nat) ({ cls := "java/util/ArrayList", name := "<init>", desc := "()V" } : Jvm.MethodName)) ∈ lw_all := lw_g (lw_at lw_m5 92 rfl) rfl
theorem q1295 : (Jvm.Cond.fieldLink "CoercedClasses$Written" (16 : Nat) "CoercedClasses$Written" "word" "LCoercedClasses$Word;") ∈ lw_all := lw_g (lw_at lw_m5 93 rfl) rfl
theorem q1297 : (Jvm.Cond.fieldLink "CoercedClasses$Written" (20 : Nat) "CoercedClasses$Written" "isGreat" "Z") ∈ lw_all := lw_g (lw_at lw_m5 95 rfl) rfl
theorem q1299 : (Jvm.Cond.fieldLink "CoercedClasses$Written" (10 : Nat) "CoercedClasses$Written" "parts" "Ljava/util/ArrayList;") ∈ lw_all := lw_g (lw_at lw_m5 97 rfl) rfl
theorem q1302 : (Jvm.Cond.laysFinal "CoercedClasses$Written" "CoercedClasses$Written" "word" "LCoercedClasses$Word;") ∈ lw_all := lw_g (lw_at lw_m5 100 rfl) rfl
theorem q1303 : (Jvm.Cond.soleField "CoercedClasses$Written" "word") ∈ lw_all := lw_g (lw_at lw_m5 101 rfl) rfl
theorem q1304 : (Jvm.Cond.laysFinal "CoercedClasses$Written" "CoercedClasses$Written" "isGreat" "Z") ∈ lw_all := lw_g (lw_at lw_m5 102 rfl) rfl
theorem q1305 : (Jvm.Cond.soleField "CoercedClasses$Written" "isGreat") ∈ lw_all := lw_g (lw_at lw_m5 103 rfl) rfl
theorem q1306 : (Jvm.Cond.laysFinal "CoercedClasses$Written" "CoercedClasses$Written" "parts" "Ljava/util/ArrayList;") ∈ lw_all := lw_g (lw_at lw_m5 104 rfl) rfl
theorem q1307 : (Jvm.Cond.soleField "CoercedClasses$Written" "parts") ∈ lw_all := lw_g (lw_at lw_m5 105 rfl) rfl
theorem q1308 : (Jvm.Cond.superclass "CoercedClasses$Written" "java/lang/Object") ∈ lw_all := lw_g (lw_at lw_m5 106 rfl) rfl
theorem q4489 : (Jvm.Cond.castable "CoercedClasses$Written" "java/lang/Object") ∈ lw_tbl := lw_at lw_m18 167 rfl
theorem in_X19 : ∀ w ∈ wsX190, w ∈ lw_all := lw_in wsX190 [1302, 1304, 1306] (by decide +kernel) (by decide +kernel)
theorem q279 : (Jvm.Cond.initialized "CoercedClasses$Instance") ∈ lw_all := lw_g (lw_at lw_m1 37 rfl) rfl
theorem q1154 : (Jvm.Cond.selects "CoercedClasses$Instance" ({ cls := "java/lang/Object", name := "getClass", desc := "()Ljava/lang/Class;" } : Jvm.MethodName) ({ cls := "java/lang/Object", name := "getClass", desc := "()Ljava/lang/Class;" } : Jvm.MethodName)) ∈ lw_all := lw_g (lw_at lw_m4 192 rfl) rfl
theorem q1350 : (Jvm.Cond.instantiable "CoercedClasses$Instance" (15 : Nat)) ∈ lw_all := lw_g (lw_at lw_m5 148 rfl) rfl
theorem q1352 : (Jvm.Cond.instanceMethod ({ cls := "CoercedClasses$Instance", name := "<init>", desc := "(I)V" } : Jvm.MethodName)) ∈ lw_all := lw_g (lw_at lw_m5 150 rfl) rfl
theorem q1353 : (Jvm.Cond.code ({ cls := "CoercedClasses$Instance", name := "<init>", desc := "(I)V" } : Jvm.MethodName) prog_18_method_1_code (2 : Nat) (Option.none : Option Jvm.ClassFile.FieldType)) ∈ lw_all := lw_g (lw_at lw_m5 151 rfl) rfl
theorem q1354 : (Jvm.Cond.methodLink "CoercedClasses$Instance" (1 : Nat) ({ cls := "java/lang/Object", name := "<init>", desc := "()V" } : Jvm.MethodName)) ∈ lw_all := lw_g (lw_at lw_m5 152 rfl) rfl
theorem q1355 : (Jvm.Cond.classLink "CoercedClasses$Instance" (7 : Nat) "CoercedClasses$Scope") ∈ lw_all := lw_g (lw_at lw_m5 153 rfl) rfl
theorem q1356 : (Jvm.Cond.methodLinkNest "CoercedClasses$Instance" (9 : Nat) ({ cls := "CoercedClasses$Scope", name := "<init>", desc := "()V" } : Jvm.MethodName) "CoercedClasses") ∈ lw_tbl := lw_at lw_m5 154 rfl
theorem q1357 : (Jvm.Cond.classLink "CoercedClasses$Instance" (16 : Nat) "java/util/ArrayList") ∈ lw_all := lw_g (lw_at lw_m5 155 rfl) rfl
theorem q1358 : (Jvm.Cond.methodLink "CoercedClasses$Instance" (18 : Nat) ({ cls := "java/util/ArrayList", name := "<init>", desc := "()V" } : Jvm.MethodName)) ∈ lw_all := lw_g (lw_at lw_m5 156 rfl) rfl
theorem q1359 : (Jvm.Cond.fieldLink "CoercedClasses$Instance" (26 : Nat) "CoercedClasses$Instance" "place" "I") ∈ lw_all := lw_g (lw_at lw_m5 157 rfl) rfl
theorem q1363 : (Jvm.Cond.fieldLink "CoercedClasses$Instance" (10 : Nat) "CoercedClasses$Instance" "scope" "LCoercedClasses$Scope;") ∈ lw_all := lw_g (lw_at lw_m5 161 rfl) rfl
theorem q1383 : (Jvm.Cond.fieldLink "CoercedClasses$Instance" (19 : Nat) "CoercedClasses$Instance" "heads" "Ljava/util/ArrayList;") ∈ lw_all := lw_g (lw_at lw_m5 181 rfl) rfl
theorem q1386 : (Jvm.Cond.fieldLink "CoercedClasses$Instance" (23 : Nat) "CoercedClasses$Instance" "lines" "Ljava/util/ArrayList;") ∈ lw_all := lw_g (lw_at lw_m5 184 rfl) rfl
theorem q1395 : (Jvm.Cond.laysFinal "CoercedClasses$Instance" "CoercedClasses$Instance" "place" "I") ∈ lw_all := lw_g (lw_at lw_m5 193 rfl) rfl
theorem q1396 : (Jvm.Cond.soleField "CoercedClasses$Instance" "place") ∈ lw_all := lw_g (lw_at lw_m5 194 rfl) rfl
theorem q1397 : (Jvm.Cond.lays "CoercedClasses$Instance" "CoercedClasses$Instance" "number" "I") ∈ lw_all := lw_g (lw_at lw_m5 195 rfl) rfl
theorem q1398 : (Jvm.Cond.soleField "CoercedClasses$Instance" "number") ∈ lw_all := lw_g (lw_at lw_m5 196 rfl) rfl
theorem q1399 : (Jvm.Cond.laysFinal "CoercedClasses$Instance" "CoercedClasses$Instance" "scope" "LCoercedClasses$Scope;") ∈ lw_all := lw_g (lw_at lw_m5 197 rfl) rfl
theorem q1400 : (Jvm.Cond.soleField "CoercedClasses$Instance" "scope") ∈ lw_all := lw_g (lw_at lw_m5 198 rfl) rfl
theorem q1401 : (Jvm.Cond.lays "CoercedClasses$Instance" "CoercedClasses$Instance" "className" "LCoercedClasses$Word;") ∈ lw_all := lw_g (lw_at lw_m5 199 rfl) rfl
theorem q1402 : (Jvm.Cond.soleField "CoercedClasses$Instance" "className") ∈ lw_all := lw_g (lw_at lw_m5 200 rfl) rfl
theorem q1403 : (Jvm.Cond.lays "CoercedClasses$Instance" "CoercedClasses$Instance" "con" "LCoercedClasses$Word;") ∈ lw_all := lw_g (lw_at lw_m5 201 rfl) rfl
theorem q1404 : (Jvm.Cond.soleField "CoercedClasses$Instance" "con") ∈ lw_all := lw_g (lw_at lw_m5 202 rfl) rfl
theorem q1405 : (Jvm.Cond.lays "CoercedClasses$Instance" "CoercedClasses$Instance" "familyName" "LCoercedClasses$Word;") ∈ lw_all := lw_g (lw_at lw_m5 203 rfl) rfl
theorem q1406 : (Jvm.Cond.soleField "CoercedClasses$Instance" "familyName") ∈ lw_all := lw_g (lw_at lw_m5 204 rfl) rfl
theorem q1407 : (Jvm.Cond.lays "CoercedClasses$Instance" "CoercedClasses$Instance" "of" "LCoercedClasses$ClassDecl;") ∈ lw_all := lw_g (lw_at lw_m5 205 rfl) rfl
theorem q1408 : (Jvm.Cond.soleField "CoercedClasses$Instance" "of") ∈ lw_all := lw_g (lw_at lw_m5 206 rfl) rfl
theorem q1409 : (Jvm.Cond.lays "CoercedClasses$Instance" "CoercedClasses$Instance" "conNumber" "I") ∈ lw_all := lw_g (lw_at lw_m5 207 rfl) rfl
theorem q1410 : (Jvm.Cond.soleField "CoercedClasses$Instance" "conNumber") ∈ lw_all := lw_g (lw_at lw_m5 208 rfl) rfl
theorem q1411 : (Jvm.Cond.lays "CoercedClasses$Instance" "CoercedClasses$Instance" "familyWritten" "LCoercedClasses$Written;") ∈ lw_all := lw_g (lw_at lw_m5 209 rfl) rfl
theorem q1412 : (Jvm.Cond.soleField "CoercedClasses$Instance" "familyWritten") ∈ lw_all := lw_g (lw_at lw_m5 210 rfl) rfl
theorem q1413 : (Jvm.Cond.lays "CoercedClasses$Instance" "CoercedClasses$Instance" "familyType" "LCoercedClasses$Type;") ∈ lw_all := lw_g (lw_at lw_m5 211 rfl) rfl
theorem q1414 : (Jvm.Cond.soleField "CoercedClasses$Instance" "familyType") ∈ lw_all := lw_g (lw_at lw_m5 212 rfl) rfl
theorem q1415 : (Jvm.Cond.lays "CoercedClasses$Instance" "CoercedClasses$Instance" "head" "LCoercedClasses$Type;") ∈ lw_all := lw_g (lw_at lw_m5 213 rfl) rfl
theorem q1416 : (Jvm.Cond.soleField "CoercedClasses$Instance" "head") ∈ lw_all := lw_g (lw_at lw_m5 214 rfl) rfl
theorem q1417 : (Jvm.Cond.laysFinal "CoercedClasses$Instance" "CoercedClasses$Instance" "heads" "Ljava/util/ArrayList;") ∈ lw_all := lw_g (lw_at lw_m5 215 rfl) rfl
theorem q1418 : (Jvm.Cond.soleField "CoercedClasses$Instance" "heads") ∈ lw_all := lw_g (lw_at lw_m5 216 rfl) rfl
theorem q1419 : (Jvm.Cond.laysFinal "CoercedClasses$Instance" "CoercedClasses$Instance" "lines" "Ljava/util/ArrayList;") ∈ lw_all := lw_g (lw_at lw_m5 217 rfl) rfl
theorem q1420 : (Jvm.Cond.soleField "CoercedClasses$Instance" "lines") ∈ lw_all := lw_g (lw_at lw_m5 218 rfl) rfl
theorem q1421 : (Jvm.Cond.lays "CoercedClasses$Instance" "CoercedClasses$Instance" "byMethod" "[LCoercedClasses$Line;") ∈ lw_all := lw_g (lw_at lw_m5 219 rfl) rfl
theorem q1422 : (Jvm.Cond.soleField "CoercedClasses$Instance" "byMethod") ∈ lw_all := lw_g (lw_at lw_m5 220 rfl) rfl
theorem q1423 : (Jvm.Cond.lays "CoercedClasses$Instance" "CoercedClasses$Instance" "above" "LCoercedClasses$Dictionary;") ∈ lw_all := lw_g (lw_at lw_m5 221 rfl) rfl
theorem q1424 : (Jvm.Cond.soleField "CoercedClasses$Instance" "above") ∈ lw_all := lw_g (lw_at lw_m5 222 rfl) rfl
theorem q1425 : (Jvm.Cond.superclass "CoercedClasses$Instance" "java/lang/Object") ∈ lw_all := lw_g (lw_at lw_m5 223 rfl) rfl
theorem q4467 : (Jvm.Cond.castable "CoercedClasses$Instance" "java/lang/Object") ∈ lw_tbl := lw_at lw_m18 145 rfl
theorem in_X20 : ∀ w ∈ wsX200, w ∈ lw_all := lw_in wsX200 [1395, 1397, 1399, 1401, 1403, 1405, 1407, 1409, 1411, 1413, 1415, 1417, 1419, 1421, 1423] (by decide +kernel) (by decide +kernel)
theorem q280 : (Jvm.Cond.initialized "CoercedClasses$Given") ∈ lw_all := lw_g (lw_at lw_m1 38 rfl) rfl
theorem q1152 : (Jvm.Cond.selects "CoercedClasses$Given" ({ cls := "java/lang/Object", name := "getClass", desc := "()Ljava/lang/Class;" } : Jvm.MethodName) ({ cls := "java/lang/Object", name := "getClass", desc := "()Ljava/lang/Class;" } : Jvm.MethodName)) ∈ lw_all := lw_g (lw_at lw_m4 190 rfl) rfl
theorem q1212 : (Jvm.Cond.fieldLinkNest "CoercedClasses$Given" (38 : Nat) "CoercedClasses$ClassDecl" "above" "LCoercedClasses$ClassDecl;" "CoercedClasses") ∈ lw_tbl := lw_at lw_m5 10 rfl
theorem q1427 : (Jvm.Cond.instantiable "CoercedClasses$Given" (6 : Nat)) ∈ lw_all := lw_g (lw_at lw_m5 225 rfl) rfl
theorem q1429 : (Jvm.Cond.instanceMethod ({ cls := "CoercedClasses$Given", name := "<init>", desc := "(LCoercedClasses$Word;LCoercedClasses$Word;LCoercedClasses$Written;)V" } : Jvm.MethodName)) ∈ lw_all := lw_g (lw_at lw_m5 227 rfl) rfl
theorem q1430 : (Jvm.Cond.code ({ cls := "CoercedClasses$Given", name := "<init>", desc := "(LCoercedClasses$Word;LCoercedClasses$Word;LCoercedClasses$Written;)V" } : Jvm.MethodName) prog_16_method_1_code (4 : Nat) (Option.none : Option Jvm.ClassFile.FieldType)) ∈ lw_all := lw_g (lw_at lw_m5 228 rfl) rfl
theorem q1431 : (Jvm.Cond.methodLink "CoercedClasses$Given" (1 : Nat) ({ cls := "java/lang/Object", name := "<init>", desc := "()V" } : Jvm.MethodName)) ∈ lw_all := lw_g (lw_at lw_m5 229 rfl) rfl
theorem q1432 : (Jvm.Cond.fieldLink "CoercedClasses$Given" (7 : Nat) "CoercedClasses$Given" "great" "LCoercedClasses$Word;") ∈ lw_all := lw_g (lw_at lw_m5 230 rfl) rfl
theorem q1435 : (Jvm.Cond.fieldLink "CoercedClasses$Given" (13 : Nat) "CoercedClasses$Given" "name" "LCoercedClasses$Word;") ∈ lw_all := lw_g (lw_at lw_m5 233 rfl) rfl
theorem q1441 : (Jvm.Cond.fieldLink "CoercedClasses$Given" (16 : Nat) "CoercedClasses$Given" "written" "LCoercedClasses$Written;") ∈ lw_all := lw_g (lw_at lw_m5 239 rfl) rfl
theorem q1443 : (Jvm.Cond.fieldLink "CoercedClasses$Given" (26 : Nat) "CoercedClasses$Given" "of" "LCoercedClasses$ClassDecl;") ∈ lw_all := lw_g (lw_at lw_m6 1 rfl) rfl
theorem q1453 : (Jvm.Cond.fieldLink "CoercedClasses$Given" (20 : Nat) "CoercedClasses$Given" "dictionaries" "[LCoercedClasses$Dictionary;") ∈ lw_all := lw_g (lw_at lw_m6 11 rfl) rfl
theorem q1454 : (Jvm.Cond.laysFinal "CoercedClasses$Given" "CoercedClasses$Given" "great" "LCoercedClasses$Word;") ∈ lw_all := lw_g (lw_at lw_m6 12 rfl) rfl
theorem q1455 : (Jvm.Cond.soleField "CoercedClasses$Given" "great") ∈ lw_all := lw_g (lw_at lw_m6 13 rfl) rfl
theorem q1456 : (Jvm.Cond.laysFinal "CoercedClasses$Given" "CoercedClasses$Given" "name" "LCoercedClasses$Word;") ∈ lw_all := lw_g (lw_at lw_m6 14 rfl) rfl
theorem q1457 : (Jvm.Cond.soleField "CoercedClasses$Given" "name") ∈ lw_all := lw_g (lw_at lw_m6 15 rfl) rfl
theorem q1458 : (Jvm.Cond.laysFinal "CoercedClasses$Given" "CoercedClasses$Given" "written" "LCoercedClasses$Written;") ∈ lw_all := lw_g (lw_at lw_m6 16 rfl) rfl
theorem q1459 : (Jvm.Cond.soleField "CoercedClasses$Given" "written") ∈ lw_all := lw_g (lw_at lw_m6 17 rfl) rfl
theorem q1460 : (Jvm.Cond.lays "CoercedClasses$Given" "CoercedClasses$Given" "of" "LCoercedClasses$ClassDecl;") ∈ lw_all := lw_g (lw_at lw_m6 18 rfl) rfl
theorem q1461 : (Jvm.Cond.soleField "CoercedClasses$Given" "of") ∈ lw_all := lw_g (lw_at lw_m6 19 rfl) rfl
theorem q1462 : (Jvm.Cond.lays "CoercedClasses$Given" "CoercedClasses$Given" "type" "LCoercedClasses$Type;") ∈ lw_all := lw_g (lw_at lw_m6 20 rfl) rfl
theorem q1463 : (Jvm.Cond.soleField "CoercedClasses$Given" "type") ∈ lw_all := lw_g (lw_at lw_m6 21 rfl) rfl
theorem q1464 : (Jvm.Cond.lays "CoercedClasses$Given" "CoercedClasses$Given" "dictionaries" "[LCoercedClasses$Dictionary;") ∈ lw_all := lw_g (lw_at lw_m6 22 rfl) rfl
theorem q1465 : (Jvm.Cond.soleField "CoercedClasses$Given" "dictionaries") ∈ lw_all := lw_g (lw_at lw_m6 23 rfl) rfl
theorem q1466 : (Jvm.Cond.superclass "CoercedClasses$Given" "java/lang/Object") ∈ lw_all := lw_g (lw_at lw_m6 24 rfl) rfl
theorem q2188 : (Jvm.Cond.instanceMethod ({ cls := "CoercedClasses$Given", name := "isEqual", desc := "()Z" } : Jvm.MethodName)) ∈ lw_all := lw_g (lw_at lw_m9 26 rfl) rfl
theorem q2189 : (Jvm.Cond.selects "CoercedClasses$Given" ({ cls := "CoercedClasses$Given", name := "isEqual", desc := "()Z" } : Jvm.MethodName) ({ cls := "CoercedClasses$Given", name := "isEqual", desc := "()Z" } : Jvm.MethodName)) ∈ lw_all := lw_g (lw_at lw_m9 27 rfl) rfl
theorem q2190 : (Jvm.Cond.code ({ cls := "CoercedClasses$Given", name := "isEqual", desc := "()Z" } : Jvm.MethodName) prog_16_method_2_code (1 : Nat) (Option.some Jvm.ClassFile.FieldType.boolean)) ∈ lw_all := lw_g (lw_at lw_m9 28 rfl) rfl
theorem q2372 : (Jvm.Cond.instanceMethod ({ cls := "CoercedClasses$Given", name := "dictionary", desc := "(II)LCoercedClasses$Dictionary;" } : Jvm.MethodName)) ∈ lw_all := lw_g (lw_at lw_m9 210 rfl) rfl
theorem q2373 : (Jvm.Cond.selects "CoercedClasses$Given" ({ cls := "CoercedClasses$Given", name := "dictionary", desc := "(II)LCoercedClasses$Dictionary;" } : Jvm.MethodName) ({ cls := "CoercedClasses$Given", name := "dictionary", desc := "(II)LCoercedClasses$Dictionary;" } : Jvm.MethodName)) ∈ lw_all := lw_g (lw_at lw_m9 211 rfl) rfl
theorem q2374 : (Jvm.Cond.code ({ cls := "CoercedClasses$Given", name := "dictionary", desc := "(II)LCoercedClasses$Dictionary;" } : Jvm.MethodName) prog_16_method_3_code (4 : Nat) (Option.some (Jvm.ClassFile.FieldType.object "CoercedClasses$Dictionary"))) ∈ lw_all := lw_g (lw_at lw_m9 212 rfl) rfl
theorem q2375 : (Jvm.Cond.classLink "CoercedClasses$Given" (24 : Nat) "CoercedClasses$Dictionary") ∈ lw_all := lw_g (lw_at lw_m9 213 rfl) rfl
theorem q2377 : (Jvm.Cond.methodLink "CoercedClasses$Given" (30 : Nat) ({ cls := "CoercedClasses$Dictionary", name := "<init>", desc := "(LCoercedClasses$ClassDecl;)V" } : Jvm.MethodName)) ∈ lw_all := lw_g (lw_at lw_m9 215 rfl) rfl
theorem q2382 : (Jvm.Cond.fieldLinkNest "CoercedClasses$Given" (37 : Nat) "CoercedClasses$Dictionary" "of" "LCoercedClasses$ClassDecl;" "CoercedClasses") ∈ lw_tbl := lw_at lw_m9 220 rfl
theorem q2387 : (Jvm.Cond.fieldLinkNest "CoercedClasses$Given" (33 : Nat) "CoercedClasses$Dictionary" "given" "I" "CoercedClasses") ∈ lw_tbl := lw_at lw_m9 225 rfl
theorem q2392 : (Jvm.Cond.fieldLinkNest "CoercedClasses$Given" (43 : Nat) "CoercedClasses$Dictionary" "inner" "LCoercedClasses$Dictionary;" "CoercedClasses") ∈ lw_tbl := lw_at lw_m9 230 rfl
theorem q4490 : (Jvm.Cond.castable "CoercedClasses$Given" "java/lang/Object") ∈ lw_tbl := lw_at lw_m18 168 rfl
theorem in_X21 : ∀ w ∈ wsX210, w ∈ lw_all := lw_in wsX210 [1454, 1456, 1458, 1460, 1462, 1464] (by decide +kernel) (by decide +kernel)
theorem q281 : (Jvm.Cond.initialized "CoercedClasses$Line") ∈ lw_all := lw_g (lw_at lw_m1 39 rfl) rfl
theorem q1160 : (Jvm.Cond.selects "CoercedClasses$Line" ({ cls := "java/lang/Object", name := "getClass", desc := "()Ljava/lang/Class;" } : Jvm.MethodName) ({ cls := "java/lang/Object", name := "getClass", desc := "()Ljava/lang/Class;" } : Jvm.MethodName)) ∈ lw_all := lw_g (lw_at lw_m4 198 rfl) rfl
theorem q1468 : (Jvm.Cond.instantiable "CoercedClasses$Line" (3 : Nat)) ∈ lw_all := lw_g (lw_at lw_m6 26 rfl) rfl
theorem q1905 : (Jvm.Cond.instanceMethod ({ cls := "CoercedClasses$Line", name := "<init>", desc := "(LCoercedClasses$Word;LCoercedClasses$Ex;)V" } : Jvm.MethodName)) ∈ lw_all := lw_g (lw_at lw_m7 223 rfl) rfl
theorem q1906 : (Jvm.Cond.code ({ cls := "CoercedClasses$Line", name := "<init>", desc := "(LCoercedClasses$Word;LCoercedClasses$Ex;)V" } : Jvm.MethodName) prog_24_method_1_code (3 : Nat) (Option.none : Option Jvm.ClassFile.FieldType)) ∈ lw_all := lw_g (lw_at lw_m7 224 rfl) rfl
theorem q1907 : (Jvm.Cond.methodLink "CoercedClasses$Line" (1 : Nat) ({ cls := "java/lang/Object", name := "<init>", desc := "()V" } : Jvm.MethodName)) ∈ lw_all := lw_g (lw_at lw_m7 225 rfl) rfl
theorem q1908 : (Jvm.Cond.fieldLink "CoercedClasses$Line" (7 : Nat) "CoercedClasses$Line" "name" "LCoercedClasses$Word;") ∈ lw_all := lw_g (lw_at lw_m7 226 rfl) rfl
theorem q1911 : (Jvm.Cond.fieldLink "CoercedClasses$Line" (13 : Nat) "CoercedClasses$Line" "ex" "LCoercedClasses$Ex;") ∈ lw_all := lw_g (lw_at lw_m7 229 rfl) rfl
theorem q1918 : (Jvm.Cond.laysFinal "CoercedClasses$Line" "CoercedClasses$Line" "name" "LCoercedClasses$Word;") ∈ lw_all := lw_g (lw_at lw_m7 236 rfl) rfl
theorem q1919 : (Jvm.Cond.soleField "CoercedClasses$Line" "name") ∈ lw_all := lw_g (lw_at lw_m7 237 rfl) rfl
theorem q1920 : (Jvm.Cond.laysFinal "CoercedClasses$Line" "CoercedClasses$Line" "ex" "LCoercedClasses$Ex;") ∈ lw_all := lw_g (lw_at lw_m7 238 rfl) rfl
theorem q1921 : (Jvm.Cond.soleField "CoercedClasses$Line" "ex") ∈ lw_all := lw_g (lw_at lw_m7 239 rfl) rfl
theorem q1922 : (Jvm.Cond.lays "CoercedClasses$Line" "CoercedClasses$Line" "wanted" "LCoercedClasses$Type;") ∈ lw_all := lw_g (lw_at lw_m8 0 rfl) rfl
theorem q1923 : (Jvm.Cond.soleField "CoercedClasses$Line" "wanted") ∈ lw_all := lw_g (lw_at lw_m8 1 rfl) rfl
theorem q1924 : (Jvm.Cond.superclass "CoercedClasses$Line" "java/lang/Object") ∈ lw_all := lw_g (lw_at lw_m8 2 rfl) rfl
theorem q4468 : (Jvm.Cond.castable "CoercedClasses$Line" "java/lang/Object") ∈ lw_tbl := lw_at lw_m18 146 rfl
theorem in_X22 : ∀ w ∈ wsX220, w ∈ lw_all := lw_in wsX220 [1918, 1920, 1922] (by decide +kernel) (by decide +kernel)
theorem q282 : (Jvm.Cond.initialized "CoercedClasses$Ex") ∈ lw_all := lw_g (lw_at lw_m1 40 rfl) rfl
theorem q1489 : (Jvm.Cond.instanceMethod ({ cls := "CoercedClasses$Ex", name := "<init>", desc := "()V" } : Jvm.MethodName)) ∈ lw_all := lw_g (lw_at lw_m6 47 rfl) rfl
theorem q1490 : (Jvm.Cond.code ({ cls := "CoercedClasses$Ex", name := "<init>", desc := "()V" } : Jvm.MethodName) prog_10_method_1_code (1 : Nat) (Option.none : Option Jvm.ClassFile.FieldType)) ∈ lw_all := lw_g (lw_at lw_m6 48 rfl) rfl
theorem q1491 : (Jvm.Cond.methodLink "CoercedClasses$Ex" (1 : Nat) ({ cls := "java/lang/Object", name := "<init>", desc := "()V" } : Jvm.MethodName)) ∈ lw_all := lw_g (lw_at lw_m6 49 rfl) rfl
theorem q1528 : (Jvm.Cond.soleField "CoercedClasses$Ex" "place") ∈ lw_all := lw_g (lw_at lw_m6 86 rfl) rfl
theorem q1530 : (Jvm.Cond.soleField "CoercedClasses$Ex" "type") ∈ lw_all := lw_g (lw_at lw_m6 88 rfl) rfl
theorem q1532 : (Jvm.Cond.soleField "CoercedClasses$Ex" "cast") ∈ lw_all := lw_g (lw_at lw_m6 90 rfl) rfl
theorem q283 : (Jvm.Cond.initialized "CoercedClasses$Lambda") ∈ lw_all := lw_g (lw_at lw_m1 41 rfl) rfl
theorem q1158 : (Jvm.Cond.selects "CoercedClasses$Lambda" ({ cls := "java/lang/Object", name := "getClass", desc := "()Ljava/lang/Class;" } : Jvm.MethodName) ({ cls := "java/lang/Object", name := "getClass", desc := "()Ljava/lang/Class;" } : Jvm.MethodName)) ∈ lw_all := lw_g (lw_at lw_m4 196 rfl) rfl
theorem q1484 : (Jvm.Cond.instantiable "CoercedClasses$Lambda" (7 : Nat)) ∈ lw_all := lw_g (lw_at lw_m6 42 rfl) rfl
theorem q1486 : (Jvm.Cond.instanceMethod ({ cls := "CoercedClasses$Lambda", name := "<init>", desc := "()V" } : Jvm.MethodName)) ∈ lw_all := lw_g (lw_at lw_m6 44 rfl) rfl
theorem q1487 : (Jvm.Cond.code ({ cls := "CoercedClasses$Lambda", name := "<init>", desc := "()V" } : Jvm.MethodName) prog_22_method_1_code (1 : Nat) (Option.none : Option Jvm.ClassFile.FieldType)) ∈ lw_all := lw_g (lw_at lw_m6 45 rfl) rfl
theorem q1488 : (Jvm.Cond.methodLinkNest "CoercedClasses$Lambda" (1 : Nat) ({ cls := "CoercedClasses$Ex", name := "<init>", desc := "()V" } : Jvm.MethodName) "CoercedClasses") ∈ lw_tbl := lw_at lw_m6 46 rfl
theorem q1519 : (Jvm.Cond.lays "CoercedClasses$Lambda" "CoercedClasses$Lambda" "word" "LCoercedClasses$Word;") ∈ lw_all := lw_g (lw_at lw_m6 77 rfl) rfl
theorem q1520 : (Jvm.Cond.soleField "CoercedClasses$Lambda" "word") ∈ lw_all := lw_g (lw_at lw_m6 78 rfl) rfl
theorem q1521 : (Jvm.Cond.lays "CoercedClasses$Lambda" "CoercedClasses$Lambda" "written" "LCoercedClasses$Written;") ∈ lw_all := lw_g (lw_at lw_m6 79 rfl) rfl
theorem q1522 : (Jvm.Cond.soleField "CoercedClasses$Lambda" "written") ∈ lw_all := lw_g (lw_at lw_m6 80 rfl) rfl
theorem q1523 : (Jvm.Cond.lays "CoercedClasses$Lambda" "CoercedClasses$Lambda" "of" "LCoercedClasses$Type;") ∈ lw_all := lw_g (lw_at lw_m6 81 rfl) rfl
theorem q1524 : (Jvm.Cond.soleField "CoercedClasses$Lambda" "of") ∈ lw_all := lw_g (lw_at lw_m6 82 rfl) rfl
theorem q1525 : (Jvm.Cond.lays "CoercedClasses$Lambda" "CoercedClasses$Lambda" "body" "LCoercedClasses$Ex;") ∈ lw_all := lw_g (lw_at lw_m6 83 rfl) rfl
theorem q1526 : (Jvm.Cond.soleField "CoercedClasses$Lambda" "body") ∈ lw_all := lw_g (lw_at lw_m6 84 rfl) rfl
theorem q1527 : (Jvm.Cond.lays "CoercedClasses$Lambda" "CoercedClasses$Ex" "place" "I") ∈ lw_all := lw_g (lw_at lw_m6 85 rfl) rfl
theorem q1529 : (Jvm.Cond.lays "CoercedClasses$Lambda" "CoercedClasses$Ex" "type" "LCoercedClasses$Type;") ∈ lw_all := lw_g (lw_at lw_m6 87 rfl) rfl
theorem q1531 : (Jvm.Cond.lays "CoercedClasses$Lambda" "CoercedClasses$Ex" "cast" "LCoercedClasses$Type;") ∈ lw_all := lw_g (lw_at lw_m6 89 rfl) rfl
theorem q1533 : (Jvm.Cond.superclass "CoercedClasses$Lambda" "CoercedClasses$Ex") ∈ lw_all := lw_g (lw_at lw_m6 91 rfl) rfl
theorem q4457 : (Jvm.Cond.castable "CoercedClasses$Lambda" "CoercedClasses$Ex") ∈ lw_tbl := lw_at lw_m18 135 rfl
theorem q4491 : (Jvm.Cond.castable "CoercedClasses$Lambda" "java/lang/Object") ∈ lw_tbl := lw_at lw_m18 169 rfl
theorem in_X24 : ∀ w ∈ wsX240, w ∈ lw_all := lw_in wsX240 [1527, 1529, 1531, 1519, 1521, 1523, 1525] (by decide +kernel) (by decide +kernel)
theorem q284 : (Jvm.Cond.initialized "CoercedClasses$Let") ∈ lw_all := lw_g (lw_at lw_m1 42 rfl) rfl
theorem q1159 : (Jvm.Cond.selects "CoercedClasses$Let" ({ cls := "java/lang/Object", name := "getClass", desc := "()Ljava/lang/Class;" } : Jvm.MethodName) ({ cls := "java/lang/Object", name := "getClass", desc := "()Ljava/lang/Class;" } : Jvm.MethodName)) ∈ lw_all := lw_g (lw_at lw_m4 197 rfl) rfl
theorem q1543 : (Jvm.Cond.instantiable "CoercedClasses$Let" (8 : Nat)) ∈ lw_all := lw_g (lw_at lw_m6 101 rfl) rfl
theorem q1545 : (Jvm.Cond.instanceMethod ({ cls := "CoercedClasses$Let", name := "<init>", desc := "()V" } : Jvm.MethodName)) ∈ lw_all := lw_g (lw_at lw_m6 103 rfl) rfl
theorem q1546 : (Jvm.Cond.code ({ cls := "CoercedClasses$Let", name := "<init>", desc := "()V" } : Jvm.MethodName) prog_23_method_1_code (1 : Nat) (Option.none : Option Jvm.ClassFile.FieldType)) ∈ lw_all := lw_g (lw_at lw_m6 104 rfl) rfl
theorem q1547 : (Jvm.Cond.methodLinkNest "CoercedClasses$Let" (1 : Nat) ({ cls := "CoercedClasses$Ex", name := "<init>", desc := "()V" } : Jvm.MethodName) "CoercedClasses") ∈ lw_tbl := lw_at lw_m6 105 rfl
theorem q1569 : (Jvm.Cond.lays "CoercedClasses$Let" "CoercedClasses$Let" "word" "LCoercedClasses$Word;") ∈ lw_all := lw_g (lw_at lw_m6 127 rfl) rfl
theorem q1570 : (Jvm.Cond.soleField "CoercedClasses$Let" "word") ∈ lw_all := lw_g (lw_at lw_m6 128 rfl) rfl
theorem q1571 : (Jvm.Cond.lays "CoercedClasses$Let" "CoercedClasses$Let" "written" "LCoercedClasses$Written;") ∈ lw_all := lw_g (lw_at lw_m6 129 rfl) rfl
theorem q1572 : (Jvm.Cond.soleField "CoercedClasses$Let" "written") ∈ lw_all := lw_g (lw_at lw_m6 130 rfl) rfl
theorem q1573 : (Jvm.Cond.lays "CoercedClasses$Let" "CoercedClasses$Let" "of" "LCoercedClasses$Type;") ∈ lw_all := lw_g (lw_at lw_m6 131 rfl) rfl
theorem q1574 : (Jvm.Cond.soleField "CoercedClasses$Let" "of") ∈ lw_all := lw_g (lw_at lw_m6 132 rfl) rfl
theorem q1575 : (Jvm.Cond.lays "CoercedClasses$Let" "CoercedClasses$Let" "first" "LCoercedClasses$Ex;") ∈ lw_all := lw_g (lw_at lw_m6 133 rfl) rfl
theorem q1576 : (Jvm.Cond.soleField "CoercedClasses$Let" "first") ∈ lw_all := lw_g (lw_at lw_m6 134 rfl) rfl
theorem q1577 : (Jvm.Cond.lays "CoercedClasses$Let" "CoercedClasses$Let" "body" "LCoercedClasses$Ex;") ∈ lw_all := lw_g (lw_at lw_m6 135 rfl) rfl
theorem q1578 : (Jvm.Cond.soleField "CoercedClasses$Let" "body") ∈ lw_all := lw_g (lw_at lw_m6 136 rfl) rfl
theorem q1579 : (Jvm.Cond.lays "CoercedClasses$Let" "CoercedClasses$Ex" "place" "I") ∈ lw_all := lw_g (lw_at lw_m6 137 rfl) rfl
theorem q1580 : (Jvm.Cond.lays "CoercedClasses$Let" "CoercedClasses$Ex" "type" "LCoercedClasses$Type;") ∈ lw_all := lw_g (lw_at lw_m6 138 rfl) rfl
theorem q1581 : (Jvm.Cond.lays "CoercedClasses$Let" "CoercedClasses$Ex" "cast" "LCoercedClasses$Type;") ∈ lw_all := lw_g (lw_at lw_m6 139 rfl) rfl
theorem q1582 : (Jvm.Cond.superclass "CoercedClasses$Let" "CoercedClasses$Ex") ∈ lw_all := lw_g (lw_at lw_m6 140 rfl) rfl
theorem q4458 : (Jvm.Cond.castable "CoercedClasses$Let" "CoercedClasses$Ex") ∈ lw_tbl := lw_at lw_m18 136 rfl
theorem q4492 : (Jvm.Cond.castable "CoercedClasses$Let" "java/lang/Object") ∈ lw_tbl := lw_at lw_m18 170 rfl
theorem in_X25 : ∀ w ∈ wsX250, w ∈ lw_all := lw_in wsX250 [1579, 1580, 1581, 1569, 1571, 1573, 1575, 1577] (by decide +kernel) (by decide +kernel)
theorem q285 : (Jvm.Cond.initialized "CoercedClasses$If") ∈ lw_all := lw_g (lw_at lw_m1 43 rfl) rfl
theorem q1153 : (Jvm.Cond.selects "CoercedClasses$If" ({ cls := "java/lang/Object", name := "getClass", desc := "()Ljava/lang/Class;" } : Jvm.MethodName) ({ cls := "java/lang/Object", name := "getClass", desc := "()Ljava/lang/Class;" } : Jvm.MethodName)) ∈ lw_all := lw_g (lw_at lw_m4 191 rfl) rfl
theorem q1593 : (Jvm.Cond.instantiable "CoercedClasses$If" (6 : Nat)) ∈ lw_all := lw_g (lw_at lw_m6 151 rfl) rfl
theorem q1595 : (Jvm.Cond.instanceMethod ({ cls := "CoercedClasses$If", name := "<init>", desc := "()V" } : Jvm.MethodName)) ∈ lw_all := lw_g (lw_at lw_m6 153 rfl) rfl
theorem q1596 : (Jvm.Cond.code ({ cls := "CoercedClasses$If", name := "<init>", desc := "()V" } : Jvm.MethodName) prog_17_method_1_code (1 : Nat) (Option.none : Option Jvm.ClassFile.FieldType)) ∈ lw_all := lw_g (lw_at lw_m6 154 rfl) rfl
theorem q1597 : (Jvm.Cond.methodLinkNest "CoercedClasses$If" (1 : Nat) ({ cls := "CoercedClasses$Ex", name := "<init>", desc := "()V" } : Jvm.MethodName) "CoercedClasses") ∈ lw_tbl := lw_at lw_m6 155 rfl
theorem q1616 : (Jvm.Cond.lays "CoercedClasses$If" "CoercedClasses$If" "a" "LCoercedClasses$Ex;") ∈ lw_all := lw_g (lw_at lw_m6 174 rfl) rfl
theorem q1617 : (Jvm.Cond.soleField "CoercedClasses$If" "a") ∈ lw_all := lw_g (lw_at lw_m6 175 rfl) rfl
theorem q1618 : (Jvm.Cond.lays "CoercedClasses$If" "CoercedClasses$If" "b" "LCoercedClasses$Ex;") ∈ lw_all := lw_g (lw_at lw_m6 176 rfl) rfl
theorem q1619 : (Jvm.Cond.soleField "CoercedClasses$If" "b") ∈ lw_all := lw_g (lw_at lw_m6 177 rfl) rfl
theorem q1620 : (Jvm.Cond.lays "CoercedClasses$If" "CoercedClasses$If" "c" "LCoercedClasses$Ex;") ∈ lw_all := lw_g (lw_at lw_m6 178 rfl) rfl
theorem q1621 : (Jvm.Cond.soleField "CoercedClasses$If" "c") ∈ lw_all := lw_g (lw_at lw_m6 179 rfl) rfl
theorem q1622 : (Jvm.Cond.lays "CoercedClasses$If" "CoercedClasses$Ex" "place" "I") ∈ lw_all := lw_g (lw_at lw_m6 180 rfl) rfl
theorem q1623 : (Jvm.Cond.lays "CoercedClasses$If" "CoercedClasses$Ex" "type" "LCoercedClasses$Type;") ∈ lw_all := lw_g (lw_at lw_m6 181 rfl) rfl
theorem q1624 : (Jvm.Cond.lays "CoercedClasses$If" "CoercedClasses$Ex" "cast" "LCoercedClasses$Type;") ∈ lw_all := lw_g (lw_at lw_m6 182 rfl) rfl
theorem q1625 : (Jvm.Cond.superclass "CoercedClasses$If" "CoercedClasses$Ex") ∈ lw_all := lw_g (lw_at lw_m6 183 rfl) rfl
theorem q4456 : (Jvm.Cond.castable "CoercedClasses$If" "CoercedClasses$Ex") ∈ lw_tbl := lw_at lw_m18 134 rfl
theorem q4493 : (Jvm.Cond.castable "CoercedClasses$If" "java/lang/Object") ∈ lw_tbl := lw_at lw_m18 171 rfl
theorem in_X26 : ∀ w ∈ wsX260, w ∈ lw_all := lw_in wsX260 [1622, 1623, 1624, 1616, 1618, 1620] (by decide +kernel) (by decide +kernel)
theorem q286 : (Jvm.Cond.initialized "CoercedClasses$Case") ∈ lw_all := lw_g (lw_at lw_m1 44 rfl) rfl
theorem q1140 : (Jvm.Cond.selects "CoercedClasses$Case" ({ cls := "java/lang/Object", name := "getClass", desc := "()Ljava/lang/Class;" } : Jvm.MethodName) ({ cls := "java/lang/Object", name := "getClass", desc := "()Ljava/lang/Class;" } : Jvm.MethodName)) ∈ lw_all := lw_g (lw_at lw_m4 178 rfl) rfl
theorem q1632 : (Jvm.Cond.instantiable "CoercedClasses$Case" (8 : Nat)) ∈ lw_all := lw_g (lw_at lw_m6 190 rfl) rfl
theorem q1634 : (Jvm.Cond.instanceMethod ({ cls := "CoercedClasses$Case", name := "<init>", desc := "()V" } : Jvm.MethodName)) ∈ lw_all := lw_g (lw_at lw_m6 192 rfl) rfl
theorem q1635 : (Jvm.Cond.code ({ cls := "CoercedClasses$Case", name := "<init>", desc := "()V" } : Jvm.MethodName) prog_3_method_1_code (1 : Nat) (Option.none : Option Jvm.ClassFile.FieldType)) ∈ lw_all := lw_g (lw_at lw_m6 193 rfl) rfl
theorem q1636 : (Jvm.Cond.methodLinkNest "CoercedClasses$Case" (1 : Nat) ({ cls := "CoercedClasses$Ex", name := "<init>", desc := "()V" } : Jvm.MethodName) "CoercedClasses") ∈ lw_tbl := lw_at lw_m6 194 rfl
theorem q1661 : (Jvm.Cond.lays "CoercedClasses$Case" "CoercedClasses$Case" "subject" "LCoercedClasses$Ex;") ∈ lw_all := lw_g (lw_at lw_m6 219 rfl) rfl
theorem q1662 : (Jvm.Cond.soleField "CoercedClasses$Case" "subject") ∈ lw_all := lw_g (lw_at lw_m6 220 rfl) rfl
theorem q1663 : (Jvm.Cond.lays "CoercedClasses$Case" "CoercedClasses$Case" "nil" "LCoercedClasses$Ex;") ∈ lw_all := lw_g (lw_at lw_m6 221 rfl) rfl
theorem q1664 : (Jvm.Cond.soleField "CoercedClasses$Case" "nil") ∈ lw_all := lw_g (lw_at lw_m6 222 rfl) rfl
theorem q1665 : (Jvm.Cond.lays "CoercedClasses$Case" "CoercedClasses$Case" "cons" "LCoercedClasses$Ex;") ∈ lw_all := lw_g (lw_at lw_m6 223 rfl) rfl
theorem q1666 : (Jvm.Cond.soleField "CoercedClasses$Case" "cons") ∈ lw_all := lw_g (lw_at lw_m6 224 rfl) rfl
theorem q1667 : (Jvm.Cond.lays "CoercedClasses$Case" "CoercedClasses$Case" "x" "LCoercedClasses$Word;") ∈ lw_all := lw_g (lw_at lw_m6 225 rfl) rfl
theorem q1668 : (Jvm.Cond.soleField "CoercedClasses$Case" "x") ∈ lw_all := lw_g (lw_at lw_m6 226 rfl) rfl
theorem q1669 : (Jvm.Cond.lays "CoercedClasses$Case" "CoercedClasses$Case" "xs" "LCoercedClasses$Word;") ∈ lw_all := lw_g (lw_at lw_m6 227 rfl) rfl
theorem q1670 : (Jvm.Cond.soleField "CoercedClasses$Case" "xs") ∈ lw_all := lw_g (lw_at lw_m6 228 rfl) rfl
theorem q1671 : (Jvm.Cond.lays "CoercedClasses$Case" "CoercedClasses$Ex" "place" "I") ∈ lw_all := lw_g (lw_at lw_m6 229 rfl) rfl
theorem q1672 : (Jvm.Cond.lays "CoercedClasses$Case" "CoercedClasses$Ex" "type" "LCoercedClasses$Type;") ∈ lw_all := lw_g (lw_at lw_m6 230 rfl) rfl
theorem q1673 : (Jvm.Cond.lays "CoercedClasses$Case" "CoercedClasses$Ex" "cast" "LCoercedClasses$Type;") ∈ lw_all := lw_g (lw_at lw_m6 231 rfl) rfl
theorem q1674 : (Jvm.Cond.superclass "CoercedClasses$Case" "CoercedClasses$Ex") ∈ lw_all := lw_g (lw_at lw_m6 232 rfl) rfl
theorem q4454 : (Jvm.Cond.castable "CoercedClasses$Case" "CoercedClasses$Ex") ∈ lw_tbl := lw_at lw_m18 132 rfl
theorem q4494 : (Jvm.Cond.castable "CoercedClasses$Case" "java/lang/Object") ∈ lw_tbl := lw_at lw_m18 172 rfl
theorem in_X27 : ∀ w ∈ wsX270, w ∈ lw_all := lw_in wsX270 [1671, 1672, 1673, 1661, 1663, 1665, 1667, 1669] (by decide +kernel) (by decide +kernel)
theorem q287 : (Jvm.Cond.initialized "CoercedClasses$Name") ∈ lw_all := lw_g (lw_at lw_m1 45 rfl) rfl
theorem q1163 : (Jvm.Cond.selects "CoercedClasses$Name" ({ cls := "java/lang/Object", name := "getClass", desc := "()Ljava/lang/Class;" } : Jvm.MethodName) ({ cls := "java/lang/Object", name := "getClass", desc := "()Ljava/lang/Class;" } : Jvm.MethodName)) ∈ lw_all := lw_g (lw_at lw_m4 201 rfl) rfl
theorem q1510 : (Jvm.Cond.sameField "CoercedClasses$Name" "CoercedClasses$Ex" "place" "I") ∈ lw_all := lw_g (lw_at lw_m6 68 rfl) rfl
theorem q1698 : (Jvm.Cond.instantiable "CoercedClasses$Name" (11 : Nat)) ∈ lw_all := lw_g (lw_at lw_m7 16 rfl) rfl
theorem q1700 : (Jvm.Cond.instanceMethod ({ cls := "CoercedClasses$Name", name := "<init>", desc := "()V" } : Jvm.MethodName)) ∈ lw_all := lw_g (lw_at lw_m7 18 rfl) rfl
theorem q1701 : (Jvm.Cond.code ({ cls := "CoercedClasses$Name", name := "<init>", desc := "()V" } : Jvm.MethodName) prog_27_method_1_code (1 : Nat) (Option.none : Option Jvm.ClassFile.FieldType)) ∈ lw_all := lw_g (lw_at lw_m7 19 rfl) rfl
theorem q1702 : (Jvm.Cond.methodLinkNest "CoercedClasses$Name" (3 : Nat) ({ cls := "CoercedClasses$Ex", name := "<init>", desc := "()V" } : Jvm.MethodName) "CoercedClasses") ∈ lw_tbl := lw_at lw_m7 20 rfl
theorem q1706 : (Jvm.Cond.fieldLink "CoercedClasses$Name" (18 : Nat) "CoercedClasses$Name" "ats" "Ljava/util/ArrayList;") ∈ lw_all := lw_g (lw_at lw_m7 24 rfl) rfl
theorem q1713 : (Jvm.Cond.fieldLink "CoercedClasses$Name" (9 : Nat) "CoercedClasses$Name" "up" "I") ∈ lw_all := lw_g (lw_at lw_m7 31 rfl) rfl
theorem q1726 : (Jvm.Cond.fieldLink "CoercedClasses$Name" (15 : Nat) "CoercedClasses$Name" "built" "I") ∈ lw_all := lw_g (lw_at lw_m7 44 rfl) rfl
theorem q1731 : (Jvm.Cond.fieldLink "CoercedClasses$Name" (28 : Nat) "CoercedClasses$Name" "evidence" "Ljava/util/ArrayList;") ∈ lw_all := lw_g (lw_at lw_m7 49 rfl) rfl
theorem q1735 : (Jvm.Cond.lays "CoercedClasses$Name" "CoercedClasses$Name" "word" "LCoercedClasses$Word;") ∈ lw_all := lw_g (lw_at lw_m7 53 rfl) rfl
theorem q1736 : (Jvm.Cond.soleField "CoercedClasses$Name" "word") ∈ lw_all := lw_g (lw_at lw_m7 54 rfl) rfl
theorem q1737 : (Jvm.Cond.lays "CoercedClasses$Name" "CoercedClasses$Name" "ats" "Ljava/util/ArrayList;") ∈ lw_all := lw_g (lw_at lw_m7 55 rfl) rfl
theorem q1738 : (Jvm.Cond.soleField "CoercedClasses$Name" "ats") ∈ lw_all := lw_g (lw_at lw_m7 56 rfl) rfl
theorem q1739 : (Jvm.Cond.lays "CoercedClasses$Name" "CoercedClasses$Name" "types" "Ljava/util/ArrayList;") ∈ lw_all := lw_g (lw_at lw_m7 57 rfl) rfl
theorem q1740 : (Jvm.Cond.soleField "CoercedClasses$Name" "types") ∈ lw_all := lw_g (lw_at lw_m7 58 rfl) rfl
theorem q1741 : (Jvm.Cond.lays "CoercedClasses$Name" "CoercedClasses$Name" "up" "I") ∈ lw_all := lw_g (lw_at lw_m7 59 rfl) rfl
theorem q1742 : (Jvm.Cond.soleField "CoercedClasses$Name" "up") ∈ lw_all := lw_g (lw_at lw_m7 60 rfl) rfl
theorem q1743 : (Jvm.Cond.lays "CoercedClasses$Name" "CoercedClasses$Name" "function" "LCoercedClasses$Function;") ∈ lw_all := lw_g (lw_at lw_m7 61 rfl) rfl
theorem q1744 : (Jvm.Cond.soleField "CoercedClasses$Name" "function") ∈ lw_all := lw_g (lw_at lw_m7 62 rfl) rfl
theorem q1745 : (Jvm.Cond.lays "CoercedClasses$Name" "CoercedClasses$Name" "method" "LCoercedClasses$Method;") ∈ lw_all := lw_g (lw_at lw_m7 63 rfl) rfl
theorem q1746 : (Jvm.Cond.soleField "CoercedClasses$Name" "method") ∈ lw_all := lw_g (lw_at lw_m7 64 rfl) rfl
theorem q1747 : (Jvm.Cond.lays "CoercedClasses$Name" "CoercedClasses$Name" "built" "I") ∈ lw_all := lw_g (lw_at lw_m7 65 rfl) rfl
theorem q1748 : (Jvm.Cond.soleField "CoercedClasses$Name" "built") ∈ lw_all := lw_g (lw_at lw_m7 66 rfl) rfl
theorem q1749 : (Jvm.Cond.lays "CoercedClasses$Name" "CoercedClasses$Name" "evidence" "Ljava/util/ArrayList;") ∈ lw_all := lw_g (lw_at lw_m7 67 rfl) rfl
theorem q1750 : (Jvm.Cond.soleField "CoercedClasses$Name" "evidence") ∈ lw_all := lw_g (lw_at lw_m7 68 rfl) rfl
theorem q1751 : (Jvm.Cond.lays "CoercedClasses$Name" "CoercedClasses$Ex" "place" "I") ∈ lw_all := lw_g (lw_at lw_m7 69 rfl) rfl
theorem q1752 : (Jvm.Cond.lays "CoercedClasses$Name" "CoercedClasses$Ex" "type" "LCoercedClasses$Type;") ∈ lw_all := lw_g (lw_at lw_m7 70 rfl) rfl
theorem q1753 : (Jvm.Cond.lays "CoercedClasses$Name" "CoercedClasses$Ex" "cast" "LCoercedClasses$Type;") ∈ lw_all := lw_g (lw_at lw_m7 71 rfl) rfl
theorem q1754 : (Jvm.Cond.superclass "CoercedClasses$Name" "CoercedClasses$Ex") ∈ lw_all := lw_g (lw_at lw_m7 72 rfl) rfl
theorem q1805 : (Jvm.Cond.instanceMethod ({ cls := "CoercedClasses$Name", name := "at", desc := "(LCoercedClasses$Written;)V" } : Jvm.MethodName)) ∈ lw_all := lw_g (lw_at lw_m7 123 rfl) rfl
theorem q1806 : (Jvm.Cond.selects "CoercedClasses$Name" ({ cls := "CoercedClasses$Name", name := "at", desc := "(LCoercedClasses$Written;)V" } : Jvm.MethodName) ({ cls := "CoercedClasses$Name", name := "at", desc := "(LCoercedClasses$Written;)V" } : Jvm.MethodName)) ∈ lw_all := lw_g (lw_at lw_m7 124 rfl) rfl
theorem q1807 : (Jvm.Cond.code ({ cls := "CoercedClasses$Name", name := "at", desc := "(LCoercedClasses$Written;)V" } : Jvm.MethodName) prog_27_method_5_code (2 : Nat) (Option.none : Option Jvm.ClassFile.FieldType)) ∈ lw_all := lw_g (lw_at lw_m7 125 rfl) rfl
theorem q1808 : (Jvm.Cond.classLink "CoercedClasses$Name" (23 : Nat) "java/util/ArrayList") ∈ lw_all := lw_g (lw_at lw_m7 126 rfl) rfl
theorem q1809 : (Jvm.Cond.methodLink "CoercedClasses$Name" (31 : Nat) ({ cls := "java/util/ArrayList", name := "<init>", desc := "(I)V" } : Jvm.MethodName)) ∈ lw_all := lw_g (lw_at lw_m7 127 rfl) rfl
theorem q1810 : (Jvm.Cond.methodLink "CoercedClasses$Name" (34 : Nat) ({ cls := "java/util/ArrayList", name := "add", desc := "(Ljava/lang/Object;)Z" } : Jvm.MethodName)) ∈ lw_all := lw_g (lw_at lw_m7 128 rfl) rfl
theorem q2222 : (Jvm.Cond.instanceMethod ({ cls := "CoercedClasses$Name", name := "many", desc := "()I" } : Jvm.MethodName)) ∈ lw_all := lw_g (lw_at lw_m9 60 rfl) rfl
theorem q2223 : (Jvm.Cond.selects "CoercedClasses$Name" ({ cls := "CoercedClasses$Name", name := "many", desc := "()I" } : Jvm.MethodName) ({ cls := "CoercedClasses$Name", name := "many", desc := "()I" } : Jvm.MethodName)) ∈ lw_all := lw_g (lw_at lw_m9 61 rfl) rfl
theorem q2224 : (Jvm.Cond.code ({ cls := "CoercedClasses$Name", name := "many", desc := "()I" } : Jvm.MethodName) prog_27_method_3_code (1 : Nat) (Option.some Jvm.ClassFile.FieldType.int)) ∈ lw_all := lw_g (lw_at lw_m9 62 rfl) rfl
theorem q2225 : (Jvm.Cond.methodLink "CoercedClasses$Name" (22 : Nat) ({ cls := "java/util/ArrayList", name := "size", desc := "()I" } : Jvm.MethodName)) ∈ lw_all := lw_g (lw_at lw_m9 63 rfl) rfl
theorem q2497 : (Jvm.Cond.instanceMethod ({ cls := "CoercedClasses$Name", name := "isBound", desc := "()Z" } : Jvm.MethodName)) ∈ lw_all := lw_g (lw_at lw_m10 95 rfl) rfl
theorem q2498 : (Jvm.Cond.selects "CoercedClasses$Name" ({ cls := "CoercedClasses$Name", name := "isBound", desc := "()Z" } : Jvm.MethodName) ({ cls := "CoercedClasses$Name", name := "isBound", desc := "()Z" } : Jvm.MethodName)) ∈ lw_all := lw_g (lw_at lw_m10 96 rfl) rfl
theorem q2499 : (Jvm.Cond.code ({ cls := "CoercedClasses$Name", name := "isBound", desc := "()Z" } : Jvm.MethodName) prog_27_method_2_code (1 : Nat) (Option.some Jvm.ClassFile.FieldType.boolean)) ∈ lw_all := lw_g (lw_at lw_m10 97 rfl) rfl
theorem q2554 : (Jvm.Cond.instanceMethod ({ cls := "CoercedClasses$Name", name := "because", desc := "(LCoercedClasses$Evidence;)V" } : Jvm.MethodName)) ∈ lw_all := lw_g (lw_at lw_m10 152 rfl) rfl
theorem q2555 : (Jvm.Cond.selects "CoercedClasses$Name" ({ cls := "CoercedClasses$Name", name := "because", desc := "(LCoercedClasses$Evidence;)V" } : Jvm.MethodName) ({ cls := "CoercedClasses$Name", name := "because", desc := "(LCoercedClasses$Evidence;)V" } : Jvm.MethodName)) ∈ lw_all := lw_g (lw_at lw_m10 153 rfl) rfl
theorem q2556 : (Jvm.Cond.code ({ cls := "CoercedClasses$Name", name := "because", desc := "(LCoercedClasses$Evidence;)V" } : Jvm.MethodName) prog_27_method_6_code (2 : Nat) (Option.none : Option Jvm.ClassFile.FieldType)) ∈ lw_all := lw_g (lw_at lw_m10 154 rfl) rfl
theorem q2834 : (Jvm.Cond.instanceMethod ({ cls := "CoercedClasses$Name", name := "reasons", desc := "()I" } : Jvm.MethodName)) ∈ lw_all := lw_g (lw_at lw_m11 192 rfl) rfl
theorem q2835 : (Jvm.Cond.selects "CoercedClasses$Name" ({ cls := "CoercedClasses$Name", name := "reasons", desc := "()I" } : Jvm.MethodName) ({ cls := "CoercedClasses$Name", name := "reasons", desc := "()I" } : Jvm.MethodName)) ∈ lw_all := lw_g (lw_at lw_m11 193 rfl) rfl
theorem q2836 : (Jvm.Cond.code ({ cls := "CoercedClasses$Name", name := "reasons", desc := "()I" } : Jvm.MethodName) prog_27_method_4_code (1 : Nat) (Option.some Jvm.ClassFile.FieldType.int)) ∈ lw_all := lw_g (lw_at lw_m11 194 rfl) rfl
theorem q4459 : (Jvm.Cond.castable "CoercedClasses$Name" "CoercedClasses$Ex") ∈ lw_tbl := lw_at lw_m18 137 rfl
theorem q4495 : (Jvm.Cond.castable "CoercedClasses$Name" "java/lang/Object") ∈ lw_tbl := lw_at lw_m18 173 rfl
theorem in_X28 : ∀ w ∈ wsX280, w ∈ lw_all := lw_in wsX280 [1751, 1752, 1753, 1735, 1737, 1739, 1741, 1743, 1745, 1747, 1749] (by decide +kernel) (by decide +kernel)
theorem q288 : (Jvm.Cond.initialized "CoercedClasses$Num") ∈ lw_all := lw_g (lw_at lw_m1 46 rfl) rfl
theorem q1164 : (Jvm.Cond.selects "CoercedClasses$Num" ({ cls := "java/lang/Object", name := "getClass", desc := "()Ljava/lang/Class;" } : Jvm.MethodName) ({ cls := "java/lang/Object", name := "getClass", desc := "()Ljava/lang/Class;" } : Jvm.MethodName)) ∈ lw_all := lw_g (lw_at lw_m4 202 rfl) rfl
theorem q1756 : (Jvm.Cond.instantiable "CoercedClasses$Num" (4 : Nat)) ∈ lw_all := lw_g (lw_at lw_m7 74 rfl) rfl
theorem q1758 : (Jvm.Cond.instanceMethod ({ cls := "CoercedClasses$Num", name := "<init>", desc := "()V" } : Jvm.MethodName)) ∈ lw_all := lw_g (lw_at lw_m7 76 rfl) rfl
theorem q1759 : (Jvm.Cond.code ({ cls := "CoercedClasses$Num", name := "<init>", desc := "()V" } : Jvm.MethodName) prog_28_method_1_code (1 : Nat) (Option.none : Option Jvm.ClassFile.FieldType)) ∈ lw_all := lw_g (lw_at lw_m7 77 rfl) rfl
theorem q1760 : (Jvm.Cond.methodLinkNest "CoercedClasses$Num" (1 : Nat) ({ cls := "CoercedClasses$Ex", name := "<init>", desc := "()V" } : Jvm.MethodName) "CoercedClasses") ∈ lw_tbl := lw_at lw_m7 78 rfl
theorem q1764 : (Jvm.Cond.lays "CoercedClasses$Num" "CoercedClasses$Num" "value" "I") ∈ lw_all := lw_g (lw_at lw_m7 82 rfl) rfl
theorem q1765 : (Jvm.Cond.soleField "CoercedClasses$Num" "value") ∈ lw_all := lw_g (lw_at lw_m7 83 rfl) rfl
theorem q1766 : (Jvm.Cond.lays "CoercedClasses$Num" "CoercedClasses$Ex" "place" "I") ∈ lw_all := lw_g (lw_at lw_m7 84 rfl) rfl
theorem q1767 : (Jvm.Cond.lays "CoercedClasses$Num" "CoercedClasses$Ex" "type" "LCoercedClasses$Type;") ∈ lw_all := lw_g (lw_at lw_m7 85 rfl) rfl
theorem q1768 : (Jvm.Cond.lays "CoercedClasses$Num" "CoercedClasses$Ex" "cast" "LCoercedClasses$Type;") ∈ lw_all := lw_g (lw_at lw_m7 86 rfl) rfl
theorem q1769 : (Jvm.Cond.superclass "CoercedClasses$Num" "CoercedClasses$Ex") ∈ lw_all := lw_g (lw_at lw_m7 87 rfl) rfl
theorem q4460 : (Jvm.Cond.castable "CoercedClasses$Num" "CoercedClasses$Ex") ∈ lw_tbl := lw_at lw_m18 138 rfl
theorem q4496 : (Jvm.Cond.castable "CoercedClasses$Num" "java/lang/Object") ∈ lw_tbl := lw_at lw_m18 174 rfl
theorem in_X29 : ∀ w ∈ wsX290, w ∈ lw_all := lw_in wsX290 [1766, 1767, 1768, 1764] (by decide +kernel) (by decide +kernel)
theorem q289 : (Jvm.Cond.initialized "CoercedClasses$Use") ∈ lw_all := lw_g (lw_at lw_m1 47 rfl) rfl
theorem q1176 : (Jvm.Cond.selects "CoercedClasses$Use" ({ cls := "java/lang/Object", name := "getClass", desc := "()Ljava/lang/Class;" } : Jvm.MethodName) ({ cls := "java/lang/Object", name := "getClass", desc := "()Ljava/lang/Class;" } : Jvm.MethodName)) ∈ lw_all := lw_g (lw_at lw_m4 214 rfl) rfl
theorem q1772 : (Jvm.Cond.instantiable "CoercedClasses$Use" (5 : Nat)) ∈ lw_all := lw_g (lw_at lw_m7 90 rfl) rfl
theorem q1774 : (Jvm.Cond.instanceMethod ({ cls := "CoercedClasses$Use", name := "<init>", desc := "()V" } : Jvm.MethodName)) ∈ lw_all := lw_g (lw_at lw_m7 92 rfl) rfl
theorem q1775 : (Jvm.Cond.code ({ cls := "CoercedClasses$Use", name := "<init>", desc := "()V" } : Jvm.MethodName) prog_40_method_1_code (1 : Nat) (Option.none : Option Jvm.ClassFile.FieldType)) ∈ lw_all := lw_g (lw_at lw_m7 93 rfl) rfl
theorem q1776 : (Jvm.Cond.methodLinkNest "CoercedClasses$Use" (1 : Nat) ({ cls := "CoercedClasses$Ex", name := "<init>", desc := "()V" } : Jvm.MethodName) "CoercedClasses") ∈ lw_tbl := lw_at lw_m7 94 rfl
theorem q1777 : (Jvm.Cond.classLink "CoercedClasses$Use" (7 : Nat) "java/util/ArrayList") ∈ lw_all := lw_g (lw_at lw_m7 95 rfl) rfl
theorem q1778 : (Jvm.Cond.methodLink "CoercedClasses$Use" (9 : Nat) ({ cls := "java/util/ArrayList", name := "<init>", desc := "(I)V" } : Jvm.MethodName)) ∈ lw_all := lw_g (lw_at lw_m7 96 rfl) rfl
theorem q1789 : (Jvm.Cond.fieldLink "CoercedClasses$Use" (12 : Nat) "CoercedClasses$Use" "items" "Ljava/util/ArrayList;") ∈ lw_all := lw_g (lw_at lw_m7 107 rfl) rfl
theorem q1796 : (Jvm.Cond.lays "CoercedClasses$Use" "CoercedClasses$Use" "head" "LCoercedClasses$Ex;") ∈ lw_all := lw_g (lw_at lw_m7 114 rfl) rfl
theorem q1797 : (Jvm.Cond.soleField "CoercedClasses$Use" "head") ∈ lw_all := lw_g (lw_at lw_m7 115 rfl) rfl
theorem q1798 : (Jvm.Cond.laysFinal "CoercedClasses$Use" "CoercedClasses$Use" "items" "Ljava/util/ArrayList;") ∈ lw_all := lw_g (lw_at lw_m7 116 rfl) rfl
theorem q1799 : (Jvm.Cond.soleField "CoercedClasses$Use" "items") ∈ lw_all := lw_g (lw_at lw_m7 117 rfl) rfl
theorem q1800 : (Jvm.Cond.lays "CoercedClasses$Use" "CoercedClasses$Ex" "place" "I") ∈ lw_all := lw_g (lw_at lw_m7 118 rfl) rfl
theorem q1801 : (Jvm.Cond.lays "CoercedClasses$Use" "CoercedClasses$Ex" "type" "LCoercedClasses$Type;") ∈ lw_all := lw_g (lw_at lw_m7 119 rfl) rfl
theorem q1802 : (Jvm.Cond.lays "CoercedClasses$Use" "CoercedClasses$Ex" "cast" "LCoercedClasses$Type;") ∈ lw_all := lw_g (lw_at lw_m7 120 rfl) rfl
theorem q1803 : (Jvm.Cond.superclass "CoercedClasses$Use" "CoercedClasses$Ex") ∈ lw_all := lw_g (lw_at lw_m7 121 rfl) rfl
theorem q4461 : (Jvm.Cond.castable "CoercedClasses$Use" "CoercedClasses$Ex") ∈ lw_tbl := lw_at lw_m18 139 rfl
theorem q4497 : (Jvm.Cond.castable "CoercedClasses$Use" "java/lang/Object") ∈ lw_tbl := lw_at lw_m18 175 rfl
theorem in_X30 : ∀ w ∈ wsX300, w ∈ lw_all := lw_in wsX300 [1800, 1801, 1802, 1796, 1798] (by decide +kernel) (by decide +kernel)
theorem q290 : (Jvm.Cond.initialized "CoercedClasses$Item") ∈ lw_all := lw_g (lw_at lw_m1 48 rfl) rfl
theorem q1155 : (Jvm.Cond.selects "CoercedClasses$Item" ({ cls := "java/lang/Object", name := "getClass", desc := "()Ljava/lang/Class;" } : Jvm.MethodName) ({ cls := "java/lang/Object", name := "getClass", desc := "()Ljava/lang/Class;" } : Jvm.MethodName)) ∈ lw_all := lw_g (lw_at lw_m4 193 rfl) rfl
theorem q1812 : (Jvm.Cond.instantiable "CoercedClasses$Item" (5 : Nat)) ∈ lw_all := lw_g (lw_at lw_m7 130 rfl) rfl
theorem q1814 : (Jvm.Cond.instanceMethod ({ cls := "CoercedClasses$Item", name := "<init>", desc := "(LCoercedClasses$Ex;LCoercedClasses$Written;I)V" } : Jvm.MethodName)) ∈ lw_all := lw_g (lw_at lw_m7 132 rfl) rfl
theorem q1815 : (Jvm.Cond.code ({ cls := "CoercedClasses$Item", name := "<init>", desc := "(LCoercedClasses$Ex;LCoercedClasses$Written;I)V" } : Jvm.MethodName) prog_19_method_1_code (4 : Nat) (Option.none : Option Jvm.ClassFile.FieldType)) ∈ lw_all := lw_g (lw_at lw_m7 133 rfl) rfl
theorem q1816 : (Jvm.Cond.methodLink "CoercedClasses$Item" (1 : Nat) ({ cls := "java/lang/Object", name := "<init>", desc := "()V" } : Jvm.MethodName)) ∈ lw_all := lw_g (lw_at lw_m7 134 rfl) rfl
theorem q1817 : (Jvm.Cond.fieldLink "CoercedClasses$Item" (7 : Nat) "CoercedClasses$Item" "ex" "LCoercedClasses$Ex;") ∈ lw_all := lw_g (lw_at lw_m7 135 rfl) rfl
theorem q1823 : (Jvm.Cond.fieldLink "CoercedClasses$Item" (13 : Nat) "CoercedClasses$Item" "written" "LCoercedClasses$Written;") ∈ lw_all := lw_g (lw_at lw_m7 141 rfl) rfl
theorem q1825 : (Jvm.Cond.fieldLink "CoercedClasses$Item" (17 : Nat) "CoercedClasses$Item" "place" "I") ∈ lw_all := lw_g (lw_at lw_m7 143 rfl) rfl
theorem q1833 : (Jvm.Cond.laysFinal "CoercedClasses$Item" "CoercedClasses$Item" "ex" "LCoercedClasses$Ex;") ∈ lw_all := lw_g (lw_at lw_m7 151 rfl) rfl
theorem q1834 : (Jvm.Cond.soleField "CoercedClasses$Item" "ex") ∈ lw_all := lw_g (lw_at lw_m7 152 rfl) rfl
theorem q1835 : (Jvm.Cond.laysFinal "CoercedClasses$Item" "CoercedClasses$Item" "written" "LCoercedClasses$Written;") ∈ lw_all := lw_g (lw_at lw_m7 153 rfl) rfl
theorem q1836 : (Jvm.Cond.soleField "CoercedClasses$Item" "written") ∈ lw_all := lw_g (lw_at lw_m7 154 rfl) rfl
theorem q1837 : (Jvm.Cond.laysFinal "CoercedClasses$Item" "CoercedClasses$Item" "place" "I") ∈ lw_all := lw_g (lw_at lw_m7 155 rfl) rfl
theorem q1838 : (Jvm.Cond.soleField "CoercedClasses$Item" "place") ∈ lw_all := lw_g (lw_at lw_m7 156 rfl) rfl
theorem q1839 : (Jvm.Cond.lays "CoercedClasses$Item" "CoercedClasses$Item" "before" "LCoercedClasses$Type;") ∈ lw_all := lw_g (lw_at lw_m7 157 rfl) rfl
theorem q1840 : (Jvm.Cond.soleField "CoercedClasses$Item" "before") ∈ lw_all := lw_g (lw_at lw_m7 158 rfl) rfl
theorem q1841 : (Jvm.Cond.lays "CoercedClasses$Item" "CoercedClasses$Item" "arrow" "LCoercedClasses$Type;") ∈ lw_all := lw_g (lw_at lw_m7 159 rfl) rfl
theorem q1842 : (Jvm.Cond.soleField "CoercedClasses$Item" "arrow") ∈ lw_all := lw_g (lw_at lw_m7 160 rfl) rfl
theorem q1843 : (Jvm.Cond.superclass "CoercedClasses$Item" "java/lang/Object") ∈ lw_all := lw_g (lw_at lw_m7 161 rfl) rfl
theorem q4498 : (Jvm.Cond.castable "CoercedClasses$Item" "java/lang/Object") ∈ lw_tbl := lw_at lw_m18 176 rfl
theorem in_X31 : ∀ w ∈ wsX310, w ∈ lw_all := lw_in wsX310 [1833, 1835, 1837, 1839, 1841] (by decide +kernel) (by decide +kernel)
theorem q291 : (Jvm.Cond.initialized "CoercedClasses$Chain") ∈ lw_all := lw_g (lw_at lw_m1 49 rfl) rfl
theorem q1142 : (Jvm.Cond.selects "CoercedClasses$Chain" ({ cls := "java/lang/Object", name := "getClass", desc := "()Ljava/lang/Class;" } : Jvm.MethodName) ({ cls := "java/lang/Object", name := "getClass", desc := "()Ljava/lang/Class;" } : Jvm.MethodName)) ∈ lw_all := lw_g (lw_at lw_m4 180 rfl) rfl
theorem q1512 : (Jvm.Cond.sameField "CoercedClasses$Chain" "CoercedClasses$Ex" "place" "I") ∈ lw_all := lw_g (lw_at lw_m6 70 rfl) rfl
theorem q1845 : (Jvm.Cond.instantiable "CoercedClasses$Chain" (6 : Nat)) ∈ lw_all := lw_g (lw_at lw_m7 163 rfl) rfl
theorem q1847 : (Jvm.Cond.instanceMethod ({ cls := "CoercedClasses$Chain", name := "<init>", desc := "()V" } : Jvm.MethodName)) ∈ lw_all := lw_g (lw_at lw_m7 165 rfl) rfl
theorem q1848 : (Jvm.Cond.code ({ cls := "CoercedClasses$Chain", name := "<init>", desc := "()V" } : Jvm.MethodName) prog_5_method_1_code (1 : Nat) (Option.none : Option Jvm.ClassFile.FieldType)) ∈ lw_all := lw_g (lw_at lw_m7 166 rfl) rfl
theorem q1849 : (Jvm.Cond.methodLinkNest "CoercedClasses$Chain" (1 : Nat) ({ cls := "CoercedClasses$Ex", name := "<init>", desc := "()V" } : Jvm.MethodName) "CoercedClasses") ∈ lw_tbl := lw_at lw_m7 167 rfl
theorem q1850 : (Jvm.Cond.classLink "CoercedClasses$Chain" (7 : Nat) "java/util/ArrayList") ∈ lw_all := lw_g (lw_at lw_m7 168 rfl) rfl
theorem q1851 : (Jvm.Cond.methodLink "CoercedClasses$Chain" (9 : Nat) ({ cls := "java/util/ArrayList", name := "<init>", desc := "()V" } : Jvm.MethodName)) ∈ lw_all := lw_g (lw_at lw_m7 169 rfl) rfl
theorem q1858 : (Jvm.Cond.fieldLink "CoercedClasses$Chain" (10 : Nat) "CoercedClasses$Chain" "others" "Ljava/util/ArrayList;") ∈ lw_all := lw_g (lw_at lw_m7 176 rfl) rfl
theorem q1865 : (Jvm.Cond.fieldLink "CoercedClasses$Chain" (16 : Nat) "CoercedClasses$Chain" "signs" "Ljava/util/ArrayList;") ∈ lw_all := lw_g (lw_at lw_m7 183 rfl) rfl
theorem q1871 : (Jvm.Cond.lays "CoercedClasses$Chain" "CoercedClasses$Chain" "first" "LCoercedClasses$Ex;") ∈ lw_all := lw_g (lw_at lw_m7 189 rfl) rfl
theorem q1872 : (Jvm.Cond.soleField "CoercedClasses$Chain" "first") ∈ lw_all := lw_g (lw_at lw_m7 190 rfl) rfl
theorem q1873 : (Jvm.Cond.laysFinal "CoercedClasses$Chain" "CoercedClasses$Chain" "others" "Ljava/util/ArrayList;") ∈ lw_all := lw_g (lw_at lw_m7 191 rfl) rfl
theorem q1874 : (Jvm.Cond.soleField "CoercedClasses$Chain" "others") ∈ lw_all := lw_g (lw_at lw_m7 192 rfl) rfl
theorem q1875 : (Jvm.Cond.laysFinal "CoercedClasses$Chain" "CoercedClasses$Chain" "signs" "Ljava/util/ArrayList;") ∈ lw_all := lw_g (lw_at lw_m7 193 rfl) rfl
theorem q1876 : (Jvm.Cond.soleField "CoercedClasses$Chain" "signs") ∈ lw_all := lw_g (lw_at lw_m7 194 rfl) rfl
theorem q1877 : (Jvm.Cond.lays "CoercedClasses$Chain" "CoercedClasses$Ex" "place" "I") ∈ lw_all := lw_g (lw_at lw_m7 195 rfl) rfl
theorem q1878 : (Jvm.Cond.lays "CoercedClasses$Chain" "CoercedClasses$Ex" "type" "LCoercedClasses$Type;") ∈ lw_all := lw_g (lw_at lw_m7 196 rfl) rfl
theorem q1879 : (Jvm.Cond.lays "CoercedClasses$Chain" "CoercedClasses$Ex" "cast" "LCoercedClasses$Type;") ∈ lw_all := lw_g (lw_at lw_m7 197 rfl) rfl
theorem q1880 : (Jvm.Cond.superclass "CoercedClasses$Chain" "CoercedClasses$Ex") ∈ lw_all := lw_g (lw_at lw_m7 198 rfl) rfl
theorem q4455 : (Jvm.Cond.castable "CoercedClasses$Chain" "CoercedClasses$Ex") ∈ lw_tbl := lw_at lw_m18 133 rfl
theorem q4499 : (Jvm.Cond.castable "CoercedClasses$Chain" "java/lang/Object") ∈ lw_tbl := lw_at lw_m18 177 rfl
theorem in_X32 : ∀ w ∈ wsX320, w ∈ lw_all := lw_in wsX320 [1877, 1878, 1879, 1871, 1873, 1875] (by decide +kernel) (by decide +kernel)
theorem q295 : (Jvm.Cond.initialized "CoercedClasses$Function") ∈ lw_all := lw_g (lw_at lw_m1 53 rfl) rfl
theorem q1151 : (Jvm.Cond.selects "CoercedClasses$Function" ({ cls := "java/lang/Object", name := "getClass", desc := "()Ljava/lang/Class;" } : Jvm.MethodName) ({ cls := "java/lang/Object", name := "getClass", desc := "()Ljava/lang/Class;" } : Jvm.MethodName)) ∈ lw_all := lw_g (lw_at lw_m4 189 rfl) rfl
theorem q1930 : (Jvm.Cond.instantiable "CoercedClasses$Function" (7 : Nat)) ∈ lw_all := lw_g (lw_at lw_m8 8 rfl) rfl
theorem q1932 : (Jvm.Cond.instanceMethod ({ cls := "CoercedClasses$Function", name := "<init>", desc := "(LCoercedClasses$Word;)V" } : Jvm.MethodName)) ∈ lw_all := lw_g (lw_at lw_m8 10 rfl) rfl
theorem q1933 : (Jvm.Cond.code ({ cls := "CoercedClasses$Function", name := "<init>", desc := "(LCoercedClasses$Word;)V" } : Jvm.MethodName) prog_15_method_1_code (2 : Nat) (Option.none : Option Jvm.ClassFile.FieldType)) ∈ lw_all := lw_g (lw_at lw_m8 11 rfl) rfl
theorem q1934 : (Jvm.Cond.methodLink "CoercedClasses$Function" (1 : Nat) ({ cls := "java/lang/Object", name := "<init>", desc := "()V" } : Jvm.MethodName)) ∈ lw_all := lw_g (lw_at lw_m8 12 rfl) rfl
theorem q1935 : (Jvm.Cond.classLink "CoercedClasses$Function" (7 : Nat) "CoercedClasses$Scope") ∈ lw_all := lw_g (lw_at lw_m8 13 rfl) rfl
theorem q1936 : (Jvm.Cond.methodLinkNest "CoercedClasses$Function" (9 : Nat) ({ cls := "CoercedClasses$Scope", name := "<init>", desc := "()V" } : Jvm.MethodName) "CoercedClasses") ∈ lw_tbl := lw_at lw_m8 14 rfl
theorem q1937 : (Jvm.Cond.fieldLink "CoercedClasses$Function" (16 : Nat) "CoercedClasses$Function" "name" "LCoercedClasses$Word;") ∈ lw_all := lw_g (lw_at lw_m8 15 rfl) rfl
theorem q1941 : (Jvm.Cond.fieldLink "CoercedClasses$Function" (10 : Nat) "CoercedClasses$Function" "scope" "LCoercedClasses$Scope;") ∈ lw_all := lw_g (lw_at lw_m8 19 rfl) rfl
theorem q1954 : (Jvm.Cond.laysFinal "CoercedClasses$Function" "CoercedClasses$Function" "name" "LCoercedClasses$Word;") ∈ lw_all := lw_g (lw_at lw_m8 32 rfl) rfl
theorem q1955 : (Jvm.Cond.soleField "CoercedClasses$Function" "name") ∈ lw_all := lw_g (lw_at lw_m8 33 rfl) rfl
theorem q1956 : (Jvm.Cond.lays "CoercedClasses$Function" "CoercedClasses$Function" "number" "I") ∈ lw_all := lw_g (lw_at lw_m8 34 rfl) rfl
theorem q1957 : (Jvm.Cond.soleField "CoercedClasses$Function" "number") ∈ lw_all := lw_g (lw_at lw_m8 35 rfl) rfl
theorem q1958 : (Jvm.Cond.lays "CoercedClasses$Function" "CoercedClasses$Function" "stands" "Z") ∈ lw_all := lw_g (lw_at lw_m8 36 rfl) rfl
theorem q1959 : (Jvm.Cond.soleField "CoercedClasses$Function" "stands") ∈ lw_all := lw_g (lw_at lw_m8 37 rfl) rfl
theorem q1960 : (Jvm.Cond.laysFinal "CoercedClasses$Function" "CoercedClasses$Function" "scope" "LCoercedClasses$Scope;") ∈ lw_all := lw_g (lw_at lw_m8 38 rfl) rfl
theorem q1961 : (Jvm.Cond.soleField "CoercedClasses$Function" "scope") ∈ lw_all := lw_g (lw_at lw_m8 39 rfl) rfl
theorem q1962 : (Jvm.Cond.lays "CoercedClasses$Function" "CoercedClasses$Function" "written" "LCoercedClasses$Written;") ∈ lw_all := lw_g (lw_at lw_m8 40 rfl) rfl
theorem q1963 : (Jvm.Cond.soleField "CoercedClasses$Function" "written") ∈ lw_all := lw_g (lw_at lw_m8 41 rfl) rfl
theorem q1964 : (Jvm.Cond.lays "CoercedClasses$Function" "CoercedClasses$Function" "type" "LCoercedClasses$Type;") ∈ lw_all := lw_g (lw_at lw_m8 42 rfl) rfl
theorem q1965 : (Jvm.Cond.soleField "CoercedClasses$Function" "type") ∈ lw_all := lw_g (lw_at lw_m8 43 rfl) rfl
theorem q1966 : (Jvm.Cond.lays "CoercedClasses$Function" "CoercedClasses$Function" "ex" "LCoercedClasses$Ex;") ∈ lw_all := lw_g (lw_at lw_m8 44 rfl) rfl
theorem q1967 : (Jvm.Cond.soleField "CoercedClasses$Function" "ex") ∈ lw_all := lw_g (lw_at lw_m8 45 rfl) rfl
theorem q1968 : (Jvm.Cond.superclass "CoercedClasses$Function" "java/lang/Object") ∈ lw_all := lw_g (lw_at lw_m8 46 rfl) rfl
theorem q4501 : (Jvm.Cond.castable "CoercedClasses$Function" "java/lang/Object") ∈ lw_tbl := lw_at lw_m18 179 rfl
theorem in_X33 : ∀ w ∈ wsX330, w ∈ lw_all := lw_in wsX330 [1954, 1956, 1958, 1960, 1962, 1964, 1966] (by decide +kernel) (by decide +kernel)
theorem q297 : (Jvm.Cond.initialized "CoercedClasses$Type") ∈ lw_all := lw_g (lw_at lw_m1 55 rfl) rfl
theorem q1175 : (Jvm.Cond.selects "CoercedClasses$Type" ({ cls := "java/lang/Object", name := "getClass", desc := "()Ljava/lang/Class;" } : Jvm.MethodName) ({ cls := "java/lang/Object", name := "getClass", desc := "()Ljava/lang/Class;" } : Jvm.MethodName)) ∈ lw_all := lw_g (lw_at lw_m4 213 rfl) rfl
theorem q2072 : (Jvm.Cond.instanceMethod ({ cls := "CoercedClasses$Type", name := "isAlike", desc := "(IILCoercedClasses$Word;LCoercedClasses$ClassDecl;LCoercedClasses$Type;LCoercedClasses$Type;)Z" } : Jvm.MethodName)) ∈ lw_all := lw_g (lw_at lw_m8 150 rfl) rfl
theorem q2073 : (Jvm.Cond.selects "CoercedClasses$Type" ({ cls := "CoercedClasses$Type", name := "isAlike", desc := "(IILCoercedClasses$Word;LCoercedClasses$ClassDecl;LCoercedClasses$Type;LCoercedClasses$Type;)Z" } : Jvm.MethodName) ({ cls := "CoercedClasses$Type", name := "isAlike", desc := "(IILCoercedClasses$Word;LCoercedClasses$ClassDecl;LCoercedClasses$Type;LCoercedClasses$Type;)Z" } : Jvm.MethodName)) ∈ lw_all := lw_g (lw_at lw_m8 151 rfl) rfl
theorem q2074 : (Jvm.Cond.code ({ cls := "CoercedClasses$Type", name := "isAlike", desc := "(IILCoercedClasses$Word;LCoercedClasses$ClassDecl;LCoercedClasses$Type;LCoercedClasses$Type;)Z" } : Jvm.MethodName) prog_39_method_2_code (7 : Nat) (Option.some Jvm.ClassFile.FieldType.boolean)) ∈ lw_all := lw_g (lw_at lw_m8 152 rfl) rfl
theorem q2075 : (Jvm.Cond.methodLink "CoercedClasses$Type" (33 : Nat) ({ cls := "CoercedClasses$Word", name := "is", desc := "(LCoercedClasses$Word;)Z" } : Jvm.MethodName)) ∈ lw_all := lw_g (lw_at lw_m8 153 rfl) rfl
theorem q2077 : (Jvm.Cond.instantiable "CoercedClasses$Type" (10 : Nat)) ∈ lw_all := lw_g (lw_at lw_m8 155 rfl) rfl
theorem q2079 : (Jvm.Cond.instanceMethod ({ cls := "CoercedClasses$Type", name := "<init>", desc := "()V" } : Jvm.MethodName)) ∈ lw_all := lw_g (lw_at lw_m8 157 rfl) rfl
theorem q2080 : (Jvm.Cond.code ({ cls := "CoercedClasses$Type", name := "<init>", desc := "()V" } : Jvm.MethodName) prog_39_method_1_code (1 : Nat) (Option.none : Option Jvm.ClassFile.FieldType)) ∈ lw_all := lw_g (lw_at lw_m8 158 rfl) rfl
theorem q2081 : (Jvm.Cond.methodLink "CoercedClasses$Type" (3 : Nat) ({ cls := "java/lang/Object", name := "<init>", desc := "()V" } : Jvm.MethodName)) ∈ lw_all := lw_g (lw_at lw_m8 159 rfl) rfl
theorem q2082 : (Jvm.Cond.fieldLink "CoercedClasses$Type" (9 : Nat) "CoercedClasses$Type" "kind" "I") ∈ lw_all := lw_g (lw_at lw_m8 160 rfl) rfl
theorem q2090 : (Jvm.Cond.fieldLink "CoercedClasses$Type" (15 : Nat) "CoercedClasses$Type" "con" "I") ∈ lw_all := lw_g (lw_at lw_m8 168 rfl) rfl
theorem q2100 : (Jvm.Cond.fieldLink "CoercedClasses$Type" (29 : Nat) "CoercedClasses$Type" "name" "LCoercedClasses$Word;") ∈ lw_all := lw_g (lw_at lw_m8 178 rfl) rfl
theorem q2105 : (Jvm.Cond.fieldLink "CoercedClasses$Type" (25 : Nat) "CoercedClasses$Type" "family" "LCoercedClasses$ClassDecl;") ∈ lw_all := lw_g (lw_at lw_m8 183 rfl) rfl
theorem q2110 : (Jvm.Cond.fieldLink "CoercedClasses$Type" (18 : Nat) "CoercedClasses$Type" "a" "LCoercedClasses$Type;") ∈ lw_all := lw_g (lw_at lw_m8 188 rfl) rfl
theorem q2118 : (Jvm.Cond.fieldLink "CoercedClasses$Type" (22 : Nat) "CoercedClasses$Type" "b" "LCoercedClasses$Type;") ∈ lw_all := lw_g (lw_at lw_m8 196 rfl) rfl
theorem q2130 : (Jvm.Cond.lays "CoercedClasses$Type" "CoercedClasses$Type" "kind" "I") ∈ lw_all := lw_g (lw_at lw_m8 208 rfl) rfl
theorem q2131 : (Jvm.Cond.soleField "CoercedClasses$Type" "kind") ∈ lw_all := lw_g (lw_at lw_m8 209 rfl) rfl
theorem q2132 : (Jvm.Cond.lays "CoercedClasses$Type" "CoercedClasses$Type" "con" "I") ∈ lw_all := lw_g (lw_at lw_m8 210 rfl) rfl
theorem q2133 : (Jvm.Cond.soleField "CoercedClasses$Type" "con") ∈ lw_all := lw_g (lw_at lw_m8 211 rfl) rfl
theorem q2134 : (Jvm.Cond.lays "CoercedClasses$Type" "CoercedClasses$Type" "size" "I") ∈ lw_all := lw_g (lw_at lw_m8 212 rfl) rfl
theorem q2135 : (Jvm.Cond.soleField "CoercedClasses$Type" "size") ∈ lw_all := lw_g (lw_at lw_m8 213 rfl) rfl
theorem q2136 : (Jvm.Cond.lays "CoercedClasses$Type" "CoercedClasses$Type" "mark" "I") ∈ lw_all := lw_g (lw_at lw_m8 214 rfl) rfl
theorem q2137 : (Jvm.Cond.soleField "CoercedClasses$Type" "mark") ∈ lw_all := lw_g (lw_at lw_m8 215 rfl) rfl
theorem q2138 : (Jvm.Cond.lays "CoercedClasses$Type" "CoercedClasses$Type" "name" "LCoercedClasses$Word;") ∈ lw_all := lw_g (lw_at lw_m8 216 rfl) rfl
theorem q2139 : (Jvm.Cond.soleField "CoercedClasses$Type" "name") ∈ lw_all := lw_g (lw_at lw_m8 217 rfl) rfl
theorem q2140 : (Jvm.Cond.lays "CoercedClasses$Type" "CoercedClasses$Type" "family" "LCoercedClasses$ClassDecl;") ∈ lw_all := lw_g (lw_at lw_m8 218 rfl) rfl
theorem q2141 : (Jvm.Cond.soleField "CoercedClasses$Type" "family") ∈ lw_all := lw_g (lw_at lw_m8 219 rfl) rfl
theorem q2142 : (Jvm.Cond.lays "CoercedClasses$Type" "CoercedClasses$Type" "a" "LCoercedClasses$Type;") ∈ lw_all := lw_g (lw_at lw_m8 220 rfl) rfl
theorem q2143 : (Jvm.Cond.soleField "CoercedClasses$Type" "a") ∈ lw_all := lw_g (lw_at lw_m8 221 rfl) rfl
theorem q2144 : (Jvm.Cond.lays "CoercedClasses$Type" "CoercedClasses$Type" "b" "LCoercedClasses$Type;") ∈ lw_all := lw_g (lw_at lw_m8 222 rfl) rfl
theorem q2145 : (Jvm.Cond.soleField "CoercedClasses$Type" "b") ∈ lw_all := lw_g (lw_at lw_m8 223 rfl) rfl
theorem q2146 : (Jvm.Cond.lays "CoercedClasses$Type" "CoercedClasses$Type" "hasFamily" "Z") ∈ lw_all := lw_g (lw_at lw_m8 224 rfl) rfl
theorem q2147 : (Jvm.Cond.soleField "CoercedClasses$Type" "hasFamily") ∈ lw_all := lw_g (lw_at lw_m8 225 rfl) rfl
theorem q2148 : (Jvm.Cond.lays "CoercedClasses$Type" "CoercedClasses$Type" "next" "LCoercedClasses$Type;") ∈ lw_all := lw_g (lw_at lw_m8 226 rfl) rfl
theorem q2149 : (Jvm.Cond.soleField "CoercedClasses$Type" "next") ∈ lw_all := lw_g (lw_at lw_m8 227 rfl) rfl
theorem q2150 : (Jvm.Cond.superclass "CoercedClasses$Type" "java/lang/Object") ∈ lw_all := lw_g (lw_at lw_m8 228 rfl) rfl
theorem q2360 : (Jvm.Cond.instanceMethod ({ cls := "CoercedClasses$Type", name := "part", desc := "(I)LCoercedClasses$Type;" } : Jvm.MethodName)) ∈ lw_all := lw_g (lw_at lw_m9 198 rfl) rfl
theorem q2361 : (Jvm.Cond.selects "CoercedClasses$Type" ({ cls := "CoercedClasses$Type", name := "part", desc := "(I)LCoercedClasses$Type;" } : Jvm.MethodName) ({ cls := "CoercedClasses$Type", name := "part", desc := "(I)LCoercedClasses$Type;" } : Jvm.MethodName)) ∈ lw_all := lw_g (lw_at lw_m9 199 rfl) rfl
theorem q2362 : (Jvm.Cond.code ({ cls := "CoercedClasses$Type", name := "part", desc := "(I)LCoercedClasses$Type;" } : Jvm.MethodName) prog_39_method_4_code (2 : Nat) (Option.some (Jvm.ClassFile.FieldType.object "CoercedClasses$Type"))) ∈ lw_all := lw_g (lw_at lw_m9 200 rfl) rfl
theorem q2453 : (Jvm.Cond.instanceMethod ({ cls := "CoercedClasses$Type", name := "many", desc := "()I" } : Jvm.MethodName)) ∈ lw_all := lw_g (lw_at lw_m10 51 rfl) rfl
theorem q2454 : (Jvm.Cond.selects "CoercedClasses$Type" ({ cls := "CoercedClasses$Type", name := "many", desc := "()I" } : Jvm.MethodName) ({ cls := "CoercedClasses$Type", name := "many", desc := "()I" } : Jvm.MethodName)) ∈ lw_all := lw_g (lw_at lw_m10 52 rfl) rfl
theorem q2455 : (Jvm.Cond.code ({ cls := "CoercedClasses$Type", name := "many", desc := "()I" } : Jvm.MethodName) prog_39_method_3_code (1 : Nat) (Option.some Jvm.ClassFile.FieldType.int)) ∈ lw_all := lw_g (lw_at lw_m10 53 rfl) rfl
theorem q2456 : (Jvm.Cond.methodLinkNest "CoercedClasses$Type" (39 : Nat) ({ cls := "CoercedClasses", name := "partsOf", desc := "(I)I" } : Jvm.MethodName) "CoercedClasses") ∈ lw_tbl := lw_at lw_m10 54 rfl
theorem q4463 : (Jvm.Cond.castable "CoercedClasses$Type" "java/lang/Object") ∈ lw_tbl := lw_at lw_m18 141 rfl
theorem in_X34 : ∀ w ∈ wsX340, w ∈ lw_all := lw_in wsX340 [2130, 2132, 2134, 2136, 2138, 2140, 2142, 2144, 2146, 2148] (by decide +kernel) (by decide +kernel)
theorem q298 : (Jvm.Cond.initialized "CoercedClasses$Resolver") ∈ lw_all := lw_g (lw_at lw_m1 56 rfl) rfl
theorem q450 : (Jvm.Cond.fieldLinkNest "CoercedClasses$Resolver" (28 : Nat) "CoercedClasses$Scope" "names" "Ljava/util/ArrayList;" "CoercedClasses") ∈ lw_tbl := lw_at lw_m1 208 rfl
theorem q1083 : (Jvm.Cond.fieldLinkNest "CoercedClasses$Resolver" (155 : Nat) "CoercedClasses$Word" "place" "I" "CoercedClasses") ∈ lw_tbl := lw_at lw_m4 121 rfl
theorem q1168 : (Jvm.Cond.selects "CoercedClasses$Resolver" ({ cls := "java/lang/Object", name := "getClass", desc := "()Ljava/lang/Class;" } : Jvm.MethodName) ({ cls := "java/lang/Object", name := "getClass", desc := "()Ljava/lang/Class;" } : Jvm.MethodName)) ∈ lw_all := lw_g (lw_at lw_m4 206 rfl) rfl
theorem q1492 : (Jvm.Cond.fieldLinkNest "CoercedClasses$Resolver" (59 : Nat) "CoercedClasses$Lambda" "word" "LCoercedClasses$Word;" "CoercedClasses") ∈ lw_tbl := lw_at lw_m6 50 rfl
theorem q1495 : (Jvm.Cond.fieldLinkNest "CoercedClasses$Resolver" (47 : Nat) "CoercedClasses$Lambda" "written" "LCoercedClasses$Written;" "CoercedClasses") ∈ lw_tbl := lw_at lw_m6 53 rfl
theorem q1497 : (Jvm.Cond.fieldLinkNest "CoercedClasses$Resolver" (55 : Nat) "CoercedClasses$Lambda" "of" "LCoercedClasses$Type;" "CoercedClasses") ∈ lw_tbl := lw_at lw_m6 55 rfl
theorem q1501 : (Jvm.Cond.fieldLinkNest "CoercedClasses$Resolver" (63 : Nat) "CoercedClasses$Lambda" "body" "LCoercedClasses$Ex;" "CoercedClasses") ∈ lw_tbl := lw_at lw_m6 59 rfl
theorem q1548 : (Jvm.Cond.fieldLinkNest "CoercedClasses$Resolver" (82 : Nat) "CoercedClasses$Let" "word" "LCoercedClasses$Word;" "CoercedClasses") ∈ lw_tbl := lw_at lw_m6 106 rfl
theorem q1551 : (Jvm.Cond.fieldLinkNest "CoercedClasses$Resolver" (73 : Nat) "CoercedClasses$Let" "written" "LCoercedClasses$Written;" "CoercedClasses") ∈ lw_tbl := lw_at lw_m6 109 rfl
theorem q1553 : (Jvm.Cond.fieldLinkNest "CoercedClasses$Resolver" (74 : Nat) "CoercedClasses$Let" "of" "LCoercedClasses$Type;" "CoercedClasses") ∈ lw_tbl := lw_at lw_m6 111 rfl
theorem q1557 : (Jvm.Cond.fieldLinkNest "CoercedClasses$Resolver" (75 : Nat) "CoercedClasses$Let" "first" "LCoercedClasses$Ex;" "CoercedClasses") ∈ lw_tbl := lw_at lw_m6 115 rfl
theorem q1563 : (Jvm.Cond.fieldLinkNest "CoercedClasses$Resolver" (83 : Nat) "CoercedClasses$Let" "body" "LCoercedClasses$Ex;" "CoercedClasses") ∈ lw_tbl := lw_at lw_m6 121 rfl
theorem q1598 : (Jvm.Cond.fieldLinkNest "CoercedClasses$Resolver" (86 : Nat) "CoercedClasses$If" "a" "LCoercedClasses$Ex;" "CoercedClasses") ∈ lw_tbl := lw_at lw_m6 156 rfl
theorem q1604 : (Jvm.Cond.fieldLinkNest "CoercedClasses$Resolver" (89 : Nat) "CoercedClasses$If" "b" "LCoercedClasses$Ex;" "CoercedClasses") ∈ lw_tbl := lw_at lw_m6 162 rfl
theorem q1610 : (Jvm.Cond.fieldLinkNest "CoercedClasses$Resolver" (92 : Nat) "CoercedClasses$If" "c" "LCoercedClasses$Ex;" "CoercedClasses") ∈ lw_tbl := lw_at lw_m6 168 rfl
theorem q1637 : (Jvm.Cond.fieldLinkNest "CoercedClasses$Resolver" (137 : Nat) "CoercedClasses$Case" "subject" "LCoercedClasses$Ex;" "CoercedClasses") ∈ lw_tbl := lw_at lw_m6 195 rfl
theorem q1643 : (Jvm.Cond.fieldLinkNest "CoercedClasses$Resolver" (140 : Nat) "CoercedClasses$Case" "nil" "LCoercedClasses$Ex;" "CoercedClasses") ∈ lw_tbl := lw_at lw_m6 201 rfl
theorem q1649 : (Jvm.Cond.fieldLinkNest "CoercedClasses$Resolver" (163 : Nat) "CoercedClasses$Case" "cons" "LCoercedClasses$Ex;" "CoercedClasses") ∈ lw_tbl := lw_at lw_m6 207 rfl
theorem q1655 : (Jvm.Cond.fieldLinkNest "CoercedClasses$Resolver" (143 : Nat) "CoercedClasses$Case" "x" "LCoercedClasses$Word;" "CoercedClasses") ∈ lw_tbl := lw_at lw_m6 213 rfl
theorem q1658 : (Jvm.Cond.fieldLinkNest "CoercedClasses$Resolver" (146 : Nat) "CoercedClasses$Case" "xs" "LCoercedClasses$Word;" "CoercedClasses") ∈ lw_tbl := lw_at lw_m6 216 rfl
theorem q1703 : (Jvm.Cond.fieldLinkNest "CoercedClasses$Resolver" (182 : Nat) "CoercedClasses$Name" "word" "LCoercedClasses$Word;" "CoercedClasses") ∈ lw_tbl := lw_at lw_m7 21 rfl
theorem q1707 : (Jvm.Cond.fieldLinkNest "CoercedClasses$Resolver" (166 : Nat) "CoercedClasses$Name" "ats" "Ljava/util/ArrayList;" "CoercedClasses") ∈ lw_tbl := lw_at lw_m7 25 rfl
theorem q1709 : (Jvm.Cond.fieldLinkNest "CoercedClasses$Resolver" (174 : Nat) "CoercedClasses$Name" "types" "Ljava/util/ArrayList;" "CoercedClasses") ∈ lw_tbl := lw_at lw_m7 27 rfl
theorem q1714 : (Jvm.Cond.fieldLinkNest "CoercedClasses$Resolver" (179 : Nat) "CoercedClasses$Name" "up" "I" "CoercedClasses") ∈ lw_tbl := lw_at lw_m7 32 rfl
theorem q1718 : (Jvm.Cond.fieldLinkNest "CoercedClasses$Resolver" (196 : Nat) "CoercedClasses$Name" "function" "LCoercedClasses$Function;" "CoercedClasses") ∈ lw_tbl := lw_at lw_m7 36 rfl
theorem q1722 : (Jvm.Cond.fieldLinkNest "CoercedClasses$Resolver" (204 : Nat) "CoercedClasses$Name" "method" "LCoercedClasses$Method;" "CoercedClasses") ∈ lw_tbl := lw_at lw_m7 40 rfl
theorem q1727 : (Jvm.Cond.fieldLinkNest "CoercedClasses$Resolver" (189 : Nat) "CoercedClasses$Name" "built" "I" "CoercedClasses") ∈ lw_tbl := lw_at lw_m7 45 rfl
theorem q1783 : (Jvm.Cond.fieldLinkNest "CoercedClasses$Resolver" (103 : Nat) "CoercedClasses$Use" "head" "LCoercedClasses$Ex;" "CoercedClasses") ∈ lw_tbl := lw_at lw_m7 101 rfl
theorem q1790 : (Jvm.Cond.fieldLinkNest "CoercedClasses$Resolver" (106 : Nat) "CoercedClasses$Use" "items" "Ljava/util/ArrayList;" "CoercedClasses") ∈ lw_tbl := lw_at lw_m7 108 rfl
theorem q1818 : (Jvm.Cond.fieldLinkNest "CoercedClasses$Resolver" (119 : Nat) "CoercedClasses$Item" "ex" "LCoercedClasses$Ex;" "CoercedClasses") ∈ lw_tbl := lw_at lw_m7 136 rfl
theorem q1824 : (Jvm.Cond.fieldLinkNest "CoercedClasses$Resolver" (121 : Nat) "CoercedClasses$Item" "written" "LCoercedClasses$Written;" "CoercedClasses") ∈ lw_tbl := lw_at lw_m7 142 rfl
theorem q1852 : (Jvm.Cond.fieldLinkNest "CoercedClasses$Resolver" (124 : Nat) "CoercedClasses$Chain" "first" "LCoercedClasses$Ex;" "CoercedClasses") ∈ lw_tbl := lw_at lw_m7 170 rfl
theorem q1859 : (Jvm.Cond.fieldLinkNest "CoercedClasses$Resolver" (125 : Nat) "CoercedClasses$Chain" "others" "Ljava/util/ArrayList;" "CoercedClasses") ∈ lw_tbl := lw_at lw_m7 177 rfl
theorem q2192 : (Jvm.Cond.instantiable "CoercedClasses$Resolver" (4 : Nat)) ∈ lw_all := lw_g (lw_at lw_m9 30 rfl) rfl
theorem q2194 : (Jvm.Cond.instanceMethod ({ cls := "CoercedClasses$Resolver", name := "<init>", desc := "(LCoercedClasses$Program;LCoercedClasses$Scope;LCoercedClasses$Table;)V" } : Jvm.MethodName)) ∈ lw_all := lw_g (lw_at lw_m9 32 rfl) rfl
theorem q2195 : (Jvm.Cond.code ({ cls := "CoercedClasses$Resolver", name := "<init>", desc := "(LCoercedClasses$Program;LCoercedClasses$Scope;LCoercedClasses$Table;)V" } : Jvm.MethodName) prog_32_method_1_code (4 : Nat) (Option.none : Option Jvm.ClassFile.FieldType)) ∈ lw_all := lw_g (lw_at lw_m9 33 rfl) rfl
theorem q2196 : (Jvm.Cond.methodLink "CoercedClasses$Resolver" (1 : Nat) ({ cls := "java/lang/Object", name := "<init>", desc := "()V" } : Jvm.MethodName)) ∈ lw_all := lw_g (lw_at lw_m9 34 rfl) rfl
theorem q2197 : (Jvm.Cond.classLink "CoercedClasses$Resolver" (7 : Nat) "java/util/ArrayList") ∈ lw_all := lw_g (lw_at lw_m9 35 rfl) rfl
theorem q2198 : (Jvm.Cond.methodLink "CoercedClasses$Resolver" (9 : Nat) ({ cls := "java/util/ArrayList", name := "<init>", desc := "()V" } : Jvm.MethodName)) ∈ lw_all := lw_g (lw_at lw_m9 36 rfl) rfl
theorem q2199 : (Jvm.Cond.fieldLink "CoercedClasses$Resolver" (16 : Nat) "CoercedClasses$Resolver" "program" "LCoercedClasses$Program;") ∈ lw_all := lw_g (lw_at lw_m9 37 rfl) rfl
theorem q2200 : (Jvm.Cond.fieldLink "CoercedClasses$Resolver" (20 : Nat) "CoercedClasses$Resolver" "scope" "LCoercedClasses$Scope;") ∈ lw_all := lw_g (lw_at lw_m9 38 rfl) rfl
theorem q2201 : (Jvm.Cond.fieldLink "CoercedClasses$Resolver" (24 : Nat) "CoercedClasses$Resolver" "table" "LCoercedClasses$Table;") ∈ lw_all := lw_g (lw_at lw_m9 39 rfl) rfl
theorem q2202 : (Jvm.Cond.fieldLink "CoercedClasses$Resolver" (10 : Nat) "CoercedClasses$Resolver" "bound" "Ljava/util/ArrayList;") ∈ lw_all := lw_g (lw_at lw_m9 40 rfl) rfl
theorem q2203 : (Jvm.Cond.laysFinal "CoercedClasses$Resolver" "CoercedClasses$Resolver" "program" "LCoercedClasses$Program;") ∈ lw_all := lw_g (lw_at lw_m9 41 rfl) rfl
theorem q2204 : (Jvm.Cond.soleField "CoercedClasses$Resolver" "program") ∈ lw_all := lw_g (lw_at lw_m9 42 rfl) rfl
theorem q2205 : (Jvm.Cond.laysFinal "CoercedClasses$Resolver" "CoercedClasses$Resolver" "scope" "LCoercedClasses$Scope;") ∈ lw_all := lw_g (lw_at lw_m9 43 rfl) rfl
theorem q2206 : (Jvm.Cond.soleField "CoercedClasses$Resolver" "scope") ∈ lw_all := lw_g (lw_at lw_m9 44 rfl) rfl
theorem q2207 : (Jvm.Cond.laysFinal "CoercedClasses$Resolver" "CoercedClasses$Resolver" "table" "LCoercedClasses$Table;") ∈ lw_all := lw_g (lw_at lw_m9 45 rfl) rfl
theorem q2208 : (Jvm.Cond.soleField "CoercedClasses$Resolver" "table") ∈ lw_all := lw_g (lw_at lw_m9 46 rfl) rfl
theorem q2209 : (Jvm.Cond.laysFinal "CoercedClasses$Resolver" "CoercedClasses$Resolver" "bound" "Ljava/util/ArrayList;") ∈ lw_all := lw_g (lw_at lw_m9 47 rfl) rfl
theorem q2210 : (Jvm.Cond.soleField "CoercedClasses$Resolver" "bound") ∈ lw_all := lw_g (lw_at lw_m9 48 rfl) rfl
theorem q2211 : (Jvm.Cond.superclass "CoercedClasses$Resolver" "java/lang/Object") ∈ lw_all := lw_g (lw_at lw_m9 49 rfl) rfl
theorem q2213 : (Jvm.Cond.instanceMethod ({ cls := "CoercedClasses$Resolver", name := "ex", desc := "(LCoercedClasses$Ex;)V" } : Jvm.MethodName)) ∈ lw_all := lw_g (lw_at lw_m9 51 rfl) rfl
theorem q2214 : (Jvm.Cond.selects "CoercedClasses$Resolver" ({ cls := "CoercedClasses$Resolver", name := "ex", desc := "(LCoercedClasses$Ex;)V" } : Jvm.MethodName) ({ cls := "CoercedClasses$Resolver", name := "ex", desc := "(LCoercedClasses$Ex;)V" } : Jvm.MethodName)) ∈ lw_all := lw_g (lw_at lw_m9 52 rfl) rfl
theorem q2215 : (Jvm.Cond.code ({ cls := "CoercedClasses$Resolver", name := "ex", desc := "(LCoercedClasses$Ex;)V" } : Jvm.MethodName) prog_32_method_3_code (11 : Nat) (Option.none : Option Jvm.ClassFile.FieldType)) ∈ lw_all := lw_g (lw_at lw_m9 53 rfl) rfl
theorem q2216 : (Jvm.Cond.classLink "CoercedClasses$Resolver" (39 : Nat) "CoercedClasses$Name") ∈ lw_all := lw_g (lw_at lw_m9 54 rfl) rfl
theorem q2217 : (Jvm.Cond.methodLink "CoercedClasses$Resolver" (41 : Nat) ({ cls := "CoercedClasses$Resolver", name := "name", desc := "(LCoercedClasses$Name;)V" } : Jvm.MethodName)) ∈ lw_all := lw_g (lw_at lw_m9 55 rfl) rfl
theorem q2218 : (Jvm.Cond.privateMethod ({ cls := "CoercedClasses$Resolver", name := "name", desc := "(LCoercedClasses$Name;)V" } : Jvm.MethodName)) ∈ lw_tbl := lw_at lw_m9 56 rfl
theorem q2219 : (Jvm.Cond.instanceMethod ({ cls := "CoercedClasses$Resolver", name := "name", desc := "(LCoercedClasses$Name;)V" } : Jvm.MethodName)) ∈ lw_all := lw_g (lw_at lw_m9 57 rfl) rfl
theorem q2220 : (Jvm.Cond.code ({ cls := "CoercedClasses$Resolver", name := "name", desc := "(LCoercedClasses$Name;)V" } : Jvm.MethodName) prog_32_method_6_code (3 : Nat) (Option.none : Option Jvm.ClassFile.FieldType)) ∈ lw_all := lw_g (lw_at lw_m9 58 rfl) rfl
theorem q2221 : (Jvm.Cond.methodLink "CoercedClasses$Resolver" (169 : Nat) ({ cls := "CoercedClasses$Name", name := "many", desc := "()I" } : Jvm.MethodName)) ∈ lw_all := lw_g (lw_at lw_m9 59 rfl) rfl
theorem q2226 : (Jvm.Cond.methodLink "CoercedClasses$Resolver" (172 : Nat) ({ cls := "java/util/ArrayList", name := "<init>", desc := "(I)V" } : Jvm.MethodName)) ∈ lw_all := lw_g (lw_at lw_m9 64 rfl) rfl
theorem q2227 : (Jvm.Cond.methodLink "CoercedClasses$Resolver" (113 : Nat) ({ cls := "java/util/ArrayList", name := "get", desc := "(I)Ljava/lang/Object;" } : Jvm.MethodName)) ∈ lw_all := lw_g (lw_at lw_m9 65 rfl) rfl
theorem q2228 : (Jvm.Cond.classLink "CoercedClasses$Resolver" (177 : Nat) "CoercedClasses$Written") ∈ lw_all := lw_g (lw_at lw_m9 66 rfl) rfl
theorem q2229 : (Jvm.Cond.methodLink "CoercedClasses$Resolver" (51 : Nat) ({ cls := "CoercedClasses$Resolver", name := "type", desc := "(LCoercedClasses$Written;)LCoercedClasses$Type;" } : Jvm.MethodName)) ∈ lw_all := lw_g (lw_at lw_m9 67 rfl) rfl
theorem q2230 : (Jvm.Cond.privateMethod ({ cls := "CoercedClasses$Resolver", name := "type", desc := "(LCoercedClasses$Written;)LCoercedClasses$Type;" } : Jvm.MethodName)) ∈ lw_tbl := lw_at lw_m9 68 rfl
theorem q2231 : (Jvm.Cond.instanceMethod ({ cls := "CoercedClasses$Resolver", name := "type", desc := "(LCoercedClasses$Written;)LCoercedClasses$Type;" } : Jvm.MethodName)) ∈ lw_all := lw_g (lw_at lw_m9 69 rfl) rfl
theorem q2232 : (Jvm.Cond.code ({ cls := "CoercedClasses$Resolver", name := "type", desc := "(LCoercedClasses$Written;)LCoercedClasses$Type;" } : Jvm.MethodName) prog_32_method_2_code (2 : Nat) (Option.some (Jvm.ClassFile.FieldType.object "CoercedClasses$Type"))) ∈ lw_all := lw_g (lw_at lw_m9 70 rfl) rfl
theorem q2233 : (Jvm.Cond.methodLink "CoercedClasses$Resolver" (33 : Nat) ({ cls := "CoercedClasses$Program", name := "typeOf", desc := "(LCoercedClasses$Written;Ljava/util/ArrayList;LCoercedClasses$Table;)LCoercedClasses$Type;" } : Jvm.MethodName)) ∈ lw_all := lw_g (lw_at lw_m9 71 rfl) rfl
theorem q2234 : (Jvm.Cond.methodLink "CoercedClasses$Resolver" (130 : Nat) ({ cls := "java/util/ArrayList", name := "add", desc := "(Ljava/lang/Object;)Z" } : Jvm.MethodName)) ∈ lw_all := lw_g (lw_at lw_m9 72 rfl) rfl
theorem q2235 : (Jvm.Cond.methodLink "CoercedClasses$Resolver" (109 : Nat) ({ cls := "java/util/ArrayList", name := "size", desc := "()I" } : Jvm.MethodName)) ∈ lw_all := lw_g (lw_at lw_m9 73 rfl) rfl
theorem q2236 : (Jvm.Cond.classLink "CoercedClasses$Resolver" (150 : Nat) "CoercedClasses$Word") ∈ lw_all := lw_g (lw_at lw_m9 74 rfl) rfl
theorem q2237 : (Jvm.Cond.methodLink "CoercedClasses$Resolver" (149 : Nat) ({ cls := "CoercedClasses$Word", name := "is", desc := "(LCoercedClasses$Word;)Z" } : Jvm.MethodName)) ∈ lw_all := lw_g (lw_at lw_m9 75 rfl) rfl
theorem q2238 : (Jvm.Cond.methodLinkNest "CoercedClasses$Resolver" (183 : Nat) ({ cls := "CoercedClasses", name := "builtOf", desc := "(LCoercedClasses$Word;)I" } : Jvm.MethodName) "CoercedClasses") ∈ lw_tbl := lw_at lw_m9 76 rfl
theorem q2239 : (Jvm.Cond.methodLink "CoercedClasses$Resolver" (192 : Nat) ({ cls := "CoercedClasses$Program", name := "functionOf", desc := "(LCoercedClasses$Word;)LCoercedClasses$Function;" } : Jvm.MethodName)) ∈ lw_all := lw_g (lw_at lw_m9 77 rfl) rfl
theorem q2243 : (Jvm.Cond.methodLink "CoercedClasses$Resolver" (200 : Nat) ({ cls := "CoercedClasses$Program", name := "methodOf", desc := "(LCoercedClasses$Word;)LCoercedClasses$Method;" } : Jvm.MethodName)) ∈ lw_all := lw_g (lw_at lw_m9 81 rfl) rfl
theorem q2247 : (Jvm.Cond.methodLink "CoercedClasses$Resolver" (159 : Nat) ({ cls := "CoercedClasses$Program", name := "rule", desc := "(I)V" } : Jvm.MethodName)) ∈ lw_all := lw_g (lw_at lw_m9 85 rfl) rfl
theorem q2248 : (Jvm.Cond.classLink "CoercedClasses$Resolver" (45 : Nat) "CoercedClasses$Lambda") ∈ lw_all := lw_g (lw_at lw_m9 86 rfl) rfl
theorem q2249 : (Jvm.Cond.methodLink "CoercedClasses$Resolver" (67 : Nat) ({ cls := "CoercedClasses$Resolver", name := "inside", desc := "(LCoercedClasses$Word;LCoercedClasses$Ex;)V" } : Jvm.MethodName)) ∈ lw_all := lw_g (lw_at lw_m9 87 rfl) rfl
theorem q2250 : (Jvm.Cond.privateMethod ({ cls := "CoercedClasses$Resolver", name := "inside", desc := "(LCoercedClasses$Word;LCoercedClasses$Ex;)V" } : Jvm.MethodName)) ∈ lw_tbl := lw_at lw_m9 88 rfl
theorem q2251 : (Jvm.Cond.instanceMethod ({ cls := "CoercedClasses$Resolver", name := "inside", desc := "(LCoercedClasses$Word;LCoercedClasses$Ex;)V" } : Jvm.MethodName)) ∈ lw_all := lw_g (lw_at lw_m9 89 rfl) rfl
theorem q2252 : (Jvm.Cond.code ({ cls := "CoercedClasses$Resolver", name := "inside", desc := "(LCoercedClasses$Word;LCoercedClasses$Ex;)V" } : Jvm.MethodName) prog_32_method_4_code (3 : Nat) (Option.none : Option Jvm.ClassFile.FieldType)) ∈ lw_all := lw_g (lw_at lw_m9 90 rfl) rfl
theorem q2253 : (Jvm.Cond.methodLink "CoercedClasses$Resolver" (78 : Nat) ({ cls := "CoercedClasses$Resolver", name := "ex", desc := "(LCoercedClasses$Ex;)V" } : Jvm.MethodName)) ∈ lw_all := lw_g (lw_at lw_m9 91 rfl) rfl
theorem q2254 : (Jvm.Cond.methodLink "CoercedClasses$Resolver" (134 : Nat) ({ cls := "java/util/ArrayList", name := "remove", desc := "(I)Ljava/lang/Object;" } : Jvm.MethodName)) ∈ lw_all := lw_g (lw_at lw_m9 92 rfl) rfl
theorem q2263 : (Jvm.Cond.classLink "CoercedClasses$Resolver" (71 : Nat) "CoercedClasses$Let") ∈ lw_all := lw_g (lw_at lw_m9 101 rfl) rfl
theorem q2264 : (Jvm.Cond.classLink "CoercedClasses$Resolver" (84 : Nat) "CoercedClasses$If") ∈ lw_all := lw_g (lw_at lw_m9 102 rfl) rfl
theorem q2265 : (Jvm.Cond.classLink "CoercedClasses$Resolver" (95 : Nat) "CoercedClasses$Case") ∈ lw_all := lw_g (lw_at lw_m9 103 rfl) rfl
theorem q2266 : (Jvm.Cond.methodLink "CoercedClasses$Resolver" (97 : Nat) ({ cls := "CoercedClasses$Resolver", name := "cases", desc := "(LCoercedClasses$Case;)V" } : Jvm.MethodName)) ∈ lw_all := lw_g (lw_at lw_m9 104 rfl) rfl
theorem q2267 : (Jvm.Cond.privateMethod ({ cls := "CoercedClasses$Resolver", name := "cases", desc := "(LCoercedClasses$Case;)V" } : Jvm.MethodName)) ∈ lw_tbl := lw_at lw_m9 105 rfl
theorem q2268 : (Jvm.Cond.instanceMethod ({ cls := "CoercedClasses$Resolver", name := "cases", desc := "(LCoercedClasses$Case;)V" } : Jvm.MethodName)) ∈ lw_all := lw_g (lw_at lw_m9 106 rfl) rfl
theorem q2269 : (Jvm.Cond.code ({ cls := "CoercedClasses$Resolver", name := "cases", desc := "(LCoercedClasses$Case;)V" } : Jvm.MethodName) prog_32_method_5_code (2 : Nat) (Option.none : Option Jvm.ClassFile.FieldType)) ∈ lw_all := lw_g (lw_at lw_m9 107 rfl) rfl
theorem q2270 : (Jvm.Cond.classLink "CoercedClasses$Resolver" (101 : Nat) "CoercedClasses$Use") ∈ lw_all := lw_g (lw_at lw_m9 108 rfl) rfl
theorem q2271 : (Jvm.Cond.classLink "CoercedClasses$Resolver" (117 : Nat) "CoercedClasses$Item") ∈ lw_all := lw_g (lw_at lw_m9 109 rfl) rfl
theorem q2272 : (Jvm.Cond.classLink "CoercedClasses$Resolver" (122 : Nat) "CoercedClasses$Chain") ∈ lw_all := lw_g (lw_at lw_m9 110 rfl) rfl
theorem q2273 : (Jvm.Cond.classLink "CoercedClasses$Resolver" (128 : Nat) "CoercedClasses$Ex") ∈ lw_all := lw_g (lw_at lw_m9 111 rfl) rfl
theorem q4502 : (Jvm.Cond.castable "CoercedClasses$Resolver" "java/lang/Object") ∈ lw_tbl := lw_at lw_m18 180 rfl
theorem in_X35 : ∀ w ∈ wsX350, w ∈ lw_all := lw_in wsX350 [2203, 2205, 2207, 2209] (by decide +kernel) (by decide +kernel)
theorem q299 : (Jvm.Cond.initialized "CoercedClasses$Dictionary") ∈ lw_all := lw_g (lw_at lw_m1 57 rfl) rfl
theorem q1145 : (Jvm.Cond.selects "CoercedClasses$Dictionary" ({ cls := "java/lang/Object", name := "getClass", desc := "()Ljava/lang/Class;" } : Jvm.MethodName) ({ cls := "java/lang/Object", name := "getClass", desc := "()Ljava/lang/Class;" } : Jvm.MethodName)) ∈ lw_all := lw_g (lw_at lw_m4 183 rfl) rfl
theorem q2376 : (Jvm.Cond.instantiable "CoercedClasses$Dictionary" (8 : Nat)) ∈ lw_all := lw_g (lw_at lw_m9 214 rfl) rfl
theorem q2378 : (Jvm.Cond.instanceMethod ({ cls := "CoercedClasses$Dictionary", name := "<init>", desc := "(LCoercedClasses$ClassDecl;)V" } : Jvm.MethodName)) ∈ lw_all := lw_g (lw_at lw_m9 216 rfl) rfl
theorem q2379 : (Jvm.Cond.code ({ cls := "CoercedClasses$Dictionary", name := "<init>", desc := "(LCoercedClasses$ClassDecl;)V" } : Jvm.MethodName) prog_8_method_1_code (2 : Nat) (Option.none : Option Jvm.ClassFile.FieldType)) ∈ lw_all := lw_g (lw_at lw_m9 217 rfl) rfl
theorem q2380 : (Jvm.Cond.methodLink "CoercedClasses$Dictionary" (3 : Nat) ({ cls := "java/lang/Object", name := "<init>", desc := "()V" } : Jvm.MethodName)) ∈ lw_all := lw_g (lw_at lw_m9 218 rfl) rfl
theorem q2381 : (Jvm.Cond.fieldLink "CoercedClasses$Dictionary" (15 : Nat) "CoercedClasses$Dictionary" "of" "LCoercedClasses$ClassDecl;") ∈ lw_all := lw_g (lw_at lw_m9 219 rfl) rfl
theorem q2386 : (Jvm.Cond.fieldLink "CoercedClasses$Dictionary" (9 : Nat) "CoercedClasses$Dictionary" "given" "I") ∈ lw_all := lw_g (lw_at lw_m9 224 rfl) rfl
theorem q2391 : (Jvm.Cond.fieldLink "CoercedClasses$Dictionary" (19 : Nat) "CoercedClasses$Dictionary" "inner" "LCoercedClasses$Dictionary;") ∈ lw_all := lw_g (lw_at lw_m9 229 rfl) rfl
theorem q2396 : (Jvm.Cond.fieldLink "CoercedClasses$Dictionary" (23 : Nat) "CoercedClasses$Dictionary" "instance" "LCoercedClasses$Instance;") ∈ lw_all := lw_g (lw_at lw_m9 234 rfl) rfl
theorem q2401 : (Jvm.Cond.fieldLink "CoercedClasses$Dictionary" (34 : Nat) "CoercedClasses$Dictionary" "types" "Ljava/util/ArrayList;") ∈ lw_all := lw_g (lw_at lw_m9 239 rfl) rfl
theorem q2405 : (Jvm.Cond.fieldLink "CoercedClasses$Dictionary" (43 : Nat) "CoercedClasses$Dictionary" "conditions" "Ljava/util/ArrayList;") ∈ lw_all := lw_g (lw_at lw_m10 3 rfl) rfl
theorem q2410 : (Jvm.Cond.fieldLink "CoercedClasses$Dictionary" (27 : Nat) "CoercedClasses$Dictionary" "from" "LCoercedClasses$Type;") ∈ lw_all := lw_g (lw_at lw_m10 8 rfl) rfl
theorem q2414 : (Jvm.Cond.fieldLink "CoercedClasses$Dictionary" (31 : Nat) "CoercedClasses$Dictionary" "to" "LCoercedClasses$Type;") ∈ lw_all := lw_g (lw_at lw_m10 12 rfl) rfl
theorem q2418 : (Jvm.Cond.lays "CoercedClasses$Dictionary" "CoercedClasses$Dictionary" "of" "LCoercedClasses$ClassDecl;") ∈ lw_all := lw_g (lw_at lw_m10 16 rfl) rfl
theorem q2419 : (Jvm.Cond.soleField "CoercedClasses$Dictionary" "of") ∈ lw_all := lw_g (lw_at lw_m10 17 rfl) rfl
theorem q2420 : (Jvm.Cond.lays "CoercedClasses$Dictionary" "CoercedClasses$Dictionary" "given" "I") ∈ lw_all := lw_g (lw_at lw_m10 18 rfl) rfl
theorem q2421 : (Jvm.Cond.soleField "CoercedClasses$Dictionary" "given") ∈ lw_all := lw_g (lw_at lw_m10 19 rfl) rfl
theorem q2422 : (Jvm.Cond.lays "CoercedClasses$Dictionary" "CoercedClasses$Dictionary" "inner" "LCoercedClasses$Dictionary;") ∈ lw_all := lw_g (lw_at lw_m10 20 rfl) rfl
theorem q2423 : (Jvm.Cond.soleField "CoercedClasses$Dictionary" "inner") ∈ lw_all := lw_g (lw_at lw_m10 21 rfl) rfl
theorem q2424 : (Jvm.Cond.lays "CoercedClasses$Dictionary" "CoercedClasses$Dictionary" "instance" "LCoercedClasses$Instance;") ∈ lw_all := lw_g (lw_at lw_m10 22 rfl) rfl
theorem q2425 : (Jvm.Cond.soleField "CoercedClasses$Dictionary" "instance") ∈ lw_all := lw_g (lw_at lw_m10 23 rfl) rfl
theorem q2426 : (Jvm.Cond.lays "CoercedClasses$Dictionary" "CoercedClasses$Dictionary" "types" "Ljava/util/ArrayList;") ∈ lw_all := lw_g (lw_at lw_m10 24 rfl) rfl
theorem q2427 : (Jvm.Cond.soleField "CoercedClasses$Dictionary" "types") ∈ lw_all := lw_g (lw_at lw_m10 25 rfl) rfl
theorem q2428 : (Jvm.Cond.lays "CoercedClasses$Dictionary" "CoercedClasses$Dictionary" "conditions" "Ljava/util/ArrayList;") ∈ lw_all := lw_g (lw_at lw_m10 26 rfl) rfl
theorem q2429 : (Jvm.Cond.soleField "CoercedClasses$Dictionary" "conditions") ∈ lw_all := lw_g (lw_at lw_m10 27 rfl) rfl
theorem q2430 : (Jvm.Cond.lays "CoercedClasses$Dictionary" "CoercedClasses$Dictionary" "from" "LCoercedClasses$Type;") ∈ lw_all := lw_g (lw_at lw_m10 28 rfl) rfl
theorem q2431 : (Jvm.Cond.soleField "CoercedClasses$Dictionary" "from") ∈ lw_all := lw_g (lw_at lw_m10 29 rfl) rfl
theorem q2432 : (Jvm.Cond.lays "CoercedClasses$Dictionary" "CoercedClasses$Dictionary" "to" "LCoercedClasses$Type;") ∈ lw_all := lw_g (lw_at lw_m10 30 rfl) rfl
theorem q2433 : (Jvm.Cond.soleField "CoercedClasses$Dictionary" "to") ∈ lw_all := lw_g (lw_at lw_m10 31 rfl) rfl
theorem q2434 : (Jvm.Cond.superclass "CoercedClasses$Dictionary" "java/lang/Object") ∈ lw_all := lw_g (lw_at lw_m10 32 rfl) rfl
theorem q2446 : (Jvm.Cond.instanceMethod ({ cls := "CoercedClasses$Dictionary", name := "begin", desc := "(LCoercedClasses$ClassDecl;)LCoercedClasses$Dictionary;" } : Jvm.MethodName)) ∈ lw_all := lw_g (lw_at lw_m10 44 rfl) rfl
theorem q2447 : (Jvm.Cond.selects "CoercedClasses$Dictionary" ({ cls := "CoercedClasses$Dictionary", name := "begin", desc := "(LCoercedClasses$ClassDecl;)LCoercedClasses$Dictionary;" } : Jvm.MethodName) ({ cls := "CoercedClasses$Dictionary", name := "begin", desc := "(LCoercedClasses$ClassDecl;)LCoercedClasses$Dictionary;" } : Jvm.MethodName)) ∈ lw_all := lw_g (lw_at lw_m10 45 rfl) rfl
theorem q2448 : (Jvm.Cond.code ({ cls := "CoercedClasses$Dictionary", name := "begin", desc := "(LCoercedClasses$ClassDecl;)LCoercedClasses$Dictionary;" } : Jvm.MethodName) prog_8_method_2_code (2 : Nat) (Option.some (Jvm.ClassFile.FieldType.object "CoercedClasses$Dictionary"))) ∈ lw_all := lw_g (lw_at lw_m10 46 rfl) rfl
theorem q2449 : (Jvm.Cond.methodLink "CoercedClasses$Dictionary" (38 : Nat) ({ cls := "java/util/ArrayList", name := "clear", desc := "()V" } : Jvm.MethodName)) ∈ lw_all := lw_g (lw_at lw_m10 47 rfl) rfl
theorem q2459 : (Jvm.Cond.instanceMethod ({ cls := "CoercedClasses$Dictionary", name := "cast", desc := "(LCoercedClasses$Dictionary;LCoercedClasses$Type;LCoercedClasses$Type;)LCoercedClasses$Dictionary;" } : Jvm.MethodName)) ∈ lw_all := lw_g (lw_at lw_m10 57 rfl) rfl
theorem q2460 : (Jvm.Cond.selects "CoercedClasses$Dictionary" ({ cls := "CoercedClasses$Dictionary", name := "cast", desc := "(LCoercedClasses$Dictionary;LCoercedClasses$Type;LCoercedClasses$Type;)LCoercedClasses$Dictionary;" } : Jvm.MethodName) ({ cls := "CoercedClasses$Dictionary", name := "cast", desc := "(LCoercedClasses$Dictionary;LCoercedClasses$Type;LCoercedClasses$Type;)LCoercedClasses$Dictionary;" } : Jvm.MethodName)) ∈ lw_all := lw_g (lw_at lw_m10 58 rfl) rfl
theorem q2461 : (Jvm.Cond.code ({ cls := "CoercedClasses$Dictionary", name := "cast", desc := "(LCoercedClasses$Dictionary;LCoercedClasses$Type;LCoercedClasses$Type;)LCoercedClasses$Dictionary;" } : Jvm.MethodName) prog_8_method_3_code (4 : Nat) (Option.some (Jvm.ClassFile.FieldType.object "CoercedClasses$Dictionary"))) ∈ lw_all := lw_g (lw_at lw_m10 59 rfl) rfl
theorem q4466 : (Jvm.Cond.castable "CoercedClasses$Dictionary" "java/lang/Object") ∈ lw_tbl := lw_at lw_m18 144 rfl
theorem in_X36 : ∀ w ∈ wsX360, w ∈ lw_all := lw_in wsX360 [2418, 2420, 2422, 2424, 2426, 2428, 2430, 2432] (by decide +kernel) (by decide +kernel)
theorem q300 : (Jvm.Cond.initialized "CoercedClasses$Judge") ∈ lw_all := lw_g (lw_at lw_m1 58 rfl) rfl
theorem q455 : (Jvm.Cond.fieldLinkNest "CoercedClasses$Judge" (265 : Nat) "CoercedClasses$Scope" "names" "Ljava/util/ArrayList;" "CoercedClasses") ∈ lw_tbl := lw_at lw_m1 213 rfl
theorem q462 : (Jvm.Cond.fieldLinkNest "CoercedClasses$Judge" (317 : Nat) "CoercedClasses$Scope" "givens" "Ljava/util/ArrayList;" "CoercedClasses") ∈ lw_tbl := lw_at lw_m1 220 rfl
theorem q542 : (Jvm.Cond.fieldLinkNest "CoercedClasses$Judge" (22 : Nat) "CoercedClasses$Finder" "table" "LCoercedClasses$Table;" "CoercedClasses") ∈ lw_tbl := lw_at lw_m2 60 rfl
theorem q1156 : (Jvm.Cond.selects "CoercedClasses$Judge" ({ cls := "java/lang/Object", name := "getClass", desc := "()Ljava/lang/Class;" } : Jvm.MethodName) ({ cls := "java/lang/Object", name := "getClass", desc := "()Ljava/lang/Class;" } : Jvm.MethodName)) ∈ lw_all := lw_g (lw_at lw_m4 194 rfl) rfl
theorem q1218 : (Jvm.Cond.fieldLinkNest "CoercedClasses$Judge" (71 : Nat) "CoercedClasses$ClassDecl" "names" "Ljava/util/ArrayList;" "CoercedClasses") ∈ lw_tbl := lw_at lw_m5 16 rfl
theorem q1324 : (Jvm.Cond.fieldLinkNest "CoercedClasses$Judge" (289 : Nat) "CoercedClasses$Method" "of" "LCoercedClasses$ClassDecl;" "CoercedClasses") ∈ lw_tbl := lw_at lw_m5 122 rfl
theorem q1328 : (Jvm.Cond.fieldLinkNest "CoercedClasses$Judge" (65 : Nat) "CoercedClasses$Method" "type" "LCoercedClasses$Type;" "CoercedClasses") ∈ lw_tbl := lw_at lw_m5 126 rfl
theorem q1372 : (Jvm.Cond.fieldLinkNest "CoercedClasses$Judge" (49 : Nat) "CoercedClasses$Instance" "of" "LCoercedClasses$ClassDecl;" "CoercedClasses") ∈ lw_tbl := lw_at lw_m5 170 rfl
theorem q1384 : (Jvm.Cond.fieldLinkNest "CoercedClasses$Judge" (74 : Nat) "CoercedClasses$Instance" "heads" "Ljava/util/ArrayList;" "CoercedClasses") ∈ lw_tbl := lw_at lw_m5 182 rfl
theorem q1439 : (Jvm.Cond.fieldLinkNest "CoercedClasses$Judge" (322 : Nat) "CoercedClasses$Given" "name" "LCoercedClasses$Word;" "CoercedClasses") ∈ lw_tbl := lw_at lw_m5 237 rfl
theorem q1446 : (Jvm.Cond.fieldLinkNest "CoercedClasses$Judge" (330 : Nat) "CoercedClasses$Given" "of" "LCoercedClasses$ClassDecl;" "CoercedClasses") ∈ lw_tbl := lw_at lw_m6 4 rfl
theorem q1451 : (Jvm.Cond.fieldLinkNest "CoercedClasses$Judge" (335 : Nat) "CoercedClasses$Given" "type" "LCoercedClasses$Type;" "CoercedClasses") ∈ lw_tbl := lw_at lw_m6 9 rfl
theorem q1498 : (Jvm.Cond.fieldLinkNest "CoercedClasses$Judge" (129 : Nat) "CoercedClasses$Lambda" "of" "LCoercedClasses$Type;" "CoercedClasses") ∈ lw_tbl := lw_at lw_m6 56 rfl
theorem q1502 : (Jvm.Cond.fieldLinkNest "CoercedClasses$Judge" (131 : Nat) "CoercedClasses$Lambda" "body" "LCoercedClasses$Ex;" "CoercedClasses") ∈ lw_tbl := lw_at lw_m6 60 rfl
theorem q1507 : (Jvm.Cond.fieldLink "CoercedClasses$Judge" (77 : Nat) "CoercedClasses$Ex" "place" "I") ∈ lw_all := lw_g (lw_at lw_m6 65 rfl) rfl
theorem q1509 : (Jvm.Cond.fieldLink "CoercedClasses$Judge" (279 : Nat) "CoercedClasses$Name" "place" "I") ∈ lw_all := lw_g (lw_at lw_m6 67 rfl) rfl
theorem q1513 : (Jvm.Cond.fieldLink "CoercedClasses$Judge" (121 : Nat) "CoercedClasses$Ex" "type" "LCoercedClasses$Type;") ∈ lw_all := lw_g (lw_at lw_m6 71 rfl) rfl
theorem q1516 : (Jvm.Cond.fieldLink "CoercedClasses$Judge" (99 : Nat) "CoercedClasses$Ex" "cast" "LCoercedClasses$Type;") ∈ lw_all := lw_g (lw_at lw_m6 74 rfl) rfl
theorem q1554 : (Jvm.Cond.fieldLinkNest "CoercedClasses$Judge" (187 : Nat) "CoercedClasses$Let" "of" "LCoercedClasses$Type;" "CoercedClasses") ∈ lw_tbl := lw_at lw_m6 112 rfl
theorem q1558 : (Jvm.Cond.fieldLinkNest "CoercedClasses$Judge" (184 : Nat) "CoercedClasses$Let" "first" "LCoercedClasses$Ex;" "CoercedClasses") ∈ lw_tbl := lw_at lw_m6 116 rfl
theorem q1564 : (Jvm.Cond.fieldLinkNest "CoercedClasses$Judge" (191 : Nat) "CoercedClasses$Let" "body" "LCoercedClasses$Ex;" "CoercedClasses") ∈ lw_tbl := lw_at lw_m6 122 rfl
theorem q1600 : (Jvm.Cond.fieldLinkNest "CoercedClasses$Judge" (192 : Nat) "CoercedClasses$If" "a" "LCoercedClasses$Ex;" "CoercedClasses") ∈ lw_tbl := lw_at lw_m6 158 rfl
theorem q1606 : (Jvm.Cond.fieldLinkNest "CoercedClasses$Judge" (195 : Nat) "CoercedClasses$If" "b" "LCoercedClasses$Ex;" "CoercedClasses") ∈ lw_tbl := lw_at lw_m6 164 rfl
theorem q1612 : (Jvm.Cond.fieldLinkNest "CoercedClasses$Judge" (198 : Nat) "CoercedClasses$If" "c" "LCoercedClasses$Ex;" "CoercedClasses") ∈ lw_tbl := lw_at lw_m6 170 rfl
theorem q1639 : (Jvm.Cond.fieldLinkNest "CoercedClasses$Judge" (201 : Nat) "CoercedClasses$Case" "subject" "LCoercedClasses$Ex;" "CoercedClasses") ∈ lw_tbl := lw_at lw_m6 197 rfl
theorem q1646 : (Jvm.Cond.fieldLinkNest "CoercedClasses$Judge" (208 : Nat) "CoercedClasses$Case" "nil" "LCoercedClasses$Ex;" "CoercedClasses") ∈ lw_tbl := lw_at lw_m6 204 rfl
theorem q1652 : (Jvm.Cond.fieldLinkNest "CoercedClasses$Judge" (213 : Nat) "CoercedClasses$Case" "cons" "LCoercedClasses$Ex;" "CoercedClasses") ∈ lw_tbl := lw_at lw_m6 210 rfl
theorem q1708 : (Jvm.Cond.fieldLinkNest "CoercedClasses$Judge" (280 : Nat) "CoercedClasses$Name" "ats" "Ljava/util/ArrayList;" "CoercedClasses") ∈ lw_tbl := lw_at lw_m7 26 rfl
theorem q1712 : (Jvm.Cond.fieldLinkNest "CoercedClasses$Judge" (290 : Nat) "CoercedClasses$Name" "types" "Ljava/util/ArrayList;" "CoercedClasses") ∈ lw_tbl := lw_at lw_m7 30 rfl
theorem q1717 : (Jvm.Cond.fieldLinkNest "CoercedClasses$Judge" (283 : Nat) "CoercedClasses$Name" "up" "I" "CoercedClasses") ∈ lw_tbl := lw_at lw_m7 35 rfl
theorem q1720 : (Jvm.Cond.fieldLinkNest "CoercedClasses$Judge" (255 : Nat) "CoercedClasses$Name" "function" "LCoercedClasses$Function;" "CoercedClasses") ∈ lw_tbl := lw_at lw_m7 38 rfl
theorem q1724 : (Jvm.Cond.fieldLinkNest "CoercedClasses$Judge" (268 : Nat) "CoercedClasses$Name" "method" "LCoercedClasses$Method;" "CoercedClasses") ∈ lw_tbl := lw_at lw_m7 42 rfl
theorem q1729 : (Jvm.Cond.fieldLinkNest "CoercedClasses$Judge" (272 : Nat) "CoercedClasses$Name" "built" "I" "CoercedClasses") ∈ lw_tbl := lw_at lw_m7 47 rfl
theorem q1786 : (Jvm.Cond.fieldLinkNest "CoercedClasses$Judge" (231 : Nat) "CoercedClasses$Use" "head" "LCoercedClasses$Ex;" "CoercedClasses") ∈ lw_tbl := lw_at lw_m7 104 rfl
theorem q1794 : (Jvm.Cond.fieldLinkNest "CoercedClasses$Judge" (237 : Nat) "CoercedClasses$Use" "items" "Ljava/util/ArrayList;" "CoercedClasses") ∈ lw_tbl := lw_at lw_m7 112 rfl
theorem q1821 : (Jvm.Cond.fieldLinkNest "CoercedClasses$Judge" (242 : Nat) "CoercedClasses$Item" "ex" "LCoercedClasses$Ex;" "CoercedClasses") ∈ lw_tbl := lw_at lw_m7 139 rfl
theorem q1826 : (Jvm.Cond.fieldLinkNest "CoercedClasses$Judge" (243 : Nat) "CoercedClasses$Item" "place" "I" "CoercedClasses") ∈ lw_tbl := lw_at lw_m7 144 rfl
theorem q1829 : (Jvm.Cond.fieldLinkNest "CoercedClasses$Judge" (244 : Nat) "CoercedClasses$Item" "before" "LCoercedClasses$Type;" "CoercedClasses") ∈ lw_tbl := lw_at lw_m7 147 rfl
theorem q1832 : (Jvm.Cond.fieldLinkNest "CoercedClasses$Judge" (247 : Nat) "CoercedClasses$Item" "arrow" "LCoercedClasses$Type;" "CoercedClasses") ∈ lw_tbl := lw_at lw_m7 150 rfl
theorem q1853 : (Jvm.Cond.fieldLinkNest "CoercedClasses$Judge" (219 : Nat) "CoercedClasses$Chain" "first" "LCoercedClasses$Ex;" "CoercedClasses") ∈ lw_tbl := lw_at lw_m7 171 rfl
theorem q1860 : (Jvm.Cond.fieldLinkNest "CoercedClasses$Judge" (216 : Nat) "CoercedClasses$Chain" "others" "Ljava/util/ArrayList;" "CoercedClasses") ∈ lw_tbl := lw_at lw_m7 178 rfl
theorem q1867 : (Jvm.Cond.fieldLinkNest "CoercedClasses$Judge" (223 : Nat) "CoercedClasses$Chain" "signs" "Ljava/util/ArrayList;" "CoercedClasses") ∈ lw_tbl := lw_at lw_m7 185 rfl
theorem q1909 : (Jvm.Cond.fieldLinkNest "CoercedClasses$Judge" (55 : Nat) "CoercedClasses$Line" "name" "LCoercedClasses$Word;" "CoercedClasses") ∈ lw_tbl := lw_at lw_m7 227 rfl
theorem q1912 : (Jvm.Cond.fieldLinkNest "CoercedClasses$Judge" (43 : Nat) "CoercedClasses$Line" "ex" "LCoercedClasses$Ex;" "CoercedClasses") ∈ lw_tbl := lw_at lw_m7 230 rfl
theorem q1916 : (Jvm.Cond.fieldLinkNest "CoercedClasses$Judge" (87 : Nat) "CoercedClasses$Line" "wanted" "LCoercedClasses$Type;" "CoercedClasses") ∈ lw_tbl := lw_at lw_m7 234 rfl
theorem q1944 : (Jvm.Cond.fieldLinkNest "CoercedClasses$Judge" (259 : Nat) "CoercedClasses$Function" "scope" "LCoercedClasses$Scope;" "CoercedClasses") ∈ lw_tbl := lw_at lw_m8 22 rfl
theorem q1948 : (Jvm.Cond.fieldLinkNest "CoercedClasses$Judge" (316 : Nat) "CoercedClasses$Function" "type" "LCoercedClasses$Type;" "CoercedClasses") ∈ lw_tbl := lw_at lw_m8 26 rfl
theorem q2087 : (Jvm.Cond.fieldLinkNest "CoercedClasses$Judge" (102 : Nat) "CoercedClasses$Type" "kind" "I" "CoercedClasses") ∈ lw_tbl := lw_at lw_m8 165 rfl
theorem q2093 : (Jvm.Cond.fieldLinkNest "CoercedClasses$Judge" (107 : Nat) "CoercedClasses$Type" "con" "I" "CoercedClasses") ∈ lw_tbl := lw_at lw_m8 171 rfl
theorem q2116 : (Jvm.Cond.fieldLinkNest "CoercedClasses$Judge" (211 : Nat) "CoercedClasses$Type" "a" "LCoercedClasses$Type;" "CoercedClasses") ∈ lw_tbl := lw_at lw_m8 194 rfl
theorem q2124 : (Jvm.Cond.fieldLinkNest "CoercedClasses$Judge" (249 : Nat) "CoercedClasses$Type" "b" "LCoercedClasses$Type;" "CoercedClasses") ∈ lw_tbl := lw_at lw_m8 202 rfl
theorem q2463 : (Jvm.Cond.instantiable "CoercedClasses$Judge" (3 : Nat)) ∈ lw_all := lw_g (lw_at lw_m10 61 rfl) rfl
theorem q2465 : (Jvm.Cond.instanceMethod ({ cls := "CoercedClasses$Judge", name := "<init>", desc := "(LCoercedClasses$Finder;)V" } : Jvm.MethodName)) ∈ lw_all := lw_g (lw_at lw_m10 63 rfl) rfl
theorem q2466 : (Jvm.Cond.code ({ cls := "CoercedClasses$Judge", name := "<init>", desc := "(LCoercedClasses$Finder;)V" } : Jvm.MethodName) prog_20_method_1_code (2 : Nat) (Option.none : Option Jvm.ClassFile.FieldType)) ∈ lw_all := lw_g (lw_at lw_m10 64 rfl) rfl
theorem q2467 : (Jvm.Cond.methodLink "CoercedClasses$Judge" (3 : Nat) ({ cls := "java/lang/Object", name := "<init>", desc := "()V" } : Jvm.MethodName)) ∈ lw_all := lw_g (lw_at lw_m10 65 rfl) rfl
theorem q2468 : (Jvm.Cond.classLink "CoercedClasses$Judge" (9 : Nat) "java/util/ArrayList") ∈ lw_all := lw_g (lw_at lw_m10 66 rfl) rfl
theorem q2469 : (Jvm.Cond.methodLink "CoercedClasses$Judge" (11 : Nat) ({ cls := "java/util/ArrayList", name := "<init>", desc := "()V" } : Jvm.MethodName)) ∈ lw_all := lw_g (lw_at lw_m10 67 rfl) rfl
theorem q2470 : (Jvm.Cond.fieldLink "CoercedClasses$Judge" (18 : Nat) "CoercedClasses$Judge" "finder" "LCoercedClasses$Finder;") ∈ lw_all := lw_g (lw_at lw_m10 68 rfl) rfl
theorem q2471 : (Jvm.Cond.fieldLink "CoercedClasses$Judge" (28 : Nat) "CoercedClasses$Judge" "table" "LCoercedClasses$Table;") ∈ lw_all := lw_g (lw_at lw_m10 69 rfl) rfl
theorem q2472 : (Jvm.Cond.fieldLink "CoercedClasses$Judge" (12 : Nat) "CoercedClasses$Judge" "bound" "Ljava/util/ArrayList;") ∈ lw_all := lw_g (lw_at lw_m10 70 rfl) rfl
theorem q2473 : (Jvm.Cond.laysFinal "CoercedClasses$Judge" "CoercedClasses$Judge" "finder" "LCoercedClasses$Finder;") ∈ lw_all := lw_g (lw_at lw_m10 71 rfl) rfl
theorem q2474 : (Jvm.Cond.soleField "CoercedClasses$Judge" "finder") ∈ lw_all := lw_g (lw_at lw_m10 72 rfl) rfl
theorem q2475 : (Jvm.Cond.laysFinal "CoercedClasses$Judge" "CoercedClasses$Judge" "table" "LCoercedClasses$Table;") ∈ lw_all := lw_g (lw_at lw_m10 73 rfl) rfl
theorem q2476 : (Jvm.Cond.soleField "CoercedClasses$Judge" "table") ∈ lw_all := lw_g (lw_at lw_m10 74 rfl) rfl
theorem q2477 : (Jvm.Cond.laysFinal "CoercedClasses$Judge" "CoercedClasses$Judge" "bound" "Ljava/util/ArrayList;") ∈ lw_all := lw_g (lw_at lw_m10 75 rfl) rfl
theorem q2478 : (Jvm.Cond.soleField "CoercedClasses$Judge" "bound") ∈ lw_all := lw_g (lw_at lw_m10 76 rfl) rfl
theorem q2479 : (Jvm.Cond.superclass "CoercedClasses$Judge" "java/lang/Object") ∈ lw_all := lw_g (lw_at lw_m10 77 rfl) rfl
theorem q2481 : (Jvm.Cond.instanceMethod ({ cls := "CoercedClasses$Judge", name := "wanted", desc := "(LCoercedClasses$Ex;LCoercedClasses$Type;)V" } : Jvm.MethodName)) ∈ lw_all := lw_g (lw_at lw_m10 79 rfl) rfl
theorem q2482 : (Jvm.Cond.selects "CoercedClasses$Judge" ({ cls := "CoercedClasses$Judge", name := "wanted", desc := "(LCoercedClasses$Ex;LCoercedClasses$Type;)V" } : Jvm.MethodName) ({ cls := "CoercedClasses$Judge", name := "wanted", desc := "(LCoercedClasses$Ex;LCoercedClasses$Type;)V" } : Jvm.MethodName)) ∈ lw_all := lw_g (lw_at lw_m10 80 rfl) rfl
theorem q2483 : (Jvm.Cond.code ({ cls := "CoercedClasses$Judge", name := "wanted", desc := "(LCoercedClasses$Ex;LCoercedClasses$Type;)V" } : Jvm.MethodName) prog_20_method_3_code (3 : Nat) (Option.none : Option Jvm.ClassFile.FieldType)) ∈ lw_all := lw_g (lw_at lw_m10 81 rfl) rfl
theorem q2484 : (Jvm.Cond.methodLink "CoercedClasses$Judge" (35 : Nat) ({ cls := "CoercedClasses$Judge", name := "typeOf", desc := "(LCoercedClasses$Ex;)LCoercedClasses$Type;" } : Jvm.MethodName)) ∈ lw_all := lw_g (lw_at lw_m10 82 rfl) rfl
theorem q2485 : (Jvm.Cond.instanceMethod ({ cls := "CoercedClasses$Judge", name := "typeOf", desc := "(LCoercedClasses$Ex;)LCoercedClasses$Type;" } : Jvm.MethodName)) ∈ lw_all := lw_g (lw_at lw_m10 83 rfl) rfl
theorem q2486 : (Jvm.Cond.selects "CoercedClasses$Judge" ({ cls := "CoercedClasses$Judge", name := "typeOf", desc := "(LCoercedClasses$Ex;)LCoercedClasses$Type;" } : Jvm.MethodName) ({ cls := "CoercedClasses$Judge", name := "typeOf", desc := "(LCoercedClasses$Ex;)LCoercedClasses$Type;" } : Jvm.MethodName)) ∈ lw_all := lw_g (lw_at lw_m10 84 rfl) rfl
theorem q2487 : (Jvm.Cond.code ({ cls := "CoercedClasses$Judge", name := "typeOf", desc := "(LCoercedClasses$Ex;)LCoercedClasses$Type;" } : Jvm.MethodName) prog_20_method_7_code (8 : Nat) (Option.some (Jvm.ClassFile.FieldType.object "CoercedClasses$Type"))) ∈ lw_all := lw_g (lw_at lw_m10 85 rfl) rfl
theorem q2488 : (Jvm.Cond.classLink "CoercedClasses$Judge" (116 : Nat) "CoercedClasses$Name") ∈ lw_all := lw_g (lw_at lw_m10 86 rfl) rfl
theorem q2489 : (Jvm.Cond.methodLink "CoercedClasses$Judge" (118 : Nat) ({ cls := "CoercedClasses$Judge", name := "name", desc := "(LCoercedClasses$Name;LCoercedClasses$Use;)LCoercedClasses$Type;" } : Jvm.MethodName)) ∈ lw_all := lw_g (lw_at lw_m10 87 rfl) rfl
theorem q2490 : (Jvm.Cond.privateMethod ({ cls := "CoercedClasses$Judge", name := "name", desc := "(LCoercedClasses$Name;LCoercedClasses$Use;)LCoercedClasses$Type;" } : Jvm.MethodName)) ∈ lw_tbl := lw_at lw_m10 88 rfl
theorem q2491 : (Jvm.Cond.instanceMethod ({ cls := "CoercedClasses$Judge", name := "name", desc := "(LCoercedClasses$Name;LCoercedClasses$Use;)LCoercedClasses$Type;" } : Jvm.MethodName)) ∈ lw_all := lw_g (lw_at lw_m10 89 rfl) rfl
theorem q2492 : (Jvm.Cond.code ({ cls := "CoercedClasses$Judge", name := "name", desc := "(LCoercedClasses$Name;LCoercedClasses$Use;)LCoercedClasses$Type;" } : Jvm.MethodName) prog_20_method_15_code (5 : Nat) (Option.some (Jvm.ClassFile.FieldType.object "CoercedClasses$Type"))) ∈ lw_all := lw_g (lw_at lw_m10 90 rfl) rfl
theorem q2493 : (Jvm.Cond.methodLink "CoercedClasses$Judge" (275 : Nat) ({ cls := "CoercedClasses$Judge", name := "forall", desc := "(LCoercedClasses$Name;)I" } : Jvm.MethodName)) ∈ lw_all := lw_g (lw_at lw_m10 91 rfl) rfl
theorem q2494 : (Jvm.Cond.static ({ cls := "CoercedClasses$Judge", name := "forall", desc := "(LCoercedClasses$Name;)I" } : Jvm.MethodName)) ∈ lw_all := lw_g (lw_at lw_m10 92 rfl) rfl
theorem q2495 : (Jvm.Cond.code ({ cls := "CoercedClasses$Judge", name := "forall", desc := "(LCoercedClasses$Name;)I" } : Jvm.MethodName) prog_20_method_14_code (1 : Nat) (Option.some Jvm.ClassFile.FieldType.int)) ∈ lw_all := lw_g (lw_at lw_m10 93 rfl) rfl
theorem q2496 : (Jvm.Cond.methodLink "CoercedClasses$Judge" (251 : Nat) ({ cls := "CoercedClasses$Name", name := "isBound", desc := "()Z" } : Jvm.MethodName)) ∈ lw_all := lw_g (lw_at lw_m10 94 rfl) rfl
theorem q2500 : (Jvm.Cond.methodLink "CoercedClasses$Judge" (176 : Nat) ({ cls := "java/util/ArrayList", name := "size", desc := "()I" } : Jvm.MethodName)) ∈ lw_all := lw_g (lw_at lw_m10 98 rfl) rfl
theorem q2501 : (Jvm.Cond.methodLink "CoercedClasses$Judge" (234 : Nat) ({ cls := "CoercedClasses$Name", name := "many", desc := "()I" } : Jvm.MethodName)) ∈ lw_all := lw_g (lw_at lw_m10 99 rfl) rfl
theorem q2502 : (Jvm.Cond.classLink "CoercedClasses$Judge" (94 : Nat) "CoercedClasses$Fault") ∈ lw_all := lw_g (lw_at lw_m10 100 rfl) rfl
theorem q2503 : (Jvm.Cond.methodLink "CoercedClasses$Judge" (96 : Nat) ({ cls := "CoercedClasses$Fault", name := "<init>", desc := "(II)V" } : Jvm.MethodName)) ∈ lw_all := lw_g (lw_at lw_m10 101 rfl) rfl
theorem q2504 : (Jvm.Cond.methodLink "CoercedClasses$Judge" (220 : Nat) ({ cls := "java/util/ArrayList", name := "get", desc := "(I)Ljava/lang/Object;" } : Jvm.MethodName)) ∈ lw_all := lw_g (lw_at lw_m10 102 rfl) rfl
theorem q2505 : (Jvm.Cond.classLink "CoercedClasses$Judge" (103 : Nat) "CoercedClasses$Type") ∈ lw_all := lw_g (lw_at lw_m10 103 rfl) rfl
theorem q2506 : (Jvm.Cond.classLink "CoercedClasses$Judge" (240 : Nat) "CoercedClasses$Item") ∈ lw_all := lw_g (lw_at lw_m10 104 rfl) rfl
theorem q2507 : (Jvm.Cond.methodLink "CoercedClasses$Judge" (286 : Nat) ({ cls := "CoercedClasses$Judge", name := "function", desc := "(LCoercedClasses$Name;LCoercedClasses$Function;)LCoercedClasses$Type;" } : Jvm.MethodName)) ∈ lw_all := lw_g (lw_at lw_m10 105 rfl) rfl
theorem q2508 : (Jvm.Cond.privateMethod ({ cls := "CoercedClasses$Judge", name := "function", desc := "(LCoercedClasses$Name;LCoercedClasses$Function;)LCoercedClasses$Type;" } : Jvm.MethodName)) ∈ lw_tbl := lw_at lw_m10 106 rfl
theorem q2509 : (Jvm.Cond.instanceMethod ({ cls := "CoercedClasses$Judge", name := "function", desc := "(LCoercedClasses$Name;LCoercedClasses$Function;)LCoercedClasses$Type;" } : Jvm.MethodName)) ∈ lw_all := lw_g (lw_at lw_m10 107 rfl) rfl
theorem q2510 : (Jvm.Cond.code ({ cls := "CoercedClasses$Judge", name := "function", desc := "(LCoercedClasses$Name;LCoercedClasses$Function;)LCoercedClasses$Type;" } : Jvm.MethodName) prog_20_method_18_code (9 : Nat) (Option.some (Jvm.ClassFile.FieldType.object "CoercedClasses$Type"))) ∈ lw_all := lw_g (lw_at lw_m10 108 rfl) rfl
theorem q2511 : (Jvm.Cond.methodLink "CoercedClasses$Judge" (83 : Nat) ({ cls := "CoercedClasses$Finder", name := "put", desc := "(LCoercedClasses$Type;Ljava/util/ArrayList;Ljava/util/ArrayList;I)LCoercedClasses$Type;" } : Jvm.MethodName)) ∈ lw_all := lw_g (lw_at lw_m10 109 rfl) rfl
theorem q2515 : (Jvm.Cond.classLink "CoercedClasses$Judge" (320 : Nat) "CoercedClasses$Given") ∈ lw_all := lw_g (lw_at lw_m10 113 rfl) rfl
theorem q2516 : (Jvm.Cond.methodLinkNest "CoercedClasses$Judge" (323 : Nat) ({ cls := "CoercedClasses", name := "typeFor", desc := "(LCoercedClasses$Scope;Ljava/util/ArrayList;LCoercedClasses$Word;)LCoercedClasses$Type;" } : Jvm.MethodName) "CoercedClasses") ∈ lw_tbl := lw_at lw_m10 114 rfl
theorem q2524 : (Jvm.Cond.methodLink "CoercedClasses$Judge" (327 : Nat) ({ cls := "CoercedClasses$Given", name := "isEqual", desc := "()Z" } : Jvm.MethodName)) ∈ lw_all := lw_g (lw_at lw_m10 122 rfl) rfl
theorem q2525 : (Jvm.Cond.methodLink "CoercedClasses$Judge" (293 : Nat) ({ cls := "CoercedClasses$Judge", name := "classFor", desc := "(LCoercedClasses$ClassDecl;LCoercedClasses$Type;I)LCoercedClasses$Evidence;" } : Jvm.MethodName)) ∈ lw_all := lw_g (lw_at lw_m10 123 rfl) rfl
theorem q2526 : (Jvm.Cond.privateMethod ({ cls := "CoercedClasses$Judge", name := "classFor", desc := "(LCoercedClasses$ClassDecl;LCoercedClasses$Type;I)LCoercedClasses$Evidence;" } : Jvm.MethodName)) ∈ lw_tbl := lw_at lw_m10 124 rfl
theorem q2527 : (Jvm.Cond.instanceMethod ({ cls := "CoercedClasses$Judge", name := "classFor", desc := "(LCoercedClasses$ClassDecl;LCoercedClasses$Type;I)LCoercedClasses$Evidence;" } : Jvm.MethodName)) ∈ lw_all := lw_g (lw_at lw_m10 125 rfl) rfl
theorem q2528 : (Jvm.Cond.code ({ cls := "CoercedClasses$Judge", name := "classFor", desc := "(LCoercedClasses$ClassDecl;LCoercedClasses$Type;I)LCoercedClasses$Evidence;" } : Jvm.MethodName) prog_20_method_17_code (5 : Nat) (Option.some (Jvm.ClassFile.FieldType.object "CoercedClasses$Evidence"))) ∈ lw_all := lw_g (lw_at lw_m10 126 rfl) rfl
theorem q2529 : (Jvm.Cond.methodLink "CoercedClasses$Judge" (307 : Nat) ({ cls := "CoercedClasses$Finder", name := "asked", desc := "(LCoercedClasses$ClassDecl;LCoercedClasses$Type;I)LCoercedClasses$Dictionary;" } : Jvm.MethodName)) ∈ lw_all := lw_g (lw_at lw_m10 127 rfl) rfl
theorem q2530 : (Jvm.Cond.classLink "CoercedClasses$Judge" (311 : Nat) "CoercedClasses$Evidence") ∈ lw_all := lw_g (lw_at lw_m10 128 rfl) rfl
theorem q2532 : (Jvm.Cond.methodLink "CoercedClasses$Judge" (313 : Nat) ({ cls := "CoercedClasses$Evidence", name := "<init>", desc := "(LCoercedClasses$Dictionary;LCoercedClasses$Type;LCoercedClasses$Type;)V" } : Jvm.MethodName)) ∈ lw_all := lw_g (lw_at lw_m10 130 rfl) rfl
theorem q2553 : (Jvm.Cond.methodLink "CoercedClasses$Judge" (297 : Nat) ({ cls := "CoercedClasses$Name", name := "because", desc := "(LCoercedClasses$Evidence;)V" } : Jvm.MethodName)) ∈ lw_all := lw_g (lw_at lw_m10 151 rfl) rfl
theorem q2557 : (Jvm.Cond.methodLink "CoercedClasses$Judge" (331 : Nat) ({ cls := "CoercedClasses$Table", name := "family", desc := "(LCoercedClasses$ClassDecl;LCoercedClasses$Type;)LCoercedClasses$Type;" } : Jvm.MethodName)) ∈ lw_all := lw_g (lw_at lw_m10 155 rfl) rfl
theorem q2558 : (Jvm.Cond.methodLinkNest "CoercedClasses$Judge" (304 : Nat) ({ cls := "CoercedClasses$Finder", name := "fit", desc := "(LCoercedClasses$Type;I)LCoercedClasses$Type;" } : Jvm.MethodName) "CoercedClasses") ∈ lw_tbl := lw_at lw_m10 156 rfl
theorem q2559 : (Jvm.Cond.methodLink "CoercedClasses$Judge" (90 : Nat) ({ cls := "CoercedClasses$Finder", name := "areOne", desc := "(LCoercedClasses$Type;LCoercedClasses$Type;I)Z" } : Jvm.MethodName)) ∈ lw_all := lw_g (lw_at lw_m10 157 rfl) rfl
theorem q2563 : (Jvm.Cond.methodLink "CoercedClasses$Judge" (301 : Nat) ({ cls := "CoercedClasses$Judge", name := "built", desc := "(LCoercedClasses$Table;ILjava/util/ArrayList;)LCoercedClasses$Type;" } : Jvm.MethodName)) ∈ lw_all := lw_g (lw_at lw_m10 161 rfl) rfl
theorem q2564 : (Jvm.Cond.static ({ cls := "CoercedClasses$Judge", name := "built", desc := "(LCoercedClasses$Table;ILjava/util/ArrayList;)LCoercedClasses$Type;" } : Jvm.MethodName)) ∈ lw_all := lw_g (lw_at lw_m10 162 rfl) rfl
theorem q2565 : (Jvm.Cond.code ({ cls := "CoercedClasses$Judge", name := "built", desc := "(LCoercedClasses$Table;ILjava/util/ArrayList;)LCoercedClasses$Type;" } : Jvm.MethodName) prog_20_method_16_code (7 : Nat) (Option.some (Jvm.ClassFile.FieldType.object "CoercedClasses$Type"))) ∈ lw_all := lw_g (lw_at lw_m10 163 rfl) rfl
theorem q2566 : (Jvm.Cond.methodLink "CoercedClasses$Judge" (29 : Nat) ({ cls := "CoercedClasses$Table", name := "con", desc := "(ILCoercedClasses$Type;LCoercedClasses$Type;)LCoercedClasses$Type;" } : Jvm.MethodName)) ∈ lw_all := lw_g (lw_at lw_m10 164 rfl) rfl
theorem q2567 : (Jvm.Cond.methodLink "CoercedClasses$Judge" (138 : Nat) ({ cls := "CoercedClasses$Table", name := "arrow", desc := "(LCoercedClasses$Type;LCoercedClasses$Type;)LCoercedClasses$Type;" } : Jvm.MethodName)) ∈ lw_all := lw_g (lw_at lw_m10 165 rfl) rfl
theorem q2568 : (Jvm.Cond.classLink "CoercedClasses$Judge" (122 : Nat) "CoercedClasses$Num") ∈ lw_all := lw_g (lw_at lw_m10 166 rfl) rfl
theorem q2569 : (Jvm.Cond.methodLink "CoercedClasses$Judge" (124 : Nat) ({ cls := "CoercedClasses$Judge", name := "con", desc := "(I)LCoercedClasses$Type;" } : Jvm.MethodName)) ∈ lw_all := lw_g (lw_at lw_m10 167 rfl) rfl
theorem q2570 : (Jvm.Cond.privateMethod ({ cls := "CoercedClasses$Judge", name := "con", desc := "(I)LCoercedClasses$Type;" } : Jvm.MethodName)) ∈ lw_tbl := lw_at lw_m10 168 rfl
theorem q2571 : (Jvm.Cond.instanceMethod ({ cls := "CoercedClasses$Judge", name := "con", desc := "(I)LCoercedClasses$Type;" } : Jvm.MethodName)) ∈ lw_all := lw_g (lw_at lw_m10 169 rfl) rfl
theorem q2572 : (Jvm.Cond.code ({ cls := "CoercedClasses$Judge", name := "con", desc := "(I)LCoercedClasses$Type;" } : Jvm.MethodName) prog_20_method_2_code (2 : Nat) (Option.some (Jvm.ClassFile.FieldType.object "CoercedClasses$Type"))) ∈ lw_all := lw_g (lw_at lw_m10 170 rfl) rfl
theorem q2573 : (Jvm.Cond.classLink "CoercedClasses$Judge" (127 : Nat) "CoercedClasses$Lambda") ∈ lw_all := lw_g (lw_at lw_m10 171 rfl) rfl
theorem q2574 : (Jvm.Cond.methodLink "CoercedClasses$Judge" (134 : Nat) ({ cls := "CoercedClasses$Judge", name := "inside", desc := "(LCoercedClasses$Type;LCoercedClasses$Ex;)LCoercedClasses$Type;" } : Jvm.MethodName)) ∈ lw_all := lw_g (lw_at lw_m10 172 rfl) rfl
theorem q2575 : (Jvm.Cond.privateMethod ({ cls := "CoercedClasses$Judge", name := "inside", desc := "(LCoercedClasses$Type;LCoercedClasses$Ex;)LCoercedClasses$Type;" } : Jvm.MethodName)) ∈ lw_tbl := lw_at lw_m10 173 rfl
theorem q2576 : (Jvm.Cond.instanceMethod ({ cls := "CoercedClasses$Judge", name := "inside", desc := "(LCoercedClasses$Type;LCoercedClasses$Ex;)LCoercedClasses$Type;" } : Jvm.MethodName)) ∈ lw_all := lw_g (lw_at lw_m10 174 rfl) rfl
theorem q2577 : (Jvm.Cond.code ({ cls := "CoercedClasses$Judge", name := "inside", desc := "(LCoercedClasses$Type;LCoercedClasses$Ex;)LCoercedClasses$Type;" } : Jvm.MethodName) prog_20_method_8_code (4 : Nat) (Option.some (Jvm.ClassFile.FieldType.object "CoercedClasses$Type"))) ∈ lw_all := lw_g (lw_at lw_m10 175 rfl) rfl
theorem q2578 : (Jvm.Cond.methodLink "CoercedClasses$Judge" (172 : Nat) ({ cls := "java/util/ArrayList", name := "add", desc := "(Ljava/lang/Object;)Z" } : Jvm.MethodName)) ∈ lw_all := lw_g (lw_at lw_m10 176 rfl) rfl
theorem q2579 : (Jvm.Cond.methodLink "CoercedClasses$Judge" (180 : Nat) ({ cls := "java/util/ArrayList", name := "remove", desc := "(I)Ljava/lang/Object;" } : Jvm.MethodName)) ∈ lw_all := lw_g (lw_at lw_m10 177 rfl) rfl
theorem q2580 : (Jvm.Cond.classLink "CoercedClasses$Judge" (142 : Nat) "CoercedClasses$Let") ∈ lw_all := lw_g (lw_at lw_m10 178 rfl) rfl
theorem q2581 : (Jvm.Cond.methodLink "CoercedClasses$Judge" (144 : Nat) ({ cls := "CoercedClasses$Judge", name := "let", desc := "(LCoercedClasses$Let;)LCoercedClasses$Type;" } : Jvm.MethodName)) ∈ lw_all := lw_g (lw_at lw_m10 179 rfl) rfl
theorem q2582 : (Jvm.Cond.privateMethod ({ cls := "CoercedClasses$Judge", name := "let", desc := "(LCoercedClasses$Let;)LCoercedClasses$Type;" } : Jvm.MethodName)) ∈ lw_tbl := lw_at lw_m10 180 rfl
theorem q2583 : (Jvm.Cond.instanceMethod ({ cls := "CoercedClasses$Judge", name := "let", desc := "(LCoercedClasses$Let;)LCoercedClasses$Type;" } : Jvm.MethodName)) ∈ lw_all := lw_g (lw_at lw_m10 181 rfl) rfl
theorem q2584 : (Jvm.Cond.code ({ cls := "CoercedClasses$Judge", name := "let", desc := "(LCoercedClasses$Let;)LCoercedClasses$Type;" } : Jvm.MethodName) prog_20_method_9_code (2 : Nat) (Option.some (Jvm.ClassFile.FieldType.object "CoercedClasses$Type"))) ∈ lw_all := lw_g (lw_at lw_m10 182 rfl) rfl
theorem q2585 : (Jvm.Cond.methodLink "CoercedClasses$Judge" (188 : Nat) ({ cls := "CoercedClasses$Judge", name := "wanted", desc := "(LCoercedClasses$Ex;LCoercedClasses$Type;)V" } : Jvm.MethodName)) ∈ lw_all := lw_g (lw_at lw_m10 183 rfl) rfl
theorem q2586 : (Jvm.Cond.classLink "CoercedClasses$Judge" (148 : Nat) "CoercedClasses$If") ∈ lw_all := lw_g (lw_at lw_m10 184 rfl) rfl
theorem q2587 : (Jvm.Cond.methodLink "CoercedClasses$Judge" (150 : Nat) ({ cls := "CoercedClasses$Judge", name := "choice", desc := "(LCoercedClasses$If;)LCoercedClasses$Type;" } : Jvm.MethodName)) ∈ lw_all := lw_g (lw_at lw_m10 185 rfl) rfl
theorem q2588 : (Jvm.Cond.privateMethod ({ cls := "CoercedClasses$Judge", name := "choice", desc := "(LCoercedClasses$If;)LCoercedClasses$Type;" } : Jvm.MethodName)) ∈ lw_tbl := lw_at lw_m10 186 rfl
theorem q2589 : (Jvm.Cond.instanceMethod ({ cls := "CoercedClasses$Judge", name := "choice", desc := "(LCoercedClasses$If;)LCoercedClasses$Type;" } : Jvm.MethodName)) ∈ lw_all := lw_g (lw_at lw_m10 187 rfl) rfl
theorem q2590 : (Jvm.Cond.code ({ cls := "CoercedClasses$Judge", name := "choice", desc := "(LCoercedClasses$If;)LCoercedClasses$Type;" } : Jvm.MethodName) prog_20_method_10_code (3 : Nat) (Option.some (Jvm.ClassFile.FieldType.object "CoercedClasses$Type"))) ∈ lw_all := lw_g (lw_at lw_m10 188 rfl) rfl
theorem q2591 : (Jvm.Cond.classLink "CoercedClasses$Judge" (154 : Nat) "CoercedClasses$Case") ∈ lw_all := lw_g (lw_at lw_m10 189 rfl) rfl
theorem q2592 : (Jvm.Cond.methodLink "CoercedClasses$Judge" (156 : Nat) ({ cls := "CoercedClasses$Judge", name := "cases", desc := "(LCoercedClasses$Case;)LCoercedClasses$Type;" } : Jvm.MethodName)) ∈ lw_all := lw_g (lw_at lw_m10 190 rfl) rfl
theorem q2593 : (Jvm.Cond.privateMethod ({ cls := "CoercedClasses$Judge", name := "cases", desc := "(LCoercedClasses$Case;)LCoercedClasses$Type;" } : Jvm.MethodName)) ∈ lw_tbl := lw_at lw_m10 191 rfl
theorem q2594 : (Jvm.Cond.instanceMethod ({ cls := "CoercedClasses$Judge", name := "cases", desc := "(LCoercedClasses$Case;)LCoercedClasses$Type;" } : Jvm.MethodName)) ∈ lw_all := lw_g (lw_at lw_m10 192 rfl) rfl
theorem q2595 : (Jvm.Cond.code ({ cls := "CoercedClasses$Judge", name := "cases", desc := "(LCoercedClasses$Case;)LCoercedClasses$Type;" } : Jvm.MethodName) prog_20_method_11_code (5 : Nat) (Option.some (Jvm.ClassFile.FieldType.object "CoercedClasses$Type"))) ∈ lw_all := lw_g (lw_at lw_m10 193 rfl) rfl
theorem q2596 : (Jvm.Cond.methodLink "CoercedClasses$Judge" (204 : Nat) ({ cls := "CoercedClasses$Judge", name := "as", desc := "(LCoercedClasses$Type;III)LCoercedClasses$Type;" } : Jvm.MethodName)) ∈ lw_all := lw_g (lw_at lw_m10 194 rfl) rfl
theorem q2597 : (Jvm.Cond.privateMethod ({ cls := "CoercedClasses$Judge", name := "as", desc := "(LCoercedClasses$Type;III)LCoercedClasses$Type;" } : Jvm.MethodName)) ∈ lw_tbl := lw_at lw_m10 195 rfl
theorem q2598 : (Jvm.Cond.instanceMethod ({ cls := "CoercedClasses$Judge", name := "as", desc := "(LCoercedClasses$Type;III)LCoercedClasses$Type;" } : Jvm.MethodName)) ∈ lw_all := lw_g (lw_at lw_m10 196 rfl) rfl
theorem q2599 : (Jvm.Cond.code ({ cls := "CoercedClasses$Judge", name := "as", desc := "(LCoercedClasses$Type;III)LCoercedClasses$Type;" } : Jvm.MethodName) prog_20_method_6_code (6 : Nat) (Option.some (Jvm.ClassFile.FieldType.object "CoercedClasses$Type"))) ∈ lw_all := lw_g (lw_at lw_m10 197 rfl) rfl
theorem q2600 : (Jvm.Cond.methodLink "CoercedClasses$Judge" (109 : Nat) ({ cls := "CoercedClasses$Finder", name := "begin", desc := "()V" } : Jvm.MethodName)) ∈ lw_all := lw_g (lw_at lw_m10 198 rfl) rfl
theorem q2601 : (Jvm.Cond.methodLink "CoercedClasses$Judge" (112 : Nat) ({ cls := "CoercedClasses$Finder", name := "worked", desc := "(LCoercedClasses$Type;I)LCoercedClasses$Type;" } : Jvm.MethodName)) ∈ lw_all := lw_g (lw_at lw_m10 199 rfl) rfl
theorem q2602 : (Jvm.Cond.classLink "CoercedClasses$Judge" (160 : Nat) "CoercedClasses$Use") ∈ lw_all := lw_g (lw_at lw_m10 200 rfl) rfl
theorem q2603 : (Jvm.Cond.methodLink "CoercedClasses$Judge" (162 : Nat) ({ cls := "CoercedClasses$Judge", name := "use", desc := "(LCoercedClasses$Use;)LCoercedClasses$Type;" } : Jvm.MethodName)) ∈ lw_all := lw_g (lw_at lw_m10 201 rfl) rfl
theorem q2604 : (Jvm.Cond.privateMethod ({ cls := "CoercedClasses$Judge", name := "use", desc := "(LCoercedClasses$Use;)LCoercedClasses$Type;" } : Jvm.MethodName)) ∈ lw_tbl := lw_at lw_m10 202 rfl
theorem q2605 : (Jvm.Cond.instanceMethod ({ cls := "CoercedClasses$Judge", name := "use", desc := "(LCoercedClasses$Use;)LCoercedClasses$Type;" } : Jvm.MethodName)) ∈ lw_all := lw_g (lw_at lw_m10 203 rfl) rfl
theorem q2606 : (Jvm.Cond.code ({ cls := "CoercedClasses$Judge", name := "use", desc := "(LCoercedClasses$Use;)LCoercedClasses$Type;" } : Jvm.MethodName) prog_20_method_13_code (7 : Nat) (Option.some (Jvm.ClassFile.FieldType.object "CoercedClasses$Type"))) ∈ lw_all := lw_g (lw_at lw_m10 204 rfl) rfl
theorem q2607 : (Jvm.Cond.classLink "CoercedClasses$Judge" (166 : Nat) "CoercedClasses$Chain") ∈ lw_all := lw_g (lw_at lw_m10 205 rfl) rfl
theorem q2608 : (Jvm.Cond.methodLink "CoercedClasses$Judge" (168 : Nat) ({ cls := "CoercedClasses$Judge", name := "chain", desc := "(LCoercedClasses$Chain;)LCoercedClasses$Type;" } : Jvm.MethodName)) ∈ lw_all := lw_g (lw_at lw_m10 206 rfl) rfl
theorem q2609 : (Jvm.Cond.privateMethod ({ cls := "CoercedClasses$Judge", name := "chain", desc := "(LCoercedClasses$Chain;)LCoercedClasses$Type;" } : Jvm.MethodName)) ∈ lw_tbl := lw_at lw_m10 207 rfl
theorem q2610 : (Jvm.Cond.instanceMethod ({ cls := "CoercedClasses$Judge", name := "chain", desc := "(LCoercedClasses$Chain;)LCoercedClasses$Type;" } : Jvm.MethodName)) ∈ lw_all := lw_g (lw_at lw_m10 208 rfl) rfl
theorem q2611 : (Jvm.Cond.code ({ cls := "CoercedClasses$Judge", name := "chain", desc := "(LCoercedClasses$Chain;)LCoercedClasses$Type;" } : Jvm.MethodName) prog_20_method_12_code (3 : Nat) (Option.some (Jvm.ClassFile.FieldType.object "CoercedClasses$Type"))) ∈ lw_all := lw_g (lw_at lw_m10 209 rfl) rfl
theorem q2612 : (Jvm.Cond.classLink "CoercedClasses$Judge" (78 : Nat) "CoercedClasses$Ex") ∈ lw_all := lw_g (lw_at lw_m10 210 rfl) rfl
theorem q2613 : (Jvm.Cond.classLink "CoercedClasses$Judge" (226 : Nat) "java/lang/Integer") ∈ lw_all := lw_g (lw_at lw_m10 211 rfl) rfl
theorem q2614 : (Jvm.Cond.methodLink "CoercedClasses$Judge" (228 : Nat) ({ cls := "java/lang/Integer", name := "intValue", desc := "()I" } : Jvm.MethodName)) ∈ lw_all := lw_g (lw_at lw_m10 212 rfl) rfl
theorem q2618 : (Jvm.Cond.methodLink "CoercedClasses$Judge" (39 : Nat) ({ cls := "CoercedClasses$Judge", name := "isOf", desc := "(LCoercedClasses$Ex;LCoercedClasses$Type;LCoercedClasses$Type;)V" } : Jvm.MethodName)) ∈ lw_all := lw_g (lw_at lw_m10 216 rfl) rfl
theorem q2619 : (Jvm.Cond.privateMethod ({ cls := "CoercedClasses$Judge", name := "isOf", desc := "(LCoercedClasses$Ex;LCoercedClasses$Type;LCoercedClasses$Type;)V" } : Jvm.MethodName)) ∈ lw_tbl := lw_at lw_m10 217 rfl
theorem q2620 : (Jvm.Cond.instanceMethod ({ cls := "CoercedClasses$Judge", name := "isOf", desc := "(LCoercedClasses$Ex;LCoercedClasses$Type;LCoercedClasses$Type;)V" } : Jvm.MethodName)) ∈ lw_all := lw_g (lw_at lw_m10 218 rfl) rfl
theorem q2621 : (Jvm.Cond.code ({ cls := "CoercedClasses$Judge", name := "isOf", desc := "(LCoercedClasses$Ex;LCoercedClasses$Type;LCoercedClasses$Type;)V" } : Jvm.MethodName) prog_20_method_5_code (4 : Nat) (Option.none : Option Jvm.ClassFile.FieldType)) ∈ lw_all := lw_g (lw_at lw_m10 219 rfl) rfl
theorem q2627 : (Jvm.Cond.instanceMethod ({ cls := "CoercedClasses$Judge", name := "line", desc := "(LCoercedClasses$Instance;LCoercedClasses$Line;)V" } : Jvm.MethodName)) ∈ lw_all := lw_g (lw_at lw_m10 225 rfl) rfl
theorem q2628 : (Jvm.Cond.selects "CoercedClasses$Judge" ({ cls := "CoercedClasses$Judge", name := "line", desc := "(LCoercedClasses$Instance;LCoercedClasses$Line;)V" } : Jvm.MethodName) ({ cls := "CoercedClasses$Judge", name := "line", desc := "(LCoercedClasses$Instance;LCoercedClasses$Line;)V" } : Jvm.MethodName)) ∈ lw_all := lw_g (lw_at lw_m10 226 rfl) rfl
theorem q2629 : (Jvm.Cond.code ({ cls := "CoercedClasses$Judge", name := "line", desc := "(LCoercedClasses$Instance;LCoercedClasses$Line;)V" } : Jvm.MethodName) prog_20_method_4_code (4 : Nat) (Option.none : Option Jvm.ClassFile.FieldType)) ∈ lw_all := lw_g (lw_at lw_m10 227 rfl) rfl
theorem q2630 : (Jvm.Cond.methodLink "CoercedClasses$Judge" (59 : Nat) ({ cls := "CoercedClasses$ClassDecl", name := "find", desc := "(LCoercedClasses$Word;)LCoercedClasses$Method;" } : Jvm.MethodName)) ∈ lw_all := lw_g (lw_at lw_m10 228 rfl) rfl
theorem q4503 : (Jvm.Cond.castable "CoercedClasses$Judge" "java/lang/Object") ∈ lw_tbl := lw_at lw_m18 181 rfl
theorem in_X37 : ∀ w ∈ wsX370, w ∈ lw_all := lw_in wsX370 [2473, 2475, 2477] (by decide +kernel) (by decide +kernel)
theorem q301 : (Jvm.Cond.initialized "CoercedClasses$Evidence") ∈ lw_all := lw_g (lw_at lw_m1 59 rfl) rfl
theorem q1146 : (Jvm.Cond.selects "CoercedClasses$Evidence" ({ cls := "java/lang/Object", name := "getClass", desc := "()Ljava/lang/Class;" } : Jvm.MethodName) ({ cls := "java/lang/Object", name := "getClass", desc := "()Ljava/lang/Class;" } : Jvm.MethodName)) ∈ lw_all := lw_g (lw_at lw_m4 184 rfl) rfl
theorem q2531 : (Jvm.Cond.instantiable "CoercedClasses$Evidence" (3 : Nat)) ∈ lw_all := lw_g (lw_at lw_m10 129 rfl) rfl
theorem q2533 : (Jvm.Cond.instanceMethod ({ cls := "CoercedClasses$Evidence", name := "<init>", desc := "(LCoercedClasses$Dictionary;LCoercedClasses$Type;LCoercedClasses$Type;)V" } : Jvm.MethodName)) ∈ lw_all := lw_g (lw_at lw_m10 131 rfl) rfl
theorem q2534 : (Jvm.Cond.code ({ cls := "CoercedClasses$Evidence", name := "<init>", desc := "(LCoercedClasses$Dictionary;LCoercedClasses$Type;LCoercedClasses$Type;)V" } : Jvm.MethodName) prog_9_method_1_code (4 : Nat) (Option.none : Option Jvm.ClassFile.FieldType)) ∈ lw_all := lw_g (lw_at lw_m10 132 rfl) rfl
theorem q2535 : (Jvm.Cond.methodLink "CoercedClasses$Evidence" (1 : Nat) ({ cls := "java/lang/Object", name := "<init>", desc := "()V" } : Jvm.MethodName)) ∈ lw_all := lw_g (lw_at lw_m10 133 rfl) rfl
theorem q2536 : (Jvm.Cond.fieldLink "CoercedClasses$Evidence" (7 : Nat) "CoercedClasses$Evidence" "dictionary" "LCoercedClasses$Dictionary;") ∈ lw_all := lw_g (lw_at lw_m10 134 rfl) rfl
theorem q2540 : (Jvm.Cond.fieldLink "CoercedClasses$Evidence" (13 : Nat) "CoercedClasses$Evidence" "from" "LCoercedClasses$Type;") ∈ lw_all := lw_g (lw_at lw_m10 138 rfl) rfl
theorem q2543 : (Jvm.Cond.fieldLink "CoercedClasses$Evidence" (17 : Nat) "CoercedClasses$Evidence" "to" "LCoercedClasses$Type;") ∈ lw_all := lw_g (lw_at lw_m10 141 rfl) rfl
theorem q2546 : (Jvm.Cond.laysFinal "CoercedClasses$Evidence" "CoercedClasses$Evidence" "dictionary" "LCoercedClasses$Dictionary;") ∈ lw_all := lw_g (lw_at lw_m10 144 rfl) rfl
theorem q2547 : (Jvm.Cond.soleField "CoercedClasses$Evidence" "dictionary") ∈ lw_all := lw_g (lw_at lw_m10 145 rfl) rfl
theorem q2548 : (Jvm.Cond.laysFinal "CoercedClasses$Evidence" "CoercedClasses$Evidence" "from" "LCoercedClasses$Type;") ∈ lw_all := lw_g (lw_at lw_m10 146 rfl) rfl
theorem q2549 : (Jvm.Cond.soleField "CoercedClasses$Evidence" "from") ∈ lw_all := lw_g (lw_at lw_m10 147 rfl) rfl
theorem q2550 : (Jvm.Cond.laysFinal "CoercedClasses$Evidence" "CoercedClasses$Evidence" "to" "LCoercedClasses$Type;") ∈ lw_all := lw_g (lw_at lw_m10 148 rfl) rfl
theorem q2551 : (Jvm.Cond.soleField "CoercedClasses$Evidence" "to") ∈ lw_all := lw_g (lw_at lw_m10 149 rfl) rfl
theorem q2552 : (Jvm.Cond.superclass "CoercedClasses$Evidence" "java/lang/Object") ∈ lw_all := lw_g (lw_at lw_m10 150 rfl) rfl
theorem q4504 : (Jvm.Cond.castable "CoercedClasses$Evidence" "java/lang/Object") ∈ lw_tbl := lw_at lw_m18 182 rfl
theorem in_X38 : ∀ w ∈ wsX380, w ∈ lw_all := lw_in wsX380 [2546, 2548, 2550] (by decide +kernel) (by decide +kernel)
theorem q303 : (Jvm.Cond.initialized "CoercedClasses$Proof") ∈ lw_all := lw_g (lw_at lw_m1 61 rfl) rfl
theorem q1166 : (Jvm.Cond.selects "CoercedClasses$Proof" ({ cls := "java/lang/Object", name := "getClass", desc := "()Ljava/lang/Class;" } : Jvm.MethodName) ({ cls := "java/lang/Object", name := "getClass", desc := "()Ljava/lang/Class;" } : Jvm.MethodName)) ∈ lw_all := lw_g (lw_at lw_m4 204 rfl) rfl
theorem q2735 : (Jvm.Cond.instantiable "CoercedClasses$Proof" (6 : Nat)) ∈ lw_all := lw_g (lw_at lw_m11 93 rfl) rfl
theorem q2737 : (Jvm.Cond.instanceMethod ({ cls := "CoercedClasses$Proof", name := "<init>", desc := "()V" } : Jvm.MethodName)) ∈ lw_all := lw_g (lw_at lw_m11 95 rfl) rfl
theorem q2738 : (Jvm.Cond.code ({ cls := "CoercedClasses$Proof", name := "<init>", desc := "()V" } : Jvm.MethodName) prog_30_method_1_code (1 : Nat) (Option.none : Option Jvm.ClassFile.FieldType)) ∈ lw_all := lw_g (lw_at lw_m11 96 rfl) rfl
theorem q2739 : (Jvm.Cond.methodLink "CoercedClasses$Proof" (1 : Nat) ({ cls := "java/lang/Object", name := "<init>", desc := "()V" } : Jvm.MethodName)) ∈ lw_all := lw_g (lw_at lw_m11 97 rfl) rfl
theorem q2758 : (Jvm.Cond.lays "CoercedClasses$Proof" "CoercedClasses$Proof" "why" "LCoercedClasses$Why;") ∈ lw_all := lw_g (lw_at lw_m11 116 rfl) rfl
theorem q2759 : (Jvm.Cond.soleField "CoercedClasses$Proof" "why") ∈ lw_all := lw_g (lw_at lw_m11 117 rfl) rfl
theorem q2760 : (Jvm.Cond.lays "CoercedClasses$Proof" "CoercedClasses$Proof" "type" "LCoercedClasses$Type;") ∈ lw_all := lw_g (lw_at lw_m11 118 rfl) rfl
theorem q2761 : (Jvm.Cond.soleField "CoercedClasses$Proof" "type") ∈ lw_all := lw_g (lw_at lw_m11 119 rfl) rfl
theorem q2762 : (Jvm.Cond.lays "CoercedClasses$Proof" "CoercedClasses$Proof" "instance" "LCoercedClasses$Instance;") ∈ lw_all := lw_g (lw_at lw_m11 120 rfl) rfl
theorem q2763 : (Jvm.Cond.soleField "CoercedClasses$Proof" "instance") ∈ lw_all := lw_g (lw_at lw_m11 121 rfl) rfl
theorem q2764 : (Jvm.Cond.lays "CoercedClasses$Proof" "CoercedClasses$Proof" "given" "I") ∈ lw_all := lw_g (lw_at lw_m11 122 rfl) rfl
theorem q2765 : (Jvm.Cond.soleField "CoercedClasses$Proof" "given") ∈ lw_all := lw_g (lw_at lw_m11 123 rfl) rfl
theorem q2766 : (Jvm.Cond.lays "CoercedClasses$Proof" "CoercedClasses$Proof" "a" "LCoercedClasses$Proof;") ∈ lw_all := lw_g (lw_at lw_m11 124 rfl) rfl
theorem q2767 : (Jvm.Cond.soleField "CoercedClasses$Proof" "a") ∈ lw_all := lw_g (lw_at lw_m11 125 rfl) rfl
theorem q2768 : (Jvm.Cond.lays "CoercedClasses$Proof" "CoercedClasses$Proof" "b" "LCoercedClasses$Proof;") ∈ lw_all := lw_g (lw_at lw_m11 126 rfl) rfl
theorem q2769 : (Jvm.Cond.soleField "CoercedClasses$Proof" "b") ∈ lw_all := lw_g (lw_at lw_m11 127 rfl) rfl
theorem q2770 : (Jvm.Cond.superclass "CoercedClasses$Proof" "java/lang/Object") ∈ lw_all := lw_g (lw_at lw_m11 128 rfl) rfl
theorem q4505 : (Jvm.Cond.castable "CoercedClasses$Proof" "java/lang/Object") ∈ lw_tbl := lw_at lw_m18 183 rfl
theorem in_X39 : ∀ w ∈ wsX390, w ∈ lw_all := lw_in wsX390 [2758, 2760, 2762, 2764, 2766, 2768] (by decide +kernel) (by decide +kernel)
theorem q306 : (Jvm.Cond.initialized "CoercedClasses$Cell") ∈ lw_all := lw_g (lw_at lw_m1 64 rfl) rfl
theorem q1141 : (Jvm.Cond.selects "CoercedClasses$Cell" ({ cls := "java/lang/Object", name := "getClass", desc := "()Ljava/lang/Class;" } : Jvm.MethodName) ({ cls := "java/lang/Object", name := "getClass", desc := "()Ljava/lang/Class;" } : Jvm.MethodName)) ∈ lw_all := lw_g (lw_at lw_m4 179 rfl) rfl
theorem q3035 : (Jvm.Cond.instantiable "CoercedClasses$Cell" (7 : Nat)) ∈ lw_all := lw_g (lw_at lw_m12 153 rfl) rfl
theorem q3037 : (Jvm.Cond.instanceMethod ({ cls := "CoercedClasses$Cell", name := "<init>", desc := "()V" } : Jvm.MethodName)) ∈ lw_all := lw_g (lw_at lw_m12 155 rfl) rfl
theorem q3038 : (Jvm.Cond.code ({ cls := "CoercedClasses$Cell", name := "<init>", desc := "()V" } : Jvm.MethodName) prog_4_method_1_code (1 : Nat) (Option.none : Option Jvm.ClassFile.FieldType)) ∈ lw_all := lw_g (lw_at lw_m12 156 rfl) rfl
theorem q3039 : (Jvm.Cond.methodLink "CoercedClasses$Cell" (1 : Nat) ({ cls := "java/lang/Object", name := "<init>", desc := "()V" } : Jvm.MethodName)) ∈ lw_all := lw_g (lw_at lw_m12 157 rfl) rfl
theorem q3046 : (Jvm.Cond.fieldLink "CoercedClasses$Cell" (7 : Nat) "CoercedClasses$Cell" "with" "[I") ∈ lw_all := lw_g (lw_at lw_m12 164 rfl) rfl
theorem q3048 : (Jvm.Cond.lays "CoercedClasses$Cell" "CoercedClasses$Cell" "form" "LCoercedClasses$Form;") ∈ lw_all := lw_g (lw_at lw_m12 166 rfl) rfl
theorem q3049 : (Jvm.Cond.soleField "CoercedClasses$Cell" "form") ∈ lw_all := lw_g (lw_at lw_m12 167 rfl) rfl
theorem q3050 : (Jvm.Cond.lays "CoercedClasses$Cell" "CoercedClasses$Cell" "a" "J") ∈ lw_all := lw_g (lw_at lw_m12 168 rfl) rfl
theorem q3051 : (Jvm.Cond.soleField "CoercedClasses$Cell" "a") ∈ lw_all := lw_g (lw_at lw_m12 169 rfl) rfl
theorem q3052 : (Jvm.Cond.lays "CoercedClasses$Cell" "CoercedClasses$Cell" "b" "J") ∈ lw_all := lw_g (lw_at lw_m12 170 rfl) rfl
theorem q3053 : (Jvm.Cond.soleField "CoercedClasses$Cell" "b") ∈ lw_all := lw_g (lw_at lw_m12 171 rfl) rfl
theorem q3054 : (Jvm.Cond.lays "CoercedClasses$Cell" "CoercedClasses$Cell" "code" "LCoercedClasses$Lambda;") ∈ lw_all := lw_g (lw_at lw_m12 172 rfl) rfl
theorem q3055 : (Jvm.Cond.soleField "CoercedClasses$Cell" "code") ∈ lw_all := lw_g (lw_at lw_m12 173 rfl) rfl
theorem q3056 : (Jvm.Cond.lays "CoercedClasses$Cell" "CoercedClasses$Cell" "around" "I") ∈ lw_all := lw_g (lw_at lw_m12 174 rfl) rfl
theorem q3057 : (Jvm.Cond.soleField "CoercedClasses$Cell" "around") ∈ lw_all := lw_g (lw_at lw_m12 175 rfl) rfl
theorem q3058 : (Jvm.Cond.lays "CoercedClasses$Cell" "CoercedClasses$Cell" "instance" "LCoercedClasses$Instance;") ∈ lw_all := lw_g (lw_at lw_m12 176 rfl) rfl
theorem q3059 : (Jvm.Cond.soleField "CoercedClasses$Cell" "instance") ∈ lw_all := lw_g (lw_at lw_m12 177 rfl) rfl
theorem q3060 : (Jvm.Cond.laysFinal "CoercedClasses$Cell" "CoercedClasses$Cell" "with" "[I") ∈ lw_all := lw_g (lw_at lw_m12 178 rfl) rfl
theorem q3061 : (Jvm.Cond.soleField "CoercedClasses$Cell" "with") ∈ lw_all := lw_g (lw_at lw_m12 179 rfl) rfl
theorem q3062 : (Jvm.Cond.superclass "CoercedClasses$Cell" "java/lang/Object") ∈ lw_all := lw_g (lw_at lw_m12 180 rfl) rfl
theorem q4506 : (Jvm.Cond.castable "CoercedClasses$Cell" "java/lang/Object") ∈ lw_tbl := lw_at lw_m18 184 rfl
theorem in_X40 : ∀ w ∈ wsX400, w ∈ lw_all := lw_in wsX400 [3048, 3050, 3052, 3054, 3056, 3058, 3060] (by decide +kernel) (by decide +kernel)
theorem q242 : (Jvm.Cond.initialized "CoercedClassesLaw") ∈ lw_all := lw_g (lw_at lw_m1 0 rfl) rfl
theorem q307 : (Jvm.Cond.methodLink "CoercedClassesLaw" (13 : Nat) ({ cls := "CoercedClasses", name := "feed", desc := "(IIIII)I" } : Jvm.MethodName)) ∈ lw_all := lw_g (lw_at lw_m1 65 rfl) rfl
theorem q316 : (Jvm.Cond.classLink "CoercedClassesLaw" (7 : Nat) "CoercedClasses") ∈ lw_all := lw_g (lw_at lw_m1 74 rfl) rfl
theorem q317 : (Jvm.Cond.methodLink "CoercedClassesLaw" (9 : Nat) ({ cls := "CoercedClasses", name := "<init>", desc := "()V" } : Jvm.MethodName)) ∈ lw_all := lw_g (lw_at lw_m1 75 rfl) rfl
theorem q803 : (Jvm.Cond.methodLink "CoercedClassesLaw" (18 : Nat) ({ cls := "CoercedClasses", name := "load", desc := "(I)I" } : Jvm.MethodName)) ∈ lw_all := lw_g (lw_at lw_m3 81 rfl) rfl
theorem q2883 : (Jvm.Cond.methodLink "CoercedClassesLaw" (23 : Nat) ({ cls := "CoercedClasses", name := "ask", desc := "(I)Z" } : Jvm.MethodName)) ∈ lw_all := lw_g (lw_at lw_m12 1 rfl) rfl
theorem q2902 : (Jvm.Cond.methodLink "CoercedClassesLaw" (28 : Nat) ({ cls := "CoercedClasses", name := "fault", desc := "(I)I" } : Jvm.MethodName)) ∈ lw_all := lw_g (lw_at lw_m12 20 rfl) rfl
theorem q2906 : (Jvm.Cond.methodLink "CoercedClassesLaw" (32 : Nat) ({ cls := "CoercedClasses", name := "run", desc := "(I)I" } : Jvm.MethodName)) ∈ lw_all := lw_g (lw_at lw_m12 24 rfl) rfl
theorem q3120 : (Jvm.Cond.methodLink "CoercedClassesLaw" (36 : Nat) ({ cls := "CoercedClasses", name := "about", desc := "(I)I" } : Jvm.MethodName)) ∈ lw_all := lw_g (lw_at lw_m12 238 rfl) rfl
theorem q3124 : (Jvm.Cond.methodLink "CoercedClassesLaw" (40 : Nat) ({ cls := "CoercedClasses", name := "octet", desc := "(I)I" } : Jvm.MethodName)) ∈ lw_all := lw_g (lw_at lw_m13 2 rfl) rfl
theorem q3128 : (Jvm.Cond.methodLink "CoercedClassesLaw" (44 : Nat) ({ cls := "CoercedClasses", name := "size", desc := "(II)I" } : Jvm.MethodName)) ∈ lw_all := lw_g (lw_at lw_m13 6 rfl) rfl
theorem q3136 : (Jvm.Cond.methodLink "CoercedClassesLaw" (49 : Nat) ({ cls := "CoercedClasses", name := "term", desc := "(III)I" } : Jvm.MethodName)) ∈ lw_all := lw_g (lw_at lw_m13 14 rfl) rfl
theorem q3140 : (Jvm.Cond.methodLink "CoercedClassesLaw" (54 : Nat) ({ cls := "CoercedClasses", name := "check", desc := "(II)I" } : Jvm.MethodName)) ∈ lw_all := lw_g (lw_at lw_m13 18 rfl) rfl
theorem q3228 : (Jvm.Cond.methodLink "CoercedClassesLaw" (58 : Nat) ({ cls := "CoercedClasses", name := "type", desc := "(III)I" } : Jvm.MethodName)) ∈ lw_all := lw_g (lw_at lw_m13 106 rfl) rfl
theorem q3233 : (Jvm.Cond.classLink "CoercedClassesLaw" (10 : Nat) "CoercedClassesModel") ∈ lw_all := lw_g (lw_at lw_m13 111 rfl) rfl
theorem q3235 : (Jvm.Cond.methodLink "CoercedClassesLaw" (12 : Nat) ({ cls := "CoercedClassesModel", name := "<init>", desc := "()V" } : Jvm.MethodName)) ∈ lw_all := lw_g (lw_at lw_m13 113 rfl) rfl
theorem q3788 : (Jvm.Cond.methodLink "CoercedClassesLaw" (35 : Nat) ({ cls := "CoercedClassesModel", name := "run", desc := "(I)I" } : Jvm.MethodName)) ∈ lw_all := lw_g (lw_at lw_m15 186 rfl) rfl
theorem q3991 : (Jvm.Cond.methodLink "CoercedClassesLaw" (17 : Nat) ({ cls := "CoercedClassesModel", name := "feed", desc := "(IIIII)I" } : Jvm.MethodName)) ∈ lw_all := lw_g (lw_at lw_m16 149 rfl) rfl
theorem q3995 : (Jvm.Cond.methodLink "CoercedClassesLaw" (22 : Nat) ({ cls := "CoercedClassesModel", name := "load", desc := "(I)I" } : Jvm.MethodName)) ∈ lw_all := lw_g (lw_at lw_m16 153 rfl) rfl
theorem q4413 : (Jvm.Cond.methodLink "CoercedClassesLaw" (27 : Nat) ({ cls := "CoercedClassesModel", name := "ask", desc := "(I)Z" } : Jvm.MethodName)) ∈ lw_all := lw_g (lw_at lw_m18 91 rfl) rfl
theorem q4421 : (Jvm.Cond.methodLink "CoercedClassesLaw" (31 : Nat) ({ cls := "CoercedClassesModel", name := "fault", desc := "(I)I" } : Jvm.MethodName)) ∈ lw_all := lw_g (lw_at lw_m18 99 rfl) rfl
theorem q4425 : (Jvm.Cond.methodLink "CoercedClassesLaw" (39 : Nat) ({ cls := "CoercedClassesModel", name := "about", desc := "(I)I" } : Jvm.MethodName)) ∈ lw_all := lw_g (lw_at lw_m18 103 rfl) rfl
theorem q4429 : (Jvm.Cond.methodLink "CoercedClassesLaw" (43 : Nat) ({ cls := "CoercedClassesModel", name := "octet", desc := "(I)I" } : Jvm.MethodName)) ∈ lw_all := lw_g (lw_at lw_m18 107 rfl) rfl
theorem q4433 : (Jvm.Cond.methodLink "CoercedClassesLaw" (48 : Nat) ({ cls := "CoercedClassesModel", name := "size", desc := "(II)I" } : Jvm.MethodName)) ∈ lw_all := lw_g (lw_at lw_m18 111 rfl) rfl
theorem q4441 : (Jvm.Cond.methodLink "CoercedClassesLaw" (53 : Nat) ({ cls := "CoercedClassesModel", name := "term", desc := "(III)I" } : Jvm.MethodName)) ∈ lw_all := lw_g (lw_at lw_m18 119 rfl) rfl
theorem q4445 : (Jvm.Cond.methodLink "CoercedClassesLaw" (57 : Nat) ({ cls := "CoercedClassesModel", name := "check", desc := "(II)I" } : Jvm.MethodName)) ∈ lw_all := lw_g (lw_at lw_m18 123 rfl) rfl
theorem q4449 : (Jvm.Cond.methodLink "CoercedClassesLaw" (61 : Nat) ({ cls := "CoercedClassesModel", name := "type", desc := "(III)I" } : Jvm.MethodName)) ∈ lw_all := lw_g (lw_at lw_m18 127 rfl) rfl
theorem q305 : (Jvm.Cond.initialized "CoercedClasses$Form") ∈ lw_all := lw_g (lw_at lw_m1 63 rfl) rfl
theorem q1149 : (Jvm.Cond.selects "CoercedClasses$Form" ({ cls := "java/lang/Object", name := "getClass", desc := "()Ljava/lang/Class;" } : Jvm.MethodName) ({ cls := "java/lang/Object", name := "getClass", desc := "()Ljava/lang/Class;" } : Jvm.MethodName)) ∈ lw_all := lw_g (lw_at lw_m4 187 rfl) rfl
theorem q3002 : (Jvm.Cond.laysStatic "CoercedClasses$Form" "PAIR" "LCoercedClasses$Form;") ∈ lw_tbl := lw_at lw_m12 120 rfl
theorem q3006 : (Jvm.Cond.laysStatic "CoercedClasses$Form" "LIST" "LCoercedClasses$Form;") ∈ lw_tbl := lw_at lw_m12 124 rfl
theorem q3030 : (Jvm.Cond.laysStatic "CoercedClasses$Form" "PART" "LCoercedClasses$Form;") ∈ lw_tbl := lw_at lw_m12 148 rfl
theorem q3070 : (Jvm.Cond.laysStatic "CoercedClasses$Form" "BOUND" "LCoercedClasses$Form;") ∈ lw_tbl := lw_at lw_m12 188 rfl
theorem q3100 : (Jvm.Cond.laysStatic "CoercedClasses$Form" "DICTIONARY" "LCoercedClasses$Form;") ∈ lw_tbl := lw_at lw_m12 218 rfl
theorem q3113 : (Jvm.Cond.laysStatic "CoercedClasses$Form" "FUNCTION" "LCoercedClasses$Form;") ∈ lw_tbl := lw_at lw_m12 231 rfl
theorem q4508 : (Jvm.Cond.castable "CoercedClasses$Form" "java/lang/Object") ∈ lw_tbl := lw_at lw_m18 186 rfl
theorem q262 : (Jvm.Cond.initialized "CoercedClasses$Kind") ∈ lw_all := lw_g (lw_at lw_m1 20 rfl) rfl
theorem q839 : (Jvm.Cond.laysStatic "CoercedClasses$Kind" "END" "LCoercedClasses$Kind;") ∈ lw_tbl := lw_at lw_m3 117 rfl
theorem q854 : (Jvm.Cond.laysStatic "CoercedClasses$Kind" "BAD" "LCoercedClasses$Kind;") ∈ lw_tbl := lw_at lw_m3 132 rfl
theorem q856 : (Jvm.Cond.laysStatic "CoercedClasses$Kind" "GREAT" "LCoercedClasses$Kind;") ∈ lw_tbl := lw_at lw_m3 134 rfl
theorem q925 : (Jvm.Cond.laysStatic "CoercedClasses$Kind" "WORD" "LCoercedClasses$Kind;") ∈ lw_tbl := lw_at lw_m3 203 rfl
theorem q927 : (Jvm.Cond.laysStatic "CoercedClasses$Kind" "NAME" "LCoercedClasses$Kind;") ∈ lw_tbl := lw_at lw_m3 205 rfl
theorem q933 : (Jvm.Cond.laysStatic "CoercedClasses$Kind" "NUMBER" "LCoercedClasses$Kind;") ∈ lw_tbl := lw_at lw_m3 211 rfl
theorem q939 : (Jvm.Cond.laysStatic "CoercedClasses$Kind" "SIGN" "LCoercedClasses$Kind;") ∈ lw_tbl := lw_at lw_m3 217 rfl
theorem q1157 : (Jvm.Cond.selects "CoercedClasses$Kind" ({ cls := "java/lang/Object", name := "getClass", desc := "()Ljava/lang/Class;" } : Jvm.MethodName) ({ cls := "java/lang/Object", name := "getClass", desc := "()Ljava/lang/Class;" } : Jvm.MethodName)) ∈ lw_all := lw_g (lw_at lw_m4 195 rfl) rfl
theorem q4509 : (Jvm.Cond.castable "CoercedClasses$Kind" "java/lang/Object") ∈ lw_tbl := lw_at lw_m18 187 rfl
theorem q304 : (Jvm.Cond.initialized "CoercedClasses$Wait") ∈ lw_all := lw_g (lw_at lw_m1 62 rfl) rfl
theorem q1177 : (Jvm.Cond.selects "CoercedClasses$Wait" ({ cls := "java/lang/Object", name := "getClass", desc := "()Ljava/lang/Class;" } : Jvm.MethodName) ({ cls := "java/lang/Object", name := "getClass", desc := "()Ljava/lang/Class;" } : Jvm.MethodName)) ∈ lw_all := lw_g (lw_at lw_m4 215 rfl) rfl
theorem q2923 : (Jvm.Cond.laysStatic "CoercedClasses$Wait" "ARGUMENT" "LCoercedClasses$Wait;") ∈ lw_tbl := lw_at lw_m12 41 rfl
theorem q2930 : (Jvm.Cond.laysStatic "CoercedClasses$Wait" "LEFT" "LCoercedClasses$Wait;") ∈ lw_tbl := lw_at lw_m12 48 rfl
theorem q3012 : (Jvm.Cond.sameMethod "CoercedClasses$Wait" "java/lang/Enum" "ordinal" "()I") ∈ lw_all := lw_g (lw_at lw_m12 130 rfl) rfl
theorem q3013 : (Jvm.Cond.selects "CoercedClasses$Wait" ({ cls := "CoercedClasses$Wait", name := "ordinal", desc := "()I" } : Jvm.MethodName) ({ cls := "java/lang/Enum", name := "ordinal", desc := "()I" } : Jvm.MethodName)) ∈ lw_all := lw_g (lw_at lw_m12 131 rfl) rfl
theorem q3015 : (Jvm.Cond.laysStatic "CoercedClasses$Wait" "FUNCTION" "LCoercedClasses$Wait;") ∈ lw_tbl := lw_at lw_m12 133 rfl
theorem q3079 : (Jvm.Cond.laysStatic "CoercedClasses$Wait" "RIGHT" "LCoercedClasses$Wait;") ∈ lw_tbl := lw_at lw_m12 197 rfl
theorem q3115 : (Jvm.Cond.laysStatic "CoercedClasses$Wait" "LET" "LCoercedClasses$Wait;") ∈ lw_tbl := lw_at lw_m12 233 rfl
theorem q3117 : (Jvm.Cond.laysStatic "CoercedClasses$Wait" "IF" "LCoercedClasses$Wait;") ∈ lw_tbl := lw_at lw_m12 235 rfl
theorem q3119 : (Jvm.Cond.laysStatic "CoercedClasses$Wait" "CASE" "LCoercedClasses$Wait;") ∈ lw_tbl := lw_at lw_m12 237 rfl
theorem q4510 : (Jvm.Cond.castable "CoercedClasses$Wait" "java/lang/Object") ∈ lw_tbl := lw_at lw_m18 188 rfl
theorem q302 : (Jvm.Cond.initialized "CoercedClasses$Why") ∈ lw_all := lw_g (lw_at lw_m1 60 rfl) rfl
theorem q1178 : (Jvm.Cond.selects "CoercedClasses$Why" ({ cls := "java/lang/Object", name := "getClass", desc := "()Ljava/lang/Class;" } : Jvm.MethodName) ({ cls := "java/lang/Object", name := "getClass", desc := "()Ljava/lang/Class;" } : Jvm.MethodName)) ∈ lw_all := lw_g (lw_at lw_m4 216 rfl) rfl
theorem q2728 : (Jvm.Cond.laysStatic "CoercedClasses$Why" "ALIKE" "LCoercedClasses$Why;") ∈ lw_tbl := lw_at lw_m11 86 rfl
theorem q2786 : (Jvm.Cond.laysStatic "CoercedClasses$Why" "PARTS" "LCoercedClasses$Why;") ∈ lw_tbl := lw_at lw_m11 144 rfl
theorem q2789 : (Jvm.Cond.laysStatic "CoercedClasses$Why" "GIVEN" "LCoercedClasses$Why;") ∈ lw_tbl := lw_at lw_m11 147 rfl
theorem q2791 : (Jvm.Cond.laysStatic "CoercedClasses$Why" "LINE" "LCoercedClasses$Why;") ∈ lw_tbl := lw_at lw_m11 149 rfl
theorem q2798 : (Jvm.Cond.laysStatic "CoercedClasses$Why" "THEN" "LCoercedClasses$Why;") ∈ lw_tbl := lw_at lw_m11 156 rfl
theorem q2800 : (Jvm.Cond.laysStatic "CoercedClasses$Why" "TURNED" "LCoercedClasses$Why;") ∈ lw_tbl := lw_at lw_m11 158 rfl
theorem q2806 : (Jvm.Cond.sameMethod "CoercedClasses$Why" "java/lang/Enum" "ordinal" "()I") ∈ lw_all := lw_g (lw_at lw_m11 164 rfl) rfl
theorem q2808 : (Jvm.Cond.selects "CoercedClasses$Why" ({ cls := "CoercedClasses$Why", name := "ordinal", desc := "()I" } : Jvm.MethodName) ({ cls := "java/lang/Enum", name := "ordinal", desc := "()I" } : Jvm.MethodName)) ∈ lw_all := lw_g (lw_at lw_m11 166 rfl) rfl
theorem q4511 : (Jvm.Cond.castable "CoercedClasses$Why" "java/lang/Object") ∈ lw_tbl := lw_at lw_m18 189 rfl
theorem q4514 : (Jvm.Cond.castable "[B" "java/lang/Object") ∈ lw_tbl := lw_at lw_m18 192 rfl
theorem q4519 : (Jvm.Cond.castable "[I" "java/lang/Object") ∈ lw_tbl := lw_at lw_m18 197 rfl
theorem q4520 : (Jvm.Cond.castable "[J" "java/lang/Object") ∈ lw_tbl := lw_at lw_m18 198 rfl
theorem q4516 : (Jvm.Cond.castable "[LCoercedClasses$Asked;" "java/lang/Object") ∈ lw_tbl := lw_at lw_m18 194 rfl
theorem q4518 : (Jvm.Cond.castable "[LCoercedClasses$Dictionary;" "java/lang/Object") ∈ lw_tbl := lw_at lw_m18 196 rfl
theorem q4517 : (Jvm.Cond.castable "[LCoercedClasses$Frame;" "java/lang/Object") ∈ lw_tbl := lw_at lw_m18 195 rfl
theorem q4521 : (Jvm.Cond.castable "[LCoercedClasses$Instance;" "java/lang/Object") ∈ lw_tbl := lw_at lw_m18 199 rfl
theorem q4523 : (Jvm.Cond.castable "[LCoercedClasses$Line;" "java/lang/Object") ∈ lw_tbl := lw_at lw_m18 201 rfl
theorem q4513 : (Jvm.Cond.castable "[LCoercedClasses$Program;" "java/lang/Object") ∈ lw_tbl := lw_at lw_m18 191 rfl
theorem q4515 : (Jvm.Cond.castable "[LCoercedClasses$Type;" "java/lang/Object") ∈ lw_tbl := lw_at lw_m18 193 rfl
theorem q4469 : (Jvm.Cond.sameMethod "[Ljava/lang/Object;" "java/lang/Object" "getClass" "()Ljava/lang/Class;") ∈ lw_all := lw_g (lw_at lw_m18 147 rfl) rfl
theorem q4470 : (Jvm.Cond.selects "[Ljava/lang/Object;" ({ cls := "java/lang/Object", name := "getClass", desc := "()Ljava/lang/Class;" } : Jvm.MethodName) ({ cls := "java/lang/Object", name := "getClass", desc := "()Ljava/lang/Class;" } : Jvm.MethodName)) ∈ lw_all := lw_g (lw_at lw_m18 148 rfl) rfl
theorem q4522 : (Jvm.Cond.castable "[Ljava/lang/Object;" "java/lang/Object") ∈ lw_tbl := lw_at lw_m18 200 rfl
theorem q4524 : (Jvm.Cond.castable "[Z" "java/lang/Object") ∈ lw_tbl := lw_at lw_m18 202 rfl
theorem q294 : (Jvm.Cond.initialized "java/lang/Integer$IntegerCache") ∈ lw_all := lw_g (lw_at lw_m1 52 rfl) rfl
theorem q1888 : (Jvm.Cond.laysStatic "java/lang/Integer$IntegerCache" "high" "I") ∈ lw_tbl := lw_at lw_m7 206 rfl
theorem q1890 : (Jvm.Cond.laysStatic "java/lang/Integer$IntegerCache" "cache" "[Ljava/lang/Integer;") ∈ lw_tbl := lw_at lw_m7 208 rfl
theorem q276 : (Jvm.Cond.initialized "java/lang/System") ∈ lw_all := lw_g (lw_at lw_m1 34 rfl) rfl
theorem q1195 : (Jvm.Cond.static ({ cls := "java/lang/System", name := "arraycopy", desc := "(Ljava/lang/Object;ILjava/lang/Object;II)V" } : Jvm.MethodName)) ∈ lw_all := lw_g (lw_at lw_m4 233 rfl) rfl
theorem q1196 : (Jvm.Cond.native ({ cls := "java/lang/System", name := "arraycopy", desc := "(Ljava/lang/Object;ILjava/lang/Object;II)V" } : Jvm.MethodName)) ∈ lw_all := lw_g (lw_at lw_m4 234 rfl) rfl
theorem q324 : (Jvm.Cond.arrayOver (Jvm.ClassFile.FieldType.object "CoercedClasses$Program")) ∈ lw_tbl := lw_at lw_m1 82 rfl
theorem q362 : (Jvm.Cond.arrayClass Jvm.ClassFile.FieldType.byte) ∈ lw_all := lw_g (lw_at lw_m1 120 rfl) rfl
theorem q364 : (Jvm.Cond.arrayOver (Jvm.ClassFile.FieldType.object "CoercedClasses$Type")) ∈ lw_tbl := lw_at lw_m1 122 rfl
theorem q433 : (Jvm.Cond.arrayOver (Jvm.ClassFile.FieldType.object "CoercedClasses$Asked")) ∈ lw_tbl := lw_at lw_m1 191 rfl
theorem q614 : (Jvm.Cond.arrayOver (Jvm.ClassFile.FieldType.object "CoercedClasses$Frame")) ∈ lw_tbl := lw_at lw_m2 132 rfl
theorem q617 : (Jvm.Cond.arrayOver (Jvm.ClassFile.FieldType.object "CoercedClasses$Dictionary")) ∈ lw_tbl := lw_at lw_m2 135 rfl
theorem q643 : (Jvm.Cond.arrayClass Jvm.ClassFile.FieldType.int) ∈ lw_all := lw_g (lw_at lw_m2 161 rfl) rfl
theorem q644 : (Jvm.Cond.arrayClass Jvm.ClassFile.FieldType.long) ∈ lw_all := lw_g (lw_at lw_m2 162 rfl) rfl
theorem q1105 : (Jvm.Cond.arrayOver (Jvm.ClassFile.FieldType.object "CoercedClasses$Instance")) ∈ lw_tbl := lw_at lw_m4 143 rfl
theorem q1189 : (Jvm.Cond.arrayOver (Jvm.ClassFile.FieldType.object "java/lang/Object")) ∈ lw_tbl := lw_at lw_m4 227 rfl
theorem q2288 : (Jvm.Cond.arrayOver (Jvm.ClassFile.FieldType.object "CoercedClasses$Line")) ∈ lw_tbl := lw_at lw_m9 126 rfl
theorem q3787 : (Jvm.Cond.arrayClass Jvm.ClassFile.FieldType.boolean) ∈ lw_all := lw_g (lw_at lw_m15 185 rfl) rfl
