set_option maxRecDepth 100000
/-! THE METHODS, and what is the same at each call; the pools' entries of methods and fields -/
def m_J0_init : om_M := (yJ0_init, cJ0_init, 1, (Option.none : Option Jvm.ClassFile.FieldType), [])
theorem mw_J0_init : om_MW m_J0_init 0 := ⟨q346, q246, by decide, ⟨by decide, by decide⟩, by decide +kernel⟩
def m_J1_init : om_M := (yJ1_init, cJ1_init, 1, (Option.none : Option Jvm.ClassFile.FieldType), [])
theorem mw_J1_init : om_MW m_J1_init 0 := ⟨q343, q247, by decide, ⟨by decide, by decide⟩, by decide +kernel⟩
def m_J2_init : om_M := (yJ2_init, cJ2_init, 1, (Option.none : Option Jvm.ClassFile.FieldType), [])
theorem mw_J2_init : om_MW m_J2_init 0 := ⟨q340, q248, by decide, ⟨by decide, by decide⟩, by decide +kernel⟩
def m_J2_clear : om_M := (yJ2_clear, cJ2_clear, 4, (Option.none : Option Jvm.ClassFile.FieldType), [])
theorem mw_J2_clear : om_MW m_J2_clear 0 := ⟨q823, q248, by decide, ⟨by decide, by decide⟩, by decide +kernel⟩
def m_J2_add : om_M := (yJ2_add, cJ2_add, 2, (Option.some Jvm.ClassFile.FieldType.boolean), [])
theorem mw_J2_add : om_MW m_J2_add 1 := ⟨q1109, q248, by decide, ⟨by decide, by decide⟩, by decide +kernel⟩
def m_J2_add_2 : om_M := (yJ2_add_2, cJ2_add_2, 4, (Option.none : Option Jvm.ClassFile.FieldType), [])
theorem mw_J2_add_2 : om_MW m_J2_add_2 3 := ⟨q1113, q248, by decide, ⟨by decide, by decide⟩, by decide +kernel⟩
def m_J2_grow : om_M := (yJ2_grow, cJ2_grow, 1, (Option.some (Jvm.ClassFile.FieldType.array (Jvm.ClassFile.FieldType.object "java/lang/Object"))), [])
theorem mw_J2_grow : om_MW m_J2_grow 0 := ⟨q1117, q248, by decide, ⟨by decide, by decide⟩, by decide +kernel⟩
def m_J2_grow_2 : om_M := (yJ2_grow_2, cJ2_grow_2, 4, (Option.some (Jvm.ClassFile.FieldType.array (Jvm.ClassFile.FieldType.object "java/lang/Object"))), [])
theorem mw_J2_grow_2 : om_MW m_J2_grow_2 1 := ⟨q1121, q248, by decide, ⟨by decide, by decide⟩, by decide +kernel⟩
def m_J2_size : om_M := (yJ2_size, cJ2_size, 1, (Option.some Jvm.ClassFile.FieldType.int), [])
theorem mw_J2_size : om_MW m_J2_size 0 := ⟨q1251, q248, by decide, ⟨by decide, by decide⟩, by decide +kernel⟩
def m_J2_init_2 : om_M := (yJ2_init_2, cJ2_init_2, 2, (Option.none : Option Jvm.ClassFile.FieldType), [])
theorem mw_J2_init_2 : om_MW m_J2_init_2 1 := ⟨q1780, q248, by decide, ⟨by decide, by decide⟩, by decide +kernel⟩
def m_J2_get : om_M := (yJ2_get, cJ2_get, 2, (Option.some (Jvm.ClassFile.FieldType.object "java/lang/Object")), [])
theorem mw_J2_get : om_MW m_J2_get 1 := ⟨q1986, q248, by decide, ⟨by decide, by decide⟩, by decide +kernel⟩
def m_J2_elementData : om_M := (yJ2_elementData, cJ2_elementData, 2, (Option.some (Jvm.ClassFile.FieldType.object "java/lang/Object")), [])
theorem mw_J2_elementData : om_MW m_J2_elementData 1 := ⟨q1994, q248, by decide, ⟨by decide, by decide⟩, by decide +kernel⟩
def m_J2_remove : om_M := (yJ2_remove, cJ2_remove, 4, (Option.some (Jvm.ClassFile.FieldType.object "java/lang/Object")), [])
theorem mw_J2_remove : om_MW m_J2_remove 1 := ⟨q2257, q248, by decide, ⟨by decide, by decide⟩, by decide +kernel⟩
def m_J2_fastRemove : om_M := (yJ2_fastRemove, cJ2_fastRemove, 4, (Option.none : Option Jvm.ClassFile.FieldType), [])
theorem mw_J2_fastRemove : om_MW m_J2_fastRemove 2 := ⟨q2261, q248, by decide, ⟨by decide, by decide⟩, by decide +kernel⟩
def m_J2_isEmpty : om_M := (yJ2_isEmpty, cJ2_isEmpty, 1, (Option.some Jvm.ClassFile.FieldType.boolean), [])
theorem mw_J2_isEmpty : om_MW m_J2_isEmpty 0 := ⟨q2711, q248, by decide, ⟨by decide, by decide⟩, by decide +kernel⟩
def m_J3_ordinal : om_M := (yJ3_ordinal, cJ3_ordinal, 1, (Option.some Jvm.ClassFile.FieldType.int), [])
theorem mw_J3_ordinal : om_MW m_J3_ordinal 0 := ⟨q2810, q261, by decide, ⟨by decide, by decide⟩, by decide +kernel⟩
def m_J4_length : om_M := (yJ4_length, cJ4_length, 1, (Option.some Jvm.ClassFile.FieldType.int), [])
theorem mw_J4_length : om_MW m_J4_length 0 := ⟨q869, q263, by decide, ⟨by decide, by decide⟩, by decide +kernel⟩
def m_J4_coder : om_M := (yJ4_coder, cJ4_coder, 1, (Option.some Jvm.ClassFile.FieldType.byte), [])
theorem mw_J4_coder : om_MW m_J4_coder 0 := ⟨q873, q263, by decide, ⟨by decide, by decide⟩, by decide +kernel⟩
def m_J4_charAt : om_M := (yJ4_charAt, cJ4_charAt, 2, (Option.some Jvm.ClassFile.FieldType.char), [])
theorem mw_J4_charAt : om_MW m_J4_charAt 1 := ⟨q879, q263, by decide, ⟨by decide, by decide⟩, by decide +kernel⟩
def m_J4_isLatin1 : om_M := (yJ4_isLatin1, cJ4_isLatin1, 1, (Option.some Jvm.ClassFile.FieldType.boolean), [])
theorem mw_J4_isLatin1 : om_MW m_J4_isLatin1 0 := ⟨q883, q263, by decide, ⟨by decide, by decide⟩, by decide +kernel⟩
def m_J4_checkIndex : om_M := (yJ4_checkIndex, cJ4_checkIndex, 2, (Option.none : Option Jvm.ClassFile.FieldType), [])
theorem mw_J4_checkIndex : om_MW m_J4_checkIndex 2 := ⟨q889, q263, by decide, ⟨by decide, by decide⟩, by decide +kernel⟩
def m_J5_charAt : om_M := (yJ5_charAt, cJ5_charAt, 2, (Option.some Jvm.ClassFile.FieldType.char), [])
theorem mw_J5_charAt : om_MW m_J5_charAt 2 := ⟨q886, q264, by decide, ⟨by decide, by decide⟩, by decide +kernel⟩
def m_J6_checkIndex : om_M := (yJ6_checkIndex, cJ6_checkIndex, 3, (Option.some Jvm.ClassFile.FieldType.int), [])
theorem mw_J6_checkIndex : om_MW m_J6_checkIndex 3 := ⟨q894, q265, by decide, ⟨by decide, by decide⟩, by decide +kernel⟩
def m_J7_charAt : om_M := (yJ7_charAt, cJ7_charAt, 2, (Option.some Jvm.ClassFile.FieldType.char), [])
theorem mw_J7_charAt : om_MW m_J7_charAt 2 := ⟨q897, q266, by decide, ⟨by decide, by decide⟩, by decide +kernel⟩
def m_J7_checkIndex : om_M := (yJ7_checkIndex, cJ7_checkIndex, 2, (Option.none : Option Jvm.ClassFile.FieldType), [])
theorem mw_J7_checkIndex : om_MW m_J7_checkIndex 2 := ⟨q900, q266, by decide, ⟨by decide, by decide⟩, by decide +kernel⟩
def m_J7_length : om_M := (yJ7_length, cJ7_length, 1, (Option.some Jvm.ClassFile.FieldType.int), [])
theorem mw_J7_length : om_MW m_J7_length 1 := ⟨q903, q266, by decide, ⟨by decide, by decide⟩, by decide +kernel⟩
def m_J7_getChar : om_M := (yJ7_getChar, cJ7_getChar, 2, (Option.some Jvm.ClassFile.FieldType.char), [])
theorem mw_J7_getChar : om_MW m_J7_getChar 2 := ⟨q907, q266, by decide, ⟨by decide, by decide⟩, by decide +kernel⟩
def m_J8_init : om_M := (yJ8_init, cJ8_init, 1, (Option.none : Option Jvm.ClassFile.FieldType), [])
theorem mw_J8_init : om_MW m_J8_init 0 := ⟨q1022, q267, by decide, ⟨by decide, by decide⟩, by decide +kernel⟩
def m_J8_init_2 : om_M := (yJ8_init_2, cJ8_init_2, 5, (Option.none : Option Jvm.ClassFile.FieldType), [])
theorem mw_J8_init_2 : om_MW m_J8_init_2 4 := ⟨q1048, q267, by decide, ⟨by decide, by decide⟩, by decide +kernel⟩
def m_J9_init : om_M := (yJ9_init, cJ9_init, 5, (Option.none : Option Jvm.ClassFile.FieldType), [])
theorem mw_J9_init : om_MW m_J9_init 4 := ⟨q1045, q268, by decide, ⟨by decide, by decide⟩, by decide +kernel⟩
def m_J10_init : om_M := (yJ10_init, cJ10_init, 5, (Option.none : Option Jvm.ClassFile.FieldType), [])
theorem mw_J10_init : om_MW m_J10_init 4 := ⟨q1042, q269, by decide, ⟨by decide, by decide⟩, by decide +kernel⟩
def m_J11_newLength : om_M := (yJ11_newLength, cJ11_newLength, 4, (Option.some Jvm.ClassFile.FieldType.int), [])
theorem mw_J11_newLength : om_MW m_J11_newLength 3 := ⟨q1124, q273, by decide, ⟨by decide, by decide⟩, by decide +kernel⟩
def m_J11_hugeLength : om_M := (yJ11_hugeLength, cJ11_hugeLength, 3, (Option.some Jvm.ClassFile.FieldType.int), [])
theorem mw_J11_hugeLength : om_MW m_J11_hugeLength 2 := ⟨q1131, q273, by decide, ⟨by decide, by decide⟩, by decide +kernel⟩
def m_J12_max : om_M := (yJ12_max, cJ12_max, 2, (Option.some Jvm.ClassFile.FieldType.int), [])
def m_J12_min : om_M := (yJ12_min, cJ12_min, 2, (Option.some Jvm.ClassFile.FieldType.int), [])
def m_J13_copyOf : om_M := (yJ13_copyOf, cJ13_copyOf, 2, (Option.some (Jvm.ClassFile.FieldType.array (Jvm.ClassFile.FieldType.object "java/lang/Object"))), [])
theorem mw_J13_copyOf : om_MW m_J13_copyOf 2 := ⟨q1134, q275, by decide, ⟨by decide, by decide⟩, by decide +kernel⟩
def m_J13_copyOf_2 : om_M := (yJ13_copyOf_2, cJ13_copyOf_2, 4, (Option.some (Jvm.ClassFile.FieldType.array (Jvm.ClassFile.FieldType.object "java/lang/Object"))), [])
theorem mw_J13_copyOf_2 : om_MW m_J13_copyOf_2 3 := ⟨q1187, q275, by decide, ⟨by decide, by decide⟩, by decide +kernel⟩
def m_J14_init : om_M := (yJ14_init, cJ14_init, 1, (Option.none : Option Jvm.ClassFile.FieldType), [])
theorem mw_J14_init : om_MW m_J14_init 0 := ⟨q1898, q292, by decide, ⟨by decide, by decide⟩, by decide +kernel⟩
def m_J15_valueOf : om_M := (yJ15_valueOf, cJ15_valueOf, 1, (Option.some (Jvm.ClassFile.FieldType.object "java/lang/Integer")), [])
theorem mw_J15_valueOf : om_MW m_J15_valueOf 1 := ⟨q1886, q293, by decide, ⟨by decide, by decide⟩, by decide +kernel⟩
def m_J15_init : om_M := (yJ15_init, cJ15_init, 2, (Option.none : Option Jvm.ClassFile.FieldType), [])
theorem mw_J15_init : om_MW m_J15_init 1 := ⟨q1895, q293, by decide, ⟨by decide, by decide⟩, by decide +kernel⟩
def m_J15_intValue : om_M := (yJ15_intValue, cJ15_intValue, 1, (Option.some Jvm.ClassFile.FieldType.int), [])
theorem mw_J15_intValue : om_MW m_J15_intValue 0 := ⟨q2617, q293, by decide, ⟨by decide, by decide⟩, by decide +kernel⟩
def m_J16_checkIndex : om_M := (yJ16_checkIndex, cJ16_checkIndex, 2, (Option.some Jvm.ClassFile.FieldType.int), [])
theorem mw_J16_checkIndex : om_MW m_J16_checkIndex 2 := ⟨q1989, q296, by decide, ⟨by decide, by decide⟩, by decide +kernel⟩
def m_J17_init : om_M := (yJ17_init, cJ17_init, 1, (Option.none : Option Jvm.ClassFile.FieldType), [])
def m_X0_feed : om_M := (yX0_feed, cX0_feed, 6, (Option.some Jvm.ClassFile.FieldType.int), [])
theorem mw_X0_feed : om_MW m_X0_feed 5 := ⟨q310, q243, by decide, ⟨by decide, by decide⟩, by decide +kernel⟩
def m_X0_word : om_M := (yX0_word, cX0_word, 3, (Option.none : Option Jvm.ClassFile.FieldType), [])
theorem mw_X0_word : om_MW m_X0_word 1 := ⟨q315, q243, by decide, ⟨by decide, by decide⟩, by decide +kernel⟩
def m_X0_init : om_M := (yX0_init, cX0_init, 1, (Option.none : Option Jvm.ClassFile.FieldType), [])
theorem mw_X0_init : om_MW m_X0_init 0 := ⟨q319, q243, by decide, ⟨by decide, by decide⟩, by decide +kernel⟩
def m_X0_load : om_M := (yX0_load, cX0_load, 4, (Option.some Jvm.ClassFile.FieldType.int), [((40 : Nat), (66 : Nat), (69 : Nat), (407 : Nat))])
theorem mw_X0_load : om_MW m_X0_load 1 := ⟨q806, q243, by decide, ⟨by decide, by decide⟩, by decide +kernel⟩
def m_X0_take : om_M := (yX0_take, cX0_take, 4, (Option.none : Option Jvm.ClassFile.FieldType), [])
theorem mw_X0_take : om_MW m_X0_take 2 := ⟨q811, q243, by decide, ⟨by decide, by decide⟩, by decide +kernel⟩
def m_X0_readType : om_M := (yX0_readType, cX0_readType, 4, (Option.some (Jvm.ClassFile.FieldType.object "CoercedClasses$Written")), [])
theorem mw_X0_readType : om_MW m_X0_readType 1 := ⟨q1271, q243, by decide, ⟨by decide, by decide⟩, by decide +kernel⟩
def m_X0_readGround : om_M := (yX0_readGround, cX0_readGround, 2, (Option.some (Jvm.ClassFile.FieldType.object "CoercedClasses$Written")), [])
theorem mw_X0_readGround : om_MW m_X0_readGround 1 := ⟨q1282, q243, by decide, ⟨by decide, by decide⟩, by decide +kernel⟩
def m_X0_readPiece : om_M := (yX0_readPiece, cX0_readPiece, 2, (Option.some (Jvm.ClassFile.FieldType.object "CoercedClasses$Written")), [])
theorem mw_X0_readPiece : om_MW m_X0_readPiece 1 := ⟨q1285, q243, by decide, ⟨by decide, by decide⟩, by decide +kernel⟩
def m_X0_readEx : om_M := (yX0_readEx, cX0_readEx, 4, (Option.some (Jvm.ClassFile.FieldType.object "CoercedClasses$Ex")), [])
theorem mw_X0_readEx : om_MW m_X0_readEx 1 := ⟨q1471, q243, by decide, ⟨by decide, by decide⟩, by decide +kernel⟩
def m_X0_isAtom : om_M := (yX0_isAtom, cX0_isAtom, 1, (Option.some Jvm.ClassFile.FieldType.boolean), [])
theorem mw_X0_isAtom : om_MW m_X0_isAtom 1 := ⟨q1478, q243, by decide, ⟨by decide, by decide⟩, by decide +kernel⟩
def m_X0_readLambda : om_M := (yX0_readLambda, cX0_readLambda, 3, (Option.some (Jvm.ClassFile.FieldType.object "CoercedClasses$Ex")), [])
theorem mw_X0_readLambda : om_MW m_X0_readLambda 2 := ⟨q1482, q243, by decide, ⟨by decide, by decide⟩, by decide +kernel⟩
def m_X0_at : om_M := (yX0_at, cX0_at, 2, (Option.some (Jvm.ClassFile.FieldType.object "CoercedClasses$Ex")), [])
theorem mw_X0_at : om_MW m_X0_at 2 := ⟨q1536, q243, by decide, ⟨by decide, by decide⟩, by decide +kernel⟩
def m_X0_readLet : om_M := (yX0_readLet, cX0_readLet, 3, (Option.some (Jvm.ClassFile.FieldType.object "CoercedClasses$Ex")), [])
theorem mw_X0_readLet : om_MW m_X0_readLet 2 := ⟨q1541, q243, by decide, ⟨by decide, by decide⟩, by decide +kernel⟩
def m_X0_readIf : om_M := (yX0_readIf, cX0_readIf, 3, (Option.some (Jvm.ClassFile.FieldType.object "CoercedClasses$Ex")), [])
theorem mw_X0_readIf : om_MW m_X0_readIf 2 := ⟨q1591, q243, by decide, ⟨by decide, by decide⟩, by decide +kernel⟩
def m_X0_readCase : om_M := (yX0_readCase, cX0_readCase, 3, (Option.some (Jvm.ClassFile.FieldType.object "CoercedClasses$Ex")), [])
theorem mw_X0_readCase : om_MW m_X0_readCase 2 := ⟨q1630, q243, by decide, ⟨by decide, by decide⟩, by decide +kernel⟩
def m_X0_readCompare : om_M := (yX0_readCompare, cX0_readCompare, 5, (Option.some (Jvm.ClassFile.FieldType.object "CoercedClasses$Ex")), [])
theorem mw_X0_readCompare : om_MW m_X0_readCompare 1 := ⟨q1684, q243, by decide, ⟨by decide, by decide⟩, by decide +kernel⟩
def m_X0_readSum : om_M := (yX0_readSum, cX0_readSum, 5, (Option.some (Jvm.ClassFile.FieldType.object "CoercedClasses$Ex")), [])
theorem mw_X0_readSum : om_MW m_X0_readSum 1 := ⟨q1687, q243, by decide, ⟨by decide, by decide⟩, by decide +kernel⟩
def m_X0_readProduct : om_M := (yX0_readProduct, cX0_readProduct, 4, (Option.some (Jvm.ClassFile.FieldType.object "CoercedClasses$Ex")), [])
theorem mw_X0_readProduct : om_MW m_X0_readProduct 1 := ⟨q1690, q243, by decide, ⟨by decide, by decide⟩, by decide +kernel⟩
def m_X0_readUse : om_M := (yX0_readUse, cX0_readUse, 7, (Option.some (Jvm.ClassFile.FieldType.object "CoercedClasses$Ex")), [])
theorem mw_X0_readUse : om_MW m_X0_readUse 1 := ⟨q1693, q243, by decide, ⟨by decide, by decide⟩, by decide +kernel⟩
def m_X0_readAtom : om_M := (yX0_readAtom, cX0_readAtom, 3, (Option.some (Jvm.ClassFile.FieldType.object "CoercedClasses$Ex")), [])
theorem mw_X0_readAtom : om_MW m_X0_readAtom 1 := ⟨q1696, q243, by decide, ⟨by decide, by decide⟩, by decide +kernel⟩
def m_X0_link : om_M := (yX0_link, cX0_link, 5, (Option.none : Option Jvm.ClassFile.FieldType), [])
theorem mw_X0_link : om_MW m_X0_link 5 := ⟨q1883, q243, by decide, ⟨by decide, by decide⟩, by decide +kernel⟩
def m_X0_con : om_M := (yX0_con, cX0_con, 1, (Option.some (Jvm.ClassFile.FieldType.object "java/lang/String")), [])
theorem mw_X0_con : om_MW m_X0_con 1 := ⟨q2004, q243, by decide, ⟨by decide, by decide⟩, by decide +kernel⟩
def m_X0_builtOf : om_M := (yX0_builtOf, cX0_builtOf, 2, (Option.some Jvm.ClassFile.FieldType.int), [])
theorem mw_X0_builtOf : om_MW m_X0_builtOf 1 := ⟨q2024, q243, by decide, ⟨by decide, by decide⟩, by decide +kernel⟩
def m_X0_built : om_M := (yX0_built, cX0_built, 1, (Option.some (Jvm.ClassFile.FieldType.object "java/lang/String")), [])
theorem mw_X0_built : om_MW m_X0_built 1 := ⟨q2027, q243, by decide, ⟨by decide, by decide⟩, by decide +kernel⟩
def m_X0_partsOf : om_M := (yX0_partsOf, cX0_partsOf, 1, (Option.some Jvm.ClassFile.FieldType.int), [])
theorem mw_X0_partsOf : om_MW m_X0_partsOf 1 := ⟨q2166, q243, by decide, ⟨by decide, by decide⟩, by decide +kernel⟩
def m_X0_typeFor : om_M := (yX0_typeFor, cX0_typeFor, 4, (Option.some (Jvm.ClassFile.FieldType.object "CoercedClasses$Type")), [])
theorem mw_X0_typeFor : om_MW m_X0_typeFor 3 := ⟨q2518, q243, by decide, ⟨by decide, by decide⟩, by decide +kernel⟩
def m_X0_measure : om_M := (yX0_measure, cX0_measure, 7, (Option.none : Option Jvm.ClassFile.FieldType), [])
theorem mw_X0_measure : om_MW m_X0_measure 2 := ⟨q2634, q243, by decide, ⟨by decide, by decide⟩, by decide +kernel⟩
def m_X0_length : om_M := (yX0_length, cX0_length, 3, (Option.some Jvm.ClassFile.FieldType.int), [])
theorem mw_X0_length : om_MW m_X0_length 2 := ⟨q2644, q243, by decide, ⟨by decide, by decide⟩, by decide +kernel⟩
def m_X0_tell : om_M := (yX0_tell, cX0_tell, 2, (Option.none : Option Jvm.ClassFile.FieldType), [])
theorem mw_X0_tell : om_MW m_X0_tell 2 := ⟨q2685, q243, by decide, ⟨by decide, by decide⟩, by decide +kernel⟩
def m_X0_head : om_M := (yX0_head, cX0_head, 2, (Option.none : Option Jvm.ClassFile.FieldType), [])
theorem mw_X0_head : om_MW m_X0_head 2 := ⟨q2692, q243, by decide, ⟨by decide, by decide⟩, by decide +kernel⟩
def m_X0_lineOf : om_M := (yX0_lineOf, cX0_lineOf, 4, (Option.some (Jvm.ClassFile.FieldType.object "CoercedClasses$Term")), [])
theorem mw_X0_lineOf : om_MW m_X0_lineOf 3 := ⟨q2877, q243, by decide, ⟨by decide, by decide⟩, by decide +kernel⟩
def m_X0_told : om_M := (yX0_told, cX0_told, 2, (Option.none : Option Jvm.ClassFile.FieldType), [])
theorem mw_X0_told : om_MW m_X0_told 1 := ⟨q2882, q243, by decide, ⟨by decide, by decide⟩, by decide +kernel⟩
def m_X0_ask : om_M := (yX0_ask, cX0_ask, 5, (Option.some Jvm.ClassFile.FieldType.boolean), [((65 : Nat), (221 : Nat), (224 : Nat), (407 : Nat))])
theorem mw_X0_ask : om_MW m_X0_ask 1 := ⟨q2886, q243, by decide, ⟨by decide, by decide⟩, by decide +kernel⟩
def m_X0_fault : om_M := (yX0_fault, cX0_fault, 2, (Option.some Jvm.ClassFile.FieldType.int), [])
theorem mw_X0_fault : om_MW m_X0_fault 1 := ⟨q2905, q243, by decide, ⟨by decide, by decide⟩, by decide +kernel⟩
def m_X0_run : om_M := (yX0_run, cX0_run, 3, (Option.some Jvm.ClassFile.FieldType.int), [])
theorem mw_X0_run : om_MW m_X0_run 1 := ⟨q2909, q243, by decide, ⟨by decide, by decide⟩, by decide +kernel⟩
def m_X0_about : om_M := (yX0_about, cX0_about, 3, (Option.some Jvm.ClassFile.FieldType.int), [])
theorem mw_X0_about : om_MW m_X0_about 1 := ⟨q3123, q243, by decide, ⟨by decide, by decide⟩, by decide +kernel⟩
def m_X0_octet : om_M := (yX0_octet, cX0_octet, 2, (Option.some Jvm.ClassFile.FieldType.int), [])
theorem mw_X0_octet : om_MW m_X0_octet 1 := ⟨q3127, q243, by decide, ⟨by decide, by decide⟩, by decide +kernel⟩
def m_X0_size : om_M := (yX0_size, cX0_size, 4, (Option.some Jvm.ClassFile.FieldType.int), [])
theorem mw_X0_size : om_MW m_X0_size 2 := ⟨q3131, q243, by decide, ⟨by decide, by decide⟩, by decide +kernel⟩
def m_X0_termOf : om_M := (yX0_termOf, cX0_termOf, 6, (Option.some (Jvm.ClassFile.FieldType.object "CoercedClasses$Term")), [])
theorem mw_X0_termOf : om_MW m_X0_termOf 2 := ⟨q3135, q243, by decide, ⟨by decide, by decide⟩, by decide +kernel⟩
def m_X0_term : om_M := (yX0_term, cX0_term, 5, (Option.some Jvm.ClassFile.FieldType.int), [])
theorem mw_X0_term : om_MW m_X0_term 3 := ⟨q3139, q243, by decide, ⟨by decide, by decide⟩, by decide +kernel⟩
def m_X0_check : om_M := (yX0_check, cX0_check, 4, (Option.some Jvm.ClassFile.FieldType.int), [])
theorem mw_X0_check : om_MW m_X0_check 2 := ⟨q3143, q243, by decide, ⟨by decide, by decide⟩, by decide +kernel⟩
def m_X0_type : om_M := (yX0_type, cX0_type, 5, (Option.some Jvm.ClassFile.FieldType.int), [])
theorem mw_X0_type : om_MW m_X0_type 3 := ⟨q3231, q243, by decide, ⟨by decide, by decide⟩, by decide +kernel⟩
def m_X1_init : om_M := (yX1_init, cX1_init, 1, (Option.none : Option Jvm.ClassFile.FieldType), [])
theorem mw_X1_init : om_MW m_X1_init 0 := ⟨q328, q244, by decide, ⟨by decide, by decide⟩, by decide +kernel⟩
def m_X1_clear : om_M := (yX1_clear, cX1_clear, 1, (Option.none : Option Jvm.ClassFile.FieldType), [])
theorem mw_X1_clear : om_MW m_X1_clear 0 := ⟨q815, q244, by decide, ⟨by decide, by decide⟩, by decide +kernel⟩
def m_X1_read : om_M := (yX1_read, cX1_read, 3, (Option.none : Option Jvm.ClassFile.FieldType), [])
theorem mw_X1_read : om_MW m_X1_read 1 := ⟨q974, q244, by decide, ⟨by decide, by decide⟩, by decide +kernel⟩
def m_X1_readClass : om_M := (yX1_readClass, cX1_readClass, 7, (Option.none : Option Jvm.ClassFile.FieldType), [])
theorem mw_X1_readClass : om_MW m_X1_readClass 2 := ⟨q988, q244, by decide, ⟨by decide, by decide⟩, by decide +kernel⟩
def m_X1_readInstance : om_M := (yX1_readInstance, cX1_readInstance, 5, (Option.none : Option Jvm.ClassFile.FieldType), [])
theorem mw_X1_readInstance : om_MW m_X1_readInstance 2 := ⟨q1348, q244, by decide, ⟨by decide, by decide⟩, by decide +kernel⟩
def m_X1_readFunction : om_M := (yX1_readFunction, cX1_readFunction, 5, (Option.none : Option Jvm.ClassFile.FieldType), [])
theorem mw_X1_readFunction : om_MW m_X1_readFunction 1 := ⟨q1928, q244, by decide, ⟨by decide, by decide⟩, by decide +kernel⟩
def m_X1_judge : om_M := (yX1_judge, cX1_judge, 5, (Option.none : Option Jvm.ClassFile.FieldType), [])
theorem mw_X1_judge : om_MW m_X1_judge 0 := ⟨q1973, q244, by decide, ⟨by decide, by decide⟩, by decide +kernel⟩
def m_X1_resolve : om_M := (yX1_resolve, cX1_resolve, 2, (Option.none : Option Jvm.ClassFile.FieldType), [])
theorem mw_X1_resolve : om_MW m_X1_resolve 0 := ⟨q1977, q244, by decide, ⟨by decide, by decide⟩, by decide +kernel⟩
def m_X1_stands : om_M := (yX1_stands, cX1_stands, 4, (Option.none : Option Jvm.ClassFile.FieldType), [])
theorem mw_X1_stands : om_MW m_X1_stands 0 := ⟨q1982, q244, by decide, ⟨by decide, by decide⟩, by decide +kernel⟩
def m_X1_isCon : om_M := (yX1_isCon, cX1_isCon, 1, (Option.some Jvm.ClassFile.FieldType.boolean), [])
theorem mw_X1_isCon : om_MW m_X1_isCon 1 := ⟨q1998, q244, by decide, ⟨by decide, by decide⟩, by decide +kernel⟩
def m_X1_conOf : om_M := (yX1_conOf, cX1_conOf, 2, (Option.some Jvm.ClassFile.FieldType.int), [])
theorem mw_X1_conOf : om_MW m_X1_conOf 1 := ⟨q2001, q244, by decide, ⟨by decide, by decide⟩, by decide +kernel⟩
def m_X1_isTold : om_M := (yX1_isTold, cX1_isTold, 3, (Option.some Jvm.ClassFile.FieldType.boolean), [])
theorem mw_X1_isTold : om_MW m_X1_isTold 2 := ⟨q2017, q244, by decide, ⟨by decide, by decide⟩, by decide +kernel⟩
def m_X1_rule : om_M := (yX1_rule, cX1_rule, 2, (Option.none : Option Jvm.ClassFile.FieldType), [])
theorem mw_X1_rule : om_MW m_X1_rule 1 := ⟨q2037, q244, by decide, ⟨by decide, by decide⟩, by decide +kernel⟩
def m_X1_twice : om_M := (yX1_twice, cX1_twice, 3, (Option.none : Option Jvm.ClassFile.FieldType), [])
theorem mw_X1_twice : om_MW m_X1_twice 3 := ⟨q2041, q244, by decide, ⟨by decide, by decide⟩, by decide +kernel⟩
def m_X1_resolveClass : om_M := (yX1_resolveClass, cX1_resolveClass, 5, (Option.none : Option Jvm.ClassFile.FieldType), [])
theorem mw_X1_resolveClass : om_MW m_X1_resolveClass 2 := ⟨q2045, q244, by decide, ⟨by decide, by decide⟩, by decide +kernel⟩
def m_X1_tooMany : om_M := (yX1_tooMany, cX1_tooMany, 4, (Option.none : Option Jvm.ClassFile.FieldType), [])
theorem mw_X1_tooMany : om_MW m_X1_tooMany 3 := ⟨q2049, q244, by decide, ⟨by decide, by decide⟩, by decide +kernel⟩
def m_X1_typeOf : om_M := (yX1_typeOf, cX1_typeOf, 10, (Option.some (Jvm.ClassFile.FieldType.object "CoercedClasses$Type")), [])
theorem mw_X1_typeOf : om_MW m_X1_typeOf 3 := ⟨q2053, q244, by decide, ⟨by decide, by decide⟩, by decide +kernel⟩
def m_X1_isAmong : om_M := (yX1_isAmong, cX1_isAmong, 3, (Option.some Jvm.ClassFile.FieldType.boolean), [])
theorem mw_X1_isAmong : om_MW m_X1_isAmong 2 := ⟨q2155, q244, by decide, ⟨by decide, by decide⟩, by decide +kernel⟩
def m_X1_familyOf : om_M := (yX1_familyOf, cX1_familyOf, 3, (Option.some (Jvm.ClassFile.FieldType.object "CoercedClasses$ClassDecl")), [])
theorem mw_X1_familyOf : om_MW m_X1_familyOf 1 := ⟨q2163, q244, by decide, ⟨by decide, by decide⟩, by decide +kernel⟩
def m_X1_resolveInstance : om_M := (yX1_resolveInstance, cX1_resolveInstance, 4, (Option.none : Option Jvm.ClassFile.FieldType), [])
theorem mw_X1_resolveInstance : om_MW m_X1_resolveInstance 2 := ⟨q2178, q244, by decide, ⟨by decide, by decide⟩, by decide +kernel⟩
def m_X1_classOf : om_M := (yX1_classOf, cX1_classOf, 3, (Option.some (Jvm.ClassFile.FieldType.object "CoercedClasses$ClassDecl")), [])
theorem mw_X1_classOf : om_MW m_X1_classOf 1 := ⟨q2182, q244, by decide, ⟨by decide, by decide⟩, by decide +kernel⟩
def m_X1_resolveGivens : om_M := (yX1_resolveGivens, cX1_resolveGivens, 5, (Option.none : Option Jvm.ClassFile.FieldType), [])
theorem mw_X1_resolveGivens : om_MW m_X1_resolveGivens 2 := ⟨q2186, q244, by decide, ⟨by decide, by decide⟩, by decide +kernel⟩
def m_X1_functionOf : om_M := (yX1_functionOf, cX1_functionOf, 3, (Option.some (Jvm.ClassFile.FieldType.object "CoercedClasses$Function")), [])
theorem mw_X1_functionOf : om_MW m_X1_functionOf 1 := ⟨q2242, q244, by decide, ⟨by decide, by decide⟩, by decide +kernel⟩
def m_X1_methodOf : om_M := (yX1_methodOf, cX1_methodOf, 5, (Option.some (Jvm.ClassFile.FieldType.object "CoercedClasses$Method")), [])
theorem mw_X1_methodOf : om_MW m_X1_methodOf 1 := ⟨q2246, q244, by decide, ⟨by decide, by decide⟩, by decide +kernel⟩
def m_X1_resolveFunction : om_M := (yX1_resolveFunction, cX1_resolveFunction, 4, (Option.none : Option Jvm.ClassFile.FieldType), [])
theorem mw_X1_resolveFunction : om_MW m_X1_resolveFunction 2 := ⟨q2277, q244, by decide, ⟨by decide, by decide⟩, by decide +kernel⟩
def m_X1_fail : om_M := (yX1_fail, cX1_fail, 2, (Option.none : Option Jvm.ClassFile.FieldType), [])
theorem mw_X1_fail : om_MW m_X1_fail 1 := ⟨q2281, q244, by decide, ⟨by decide, by decide⟩, by decide +kernel⟩
def m_X1_judgeInstances : om_M := (yX1_judgeInstances, cX1_judgeInstances, 8, (Option.none : Option Jvm.ClassFile.FieldType), [])
theorem mw_X1_judgeInstances : om_MW m_X1_judgeInstances 0 := ⟨q2287, q244, by decide, ⟨by decide, by decide⟩, by decide +kernel⟩
def m_X1_families : om_M := (yX1_families, cX1_families, 7, (Option.some Jvm.ClassFile.FieldType.int), [])
theorem mw_X1_families : om_MW m_X1_families 3 := ⟨q2300, q244, by decide, ⟨by decide, by decide⟩, by decide +kernel⟩
def m_X1_judgeGivens : om_M := (yX1_judgeGivens, cX1_judgeGivens, 5, (Option.none : Option Jvm.ClassFile.FieldType), [])
theorem mw_X1_judgeGivens : om_MW m_X1_judgeGivens 1 := ⟨q2304, q244, by decide, ⟨by decide, by decide⟩, by decide +kernel⟩
def m_X1_judgeLines : om_M := (yX1_judgeLines, cX1_judgeLines, 5, (Option.none : Option Jvm.ClassFile.FieldType), [])
theorem mw_X1_judgeLines : om_MW m_X1_judgeLines 1 := ⟨q2625, q244, by decide, ⟨by decide, by decide⟩, by decide +kernel⟩
def m_X2_init : om_M := (yX2_init, cX2_init, 1, (Option.none : Option Jvm.ClassFile.FieldType), [])
theorem mw_X2_init : om_MW m_X2_init 0 := ⟨q334, q245, by decide, ⟨by decide, by decide⟩, by decide +kernel⟩
def m_X2_clear : om_M := (yX2_clear, cX2_clear, 3, (Option.none : Option Jvm.ClassFile.FieldType), [])
theorem mw_X2_clear : om_MW m_X2_clear 1 := ⟨q819, q245, by decide, ⟨by decide, by decide⟩, by decide +kernel⟩
def m_X2_arrow : om_M := (yX2_arrow, cX2_arrow, 3, (Option.some (Jvm.ClassFile.FieldType.object "CoercedClasses$Type")), [])
theorem mw_X2_arrow : om_MW m_X2_arrow 2 := ⟨q2058, q245, by decide, ⟨by decide, by decide⟩, by decide +kernel⟩
def m_X2_get : om_M := (yX2_get, cX2_get, 10, (Option.some (Jvm.ClassFile.FieldType.object "CoercedClasses$Type")), [])
theorem mw_X2_get : om_MW m_X2_get 6 := ⟨q2062, q245, by decide, ⟨by decide, by decide⟩, by decide +kernel⟩
def m_X2_find : om_M := (yX2_find, cX2_find, 9, (Option.some (Jvm.ClassFile.FieldType.object "CoercedClasses$Type")), [])
theorem mw_X2_find : om_MW m_X2_find 7 := ⟨q2070, q245, by decide, ⟨by decide, by decide⟩, by decide +kernel⟩
def m_X2_name : om_M := (yX2_name, cX2_name, 2, (Option.some (Jvm.ClassFile.FieldType.object "CoercedClasses$Type")), [])
theorem mw_X2_name : om_MW m_X2_name 1 := ⟨q2159, q245, by decide, ⟨by decide, by decide⟩, by decide +kernel⟩
def m_X2_con : om_M := (yX2_con, cX2_con, 4, (Option.some (Jvm.ClassFile.FieldType.object "CoercedClasses$Type")), [])
theorem mw_X2_con : om_MW m_X2_con 3 := ⟨q2170, q245, by decide, ⟨by decide, by decide⟩, by decide +kernel⟩
def m_X2_family : om_M := (yX2_family, cX2_family, 3, (Option.some (Jvm.ClassFile.FieldType.object "CoercedClasses$Type")), [])
theorem mw_X2_family : om_MW m_X2_family 2 := ⟨q2174, q245, by decide, ⟨by decide, by decide⟩, by decide +kernel⟩
def m_X2_like : om_M := (yX2_like, cX2_like, 4, (Option.some (Jvm.ClassFile.FieldType.object "CoercedClasses$Type")), [])
theorem mw_X2_like : om_MW m_X2_like 3 := ⟨q2335, q245, by decide, ⟨by decide, by decide⟩, by decide +kernel⟩
def m_X2_dictionary : om_M := (yX2_dictionary, cX2_dictionary, 2, (Option.some (Jvm.ClassFile.FieldType.object "CoercedClasses$Dictionary")), [])
theorem mw_X2_dictionary : om_MW m_X2_dictionary 1 := ⟨q2442, q245, by decide, ⟨by decide, by decide⟩, by decide +kernel⟩
def m_X3_init : om_M := (yX3_init, cX3_init, 1, (Option.none : Option Jvm.ClassFile.FieldType), [])
theorem mw_X3_init : om_MW m_X3_init 0 := ⟨q437, q249, by decide, ⟨by decide, by decide⟩, by decide +kernel⟩
def m_X4_init : om_M := (yX4_init, cX4_init, 1, (Option.none : Option Jvm.ClassFile.FieldType), [])
theorem mw_X4_init : om_MW m_X4_init 0 := ⟨q445, q250, by decide, ⟨by decide, by decide⟩, by decide +kernel⟩
def m_X5_init : om_M := (yX5_init, cX5_init, 1, (Option.none : Option Jvm.ClassFile.FieldType), [])
theorem mw_X5_init : om_MW m_X5_init 0 := ⟨q488, q251, by decide, ⟨by decide, by decide⟩, by decide +kernel⟩
def m_X5_begin : om_M := (yX5_begin, cX5_begin, 2, (Option.none : Option Jvm.ClassFile.FieldType), [])
theorem mw_X5_begin : om_MW m_X5_begin 1 := ⟨q2722, q251, by decide, ⟨by decide, by decide⟩, by decide +kernel⟩
def m_X5_one : om_M := (yX5_one, cX5_one, 5, (Option.some (Jvm.ClassFile.FieldType.object "CoercedClasses$Proof")), [])
theorem mw_X5_one : om_MW m_X5_one 2 := ⟨q2726, q251, by decide, ⟨by decide, by decide⟩, by decide +kernel⟩
def m_X5_proof : om_M := (yX5_proof, cX5_proof, 6, (Option.some (Jvm.ClassFile.FieldType.object "CoercedClasses$Proof")), [])
theorem mw_X5_proof : om_MW m_X5_proof 4 := ⟨q2732, q251, by decide, ⟨by decide, by decide⟩, by decide +kernel⟩
def m_X5_worked : om_M := (yX5_worked, cX5_worked, 7, (Option.some (Jvm.ClassFile.FieldType.object "CoercedClasses$Proof")), [])
theorem mw_X5_worked : om_MW m_X5_worked 1 := ⟨q2776, q251, by decide, ⟨by decide, by decide⟩, by decide +kernel⟩
def m_X5_nothing : om_M := (yX5_nothing, cX5_nothing, 0, (Option.some Jvm.ClassFile.FieldType.int), [])
theorem mw_X5_nothing : om_MW m_X5_nothing 0 := ⟨q2779, q251, by decide, ⟨by decide, by decide⟩, by decide +kernel⟩
def m_X5_orAlike : om_M := (yX5_orAlike, cX5_orAlike, 3, (Option.some (Jvm.ClassFile.FieldType.object "CoercedClasses$Proof")), [])
theorem mw_X5_orAlike : om_MW m_X5_orAlike 1 := ⟨q2784, q251, by decide, ⟨by decide, by decide⟩, by decide +kernel⟩
def m_X5_then : om_M := (yX5_then, cX5_then, 3, (Option.some (Jvm.ClassFile.FieldType.object "CoercedClasses$Proof")), [])
theorem mw_X5_then : om_MW m_X5_then 2 := ⟨q2796, q251, by decide, ⟨by decide, by decide⟩, by decide +kernel⟩
def m_X6_init : om_M := (yX6_init, cX6_init, 2, (Option.none : Option Jvm.ClassFile.FieldType), [])
theorem mw_X6_init : om_MW m_X6_init 1 := ⟨q506, q252, by decide, ⟨by decide, by decide⟩, by decide +kernel⟩
def m_X6_term : om_M := (yX6_term, cX6_term, 3, (Option.none : Option Jvm.ClassFile.FieldType), [])
theorem mw_X6_term : om_MW m_X6_term 2 := ⟨q2648, q252, by decide, ⟨by decide, by decide⟩, by decide +kernel⟩
def m_X6_scope : om_M := (yX6_scope, cX6_scope, 4, (Option.none : Option Jvm.ClassFile.FieldType), [])
theorem mw_X6_scope : om_MW m_X6_scope 1 := ⟨q2657, q252, by decide, ⟨by decide, by decide⟩, by decide +kernel⟩
def m_X6_dictionary : om_M := (yX6_dictionary, cX6_dictionary, 3, (Option.none : Option Jvm.ClassFile.FieldType), [])
theorem mw_X6_dictionary : om_MW m_X6_dictionary 1 := ⟨q2698, q252, by decide, ⟨by decide, by decide⟩, by decide +kernel⟩
def m_X6_types : om_M := (yX6_types, cX6_types, 3, (Option.none : Option Jvm.ClassFile.FieldType), [])
theorem mw_X6_types : om_MW m_X6_types 1 := ⟨q2707, q252, by decide, ⟨by decide, by decide⟩, by decide +kernel⟩
def m_X6_one : om_M := (yX6_one, cX6_one, 3, (Option.none : Option Jvm.ClassFile.FieldType), [])
theorem mw_X6_one : om_MW m_X6_one 2 := ⟨q2718, q252, by decide, ⟨by decide, by decide⟩, by decide +kernel⟩
def m_X6_proof : om_M := (yX6_proof, cX6_proof, 3, (Option.none : Option Jvm.ClassFile.FieldType), [])
theorem mw_X6_proof : om_MW m_X6_proof 1 := ⟨q2804, q252, by decide, ⟨by decide, by decide⟩, by decide +kernel⟩
def m_X6_parts : om_M := (yX6_parts, cX6_parts, 2, (Option.none : Option Jvm.ClassFile.FieldType), [])
theorem mw_X6_parts : om_MW m_X6_parts 1 := ⟨q2814, q252, by decide, ⟨by decide, by decide⟩, by decide +kernel⟩
def m_X6_ex : om_M := (yX6_ex, cX6_ex, 2, (Option.none : Option Jvm.ClassFile.FieldType), [])
theorem mw_X6_ex : om_MW m_X6_ex 1 := ⟨q2822, q252, by decide, ⟨by decide, by decide⟩, by decide +kernel⟩
def m_X6_plain : om_M := (yX6_plain, cX6_plain, 9, (Option.none : Option Jvm.ClassFile.FieldType), [])
theorem mw_X6_plain : om_MW m_X6_plain 1 := ⟨q2826, q252, by decide, ⟨by decide, by decide⟩, by decide +kernel⟩
def m_X6_name : om_M := (yX6_name, cX6_name, 4, (Option.none : Option Jvm.ClassFile.FieldType), [])
theorem mw_X6_name : om_MW m_X6_name 1 := ⟨q2831, q252, by decide, ⟨by decide, by decide⟩, by decide +kernel⟩
def m_X6_use : om_M := (yX6_use, cX6_use, 5, (Option.none : Option Jvm.ClassFile.FieldType), [])
theorem mw_X6_use : om_MW m_X6_use 1 := ⟨q2855, q252, by decide, ⟨by decide, by decide⟩, by decide +kernel⟩
def m_X6_first : om_M := (yX6_first, cX6_first, 3, (Option.some Jvm.ClassFile.FieldType.int), [])
theorem mw_X6_first : om_MW m_X6_first 1 := ⟨q2858, q252, by decide, ⟨by decide, by decide⟩, by decide +kernel⟩
def m_X6_chain : om_M := (yX6_chain, cX6_chain, 4, (Option.none : Option Jvm.ClassFile.FieldType), [])
theorem mw_X6_chain : om_MW m_X6_chain 1 := ⟨q2866, q252, by decide, ⟨by decide, by decide⟩, by decide +kernel⟩
def m_X7_init : om_M := (yX7_init, cX7_init, 1, (Option.none : Option Jvm.ClassFile.FieldType), [])
theorem mw_X7_init : om_MW m_X7_init 0 := ⟨q512, q253, by decide, ⟨by decide, by decide⟩, by decide +kernel⟩
def m_X7_begin : om_M := (yX7_begin, cX7_begin, 2, (Option.none : Option Jvm.ClassFile.FieldType), [])
theorem mw_X7_begin : om_MW m_X7_begin 1 := ⟨q2652, q253, by decide, ⟨by decide, by decide⟩, by decide +kernel⟩
def m_X7_put : om_M := (yX7_put, cX7_put, 3, (Option.none : Option Jvm.ClassFile.FieldType), [])
theorem mw_X7_put : om_MW m_X7_put 1 := ⟨q2663, q253, by decide, ⟨by decide, by decide⟩, by decide +kernel⟩
def m_X7_put_2 : om_M := (yX7_put_2, cX7_put_2, 2, (Option.none : Option Jvm.ClassFile.FieldType), [])
theorem mw_X7_put_2 : om_MW m_X7_put_2 1 := ⟨q2669, q253, by decide, ⟨by decide, by decide⟩, by decide +kernel⟩
def m_X7_put_3 : om_M := (yX7_put_3, cX7_put_3, 3, (Option.none : Option Jvm.ClassFile.FieldType), [])
theorem mw_X7_put_3 : om_MW m_X7_put_3 1 := ⟨q2675, q253, by decide, ⟨by decide, by decide⟩, by decide +kernel⟩
def m_X7_number : om_M := (yX7_number, cX7_number, 3, (Option.none : Option Jvm.ClassFile.FieldType), [])
theorem mw_X7_number : om_MW m_X7_number 1 := ⟨q2682, q253, by decide, ⟨by decide, by decide⟩, by decide +kernel⟩
def m_X7_isOver : om_M := (yX7_isOver, cX7_isOver, 1, (Option.some Jvm.ClassFile.FieldType.boolean), [])
theorem mw_X7_isOver : om_MW m_X7_isOver 0 := ⟨q2702, q253, by decide, ⟨by decide, by decide⟩, by decide +kernel⟩
def m_X8_init : om_M := (yX8_init, cX8_init, 3, (Option.none : Option Jvm.ClassFile.FieldType), [])
theorem mw_X8_init : om_MW m_X8_init 2 := ⟨q535, q254, by decide, ⟨by decide, by decide⟩, by decide +kernel⟩
def m_X8_is : om_M := (yX8_is, cX8_is, 3, (Option.none : Option Jvm.ClassFile.FieldType), [])
theorem mw_X8_is : om_MW m_X8_is 2 := ⟨q540, q254, by decide, ⟨by decide, by decide⟩, by decide +kernel⟩
def m_X8_asked : om_M := (yX8_asked, cX8_asked, 4, (Option.some (Jvm.ClassFile.FieldType.object "CoercedClasses$Dictionary")), [])
theorem mw_X8_asked : om_MW m_X8_asked 3 := ⟨q2310, q254, by decide, ⟨by decide, by decide⟩, by decide +kernel⟩
def m_X8_begin : om_M := (yX8_begin, cX8_begin, 1, (Option.none : Option Jvm.ClassFile.FieldType), [])
theorem mw_X8_begin : om_MW m_X8_begin 0 := ⟨q2314, q254, by decide, ⟨by decide, by decide⟩, by decide +kernel⟩
def m_X8_had : om_M := (yX8_had, cX8_had, 6, (Option.some (Jvm.ClassFile.FieldType.object "CoercedClasses$Dictionary")), [])
theorem mw_X8_had : om_MW m_X8_had 3 := ⟨q2318, q254, by decide, ⟨by decide, by decide⟩, by decide +kernel⟩
def m_X8_worked : om_M := (yX8_worked, cX8_worked, 5, (Option.some (Jvm.ClassFile.FieldType.object "CoercedClasses$Type")), [])
theorem mw_X8_worked : om_MW m_X8_worked 2 := ⟨q2322, q254, by decide, ⟨by decide, by decide⟩, by decide +kernel⟩
def m_X8_fit : om_M := (yX8_fit, cX8_fit, 2, (Option.some (Jvm.ClassFile.FieldType.object "CoercedClasses$Type")), [])
theorem mw_X8_fit : om_MW m_X8_fit 2 := ⟨q2325, q254, by decide, ⟨by decide, by decide⟩, by decide +kernel⟩
def m_X8_inner : om_M := (yX8_inner, cX8_inner, 5, (Option.some (Jvm.ClassFile.FieldType.object "CoercedClasses$Type")), [])
theorem mw_X8_inner : om_MW m_X8_inner 2 := ⟨q2331, q254, by decide, ⟨by decide, by decide⟩, by decide +kernel⟩
def m_X8_goes : om_M := (yX8_goes, cX8_goes, 4, (Option.some (Jvm.ClassFile.FieldType.object "CoercedClasses$Type")), [])
theorem mw_X8_goes : om_MW m_X8_goes 2 := ⟨q2339, q254, by decide, ⟨by decide, by decide⟩, by decide +kernel⟩
def m_X8_equalFor : om_M := (yX8_equalFor, cX8_equalFor, 5, (Option.some Jvm.ClassFile.FieldType.int), [])
theorem mw_X8_equalFor : om_MW m_X8_equalFor 2 := ⟨q2343, q254, by decide, ⟨by decide, by decide⟩, by decide +kernel⟩
def m_X8_counted : om_M := (yX8_counted, cX8_counted, 2, (Option.none : Option Jvm.ClassFile.FieldType), [])
theorem mw_X8_counted : om_MW m_X8_counted 1 := ⟨q2352, q254, by decide, ⟨by decide, by decide⟩, by decide +kernel⟩
def m_X8_put0 : om_M := (yX8_put0, cX8_put0, 7, (Option.some (Jvm.ClassFile.FieldType.object "CoercedClasses$Type")), [])
theorem mw_X8_put0 : om_MW m_X8_put0 4 := ⟨q2356, q254, by decide, ⟨by decide, by decide⟩, by decide +kernel⟩
def m_X8_byGiven : om_M := (yX8_byGiven, cX8_byGiven, 6, (Option.some (Jvm.ClassFile.FieldType.object "CoercedClasses$Dictionary")), [])
theorem mw_X8_byGiven : om_MW m_X8_byGiven 2 := ⟨q2366, q254, by decide, ⟨by decide, by decide⟩, by decide +kernel⟩
def m_X8_byInstance : om_M := (yX8_byInstance, cX8_byInstance, 10, (Option.some (Jvm.ClassFile.FieldType.object "CoercedClasses$Dictionary")), [])
theorem mw_X8_byInstance : om_MW m_X8_byInstance 3 := ⟨q2438, q254, by decide, ⟨by decide, by decide⟩, by decide +kernel⟩
def m_X8_put : om_M := (yX8_put, cX8_put, 5, (Option.some (Jvm.ClassFile.FieldType.object "CoercedClasses$Type")), [])
theorem mw_X8_put : om_MW m_X8_put 4 := ⟨q2514, q254, by decide, ⟨by decide, by decide⟩, by decide +kernel⟩
def m_X8_areOne : om_M := (yX8_areOne, cX8_areOne, 5, (Option.some Jvm.ClassFile.FieldType.boolean), [])
theorem mw_X8_areOne : om_MW m_X8_areOne 3 := ⟨q2562, q254, by decide, ⟨by decide, by decide⟩, by decide +kernel⟩
def m_X9_init : om_M := (yX9_init, cX9_init, 2, (Option.none : Option Jvm.ClassFile.FieldType), [])
theorem mw_X9_init : om_MW m_X9_init 1 := ⟨q574, q255, by decide, ⟨by decide, by decide⟩, by decide +kernel⟩
def m_X9_check : om_M := (yX9_check, cX9_check, 3, (Option.some Jvm.ClassFile.FieldType.int), [])
theorem mw_X9_check : om_MW m_X9_check 1 := ⟨q3147, q255, by decide, ⟨by decide, by decide⟩, by decide +kernel⟩
def m_X9_dictionary : om_M := (yX9_dictionary, cX9_dictionary, 4, (Option.some (Jvm.ClassFile.FieldType.object "CoercedClasses$Type")), [])
theorem mw_X9_dictionary : om_MW m_X9_dictionary 1 := ⟨q3153, q255, by decide, ⟨by decide, by decide⟩, by decide +kernel⟩
def m_X9_byInstance : om_M := (yX9_byInstance, cX9_byInstance, 5, (Option.some (Jvm.ClassFile.FieldType.object "CoercedClasses$Type")), [])
theorem mw_X9_byInstance : om_MW m_X9_byInstance 1 := ⟨q3161, q255, by decide, ⟨by decide, by decide⟩, by decide +kernel⟩
def m_X9_isOne : om_M := (yX9_isOne, cX9_isOne, 3, (Option.some Jvm.ClassFile.FieldType.boolean), [])
theorem mw_X9_isOne : om_MW m_X9_isOne 2 := ⟨q3169, q255, by decide, ⟨by decide, by decide⟩, by decide +kernel⟩
def m_X9_isProof : om_M := (yX9_isProof, cX9_isProof, 6, (Option.some Jvm.ClassFile.FieldType.boolean), [])
theorem mw_X9_isProof : om_MW m_X9_isProof 1 := ⟨q3175, q255, by decide, ⟨by decide, by decide⟩, by decide +kernel⟩
def m_X9_ex : om_M := (yX9_ex, cX9_ex, 3, (Option.some (Jvm.ClassFile.FieldType.object "CoercedClasses$Type")), [])
theorem mw_X9_ex : om_MW m_X9_ex 1 := ⟨q3182, q255, by decide, ⟨by decide, by decide⟩, by decide +kernel⟩
def m_X9_plain : om_M := (yX9_plain, cX9_plain, 4, (Option.some (Jvm.ClassFile.FieldType.object "CoercedClasses$Type")), [])
theorem mw_X9_plain : om_MW m_X9_plain 1 := ⟨q3186, q255, by decide, ⟨by decide, by decide⟩, by decide +kernel⟩
def m_X9_name : om_M := (yX9_name, cX9_name, 7, (Option.some (Jvm.ClassFile.FieldType.object "CoercedClasses$Type")), [])
theorem mw_X9_name : om_MW m_X9_name 1 := ⟨q3191, q255, by decide, ⟨by decide, by decide⟩, by decide +kernel⟩
def m_X9_inside : om_M := (yX9_inside, cX9_inside, 4, (Option.some (Jvm.ClassFile.FieldType.object "CoercedClasses$Type")), [])
theorem mw_X9_inside : om_MW m_X9_inside 2 := ⟨q3202, q255, by decide, ⟨by decide, by decide⟩, by decide +kernel⟩
def m_X9_cases : om_M := (yX9_cases, cX9_cases, 5, (Option.some (Jvm.ClassFile.FieldType.object "CoercedClasses$Type")), [])
theorem mw_X9_cases : om_MW m_X9_cases 1 := ⟨q3212, q255, by decide, ⟨by decide, by decide⟩, by decide +kernel⟩
def m_X9_use : om_M := (yX9_use, cX9_use, 5, (Option.some (Jvm.ClassFile.FieldType.object "CoercedClasses$Type")), [])
theorem mw_X9_use : om_MW m_X9_use 1 := ⟨q3217, q255, by decide, ⟨by decide, by decide⟩, by decide +kernel⟩
def m_X9_chain : om_M := (yX9_chain, cX9_chain, 4, (Option.some (Jvm.ClassFile.FieldType.object "CoercedClasses$Type")), [])
theorem mw_X9_chain : om_MW m_X9_chain 1 := ⟨q3224, q255, by decide, ⟨by decide, by decide⟩, by decide +kernel⟩
def m_X10_init : om_M := (yX10_init, cX10_init, 2, (Option.none : Option Jvm.ClassFile.FieldType), [])
theorem mw_X10_init : om_MW m_X10_init 0 := ⟨q609, q256, by decide, ⟨by decide, by decide⟩, by decide +kernel⟩
def m_X10_begin : om_M := (yX10_begin, cX10_begin, 2, (Option.none : Option Jvm.ClassFile.FieldType), [])
theorem mw_X10_begin : om_MW m_X10_begin 1 := ⟨q2901, q256, by decide, ⟨by decide, by decide⟩, by decide +kernel⟩
def m_X10_step : om_M := (yX10_step, cX10_step, 11, (Option.none : Option Jvm.ClassFile.FieldType), [])
theorem mw_X10_step : om_MW m_X10_step 0 := ⟨q2913, q256, by decide, ⟨by decide, by decide⟩, by decide +kernel⟩
def m_X10_levels : om_M := (yX10_levels, cX10_levels, 3, (Option.some Jvm.ClassFile.FieldType.int), [])
theorem mw_X10_levels : om_MW m_X10_levels 1 := ⟨q2916, q256, by decide, ⟨by decide, by decide⟩, by decide +kernel⟩
def m_X10_push : om_M := (yX10_push, cX10_push, 5, (Option.some Jvm.ClassFile.FieldType.boolean), [])
theorem mw_X10_push : om_MW m_X10_push 2 := ⟨q2927, q256, by decide, ⟨by decide, by decide⟩, by decide +kernel⟩
def m_X10_name : om_M := (yX10_name, cX10_name, 4, (Option.none : Option Jvm.ClassFile.FieldType), [])
theorem mw_X10_name : om_MW m_X10_name 1 := ⟨q2935, q256, by decide, ⟨by decide, by decide⟩, by decide +kernel⟩
def m_X10_comes : om_M := (yX10_comes, cX10_comes, 12, (Option.none : Option Jvm.ClassFile.FieldType), [])
theorem mw_X10_comes : om_MW m_X10_comes 1 := ⟨q2942, q256, by decide, ⟨by decide, by decide⟩, by decide +kernel⟩
def m_X10_show : om_M := (yX10_show, cX10_show, 3, (Option.none : Option Jvm.ClassFile.FieldType), [])
theorem mw_X10_show : om_MW m_X10_show 0 := ⟨q2946, q256, by decide, ⟨by decide, by decide⟩, by decide +kernel⟩
def m_X10_later : om_M := (yX10_later, cX10_later, 3, (Option.none : Option Jvm.ClassFile.FieldType), [])
theorem mw_X10_later : om_MW m_X10_later 1 := ⟨q2950, q256, by decide, ⟨by decide, by decide⟩, by decide +kernel⟩
def m_X10_say : om_M := (yX10_say, cX10_say, 2, (Option.none : Option Jvm.ClassFile.FieldType), [])
theorem mw_X10_say : om_MW m_X10_say 1 := ⟨q2955, q256, by decide, ⟨by decide, by decide⟩, by decide +kernel⟩
def m_X10_is : om_M := (yX10_is, cX10_is, 4, (Option.some Jvm.ClassFile.FieldType.boolean), [])
theorem mw_X10_is : om_MW m_X10_is 2 := ⟨q2959, q256, by decide, ⟨by decide, by decide⟩, by decide +kernel⟩
def m_X10_low : om_M := (yX10_low, cX10_low, 2, (Option.some Jvm.ClassFile.FieldType.int), [])
theorem mw_X10_low : om_MW m_X10_low 1 := ⟨q2962, q256, by decide, ⟨by decide, by decide⟩, by decide +kernel⟩
def m_X10_number : om_M := (yX10_number, cX10_number, 4, (Option.none : Option Jvm.ClassFile.FieldType), [])
theorem mw_X10_number : om_MW m_X10_number 1 := ⟨q2966, q256, by decide, ⟨by decide, by decide⟩, by decide +kernel⟩
def m_X10_words : om_M := (yX10_words, cX10_words, 3, (Option.none : Option Jvm.ClassFile.FieldType), [])
theorem mw_X10_words : om_MW m_X10_words 1 := ⟨q2973, q256, by decide, ⟨by decide, by decide⟩, by decide +kernel⟩
def m_X10_cell : om_M := (yX10_cell, cX10_cell, 3, (Option.some (Jvm.ClassFile.FieldType.object "CoercedClasses$Cell")), [])
theorem mw_X10_cell : om_MW m_X10_cell 1 := ⟨q2983, q256, by decide, ⟨by decide, by decide⟩, by decide +kernel⟩
def m_X10_rest : om_M := (yX10_rest, cX10_rest, 2, (Option.none : Option Jvm.ClassFile.FieldType), [])
theorem mw_X10_rest : om_MW m_X10_rest 1 := ⟨q2987, q256, by decide, ⟨by decide, by decide⟩, by decide +kernel⟩
def m_X10_list : om_M := (yX10_list, cX10_list, 3, (Option.none : Option Jvm.ClassFile.FieldType), [])
theorem mw_X10_list : om_MW m_X10_list 1 := ⟨q2991, q256, by decide, ⟨by decide, by decide⟩, by decide +kernel⟩
def m_X10_of : om_M := (yX10_of, cX10_of, 3, (Option.some Jvm.ClassFile.FieldType.long), [])
theorem mw_X10_of : om_MW m_X10_of 2 := ⟨q2995, q256, by decide, ⟨by decide, by decide⟩, by decide +kernel⟩
def m_X10_part : om_M := (yX10_part, cX10_part, 4, (Option.none : Option Jvm.ClassFile.FieldType), [])
theorem mw_X10_part : om_MW m_X10_part 1 := ⟨q3000, q256, by decide, ⟨by decide, by decide⟩, by decide +kernel⟩
def m_X10_back : om_M := (yX10_back, cX10_back, 3, (Option.none : Option Jvm.ClassFile.FieldType), [])
theorem mw_X10_back : om_MW m_X10_back 1 := ⟨q3010, q256, by decide, ⟨by decide, by decide⟩, by decide +kernel⟩
def m_X10_next : om_M := (yX10_next, cX10_next, 2, (Option.none : Option Jvm.ClassFile.FieldType), [])
theorem mw_X10_next : om_MW m_X10_next 1 := ⟨q3020, q256, by decide, ⟨by decide, by decide⟩, by decide +kernel⟩
def m_X10_apply : om_M := (yX10_apply, cX10_apply, 7, (Option.some Jvm.ClassFile.FieldType.long), [])
theorem mw_X10_apply : om_MW m_X10_apply 2 := ⟨q3024, q256, by decide, ⟨by decide, by decide⟩, by decide +kernel⟩
def m_X10_built : om_M := (yX10_built, cX10_built, 5, (Option.some Jvm.ClassFile.FieldType.long), [])
theorem mw_X10_built : om_MW m_X10_built 2 := ⟨q3028, q256, by decide, ⟨by decide, by decide⟩, by decide +kernel⟩
def m_X10_fresh : om_M := (yX10_fresh, cX10_fresh, 3, (Option.some (Jvm.ClassFile.FieldType.object "CoercedClasses$Cell")), [])
theorem mw_X10_fresh : om_MW m_X10_fresh 1 := ⟨q3034, q256, by decide, ⟨by decide, by decide⟩, by decide +kernel⟩
def m_X10_bind : om_M := (yX10_bind, cX10_bind, 4, (Option.some Jvm.ClassFile.FieldType.boolean), [])
theorem mw_X10_bind : om_MW m_X10_bind 1 := ⟨q3068, q256, by decide, ⟨by decide, by decide⟩, by decide +kernel⟩
def m_X10_cases : om_M := (yX10_cases, cX10_cases, 5, (Option.none : Option Jvm.ClassFile.FieldType), [])
theorem mw_X10_cases : om_MW m_X10_cases 2 := ⟨q3077, q256, by decide, ⟨by decide, by decide⟩, by decide +kernel⟩
def m_X10_signed : om_M := (yX10_signed, cX10_signed, 3, (Option.some Jvm.ClassFile.FieldType.long), [])
theorem mw_X10_signed : om_MW m_X10_signed 3 := ⟨q3085, q256, by decide, ⟨by decide, by decide⟩, by decide +kernel⟩
def m_X10_dictionary : om_M := (yX10_dictionary, cX10_dictionary, 9, (Option.some Jvm.ClassFile.FieldType.int), [])
theorem mw_X10_dictionary : om_MW m_X10_dictionary 1 := ⟨q3090, q256, by decide, ⟨by decide, by decide⟩, by decide +kernel⟩
def m_X10_due : om_M := (yX10_due, cX10_due, 5, (Option.none : Option Jvm.ClassFile.FieldType), [])
theorem mw_X10_due : om_MW m_X10_due 4 := ⟨q3094, q256, by decide, ⟨by decide, by decide⟩, by decide +kernel⟩
def m_X10_puts : om_M := (yX10_puts, cX10_puts, 4, (Option.none : Option Jvm.ClassFile.FieldType), [])
theorem mw_X10_puts : om_MW m_X10_puts 3 := ⟨q3098, q256, by decide, ⟨by decide, by decide⟩, by decide +kernel⟩
def m_X10_enter : om_M := (yX10_enter, cX10_enter, 4, (Option.none : Option Jvm.ClassFile.FieldType), [])
theorem mw_X10_enter : om_MW m_X10_enter 2 := ⟨q3104, q256, by decide, ⟨by decide, by decide⟩, by decide +kernel⟩
def m_X10_lambda : om_M := (yX10_lambda, cX10_lambda, 4, (Option.none : Option Jvm.ClassFile.FieldType), [])
theorem mw_X10_lambda : om_MW m_X10_lambda 1 := ⟨q3111, q256, by decide, ⟨by decide, by decide⟩, by decide +kernel⟩
def m_X11_init : om_M := (yX11_init, cX11_init, 1, (Option.none : Option Jvm.ClassFile.FieldType), [])
theorem mw_X11_init : om_MW m_X11_init 0 := ⟨q621, q257, by decide, ⟨by decide, by decide⟩, by decide +kernel⟩
def m_X12_init : om_M := (yX12_init, cX12_init, 1, (Option.none : Option Jvm.ClassFile.FieldType), [])
theorem mw_X12_init : om_MW m_X12_init 0 := ⟨q726, q258, by decide, ⟨by decide, by decide⟩, by decide +kernel⟩
def m_X12_is : om_M := (yX12_is, cX12_is, 6, (Option.some (Jvm.ClassFile.FieldType.object "CoercedClasses$Term")), [])
theorem mw_X12_is : om_MW m_X12_is 5 := ⟨q2640, q258, by decide, ⟨by decide, by decide⟩, by decide +kernel⟩
def m_X13_init : om_M := (yX13_init, cX13_init, 1, (Option.none : Option Jvm.ClassFile.FieldType), [])
theorem mw_X13_init : om_MW m_X13_init 0 := ⟨q3237, q259, by decide, ⟨by decide, by decide⟩, by decide +kernel⟩
def m_X13_run : om_M := (yX13_run, cX13_run, 3, (Option.some Jvm.ClassFile.FieldType.int), [])
theorem mw_X13_run : om_MW m_X13_run 1 := ⟨q3791, q259, by decide, ⟨by decide, by decide⟩, by decide +kernel⟩
def m_X13_step : om_M := (yX13_step, cX13_step, 4, (Option.none : Option Jvm.ClassFile.FieldType), [])
theorem mw_X13_step : om_MW m_X13_step 1 := ⟨q3795, q259, by decide, ⟨by decide, by decide⟩, by decide +kernel⟩
def m_X13_nameAt : om_M := (yX13_nameAt, cX13_nameAt, 2, (Option.some Jvm.ClassFile.FieldType.int), [])
theorem mw_X13_nameAt : om_MW m_X13_nameAt 1 := ⟨q3799, q259, by decide, ⟨by decide, by decide⟩, by decide +kernel⟩
def m_X13_thing : om_M := (yX13_thing, cX13_thing, 3, (Option.some Jvm.ClassFile.FieldType.long), [])
theorem mw_X13_thing : om_MW m_X13_thing 2 := ⟨q3802, q259, by decide, ⟨by decide, by decide⟩, by decide +kernel⟩
def m_X13_comes : om_M := (yX13_comes, cX13_comes, 9, (Option.none : Option Jvm.ClassFile.FieldType), [])
theorem mw_X13_comes : om_MW m_X13_comes 1 := ⟨q3806, q259, by decide, ⟨by decide, by decide⟩, by decide +kernel⟩
def m_X13_show : om_M := (yX13_show, cX13_show, 5, (Option.none : Option Jvm.ClassFile.FieldType), [])
theorem mw_X13_show : om_MW m_X13_show 1 := ⟨q3810, q259, by decide, ⟨by decide, by decide⟩, by decide +kernel⟩
def m_X13_showNumber : om_M := (yX13_showNumber, cX13_showNumber, 7, (Option.none : Option Jvm.ClassFile.FieldType), [])
theorem mw_X13_showNumber : om_MW m_X13_showNumber 1 := ⟨q3815, q259, by decide, ⟨by decide, by decide⟩, by decide +kernel⟩
def m_X13_put1 : om_M := (yX13_put1, cX13_put1, 2, (Option.none : Option Jvm.ClassFile.FieldType), [])
theorem mw_X13_put1 : om_MW m_X13_put1 1 := ⟨q3819, q259, by decide, ⟨by decide, by decide⟩, by decide +kernel⟩
def m_X13_shows : om_M := (yX13_shows, cX13_shows, 4, (Option.none : Option Jvm.ClassFile.FieldType), [])
theorem mw_X13_shows : om_MW m_X13_shows 1 := ⟨q3827, q259, by decide, ⟨by decide, by decide⟩, by decide +kernel⟩
def m_X13_go : om_M := (yX13_go, cX13_go, 6, (Option.none : Option Jvm.ClassFile.FieldType), [])
theorem mw_X13_go : om_MW m_X13_go 4 := ⟨q3833, q259, by decide, ⟨by decide, by decide⟩, by decide +kernel⟩
def m_X13_frame : om_M := (yX13_frame, cX13_frame, 5, (Option.some Jvm.ClassFile.FieldType.boolean), [])
theorem mw_X13_frame : om_MW m_X13_frame 3 := ⟨q3837, q259, by decide, ⟨by decide, by decide⟩, by decide +kernel⟩
def m_X13_bind : om_M := (yX13_bind, cX13_bind, 3, (Option.some Jvm.ClassFile.FieldType.boolean), [])
theorem mw_X13_bind : om_MW m_X13_bind 1 := ⟨q3841, q259, by decide, ⟨by decide, by decide⟩, by decide +kernel⟩
def m_X13_cell : om_M := (yX13_cell, cX13_cell, 1, (Option.some Jvm.ClassFile.FieldType.boolean), [])
theorem mw_X13_cell : om_MW m_X13_cell 0 := ⟨q3845, q259, by decide, ⟨by decide, by decide⟩, by decide +kernel⟩
def m_X13_chooses : om_M := (yX13_chooses, cX13_chooses, 5, (Option.none : Option Jvm.ClassFile.FieldType), [])
theorem mw_X13_chooses : om_MW m_X13_chooses 2 := ⟨q3849, q259, by decide, ⟨by decide, by decide⟩, by decide +kernel⟩
def m_X13_result : om_M := (yX13_result, cX13_result, 3, (Option.some Jvm.ClassFile.FieldType.long), [])
theorem mw_X13_result : om_MW m_X13_result 3 := ⟨q3853, q259, by decide, ⟨by decide, by decide⟩, by decide +kernel⟩
def m_X13_calls : om_M := (yX13_calls, cX13_calls, 4, (Option.none : Option Jvm.ClassFile.FieldType), [])
theorem mw_X13_calls : om_MW m_X13_calls 2 := ⟨q3858, q259, by decide, ⟨by decide, by decide⟩, by decide +kernel⟩
def m_X13_applied : om_M := (yX13_applied, cX13_applied, 6, (Option.some Jvm.ClassFile.FieldType.long), [])
theorem mw_X13_applied : om_MW m_X13_applied 2 := ⟨q3862, q259, by decide, ⟨by decide, by decide⟩, by decide +kernel⟩
def m_X13_two : om_M := (yX13_two, cX13_two, 6, (Option.some Jvm.ClassFile.FieldType.long), [])
theorem mw_X13_two : om_MW m_X13_two 3 := ⟨q3866, q259, by decide, ⟨by decide, by decide⟩, by decide +kernel⟩
def m_X13_wantedName : om_M := (yX13_wantedName, cX13_wantedName, 14, (Option.none : Option Jvm.ClassFile.FieldType), [])
theorem mw_X13_wantedName : om_MW m_X13_wantedName 1 := ⟨q3870, q259, by decide, ⟨by decide, by decide⟩, by decide +kernel⟩
def m_X13_givensOf : om_M := (yX13_givensOf, cX13_givensOf, 2, (Option.some Jvm.ClassFile.FieldType.int), [])
theorem mw_X13_givensOf : om_MW m_X13_givensOf 1 := ⟨q3874, q259, by decide, ⟨by decide, by decide⟩, by decide +kernel⟩
def m_X13_byOwner : om_M := (yX13_byOwner, cX13_byOwner, 2, (Option.none : Option Jvm.ClassFile.FieldType), [])
theorem mw_X13_byOwner : om_MW m_X13_byOwner 1 := ⟨q3878, q259, by decide, ⟨by decide, by decide⟩, by decide +kernel⟩
def m_X13_byFunction : om_M := (yX13_byFunction, cX13_byFunction, 3, (Option.none : Option Jvm.ClassFile.FieldType), [])
theorem mw_X13_byFunction : om_MW m_X13_byFunction 1 := ⟨q3882, q259, by decide, ⟨by decide, by decide⟩, by decide +kernel⟩
def m_X13_byInstance : om_M := (yX13_byInstance, cX13_byInstance, 3, (Option.none : Option Jvm.ClassFile.FieldType), [])
theorem mw_X13_byInstance : om_MW m_X13_byInstance 1 := ⟨q3886, q259, by decide, ⟨by decide, by decide⟩, by decide +kernel⟩
def m_X13_headScope : om_M := (yX13_headScope, cX13_headScope, 3, (Option.none : Option Jvm.ClassFile.FieldType), [])
theorem mw_X13_headScope : om_MW m_X13_headScope 1 := ⟨q3890, q259, by decide, ⟨by decide, by decide⟩, by decide +kernel⟩
def m_X13_givenPut : om_M := (yX13_givenPut, cX13_givenPut, 5, (Option.none : Option Jvm.ClassFile.FieldType), [])
theorem mw_X13_givenPut : om_MW m_X13_givenPut 3 := ⟨q3894, q259, by decide, ⟨by decide, by decide⟩, by decide +kernel⟩
def m_X13_putAts : om_M := (yX13_putAts, cX13_putAts, 5, (Option.none : Option Jvm.ClassFile.FieldType), [])
theorem mw_X13_putAts : om_MW m_X13_putAts 1 := ⟨q3898, q259, by decide, ⟨by decide, by decide⟩, by decide +kernel⟩
def m_X13_put : om_M := (yX13_put, cX13_put, 4, (Option.some Jvm.ClassFile.FieldType.int), [])
theorem mw_X13_put : om_MW m_X13_put 1 := ⟨q3902, q259, by decide, ⟨by decide, by decide⟩, by decide +kernel⟩
def m_X13_aType : om_M := (yX13_aType, cX13_aType, 7, (Option.some Jvm.ClassFile.FieldType.int), [])
theorem mw_X13_aType : om_MW m_X13_aType 4 := ⟨q3906, q259, by decide, ⟨by decide, by decide⟩, by decide +kernel⟩
def m_X13_outNow : om_M := (yX13_outNow, cX13_outNow, 2, (Option.some Jvm.ClassFile.FieldType.int), [])
theorem mw_X13_outNow : om_MW m_X13_outNow 1 := ⟨q3911, q259, by decide, ⟨by decide, by decide⟩, by decide +kernel⟩
def m_X13_told1 : om_M := (yX13_told1, cX13_told1, 1, (Option.none : Option Jvm.ClassFile.FieldType), [])
theorem mw_X13_told1 : om_MW m_X13_told1 0 := ⟨q3915, q259, by decide, ⟨by decide, by decide⟩, by decide +kernel⟩
def m_X13_asks : om_M := (yX13_asks, cX13_asks, 1, (Option.none : Option Jvm.ClassFile.FieldType), [])
theorem mw_X13_asks : om_MW m_X13_asks 0 := ⟨q3919, q259, by decide, ⟨by decide, by decide⟩, by decide +kernel⟩
def m_X13_out : om_M := (yX13_out, cX13_out, 5, (Option.some Jvm.ClassFile.FieldType.int), [])
theorem mw_X13_out : om_MW m_X13_out 1 := ⟨q3923, q259, by decide, ⟨by decide, by decide⟩, by decide +kernel⟩
def m_X13_within : om_M := (yX13_within, cX13_within, 2, (Option.some Jvm.ClassFile.FieldType.int), [])
theorem mw_X13_within : om_MW m_X13_within 1 := ⟨q3927, q259, by decide, ⟨by decide, by decide⟩, by decide +kernel⟩
def m_X13_partsOut : om_M := (yX13_partsOut, cX13_partsOut, 4, (Option.some Jvm.ClassFile.FieldType.int), [])
theorem mw_X13_partsOut : om_MW m_X13_partsOut 1 := ⟨q3931, q259, by decide, ⟨by decide, by decide⟩, by decide +kernel⟩
def m_X13_goesBy : om_M := (yX13_goesBy, cX13_goesBy, 4, (Option.some Jvm.ClassFile.FieldType.int), [])
theorem mw_X13_goesBy : om_MW m_X13_goesBy 2 := ⟨q3935, q259, by decide, ⟨by decide, by decide⟩, by decide +kernel⟩
def m_X13_instanceOf : om_M := (yX13_instanceOf, cX13_instanceOf, 4, (Option.some Jvm.ClassFile.FieldType.int), [])
theorem mw_X13_instanceOf : om_MW m_X13_instanceOf 2 := ⟨q3939, q259, by decide, ⟨by decide, by decide⟩, by decide +kernel⟩
def m_X13_givenFamily : om_M := (yX13_givenFamily, cX13_givenFamily, 4, (Option.some Jvm.ClassFile.FieldType.int), [])
theorem mw_X13_givenFamily : om_MW m_X13_givenFamily 2 := ⟨q3943, q259, by decide, ⟨by decide, by decide⟩, by decide +kernel⟩
def m_X13_counts : om_M := (yX13_counts, cX13_counts, 1, (Option.none : Option Jvm.ClassFile.FieldType), [])
theorem mw_X13_counts : om_MW m_X13_counts 0 := ⟨q3947, q259, by decide, ⟨by decide, by decide⟩, by decide +kernel⟩
def m_X13_goesTo : om_M := (yX13_goesTo, cX13_goesTo, 3, (Option.some Jvm.ClassFile.FieldType.int), [])
theorem mw_X13_goesTo : om_MW m_X13_goesTo 2 := ⟨q3951, q259, by decide, ⟨by decide, by decide⟩, by decide +kernel⟩
def m_X13_putHead : om_M := (yX13_putHead, cX13_putHead, 4, (Option.none : Option Jvm.ClassFile.FieldType), [])
theorem mw_X13_putHead : om_MW m_X13_putHead 2 := ⟨q3955, q259, by decide, ⟨by decide, by decide⟩, by decide +kernel⟩
def m_X13_dictionaryOut : om_M := (yX13_dictionaryOut, cX13_dictionaryOut, 12, (Option.some Jvm.ClassFile.FieldType.int), [])
theorem mw_X13_dictionaryOut : om_MW m_X13_dictionaryOut 4 := ⟨q3959, q259, by decide, ⟨by decide, by decide⟩, by decide +kernel⟩
def m_X13_begins : om_M := (yX13_begins, cX13_begins, 9, (Option.none : Option Jvm.ClassFile.FieldType), [])
theorem mw_X13_begins : om_MW m_X13_begins 4 := ⟨q3963, q259, by decide, ⟨by decide, by decide⟩, by decide +kernel⟩
def m_X13_givenOf : om_M := (yX13_givenOf, cX13_givenOf, 4, (Option.some Jvm.ClassFile.FieldType.int), [])
theorem mw_X13_givenOf : om_MW m_X13_givenOf 2 := ⟨q3967, q259, by decide, ⟨by decide, by decide⟩, by decide +kernel⟩
def m_X13_reaches : om_M := (yX13_reaches, cX13_reaches, 4, (Option.some Jvm.ClassFile.FieldType.boolean), [])
theorem mw_X13_reaches : om_MW m_X13_reaches 2 := ⟨q3971, q259, by decide, ⟨by decide, by decide⟩, by decide +kernel⟩
def m_X13_inRow : om_M := (yX13_inRow, cX13_inRow, 3, (Option.some Jvm.ClassFile.FieldType.int), [])
theorem mw_X13_inRow : om_MW m_X13_inRow 2 := ⟨q3974, q259, by decide, ⟨by decide, by decide⟩, by decide +kernel⟩
def m_X13_head : om_M := (yX13_head, cX13_head, 4, (Option.some Jvm.ClassFile.FieldType.int), [])
theorem mw_X13_head : om_MW m_X13_head 1 := ⟨q3979, q259, by decide, ⟨by decide, by decide⟩, by decide +kernel⟩
def m_X13_dictionaryMade : om_M := (yX13_dictionaryMade, cX13_dictionaryMade, 3, (Option.some Jvm.ClassFile.FieldType.int), [])
theorem mw_X13_dictionaryMade : om_MW m_X13_dictionaryMade 2 := ⟨q3983, q259, by decide, ⟨by decide, by decide⟩, by decide +kernel⟩
def m_X13_row : om_M := (yX13_row, cX13_row, 4, (Option.some Jvm.ClassFile.FieldType.long), [])
theorem mw_X13_row : om_MW m_X13_row 4 := ⟨q3986, q259, by decide, ⟨by decide, by decide⟩, by decide +kernel⟩
def m_X13_function : om_M := (yX13_function, cX13_function, 2, (Option.some Jvm.ClassFile.FieldType.long), [])
theorem mw_X13_function : om_MW m_X13_function 1 := ⟨q3990, q259, by decide, ⟨by decide, by decide⟩, by decide +kernel⟩
def m_X13_feed : om_M := (yX13_feed, cX13_feed, 8, (Option.some Jvm.ClassFile.FieldType.int), [])
theorem mw_X13_feed : om_MW m_X13_feed 5 := ⟨q3994, q259, by decide, ⟨by decide, by decide⟩, by decide +kernel⟩
def m_X13_load : om_M := (yX13_load, cX13_load, 3, (Option.some Jvm.ClassFile.FieldType.int), [])
theorem mw_X13_load : om_MW m_X13_load 1 := ⟨q3998, q259, by decide, ⟨by decide, by decide⟩, by decide +kernel⟩
def m_X13_isProgram : om_M := (yX13_isProgram, cX13_isProgram, 4, (Option.some Jvm.ClassFile.FieldType.boolean), [])
theorem mw_X13_isProgram : om_MW m_X13_isProgram 2 := ⟨q4002, q259, by decide, ⟨by decide, by decide⟩, by decide +kernel⟩
def m_X13_always : om_M := (yX13_always, cX13_always, 5, (Option.none : Option Jvm.ClassFile.FieldType), [])
theorem mw_X13_always : om_MW m_X13_always 0 := ⟨q4006, q259, by decide, ⟨by decide, by decide⟩, by decide +kernel⟩
def m_X13_spell : om_M := (yX13_spell, cX13_spell, 5, (Option.none : Option Jvm.ClassFile.FieldType), [])
theorem mw_X13_spell : om_MW m_X13_spell 1 := ⟨q4011, q259, by decide, ⟨by decide, by decide⟩, by decide +kernel⟩
def m_X13_scan : om_M := (yX13_scan, cX13_scan, 5, (Option.none : Option Jvm.ClassFile.FieldType), [])
theorem mw_X13_scan : om_MW m_X13_scan 0 := ⟨q4025, q259, by decide, ⟨by decide, by decide⟩, by decide +kernel⟩
def m_X13_b : om_M := (yX13_b, cX13_b, 2, (Option.some Jvm.ClassFile.FieldType.int), [])
theorem mw_X13_b : om_MW m_X13_b 1 := ⟨q4029, q259, by decide, ⟨by decide, by decide⟩, by decide +kernel⟩
def m_X13_isSmall : om_M := (yX13_isSmall, cX13_isSmall, 1, (Option.some Jvm.ClassFile.FieldType.boolean), [])
theorem mw_X13_isSmall : om_MW m_X13_isSmall 1 := ⟨q4032, q259, by decide, ⟨by decide, by decide⟩, by decide +kernel⟩
def m_X13_isBig : om_M := (yX13_isBig, cX13_isBig, 1, (Option.some Jvm.ClassFile.FieldType.boolean), [])
theorem mw_X13_isBig : om_MW m_X13_isBig 1 := ⟨q4035, q259, by decide, ⟨by decide, by decide⟩, by decide +kernel⟩
def m_X13_isDigit : om_M := (yX13_isDigit, cX13_isDigit, 1, (Option.some Jvm.ClassFile.FieldType.boolean), [])
theorem mw_X13_isDigit : om_MW m_X13_isDigit 1 := ⟨q4038, q259, by decide, ⟨by decide, by decide⟩, by decide +kernel⟩
def m_X13_wordKind : om_M := (yX13_wordKind, cX13_wordKind, 3, (Option.some Jvm.ClassFile.FieldType.int), [])
theorem mw_X13_wordKind : om_MW m_X13_wordKind 2 := ⟨q4042, q259, by decide, ⟨by decide, by decide⟩, by decide +kernel⟩
def m_X13_isThe : om_M := (yX13_isThe, cX13_isThe, 8, (Option.some Jvm.ClassFile.FieldType.boolean), [])
theorem mw_X13_isThe : om_MW m_X13_isThe 3 := ⟨q4047, q259, by decide, ⟨by decide, by decide⟩, by decide +kernel⟩
def m_X13_token : om_M := (yX13_token, cX13_token, 6, (Option.none : Option Jvm.ClassFile.FieldType), [])
theorem mw_X13_token : om_MW m_X13_token 3 := ⟨q4061, q259, by decide, ⟨by decide, by decide⟩, by decide +kernel⟩
def m_X13_name : om_M := (yX13_name, cX13_name, 6, (Option.some Jvm.ClassFile.FieldType.int), [])
theorem mw_X13_name : om_MW m_X13_name 2 := ⟨q4065, q259, by decide, ⟨by decide, by decide⟩, by decide +kernel⟩
def m_X13_is : om_M := (yX13_is, cX13_is, 2, (Option.some Jvm.ClassFile.FieldType.boolean), [])
theorem mw_X13_is : om_MW m_X13_is 1 := ⟨q4069, q259, by decide, ⟨by decide, by decide⟩, by decide +kernel⟩
def m_X13_decl : om_M := (yX13_decl, cX13_decl, 2, (Option.none : Option Jvm.ClassFile.FieldType), [])
theorem mw_X13_decl : om_MW m_X13_decl 0 := ⟨q4073, q259, by decide, ⟨by decide, by decide⟩, by decide +kernel⟩
def m_X13_takes : om_M := (yX13_takes, cX13_takes, 2, (Option.some Jvm.ClassFile.FieldType.boolean), [])
theorem mw_X13_takes : om_MW m_X13_takes 1 := ⟨q4077, q259, by decide, ⟨by decide, by decide⟩, by decide +kernel⟩
def m_X13_aClass : om_M := (yX13_aClass, cX13_aClass, 5, (Option.none : Option Jvm.ClassFile.FieldType), [])
theorem mw_X13_aClass : om_MW m_X13_aClass 1 := ⟨q4081, q259, by decide, ⟨by decide, by decide⟩, by decide +kernel⟩
def m_X13_needed : om_M := (yX13_needed, cX13_needed, 3, (Option.some Jvm.ClassFile.FieldType.int), [])
theorem mw_X13_needed : om_MW m_X13_needed 1 := ⟨q4085, q259, by decide, ⟨by decide, by decide⟩, by decide +kernel⟩
def m_X13_need : om_M := (yX13_need, cX13_need, 2, (Option.none : Option Jvm.ClassFile.FieldType), [])
theorem mw_X13_need : om_MW m_X13_need 1 := ⟨q4089, q259, by decide, ⟨by decide, by decide⟩, by decide +kernel⟩
def m_X13_wrong : om_M := (yX13_wrong, cX13_wrong, 1, (Option.none : Option Jvm.ClassFile.FieldType), [])
theorem mw_X13_wrong : om_MW m_X13_wrong 0 := ⟨q4093, q259, by decide, ⟨by decide, by decide⟩, by decide +kernel⟩
def m_X13_readType : om_M := (yX13_readType, cX13_readType, 3, (Option.some Jvm.ClassFile.FieldType.int), [])
theorem mw_X13_readType : om_MW m_X13_readType 0 := ⟨q4097, q259, by decide, ⟨by decide, by decide⟩, by decide +kernel⟩
def m_X13_enter : om_M := (yX13_enter, cX13_enter, 1, (Option.none : Option Jvm.ClassFile.FieldType), [])
theorem mw_X13_enter : om_MW m_X13_enter 0 := ⟨q4101, q259, by decide, ⟨by decide, by decide⟩, by decide +kernel⟩
def m_X13_ground : om_M := (yX13_ground, cX13_ground, 4, (Option.some Jvm.ClassFile.FieldType.int), [])
theorem mw_X13_ground : om_MW m_X13_ground 0 := ⟨q4105, q259, by decide, ⟨by decide, by decide⟩, by decide +kernel⟩
def m_X13_piece : om_M := (yX13_piece, cX13_piece, 2, (Option.some Jvm.ClassFile.FieldType.int), [])
theorem mw_X13_piece : om_MW m_X13_piece 0 := ⟨q4109, q259, by decide, ⟨by decide, by decide⟩, by decide +kernel⟩
def m_X13_node : om_M := (yX13_node, cX13_node, 8, (Option.some Jvm.ClassFile.FieldType.int), [])
theorem mw_X13_node : om_MW m_X13_node 6 := ⟨q4113, q259, by decide, ⟨by decide, by decide⟩, by decide +kernel⟩
def m_X13_isPiece : om_M := (yX13_isPiece, cX13_isPiece, 1, (Option.some Jvm.ClassFile.FieldType.boolean), [])
theorem mw_X13_isPiece : om_MW m_X13_isPiece 0 := ⟨q4117, q259, by decide, ⟨by decide, by decide⟩, by decide +kernel⟩
def m_X13_anInstance : om_M := (yX13_anInstance, cX13_anInstance, 5, (Option.none : Option Jvm.ClassFile.FieldType), [])
theorem mw_X13_anInstance : om_MW m_X13_anInstance 1 := ⟨q4121, q259, by decide, ⟨by decide, by decide⟩, by decide +kernel⟩
def m_X13_conditions : om_M := (yX13_conditions, cX13_conditions, 8, (Option.some Jvm.ClassFile.FieldType.int), [])
theorem mw_X13_conditions : om_MW m_X13_conditions 1 := ⟨q4125, q259, by decide, ⟨by decide, by decide⟩, by decide +kernel⟩
def m_X13_readEx : om_M := (yX13_readEx, cX13_readEx, 6, (Option.some Jvm.ClassFile.FieldType.int), [])
theorem mw_X13_readEx : om_MW m_X13_readEx 0 := ⟨q4129, q259, by decide, ⟨by decide, by decide⟩, by decide +kernel⟩
def m_X13_readCase : om_M := (yX13_readCase, cX13_readCase, 6, (Option.some Jvm.ClassFile.FieldType.int), [])
theorem mw_X13_readCase : om_MW m_X13_readCase 1 := ⟨q4133, q259, by decide, ⟨by decide, by decide⟩, by decide +kernel⟩
def m_X13_isNamed : om_M := (yX13_isNamed, cX13_isNamed, 3, (Option.some Jvm.ClassFile.FieldType.boolean), [])
theorem mw_X13_isNamed : om_MW m_X13_isNamed 2 := ⟨q4137, q259, by decide, ⟨by decide, by decide⟩, by decide +kernel⟩
def m_X13_compare : om_M := (yX13_compare, cX13_compare, 3, (Option.some Jvm.ClassFile.FieldType.int), [])
theorem mw_X13_compare : om_MW m_X13_compare 0 := ⟨q4141, q259, by decide, ⟨by decide, by decide⟩, by decide +kernel⟩
def m_X13_sum : om_M := (yX13_sum, cX13_sum, 3, (Option.some Jvm.ClassFile.FieldType.int), [])
theorem mw_X13_sum : om_MW m_X13_sum 0 := ⟨q4145, q259, by decide, ⟨by decide, by decide⟩, by decide +kernel⟩
def m_X13_product : om_M := (yX13_product, cX13_product, 3, (Option.some Jvm.ClassFile.FieldType.int), [])
theorem mw_X13_product : om_MW m_X13_product 0 := ⟨q4149, q259, by decide, ⟨by decide, by decide⟩, by decide +kernel⟩
def m_X13_use : om_M := (yX13_use, cX13_use, 8, (Option.some Jvm.ClassFile.FieldType.int), [])
theorem mw_X13_use : om_MW m_X13_use 0 := ⟨q4153, q259, by decide, ⟨by decide, by decide⟩, by decide +kernel⟩
def m_X13_atom : om_M := (yX13_atom, cX13_atom, 2, (Option.some Jvm.ClassFile.FieldType.int), [])
theorem mw_X13_atom : om_MW m_X13_atom 0 := ⟨q4157, q259, by decide, ⟨by decide, by decide⟩, by decide +kernel⟩
def m_X13_isAtom : om_M := (yX13_isAtom, cX13_isAtom, 1, (Option.some Jvm.ClassFile.FieldType.boolean), [])
theorem mw_X13_isAtom : om_MW m_X13_isAtom 0 := ⟨q4161, q259, by decide, ⟨by decide, by decide⟩, by decide +kernel⟩
def m_X13_aFunction : om_M := (yX13_aFunction, cX13_aFunction, 2, (Option.none : Option Jvm.ClassFile.FieldType), [])
theorem mw_X13_aFunction : om_MW m_X13_aFunction 1 := ⟨q4165, q259, by decide, ⟨by decide, by decide⟩, by decide +kernel⟩
def m_X13_stand : om_M := (yX13_stand, cX13_stand, 7, (Option.none : Option Jvm.ClassFile.FieldType), [])
theorem mw_X13_stand : om_MW m_X13_stand 1 := ⟨q4169, q259, by decide, ⟨by decide, by decide⟩, by decide +kernel⟩
def m_X13_breaks : om_M := (yX13_breaks, cX13_breaks, 3, (Option.none : Option Jvm.ClassFile.FieldType), [])
theorem mw_X13_breaks : om_MW m_X13_breaks 2 := ⟨q4173, q259, by decide, ⟨by decide, by decide⟩, by decide +kernel⟩
def m_X13_tells : om_M := (yX13_tells, cX13_tells, 3, (Option.none : Option Jvm.ClassFile.FieldType), [])
theorem mw_X13_tells : om_MW m_X13_tells 1 := ⟨q4177, q259, by decide, ⟨by decide, by decide⟩, by decide +kernel⟩
def m_X13_standsGreat : om_M := (yX13_standsGreat, cX13_standsGreat, 5, (Option.some Jvm.ClassFile.FieldType.boolean), [])
theorem mw_X13_standsGreat : om_MW m_X13_standsGreat 3 := ⟨q4181, q259, by decide, ⟨by decide, by decide⟩, by decide +kernel⟩
def m_X13_standsTerm : om_M := (yX13_standsTerm, cX13_standsTerm, 5, (Option.some Jvm.ClassFile.FieldType.boolean), [])
theorem mw_X13_standsTerm : om_MW m_X13_standsTerm 3 := ⟨q4185, q259, by decide, ⟨by decide, by decide⟩, by decide +kernel⟩
def m_X13_fillClass : om_M := (yX13_fillClass, cX13_fillClass, 5, (Option.none : Option Jvm.ClassFile.FieldType), [])
theorem mw_X13_fillClass : om_MW m_X13_fillClass 1 := ⟨q4189, q259, by decide, ⟨by decide, by decide⟩, by decide +kernel⟩
def m_X13_known : om_M := (yX13_known, cX13_known, 11, (Option.some Jvm.ClassFile.FieldType.int), [])
theorem mw_X13_known : om_MW m_X13_known 1 := ⟨q4193, q259, by decide, ⟨by decide, by decide⟩, by decide +kernel⟩
def m_X13_inScope : om_M := (yX13_inScope, cX13_inScope, 3, (Option.some Jvm.ClassFile.FieldType.int), [])
theorem mw_X13_inScope : om_MW m_X13_inScope 1 := ⟨q4197, q259, by decide, ⟨by decide, by decide⟩, by decide +kernel⟩
def m_X13_partsOf : om_M := (yX13_partsOf, cX13_partsOf, 1, (Option.some Jvm.ClassFile.FieldType.int), [])
theorem mw_X13_partsOf : om_MW m_X13_partsOf 1 := ⟨q4200, q259, by decide, ⟨by decide, by decide⟩, by decide +kernel⟩
def m_X13_fillInstance : om_M := (yX13_fillInstance, cX13_fillInstance, 7, (Option.none : Option Jvm.ClassFile.FieldType), [])
theorem mw_X13_fillInstance : om_MW m_X13_fillInstance 1 := ⟨q4204, q259, by decide, ⟨by decide, by decide⟩, by decide +kernel⟩
def m_X13_exKnown : om_M := (yX13_exKnown, cX13_exKnown, 4, (Option.none : Option Jvm.ClassFile.FieldType), [])
theorem mw_X13_exKnown : om_MW m_X13_exKnown 1 := ⟨q4208, q259, by decide, ⟨by decide, by decide⟩, by decide +kernel⟩
def m_X13_hasLeft : om_M := (yX13_hasLeft, cX13_hasLeft, 2, (Option.some Jvm.ClassFile.FieldType.boolean), [])
theorem mw_X13_hasLeft : om_MW m_X13_hasLeft 1 := ⟨q4212, q259, by decide, ⟨by decide, by decide⟩, by decide +kernel⟩
def m_X13_oneKnown : om_M := (yX13_oneKnown, cX13_oneKnown, 5, (Option.none : Option Jvm.ClassFile.FieldType), [])
theorem mw_X13_oneKnown : om_MW m_X13_oneKnown 1 := ⟨q4216, q259, by decide, ⟨by decide, by decide⟩, by decide +kernel⟩
def m_X13_binds : om_M := (yX13_binds, cX13_binds, 2, (Option.none : Option Jvm.ClassFile.FieldType), [])
theorem mw_X13_binds : om_MW m_X13_binds 1 := ⟨q4220, q259, by decide, ⟨by decide, by decide⟩, by decide +kernel⟩
def m_X13_fillFunction : om_M := (yX13_fillFunction, cX13_fillFunction, 7, (Option.none : Option Jvm.ClassFile.FieldType), [])
theorem mw_X13_fillFunction : om_MW m_X13_fillFunction 1 := ⟨q4224, q259, by decide, ⟨by decide, by decide⟩, by decide +kernel⟩
def m_X13_third : om_M := (yX13_third, cX13_third, 6, (Option.none : Option Jvm.ClassFile.FieldType), [])
theorem mw_X13_third : om_MW m_X13_third 0 := ⟨q4228, q259, by decide, ⟨by decide, by decide⟩, by decide +kernel⟩
def m_X13_namesAlone : om_M := (yX13_namesAlone, cX13_namesAlone, 3, (Option.none : Option Jvm.ClassFile.FieldType), [])
theorem mw_X13_namesAlone : om_MW m_X13_namesAlone 1 := ⟨q4232, q259, by decide, ⟨by decide, by decide⟩, by decide +kernel⟩
def m_X13_hasFamily : om_M := (yX13_hasFamily, cX13_hasFamily, 2, (Option.some Jvm.ClassFile.FieldType.boolean), [])
theorem mw_X13_hasFamily : om_MW m_X13_hasFamily 1 := ⟨q4236, q259, by decide, ⟨by decide, by decide⟩, by decide +kernel⟩
def m_X13_had : om_M := (yX13_had, cX13_had, 6, (Option.some Jvm.ClassFile.FieldType.boolean), [])
theorem mw_X13_had : om_MW m_X13_had 2 := ⟨q4240, q259, by decide, ⟨by decide, by decide⟩, by decide +kernel⟩
def m_X13_judgeAll : om_M := (yX13_judgeAll, cX13_judgeAll, 6, (Option.none : Option Jvm.ClassFile.FieldType), [])
theorem mw_X13_judgeAll : om_MW m_X13_judgeAll 0 := ⟨q4244, q259, by decide, ⟨by decide, by decide⟩, by decide +kernel⟩
def m_X13_judge : om_M := (yX13_judge, cX13_judge, 4, (Option.some Jvm.ClassFile.FieldType.int), [])
theorem mw_X13_judge : om_MW m_X13_judge 1 := ⟨q4248, q259, by decide, ⟨by decide, by decide⟩, by decide +kernel⟩
def m_X13_judgeOne : om_M := (yX13_judgeOne, cX13_judgeOne, 5, (Option.some Jvm.ClassFile.FieldType.int), [])
theorem mw_X13_judgeOne : om_MW m_X13_judgeOne 1 := ⟨q4252, q259, by decide, ⟨by decide, by decide⟩, by decide +kernel⟩
def m_X13_named : om_M := (yX13_named, cX13_named, 11, (Option.some Jvm.ClassFile.FieldType.int), [])
theorem mw_X13_named : om_MW m_X13_named 1 := ⟨q4256, q259, by decide, ⟨by decide, by decide⟩, by decide +kernel⟩
def m_X13_fails : om_M := (yX13_fails, cX13_fails, 3, (Option.none : Option Jvm.ClassFile.FieldType), [])
theorem mw_X13_fails : om_MW m_X13_fails 2 := ⟨q4260, q259, by decide, ⟨by decide, by decide⟩, by decide +kernel⟩
def m_X13_allOf : om_M := (yX13_allOf, cX13_allOf, 3, (Option.some Jvm.ClassFile.FieldType.int), [])
theorem mw_X13_allOf : om_MW m_X13_allOf 1 := ⟨q4264, q259, by decide, ⟨by decide, by decide⟩, by decide +kernel⟩
def m_X13_given : om_M := (yX13_given, cX13_given, 7, (Option.none : Option Jvm.ClassFile.FieldType), [])
theorem mw_X13_given : om_MW m_X13_given 4 := ⟨q4268, q259, by decide, ⟨by decide, by decide⟩, by decide +kernel⟩
def m_X13_one : om_M := (yX13_one, cX13_one, 5, (Option.some Jvm.ClassFile.FieldType.boolean), [])
theorem mw_X13_one : om_MW m_X13_one 2 := ⟨q4272, q259, by decide, ⟨by decide, by decide⟩, by decide +kernel⟩
def m_X13_bindsType : om_M := (yX13_bindsType, cX13_bindsType, 2, (Option.none : Option Jvm.ClassFile.FieldType), [])
theorem mw_X13_bindsType : om_MW m_X13_bindsType 1 := ⟨q4276, q259, by decide, ⟨by decide, by decide⟩, by decide +kernel⟩
def m_X13_wanted : om_M := (yX13_wanted, cX13_wanted, 4, (Option.none : Option Jvm.ClassFile.FieldType), [])
theorem mw_X13_wanted : om_MW m_X13_wanted 2 := ⟨q4280, q259, by decide, ⟨by decide, by decide⟩, by decide +kernel⟩
def m_X13_placeOf : om_M := (yX13_placeOf, cX13_placeOf, 3, (Option.some Jvm.ClassFile.FieldType.int), [])
theorem mw_X13_placeOf : om_MW m_X13_placeOf 1 := ⟨q4284, q259, by decide, ⟨by decide, by decide⟩, by decide +kernel⟩
def m_X13_formed : om_M := (yX13_formed, cX13_formed, 7, (Option.some Jvm.ClassFile.FieldType.int), [])
theorem mw_X13_formed : om_MW m_X13_formed 4 := ⟨q4288, q259, by decide, ⟨by decide, by decide⟩, by decide +kernel⟩
def m_X13_judgeUp : om_M := (yX13_judgeUp, cX13_judgeUp, 5, (Option.some Jvm.ClassFile.FieldType.int), [])
theorem mw_X13_judgeUp : om_MW m_X13_judgeUp 2 := ⟨q4292, q259, by decide, ⟨by decide, by decide⟩, by decide +kernel⟩
def m_X13_lineType : om_M := (yX13_lineType, cX13_lineType, 3, (Option.some Jvm.ClassFile.FieldType.int), [])
theorem mw_X13_lineType : om_MW m_X13_lineType 2 := ⟨q4296, q259, by decide, ⟨by decide, by decide⟩, by decide +kernel⟩
def m_X13_sayProgram : om_M := (yX13_sayProgram, cX13_sayProgram, 3, (Option.none : Option Jvm.ClassFile.FieldType), [])
theorem mw_X13_sayProgram : om_MW m_X13_sayProgram 0 := ⟨q4300, q259, by decide, ⟨by decide, by decide⟩, by decide +kernel⟩
def m_X13_begins_2 : om_M := (yX13_begins_2, cX13_begins_2, 2, (Option.none : Option Jvm.ClassFile.FieldType), [])
theorem mw_X13_begins_2 : om_MW m_X13_begins_2 1 := ⟨q4305, q259, by decide, ⟨by decide, by decide⟩, by decide +kernel⟩
def m_X13_sayAll : om_M := (yX13_sayAll, cX13_sayAll, 2, (Option.none : Option Jvm.ClassFile.FieldType), [])
theorem mw_X13_sayAll : om_MW m_X13_sayAll 1 := ⟨q4309, q259, by decide, ⟨by decide, by decide⟩, by decide +kernel⟩
def m_X13_say : om_M := (yX13_say, cX13_say, 2, (Option.none : Option Jvm.ClassFile.FieldType), [])
theorem mw_X13_say : om_MW m_X13_say 1 := ⟨q4313, q259, by decide, ⟨by decide, by decide⟩, by decide +kernel⟩
def m_X13_sayName : om_M := (yX13_sayName, cX13_sayName, 3, (Option.none : Option Jvm.ClassFile.FieldType), [])
theorem mw_X13_sayName : om_MW m_X13_sayName 1 := ⟨q4317, q259, by decide, ⟨by decide, by decide⟩, by decide +kernel⟩
def m_X13_sayGivens : om_M := (yX13_sayGivens, cX13_sayGivens, 2, (Option.none : Option Jvm.ClassFile.FieldType), [])
theorem mw_X13_sayGivens : om_MW m_X13_sayGivens 0 := ⟨q4321, q259, by decide, ⟨by decide, by decide⟩, by decide +kernel⟩
def m_X13_sayNumber : om_M := (yX13_sayNumber, cX13_sayNumber, 2, (Option.none : Option Jvm.ClassFile.FieldType), [])
theorem mw_X13_sayNumber : om_MW m_X13_sayNumber 1 := ⟨q4325, q259, by decide, ⟨by decide, by decide⟩, by decide +kernel⟩
def m_X13_sayType : om_M := (yX13_sayType, cX13_sayType, 2, (Option.none : Option Jvm.ClassFile.FieldType), [])
theorem mw_X13_sayType : om_MW m_X13_sayType 1 := ⟨q4329, q259, by decide, ⟨by decide, by decide⟩, by decide +kernel⟩
def m_X13_sayGreat : om_M := (yX13_sayGreat, cX13_sayGreat, 2, (Option.none : Option Jvm.ClassFile.FieldType), [])
theorem mw_X13_sayGreat : om_MW m_X13_sayGreat 1 := ⟨q4333, q259, by decide, ⟨by decide, by decide⟩, by decide +kernel⟩
def m_X13_sayEx : om_M := (yX13_sayEx, cX13_sayEx, 6, (Option.none : Option Jvm.ClassFile.FieldType), [])
theorem mw_X13_sayEx : om_MW m_X13_sayEx 1 := ⟨q4337, q259, by decide, ⟨by decide, by decide⟩, by decide +kernel⟩
def m_X13_sayPlain : om_M := (yX13_sayPlain, cX13_sayPlain, 3, (Option.none : Option Jvm.ClassFile.FieldType), [])
theorem mw_X13_sayPlain : om_MW m_X13_sayPlain 1 := ⟨q4341, q259, by decide, ⟨by decide, by decide⟩, by decide +kernel⟩
def m_X13_sayNamed : om_M := (yX13_sayNamed, cX13_sayNamed, 7, (Option.none : Option Jvm.ClassFile.FieldType), [])
theorem mw_X13_sayNamed : om_MW m_X13_sayNamed 1 := ⟨q4345, q259, by decide, ⟨by decide, by decide⟩, by decide +kernel⟩
def m_X13_sayDictionary : om_M := (yX13_sayDictionary, cX13_sayDictionary, 6, (Option.none : Option Jvm.ClassFile.FieldType), [])
theorem mw_X13_sayDictionary : om_MW m_X13_sayDictionary 2 := ⟨q4349, q259, by decide, ⟨by decide, by decide⟩, by decide +kernel⟩
def m_X13_sayAbove : om_M := (yX13_sayAbove, cX13_sayAbove, 7, (Option.none : Option Jvm.ClassFile.FieldType), [])
theorem mw_X13_sayAbove : om_MW m_X13_sayAbove 3 := ⟨q4353, q259, by decide, ⟨by decide, by decide⟩, by decide +kernel⟩
def m_X13_sayClass : om_M := (yX13_sayClass, cX13_sayClass, 2, (Option.none : Option Jvm.ClassFile.FieldType), [])
theorem mw_X13_sayClass : om_MW m_X13_sayClass 1 := ⟨q4357, q259, by decide, ⟨by decide, by decide⟩, by decide +kernel⟩
def m_X13_sayParts : om_M := (yX13_sayParts, cX13_sayParts, 2, (Option.none : Option Jvm.ClassFile.FieldType), [])
theorem mw_X13_sayParts : om_MW m_X13_sayParts 1 := ⟨q4361, q259, by decide, ⟨by decide, by decide⟩, by decide +kernel⟩
def m_X13_sayOne : om_M := (yX13_sayOne, cX13_sayOne, 4, (Option.none : Option Jvm.ClassFile.FieldType), [])
theorem mw_X13_sayOne : om_MW m_X13_sayOne 2 := ⟨q4365, q259, by decide, ⟨by decide, by decide⟩, by decide +kernel⟩
def m_X13_sayAlike : om_M := (yX13_sayAlike, cX13_sayAlike, 2, (Option.none : Option Jvm.ClassFile.FieldType), [])
theorem mw_X13_sayAlike : om_MW m_X13_sayAlike 1 := ⟨q4369, q259, by decide, ⟨by decide, by decide⟩, by decide +kernel⟩
def m_X13_sayWhy : om_M := (yX13_sayWhy, cX13_sayWhy, 9, (Option.none : Option Jvm.ClassFile.FieldType), [])
theorem mw_X13_sayWhy : om_MW m_X13_sayWhy 1 := ⟨q4373, q259, by decide, ⟨by decide, by decide⟩, by decide +kernel⟩
def m_X13_says : om_M := (yX13_says, cX13_says, 4, (Option.none : Option Jvm.ClassFile.FieldType), [])
theorem mw_X13_says : om_MW m_X13_says 1 := ⟨q4378, q259, by decide, ⟨by decide, by decide⟩, by decide +kernel⟩
def m_X13_sayCast : om_M := (yX13_sayCast, cX13_sayCast, 2, (Option.none : Option Jvm.ClassFile.FieldType), [])
theorem mw_X13_sayCast : om_MW m_X13_sayCast 1 := ⟨q4390, q259, by decide, ⟨by decide, by decide⟩, by decide +kernel⟩
def m_X13_endsTerm : om_M := (yX13_endsTerm, cX13_endsTerm, 2, (Option.none : Option Jvm.ClassFile.FieldType), [])
theorem mw_X13_endsTerm : om_MW m_X13_endsTerm 1 := ⟨q4394, q259, by decide, ⟨by decide, by decide⟩, by decide +kernel⟩
def m_X13_sayHead : om_M := (yX13_sayHead, cX13_sayHead, 3, (Option.none : Option Jvm.ClassFile.FieldType), [])
theorem mw_X13_sayHead : om_MW m_X13_sayHead 1 := ⟨q4398, q259, by decide, ⟨by decide, by decide⟩, by decide +kernel⟩
def m_X13_again : om_M := (yX13_again, cX13_again, 3, (Option.none : Option Jvm.ClassFile.FieldType), [])
theorem mw_X13_again : om_MW m_X13_again 1 := ⟨q4402, q259, by decide, ⟨by decide, by decide⟩, by decide +kernel⟩
def m_X13_isAsk : om_M := (yX13_isAsk, cX13_isAsk, 5, (Option.some Jvm.ClassFile.FieldType.boolean), [])
theorem mw_X13_isAsk : om_MW m_X13_isAsk 2 := ⟨q4406, q259, by decide, ⟨by decide, by decide⟩, by decide +kernel⟩
def m_X13_forgetTypes : om_M := (yX13_forgetTypes, cX13_forgetTypes, 3, (Option.none : Option Jvm.ClassFile.FieldType), [])
theorem mw_X13_forgetTypes : om_MW m_X13_forgetTypes 1 := ⟨q4410, q259, by decide, ⟨by decide, by decide⟩, by decide +kernel⟩
def m_X13_ask : om_M := (yX13_ask, cX13_ask, 3, (Option.some Jvm.ClassFile.FieldType.boolean), [])
theorem mw_X13_ask : om_MW m_X13_ask 1 := ⟨q4416, q259, by decide, ⟨by decide, by decide⟩, by decide +kernel⟩
def m_X13_beginRun : om_M := (yX13_beginRun, cX13_beginRun, 1, (Option.none : Option Jvm.ClassFile.FieldType), [])
theorem mw_X13_beginRun : om_MW m_X13_beginRun 0 := ⟨q4420, q259, by decide, ⟨by decide, by decide⟩, by decide +kernel⟩
def m_X13_fault : om_M := (yX13_fault, cX13_fault, 2, (Option.some Jvm.ClassFile.FieldType.int), [])
theorem mw_X13_fault : om_MW m_X13_fault 1 := ⟨q4424, q259, by decide, ⟨by decide, by decide⟩, by decide +kernel⟩
def m_X13_about : om_M := (yX13_about, cX13_about, 2, (Option.some Jvm.ClassFile.FieldType.int), [])
theorem mw_X13_about : om_MW m_X13_about 1 := ⟨q4428, q259, by decide, ⟨by decide, by decide⟩, by decide +kernel⟩
def m_X13_octet : om_M := (yX13_octet, cX13_octet, 2, (Option.some Jvm.ClassFile.FieldType.int), [])
theorem mw_X13_octet : om_MW m_X13_octet 1 := ⟨q4432, q259, by decide, ⟨by decide, by decide⟩, by decide +kernel⟩
def m_X13_size : om_M := (yX13_size, cX13_size, 4, (Option.some Jvm.ClassFile.FieldType.int), [])
theorem mw_X13_size : om_MW m_X13_size 2 := ⟨q4436, q259, by decide, ⟨by decide, by decide⟩, by decide +kernel⟩
def m_X13_which : om_M := (yX13_which, cX13_which, 4, (Option.some Jvm.ClassFile.FieldType.int), [])
theorem mw_X13_which : om_MW m_X13_which 2 := ⟨q4440, q259, by decide, ⟨by decide, by decide⟩, by decide +kernel⟩
def m_X13_term : om_M := (yX13_term, cX13_term, 5, (Option.some Jvm.ClassFile.FieldType.int), [])
theorem mw_X13_term : om_MW m_X13_term 3 := ⟨q4444, q259, by decide, ⟨by decide, by decide⟩, by decide +kernel⟩
def m_X13_check : om_M := (yX13_check, cX13_check, 6, (Option.some Jvm.ClassFile.FieldType.int), [])
theorem mw_X13_check : om_MW m_X13_check 2 := ⟨q4448, q259, by decide, ⟨by decide, by decide⟩, by decide +kernel⟩
def m_X13_type : om_M := (yX13_type, cX13_type, 7, (Option.some Jvm.ClassFile.FieldType.int), [])
theorem mw_X13_type : om_MW m_X13_type 3 := ⟨q4452, q259, by decide, ⟨by decide, by decide⟩, by decide +kernel⟩
def m_X14_init : om_M := (yX14_init, cX14_init, 3, (Option.none : Option Jvm.ClassFile.FieldType), [])
theorem mw_X14_init : om_MW m_X14_init 2 := ⟨q828, q260, by decide, ⟨by decide, by decide⟩, by decide +kernel⟩
def m_X14_advance : om_M := (yX14_advance, cX14_advance, 2, (Option.none : Option Jvm.ClassFile.FieldType), [])
theorem mw_X14_advance : om_MW m_X14_advance 0 := ⟨q833, q260, by decide, ⟨by decide, by decide⟩, by decide +kernel⟩
def m_X14_at : om_M := (yX14_at, cX14_at, 2, (Option.some Jvm.ClassFile.FieldType.int), [])
theorem mw_X14_at : om_MW m_X14_at 1 := ⟨q837, q260, by decide, ⟨by decide, by decide⟩, by decide +kernel⟩
def m_X14_isSmall : om_M := (yX14_isSmall, cX14_isSmall, 1, (Option.some Jvm.ClassFile.FieldType.boolean), [])
theorem mw_X14_isSmall : om_MW m_X14_isSmall 1 := ⟨q842, q260, by decide, ⟨by decide, by decide⟩, by decide +kernel⟩
def m_X14_isGreat : om_M := (yX14_isGreat, cX14_isGreat, 1, (Option.some Jvm.ClassFile.FieldType.boolean), [])
theorem mw_X14_isGreat : om_MW m_X14_isGreat 1 := ⟨q845, q260, by decide, ⟨by decide, by decide⟩, by decide +kernel⟩
def m_X14_name : om_M := (yX14_name, cX14_name, 2, (Option.none : Option Jvm.ClassFile.FieldType), [])
theorem mw_X14_name : om_MW m_X14_name 0 := ⟨q849, q260, by decide, ⟨by decide, by decide⟩, by decide +kernel⟩
def m_X14_isDigit : om_M := (yX14_isDigit, cX14_isDigit, 1, (Option.some Jvm.ClassFile.FieldType.boolean), [])
theorem mw_X14_isDigit : om_MW m_X14_isDigit 1 := ⟨q852, q260, by decide, ⟨by decide, by decide⟩, by decide +kernel⟩
def m_X14_isWord : om_M := (yX14_isWord, cX14_isWord, 1, (Option.some Jvm.ClassFile.FieldType.boolean), [])
theorem mw_X14_isWord : om_MW m_X14_isWord 0 := ⟨q860, q260, by decide, ⟨by decide, by decide⟩, by decide +kernel⟩
def m_X14_is : om_M := (yX14_is, cX14_is, 3, (Option.some Jvm.ClassFile.FieldType.boolean), [])
theorem mw_X14_is : om_MW m_X14_is 1 := ⟨q865, q260, by decide, ⟨by decide, by decide⟩, by decide +kernel⟩
def m_X14_number : om_M := (yX14_number, cX14_number, 2, (Option.none : Option Jvm.ClassFile.FieldType), [])
theorem mw_X14_number : om_MW m_X14_number 0 := ⟨q931, q260, by decide, ⟨by decide, by decide⟩, by decide +kernel⟩
def m_X14_sign : om_M := (yX14_sign, cX14_sign, 4, (Option.none : Option Jvm.ClassFile.FieldType), [])
theorem mw_X14_sign : om_MW m_X14_sign 1 := ⟨q937, q260, by decide, ⟨by decide, by decide⟩, by decide +kernel⟩
def m_X14_passes : om_M := (yX14_passes, cX14_passes, 3, (Option.some Jvm.ClassFile.FieldType.boolean), [])
theorem mw_X14_passes : om_MW m_X14_passes 1 := ⟨q980, q260, by decide, ⟨by decide, by decide⟩, by decide +kernel⟩
def m_X14_isWord_2 : om_M := (yX14_isWord_2, cX14_isWord_2, 2, (Option.some Jvm.ClassFile.FieldType.boolean), [])
theorem mw_X14_isWord_2 : om_MW m_X14_isWord_2 1 := ⟨q984, q260, by decide, ⟨by decide, by decide⟩, by decide +kernel⟩
def m_X14_need : om_M := (yX14_need, cX14_need, 3, (Option.some (Jvm.ClassFile.FieldType.object "CoercedClasses$Word")), [])
theorem mw_X14_need : om_MW m_X14_need 1 := ⟨q993, q260, by decide, ⟨by decide, by decide⟩, by decide +kernel⟩
def m_X14_wrong : om_M := (yX14_wrong, cX14_wrong, 1, (Option.some (Jvm.ClassFile.FieldType.object "CoercedClasses$Fault")), [])
theorem mw_X14_wrong : om_MW m_X14_wrong 0 := ⟨q997, q260, by decide, ⟨by decide, by decide⟩, by decide +kernel⟩
def m_X14_word : om_M := (yX14_word, cX14_word, 1, (Option.some (Jvm.ClassFile.FieldType.object "CoercedClasses$Word")), [])
theorem mw_X14_word : om_MW m_X14_word 0 := ⟨q1073, q260, by decide, ⟨by decide, by decide⟩, by decide +kernel⟩
def m_X14_passes_2 : om_M := (yX14_passes_2, cX14_passes_2, 3, (Option.some Jvm.ClassFile.FieldType.boolean), [])
theorem mw_X14_passes_2 : om_MW m_X14_passes_2 1 := ⟨q1256, q260, by decide, ⟨by decide, by decide⟩, by decide +kernel⟩
def m_X14_isSign : om_M := (yX14_isSign, cX14_isSign, 2, (Option.some Jvm.ClassFile.FieldType.boolean), [])
theorem mw_X14_isSign : om_MW m_X14_isSign 1 := ⟨q1260, q260, by decide, ⟨by decide, by decide⟩, by decide +kernel⟩
def m_X14_need_2 : om_M := (yX14_need_2, cX14_need_2, 2, (Option.none : Option Jvm.ClassFile.FieldType), [])
theorem mw_X14_need_2 : om_MW m_X14_need_2 1 := ⟨q1264, q260, by decide, ⟨by decide, by decide⟩, by decide +kernel⟩
def m_X14_begin : om_M := (yX14_begin, cX14_begin, 1, (Option.none : Option Jvm.ClassFile.FieldType), [])
theorem mw_X14_begin : om_MW m_X14_begin 0 := ⟨q1279, q260, by decide, ⟨by decide, by decide⟩, by decide +kernel⟩
def m_X14_need_3 : om_M := (yX14_need_3, cX14_need_3, 2, (Option.none : Option Jvm.ClassFile.FieldType), [])
theorem mw_X14_need_3 : om_MW m_X14_need_3 1 := ⟨q1587, q260, by decide, ⟨by decide, by decide⟩, by decide +kernel⟩
def m_X14_needName : om_M := (yX14_needName, cX14_needName, 2, (Option.none : Option Jvm.ClassFile.FieldType), [])
theorem mw_X14_needName : om_MW m_X14_needName 1 := ⟨q1680, q260, by decide, ⟨by decide, by decide⟩, by decide +kernel⟩
def m_X15_init : om_M := (yX15_init, cX15_init, 3, (Option.none : Option Jvm.ClassFile.FieldType), [])
theorem mw_X15_init : om_MW m_X15_init 2 := ⟨q1039, q270, by decide, ⟨by decide, by decide⟩, by decide +kernel⟩
def m_X16_init : om_M := (yX16_init, cX16_init, 4, (Option.none : Option Jvm.ClassFile.FieldType), [])
theorem mw_X16_init : om_MW m_X16_init 3 := ⟨q1078, q271, by decide, ⟨by decide, by decide⟩, by decide +kernel⟩
def m_X16_is : om_M := (yX16_is, cX16_is, 3, (Option.some Jvm.ClassFile.FieldType.boolean), [])
theorem mw_X16_is : om_MW m_X16_is 1 := ⟨q2012, q271, by decide, ⟨by decide, by decide⟩, by decide +kernel⟩
def m_X16_is_2 : om_M := (yX16_is_2, cX16_is_2, 3, (Option.some Jvm.ClassFile.FieldType.boolean), [])
theorem mw_X16_is_2 : om_MW m_X16_is_2 1 := ⟨q2021, q271, by decide, ⟨by decide, by decide⟩, by decide +kernel⟩
def m_X16_sum : om_M := (yX16_sum, cX16_sum, 3, (Option.some Jvm.ClassFile.FieldType.int), [])
theorem mw_X16_sum : om_MW m_X16_sum 0 := ⟨q2066, q271, by decide, ⟨by decide, by decide⟩, by decide +kernel⟩
def m_X17_init : om_M := (yX17_init, cX17_init, 4, (Option.none : Option Jvm.ClassFile.FieldType), [])
theorem mw_X17_init : om_MW m_X17_init 3 := ⟨q1100, q272, by decide, ⟨by decide, by decide⟩, by decide +kernel⟩
def m_X17_find : om_M := (yX17_find, cX17_find, 3, (Option.some (Jvm.ClassFile.FieldType.object "CoercedClasses$Method")), [])
theorem mw_X17_find : om_MW m_X17_find 1 := ⟨q2292, q272, by decide, ⟨by decide, by decide⟩, by decide +kernel⟩
def m_X17_stepsTo : om_M := (yX17_stepsTo, cX17_stepsTo, 4, (Option.some Jvm.ClassFile.FieldType.int), [])
theorem mw_X17_stepsTo : om_MW m_X17_stepsTo 1 := ⟨q2370, q272, by decide, ⟨by decide, by decide⟩, by decide +kernel⟩
def m_X18_init : om_M := (yX18_init, cX18_init, 3, (Option.none : Option Jvm.ClassFile.FieldType), [])
theorem mw_X18_init : om_MW m_X18_init 2 := ⟨q1315, q277, by decide, ⟨by decide, by decide⟩, by decide +kernel⟩
def m_X19_init : om_M := (yX19_init, cX19_init, 3, (Option.none : Option Jvm.ClassFile.FieldType), [])
theorem mw_X19_init : om_MW m_X19_init 2 := ⟨q1291, q278, by decide, ⟨by decide, by decide⟩, by decide +kernel⟩
def m_X20_init : om_M := (yX20_init, cX20_init, 2, (Option.none : Option Jvm.ClassFile.FieldType), [])
theorem mw_X20_init : om_MW m_X20_init 1 := ⟨q1353, q279, by decide, ⟨by decide, by decide⟩, by decide +kernel⟩
def m_X21_init : om_M := (yX21_init, cX21_init, 4, (Option.none : Option Jvm.ClassFile.FieldType), [])
theorem mw_X21_init : om_MW m_X21_init 3 := ⟨q1430, q280, by decide, ⟨by decide, by decide⟩, by decide +kernel⟩
def m_X21_isEqual : om_M := (yX21_isEqual, cX21_isEqual, 1, (Option.some Jvm.ClassFile.FieldType.boolean), [])
theorem mw_X21_isEqual : om_MW m_X21_isEqual 0 := ⟨q2190, q280, by decide, ⟨by decide, by decide⟩, by decide +kernel⟩
def m_X21_dictionary : om_M := (yX21_dictionary, cX21_dictionary, 4, (Option.some (Jvm.ClassFile.FieldType.object "CoercedClasses$Dictionary")), [])
theorem mw_X21_dictionary : om_MW m_X21_dictionary 2 := ⟨q2374, q280, by decide, ⟨by decide, by decide⟩, by decide +kernel⟩
def m_X22_init : om_M := (yX22_init, cX22_init, 3, (Option.none : Option Jvm.ClassFile.FieldType), [])
theorem mw_X22_init : om_MW m_X22_init 2 := ⟨q1906, q281, by decide, ⟨by decide, by decide⟩, by decide +kernel⟩
def m_X23_init : om_M := (yX23_init, cX23_init, 1, (Option.none : Option Jvm.ClassFile.FieldType), [])
theorem mw_X23_init : om_MW m_X23_init 0 := ⟨q1490, q282, by decide, ⟨by decide, by decide⟩, by decide +kernel⟩
def m_X24_init : om_M := (yX24_init, cX24_init, 1, (Option.none : Option Jvm.ClassFile.FieldType), [])
theorem mw_X24_init : om_MW m_X24_init 0 := ⟨q1487, q283, by decide, ⟨by decide, by decide⟩, by decide +kernel⟩
def m_X25_init : om_M := (yX25_init, cX25_init, 1, (Option.none : Option Jvm.ClassFile.FieldType), [])
theorem mw_X25_init : om_MW m_X25_init 0 := ⟨q1546, q284, by decide, ⟨by decide, by decide⟩, by decide +kernel⟩
def m_X26_init : om_M := (yX26_init, cX26_init, 1, (Option.none : Option Jvm.ClassFile.FieldType), [])
theorem mw_X26_init : om_MW m_X26_init 0 := ⟨q1596, q285, by decide, ⟨by decide, by decide⟩, by decide +kernel⟩
def m_X27_init : om_M := (yX27_init, cX27_init, 1, (Option.none : Option Jvm.ClassFile.FieldType), [])
theorem mw_X27_init : om_MW m_X27_init 0 := ⟨q1635, q286, by decide, ⟨by decide, by decide⟩, by decide +kernel⟩
def m_X28_init : om_M := (yX28_init, cX28_init, 1, (Option.none : Option Jvm.ClassFile.FieldType), [])
theorem mw_X28_init : om_MW m_X28_init 0 := ⟨q1701, q287, by decide, ⟨by decide, by decide⟩, by decide +kernel⟩
def m_X28_at : om_M := (yX28_at, cX28_at, 2, (Option.none : Option Jvm.ClassFile.FieldType), [])
theorem mw_X28_at : om_MW m_X28_at 1 := ⟨q1807, q287, by decide, ⟨by decide, by decide⟩, by decide +kernel⟩
def m_X28_many : om_M := (yX28_many, cX28_many, 1, (Option.some Jvm.ClassFile.FieldType.int), [])
theorem mw_X28_many : om_MW m_X28_many 0 := ⟨q2224, q287, by decide, ⟨by decide, by decide⟩, by decide +kernel⟩
def m_X28_isBound : om_M := (yX28_isBound, cX28_isBound, 1, (Option.some Jvm.ClassFile.FieldType.boolean), [])
theorem mw_X28_isBound : om_MW m_X28_isBound 0 := ⟨q2499, q287, by decide, ⟨by decide, by decide⟩, by decide +kernel⟩
def m_X28_because : om_M := (yX28_because, cX28_because, 2, (Option.none : Option Jvm.ClassFile.FieldType), [])
theorem mw_X28_because : om_MW m_X28_because 1 := ⟨q2556, q287, by decide, ⟨by decide, by decide⟩, by decide +kernel⟩
def m_X28_reasons : om_M := (yX28_reasons, cX28_reasons, 1, (Option.some Jvm.ClassFile.FieldType.int), [])
theorem mw_X28_reasons : om_MW m_X28_reasons 0 := ⟨q2836, q287, by decide, ⟨by decide, by decide⟩, by decide +kernel⟩
def m_X29_init : om_M := (yX29_init, cX29_init, 1, (Option.none : Option Jvm.ClassFile.FieldType), [])
theorem mw_X29_init : om_MW m_X29_init 0 := ⟨q1759, q288, by decide, ⟨by decide, by decide⟩, by decide +kernel⟩
def m_X30_init : om_M := (yX30_init, cX30_init, 1, (Option.none : Option Jvm.ClassFile.FieldType), [])
theorem mw_X30_init : om_MW m_X30_init 0 := ⟨q1775, q289, by decide, ⟨by decide, by decide⟩, by decide +kernel⟩
def m_X31_init : om_M := (yX31_init, cX31_init, 4, (Option.none : Option Jvm.ClassFile.FieldType), [])
theorem mw_X31_init : om_MW m_X31_init 3 := ⟨q1815, q290, by decide, ⟨by decide, by decide⟩, by decide +kernel⟩
def m_X32_init : om_M := (yX32_init, cX32_init, 1, (Option.none : Option Jvm.ClassFile.FieldType), [])
theorem mw_X32_init : om_MW m_X32_init 0 := ⟨q1848, q291, by decide, ⟨by decide, by decide⟩, by decide +kernel⟩
def m_X33_init : om_M := (yX33_init, cX33_init, 2, (Option.none : Option Jvm.ClassFile.FieldType), [])
theorem mw_X33_init : om_MW m_X33_init 1 := ⟨q1933, q295, by decide, ⟨by decide, by decide⟩, by decide +kernel⟩
def m_X34_isAlike : om_M := (yX34_isAlike, cX34_isAlike, 7, (Option.some Jvm.ClassFile.FieldType.boolean), [])
theorem mw_X34_isAlike : om_MW m_X34_isAlike 6 := ⟨q2074, q297, by decide, ⟨by decide, by decide⟩, by decide +kernel⟩
def m_X34_init : om_M := (yX34_init, cX34_init, 1, (Option.none : Option Jvm.ClassFile.FieldType), [])
theorem mw_X34_init : om_MW m_X34_init 0 := ⟨q2080, q297, by decide, ⟨by decide, by decide⟩, by decide +kernel⟩
def m_X34_part : om_M := (yX34_part, cX34_part, 2, (Option.some (Jvm.ClassFile.FieldType.object "CoercedClasses$Type")), [])
theorem mw_X34_part : om_MW m_X34_part 1 := ⟨q2362, q297, by decide, ⟨by decide, by decide⟩, by decide +kernel⟩
def m_X34_many : om_M := (yX34_many, cX34_many, 1, (Option.some Jvm.ClassFile.FieldType.int), [])
theorem mw_X34_many : om_MW m_X34_many 0 := ⟨q2455, q297, by decide, ⟨by decide, by decide⟩, by decide +kernel⟩
def m_X35_init : om_M := (yX35_init, cX35_init, 4, (Option.none : Option Jvm.ClassFile.FieldType), [])
theorem mw_X35_init : om_MW m_X35_init 3 := ⟨q2195, q298, by decide, ⟨by decide, by decide⟩, by decide +kernel⟩
def m_X35_ex : om_M := (yX35_ex, cX35_ex, 11, (Option.none : Option Jvm.ClassFile.FieldType), [])
theorem mw_X35_ex : om_MW m_X35_ex 1 := ⟨q2215, q298, by decide, ⟨by decide, by decide⟩, by decide +kernel⟩
def m_X35_name : om_M := (yX35_name, cX35_name, 3, (Option.none : Option Jvm.ClassFile.FieldType), [])
theorem mw_X35_name : om_MW m_X35_name 1 := ⟨q2220, q298, by decide, ⟨by decide, by decide⟩, by decide +kernel⟩
def m_X35_type : om_M := (yX35_type, cX35_type, 2, (Option.some (Jvm.ClassFile.FieldType.object "CoercedClasses$Type")), [])
theorem mw_X35_type : om_MW m_X35_type 1 := ⟨q2232, q298, by decide, ⟨by decide, by decide⟩, by decide +kernel⟩
def m_X35_inside : om_M := (yX35_inside, cX35_inside, 3, (Option.none : Option Jvm.ClassFile.FieldType), [])
theorem mw_X35_inside : om_MW m_X35_inside 2 := ⟨q2252, q298, by decide, ⟨by decide, by decide⟩, by decide +kernel⟩
def m_X35_cases : om_M := (yX35_cases, cX35_cases, 2, (Option.none : Option Jvm.ClassFile.FieldType), [])
theorem mw_X35_cases : om_MW m_X35_cases 1 := ⟨q2269, q298, by decide, ⟨by decide, by decide⟩, by decide +kernel⟩
def m_X36_init : om_M := (yX36_init, cX36_init, 2, (Option.none : Option Jvm.ClassFile.FieldType), [])
theorem mw_X36_init : om_MW m_X36_init 1 := ⟨q2379, q299, by decide, ⟨by decide, by decide⟩, by decide +kernel⟩
def m_X36_begin : om_M := (yX36_begin, cX36_begin, 2, (Option.some (Jvm.ClassFile.FieldType.object "CoercedClasses$Dictionary")), [])
theorem mw_X36_begin : om_MW m_X36_begin 1 := ⟨q2448, q299, by decide, ⟨by decide, by decide⟩, by decide +kernel⟩
def m_X36_cast : om_M := (yX36_cast, cX36_cast, 4, (Option.some (Jvm.ClassFile.FieldType.object "CoercedClasses$Dictionary")), [])
theorem mw_X36_cast : om_MW m_X36_cast 3 := ⟨q2461, q299, by decide, ⟨by decide, by decide⟩, by decide +kernel⟩
def m_X37_init : om_M := (yX37_init, cX37_init, 2, (Option.none : Option Jvm.ClassFile.FieldType), [])
theorem mw_X37_init : om_MW m_X37_init 1 := ⟨q2466, q300, by decide, ⟨by decide, by decide⟩, by decide +kernel⟩
def m_X37_wanted : om_M := (yX37_wanted, cX37_wanted, 3, (Option.none : Option Jvm.ClassFile.FieldType), [])
theorem mw_X37_wanted : om_MW m_X37_wanted 2 := ⟨q2483, q300, by decide, ⟨by decide, by decide⟩, by decide +kernel⟩
def m_X37_typeOf : om_M := (yX37_typeOf, cX37_typeOf, 8, (Option.some (Jvm.ClassFile.FieldType.object "CoercedClasses$Type")), [])
theorem mw_X37_typeOf : om_MW m_X37_typeOf 1 := ⟨q2487, q300, by decide, ⟨by decide, by decide⟩, by decide +kernel⟩
def m_X37_name : om_M := (yX37_name, cX37_name, 5, (Option.some (Jvm.ClassFile.FieldType.object "CoercedClasses$Type")), [])
theorem mw_X37_name : om_MW m_X37_name 2 := ⟨q2492, q300, by decide, ⟨by decide, by decide⟩, by decide +kernel⟩
def m_X37_forall : om_M := (yX37_forall, cX37_forall, 1, (Option.some Jvm.ClassFile.FieldType.int), [])
theorem mw_X37_forall : om_MW m_X37_forall 1 := ⟨q2495, q300, by decide, ⟨by decide, by decide⟩, by decide +kernel⟩
def m_X37_function : om_M := (yX37_function, cX37_function, 9, (Option.some (Jvm.ClassFile.FieldType.object "CoercedClasses$Type")), [])
theorem mw_X37_function : om_MW m_X37_function 2 := ⟨q2510, q300, by decide, ⟨by decide, by decide⟩, by decide +kernel⟩
def m_X37_classFor : om_M := (yX37_classFor, cX37_classFor, 5, (Option.some (Jvm.ClassFile.FieldType.object "CoercedClasses$Evidence")), [])
theorem mw_X37_classFor : om_MW m_X37_classFor 3 := ⟨q2528, q300, by decide, ⟨by decide, by decide⟩, by decide +kernel⟩
def m_X37_built : om_M := (yX37_built, cX37_built, 7, (Option.some (Jvm.ClassFile.FieldType.object "CoercedClasses$Type")), [])
theorem mw_X37_built : om_MW m_X37_built 3 := ⟨q2565, q300, by decide, ⟨by decide, by decide⟩, by decide +kernel⟩
def m_X37_con : om_M := (yX37_con, cX37_con, 2, (Option.some (Jvm.ClassFile.FieldType.object "CoercedClasses$Type")), [])
theorem mw_X37_con : om_MW m_X37_con 1 := ⟨q2572, q300, by decide, ⟨by decide, by decide⟩, by decide +kernel⟩
def m_X37_inside : om_M := (yX37_inside, cX37_inside, 4, (Option.some (Jvm.ClassFile.FieldType.object "CoercedClasses$Type")), [])
theorem mw_X37_inside : om_MW m_X37_inside 2 := ⟨q2577, q300, by decide, ⟨by decide, by decide⟩, by decide +kernel⟩
def m_X37_let : om_M := (yX37_let, cX37_let, 2, (Option.some (Jvm.ClassFile.FieldType.object "CoercedClasses$Type")), [])
theorem mw_X37_let : om_MW m_X37_let 1 := ⟨q2584, q300, by decide, ⟨by decide, by decide⟩, by decide +kernel⟩
def m_X37_choice : om_M := (yX37_choice, cX37_choice, 3, (Option.some (Jvm.ClassFile.FieldType.object "CoercedClasses$Type")), [])
theorem mw_X37_choice : om_MW m_X37_choice 1 := ⟨q2590, q300, by decide, ⟨by decide, by decide⟩, by decide +kernel⟩
def m_X37_cases : om_M := (yX37_cases, cX37_cases, 5, (Option.some (Jvm.ClassFile.FieldType.object "CoercedClasses$Type")), [])
theorem mw_X37_cases : om_MW m_X37_cases 1 := ⟨q2595, q300, by decide, ⟨by decide, by decide⟩, by decide +kernel⟩
def m_X37_as : om_M := (yX37_as, cX37_as, 6, (Option.some (Jvm.ClassFile.FieldType.object "CoercedClasses$Type")), [])
theorem mw_X37_as : om_MW m_X37_as 4 := ⟨q2599, q300, by decide, ⟨by decide, by decide⟩, by decide +kernel⟩
def m_X37_use : om_M := (yX37_use, cX37_use, 7, (Option.some (Jvm.ClassFile.FieldType.object "CoercedClasses$Type")), [])
theorem mw_X37_use : om_MW m_X37_use 1 := ⟨q2606, q300, by decide, ⟨by decide, by decide⟩, by decide +kernel⟩
def m_X37_chain : om_M := (yX37_chain, cX37_chain, 3, (Option.some (Jvm.ClassFile.FieldType.object "CoercedClasses$Type")), [])
theorem mw_X37_chain : om_MW m_X37_chain 1 := ⟨q2611, q300, by decide, ⟨by decide, by decide⟩, by decide +kernel⟩
def m_X37_isOf : om_M := (yX37_isOf, cX37_isOf, 4, (Option.none : Option Jvm.ClassFile.FieldType), [])
theorem mw_X37_isOf : om_MW m_X37_isOf 3 := ⟨q2621, q300, by decide, ⟨by decide, by decide⟩, by decide +kernel⟩
def m_X37_line : om_M := (yX37_line, cX37_line, 4, (Option.none : Option Jvm.ClassFile.FieldType), [])
theorem mw_X37_line : om_MW m_X37_line 2 := ⟨q2629, q300, by decide, ⟨by decide, by decide⟩, by decide +kernel⟩
def m_X38_init : om_M := (yX38_init, cX38_init, 4, (Option.none : Option Jvm.ClassFile.FieldType), [])
theorem mw_X38_init : om_MW m_X38_init 3 := ⟨q2534, q301, by decide, ⟨by decide, by decide⟩, by decide +kernel⟩
def m_X39_init : om_M := (yX39_init, cX39_init, 1, (Option.none : Option Jvm.ClassFile.FieldType), [])
theorem mw_X39_init : om_MW m_X39_init 0 := ⟨q2738, q303, by decide, ⟨by decide, by decide⟩, by decide +kernel⟩
def m_X40_init : om_M := (yX40_init, cX40_init, 1, (Option.none : Option Jvm.ClassFile.FieldType), [])
theorem mw_X40_init : om_MW m_X40_init 0 := ⟨q3038, q306, by decide, ⟨by decide, by decide⟩, by decide +kernel⟩
theorem ml_J0_1 : om_ML RJ0 1 m_J17_init.1 := Or.inl q347
theorem ml_J1_1 : om_ML RJ1 1 m_J0_init.1 := Or.inl q344
theorem ml_J2_1 : om_ML RJ2 1 m_J1_init.1 := Or.inl q341
theorem ml_J2_66 : om_ML RJ2 66 m_J13_copyOf.1 := Or.inl q1132
theorem ml_J2_69 : om_ML RJ2 69 m_J2_grow_2.1 := Or.inl q1118
theorem ml_J2_73 : om_ML RJ2 73 m_J11_newLength.1 := Or.inl q1122
theorem ml_J2_79 : om_ML RJ2 79 m_J12_max.1 := Or.inl q1197
theorem ml_J2_118 : om_ML RJ2 118 m_J16_checkIndex.1 := Or.inl q1987
theorem ml_J2_123 : om_ML RJ2 123 m_J2_elementData.1 := Or.inl q1991
theorem ml_J2_129 : om_ML RJ2 129 m_J2_grow.1 := Or.inl q1114
theorem ml_J2_131 : om_ML RJ2 131 m_J2_add_2.1 := Or.inl q1110
theorem ml_J2_144 : om_ML RJ2 144 m_J2_fastRemove.1 := Or.inl q2258
theorem ml_J4_335 : om_ML RJ4 335 m_J4_coder.1 := Or.inl q870
theorem ml_J4_492 : om_ML RJ4 492 m_J4_isLatin1.1 := Or.inl q880
theorem ml_J4_495 : om_ML RJ4 495 m_J5_charAt.1 := Or.inl q884
theorem ml_J4_498 : om_ML RJ4 498 m_J7_charAt.1 := Or.inl q895
theorem ml_J4_1059 : om_ML RJ4 1059 m_J6_checkIndex.1 := Or.inl q892
theorem ml_J5_9 : om_ML RJ5 9 m_J4_checkIndex.1 := Or.inl q887
theorem ml_J7_48 : om_ML RJ7 48 m_J7_length.1 := Or.inl q901
theorem ml_J7_67 : om_ML RJ7 67 m_J7_checkIndex.1 := Or.inl q898
theorem ml_J7_71 : om_ML RJ7 71 m_J7_getChar.1 := Or.inl q905
theorem ml_J7_414 : om_ML RJ7 414 m_J4_checkIndex.1 := Or.inl q904
theorem ml_J8_1 : om_ML RJ8 1 m_J17_init.1 := Or.inl q1023
theorem ml_J9_16 : om_ML RJ9 16 m_J8_init_2.1 := Or.inl q1046
theorem ml_J10_16 : om_ML RJ10 16 m_J9_init.1 := Or.inl q1043
theorem ml_J11_194 : om_ML RJ11 194 m_J12_max.1 := Or.inl q1125
theorem ml_J11_201 : om_ML RJ11 201 m_J11_hugeLength.1 := Or.inl q1129
theorem ml_J13_300 : om_ML RJ13 300 m_J13_copyOf_2.1 := Or.inl q1185
theorem ml_J13_304 : om_ML RJ13 304 m_J12_min.1 := Or.inl q1191
theorem ml_J14_1 : om_ML RJ14 1 m_J17_init.1 := Or.inl q1899
theorem ml_J15_199 : om_ML RJ15 199 m_J15_init.1 := Or.inl q1893
theorem ml_J15_202 : om_ML RJ15 202 m_J14_init.1 := Or.inl q1896
theorem ml_J16_105 : om_ML RJ16 105 m_J6_checkIndex.1 := Or.inl q1990
theorem ml_X0_7 : om_ML RX0 7 m_X0_word.1 := Or.inl q311
theorem ml_X0_29 : om_ML RX0 29 m_X14_isSign.1 := Or.inl q1274
theorem ml_X0_33 : om_ML RX0 33 m_X14_wrong.1 := Or.inl q1275
theorem ml_X0_37 : om_ML RX0 37 m_X14_begin.1 := Or.inl q1276
theorem ml_X0_41 : om_ML RX0 41 m_X0_readGround.1 := Or.inl q1280
theorem ml_X0_45 : om_ML RX0 45 m_X14_passes_2.1 := Or.inl q1312
theorem ml_X0_50 : om_ML RX0 50 m_X19_init.1 := Or.inl q1289
theorem ml_X0_58 : om_ML RX0 58 m_J2_add.1 := Or.inl q1311
theorem ml_X0_64 : om_ML RX0 64 m_X0_readType.1 := Or.inl q1310
theorem ml_X0_70 : om_ML RX0 70 m_X0_readPiece.1 := Or.inl q1283
theorem ml_X0_73 : om_ML RX0 73 m_X14_need.1 := Or.inl q1288
theorem ml_X0_77 : om_ML RX0 77 m_X14_need_2.1 := Or.inl q1309
theorem ml_X0_94 : om_ML RX0 94 m_X14_isWord_2.1 := Or.inl q1473
theorem ml_X0_102 : om_ML RX0 102 m_X0_isAtom.1 := Or.inl q1476
theorem ml_X0_107 : om_ML RX0 107 m_X0_readLambda.1 := Or.inl q1480
theorem ml_X0_111 : om_ML RX0 111 m_X14_passes.1 := Or.inl q1538
theorem ml_X0_113 : om_ML RX0 113 m_X0_readLet.1 := Or.inl q1539
theorem ml_X0_116 : om_ML RX0 116 m_X0_readIf.1 := Or.inl q1589
theorem ml_X0_119 : om_ML RX0 119 m_X0_readCase.1 := Or.inl q1628
theorem ml_X0_122 : om_ML RX0 122 m_X0_readCompare.1 := Or.inl q1682
theorem ml_X0_131 : om_ML RX0 131 m_X24_init.1 := Or.inr ⟨_, q1485⟩
theorem ml_X0_133 : om_ML RX0 133 m_X0_at.1 := Or.inl q1534
theorem ml_X0_144 : om_ML RX0 144 m_X0_readEx.1 := Or.inl q1537
theorem ml_X0_153 : om_ML RX0 153 m_X25_init.1 := Or.inr ⟨_, q1544⟩
theorem ml_X0_161 : om_ML RX0 161 m_X14_need_3.1 := Or.inl q1584
theorem ml_X0_167 : om_ML RX0 167 m_X26_init.1 := Or.inr ⟨_, q1594⟩
theorem ml_X0_183 : om_ML RX0 183 m_X27_init.1 := Or.inr ⟨_, q1633⟩
theorem ml_X0_191 : om_ML RX0 191 m_X14_needName.1 := Or.inl q1677
theorem ml_X0_214 : om_ML RX0 214 m_J15_valueOf.1 := Or.inl q1884
theorem ml_X0_221 : om_ML RX0 221 m_X0_readSum.1 := Or.inl q1685
theorem ml_X0_224 : om_ML RX0 224 m_X32_init.1 := Or.inr ⟨_, q1846⟩
theorem ml_X0_229 : om_ML RX0 229 m_X14_advance.1 := Or.inl q1770
theorem ml_X0_232 : om_ML RX0 232 m_X0_link.1 := Or.inl q1881
theorem ml_X0_236 : om_ML RX0 236 m_X0_readProduct.1 := Or.inl q1688
theorem ml_X0_239 : om_ML RX0 239 m_X0_readUse.1 := Or.inl q1691
theorem ml_X0_242 : om_ML RX0 242 m_X0_readAtom.1 := Or.inl q1694
theorem ml_X0_247 : om_ML RX0 247 m_X30_init.1 := Or.inr ⟨_, q1773⟩
theorem ml_X0_253 : om_ML RX0 253 m_X28_at.1 := Or.inl q1804
theorem ml_X0_261 : om_ML RX0 261 m_X31_init.1 := Or.inl q1813
theorem ml_X0_264 : om_ML RX0 264 m_X28_init.1 := Or.inr ⟨_, q1699⟩
theorem ml_X0_268 : om_ML RX0 268 m_X29_init.1 := Or.inr ⟨_, q1757⟩
theorem ml_X0_280 : om_ML RX0 280 m_X0_built.1 := Or.inl q2025
theorem ml_X0_284 : om_ML RX0 284 m_X16_is.1 := Or.inl q2033
theorem ml_X0_294 : om_ML RX0 294 m_J2_size.1 := Or.inl q2519
theorem ml_X0_298 : om_ML RX0 298 m_J2_get.1 := Or.inl q2520
theorem ml_X0_302 : om_ML RX0 302 m_X16_is_2.1 := Or.inl q2522
theorem ml_X0_309 : om_ML RX0 309 m_X7_put_2.1 := Or.inl q2686
theorem ml_X0_317 : om_ML RX0 317 m_X0_tell.1 := Or.inl q2687
theorem ml_X0_323 : om_ML RX0 323 m_X7_put.1 := Or.inl q2689
theorem ml_X0_327 : om_ML RX0 327 m_X0_head.1 := Or.inl q2690
theorem ml_X0_332 : om_ML RX0 332 m_X7_put_3.1 := Or.inl q2693
theorem ml_X0_338 : om_ML RX0 338 m_X0_con.1 := Or.inl q2694
theorem ml_X0_348 : om_ML RX0 348 m_J17_init.1 := Or.inl q320
theorem ml_X0_353 : om_ML RX0 353 m_X1_init.1 := Or.inr ⟨_, q326⟩
theorem ml_X0_360 : om_ML RX0 360 m_X3_init.1 := Or.inr ⟨_, q435⟩
theorem ml_X0_367 : om_ML RX0 367 m_X5_init.1 := Or.inr ⟨_, q486⟩
theorem ml_X0_374 : om_ML RX0 374 m_X6_init.1 := Or.inl q504
theorem ml_X0_383 : om_ML RX0 383 m_X9_init.1 := Or.inl q572
theorem ml_X0_390 : om_ML RX0 390 m_X10_init.1 := Or.inl q607
theorem ml_X0_397 : om_ML RX0 397 m_X12_init.1 := Or.inr ⟨_, q724⟩
theorem ml_X0_423 : om_ML RX0 423 m_X6_term.1 := Or.inl q2645
theorem ml_X0_449 : om_ML RX0 449 m_X12_is.1 := Or.inl q2637
theorem ml_X0_463 : om_ML RX0 463 m_X0_length.1 := Or.inl q2641
theorem ml_X0_479 : om_ML RX0 479 m_X0_lineOf.1 := Or.inl q2874
theorem ml_X0_483 : om_ML RX0 483 m_X15_init.1 := Or.inl q2878
theorem ml_X0_492 : om_ML RX0 492 m_X0_take.1 := Or.inl q808
theorem ml_X0_496 : om_ML RX0 496 m_X1_clear.1 := Or.inl q812
theorem ml_X0_499 : om_ML RX0 499 m_X14_init.1 := Or.inl q826
theorem ml_X0_501 : om_ML RX0 501 m_X1_read.1 := Or.inl q971
theorem ml_X0_505 : om_ML RX0 505 m_X1_judge.1 := Or.inl q1970
theorem ml_X0_508 : om_ML RX0 508 m_X0_measure.1 := Or.inl q2631
theorem ml_X0_512 : om_ML RX0 512 m_X0_told.1 := Or.inl q2879
theorem ml_X0_527 : om_ML RX0 527 m_X2_clear.1 := Or.inl q2887
theorem ml_X0_542 : om_ML RX0 542 m_X35_init.1 := Or.inl q2890
theorem ml_X0_545 : om_ML RX0 545 m_X35_ex.1 := Or.inl q2891
theorem ml_X0_548 : om_ML RX0 548 m_X1_fail.1 := Or.inr ⟨_, q2892⟩
theorem ml_X0_555 : om_ML RX0 555 m_X8_init.1 := Or.inl q2895
theorem ml_X0_558 : om_ML RX0 558 m_X37_init.1 := Or.inl q2896
theorem ml_X0_561 : om_ML RX0 561 m_X37_typeOf.1 := Or.inl q2897
theorem ml_X0_566 : om_ML RX0 566 m_X10_begin.1 := Or.inl q2898
theorem ml_X0_571 : om_ML RX0 571 m_X10_step.1 := Or.inl q2910
theorem ml_X0_597 : om_ML RX0 597 m_X0_termOf.1 := Or.inl q3132
theorem ml_X0_604 : om_ML RX0 604 m_X9_check.1 := Or.inl q3144
theorem ml_X0_608 : om_ML RX0 608 m_X7_begin.1 := Or.inl q3232
theorem ml_X1_3 : om_ML RX1 3 m_J17_init.1 := Or.inl q329
theorem ml_X1_17 : om_ML RX1 17 m_X2_init.1 := Or.inr ⟨_, q332⟩
theorem ml_X1_24 : om_ML RX1 24 m_J2_init.1 := Or.inl q389
theorem ml_X1_50 : om_ML RX1 50 m_X2_clear.1 := Or.inl q816
theorem ml_X1_54 : om_ML RX1 54 m_J2_clear.1 := Or.inl q820
theorem ml_X1_73 : om_ML RX1 73 m_X14_passes.1 := Or.inl q977
theorem ml_X1_77 : om_ML RX1 77 m_X1_readClass.1 := Or.inl q985
theorem ml_X1_83 : om_ML RX1 83 m_X1_readInstance.1 := Or.inl q1345
theorem ml_X1_86 : om_ML RX1 86 m_X1_readFunction.1 := Or.inl q1925
theorem ml_X1_90 : om_ML RX1 90 m_X14_need_2.1 := Or.inl q1261
theorem ml_X1_97 : om_ML RX1 97 m_X14_need.1 := Or.inl q990
theorem ml_X1_105 : om_ML RX1 105 m_X17_init.1 := Or.inl q1098
theorem ml_X1_108 : om_ML RX1 108 m_J2_size.1 := Or.inl q1248
theorem ml_X1_115 : om_ML RX1 115 m_J2_add.1 := Or.inl q1252
theorem ml_X1_119 : om_ML RX1 119 m_X14_passes_2.1 := Or.inl q1253
theorem ml_X1_133 : om_ML RX1 133 m_X0_readType.1 := Or.inr ⟨_, q1269⟩
theorem ml_X1_137 : om_ML RX1 137 m_X18_init.1 := Or.inl q1313
theorem ml_X1_152 : om_ML RX1 152 m_X20_init.1 := Or.inl q1351
theorem ml_X1_166 : om_ML RX1 166 m_X21_init.1 := Or.inl q1428
theorem ml_X1_188 : om_ML RX1 188 m_X0_readEx.1 := Or.inr ⟨_, q1469⟩
theorem ml_X1_192 : om_ML RX1 192 m_X22_init.1 := Or.inl q1904
theorem ml_X1_197 : om_ML RX1 197 m_X33_init.1 := Or.inl q1931
theorem ml_X1_217 : om_ML RX1 217 m_J12_min.1 := Or.inl q2038
theorem ml_X1_223 : om_ML RX1 223 m_X1_conOf.1 := Or.inl q1999
theorem ml_X1_227 : om_ML RX1 227 m_X0_con.1 := Or.inr ⟨_, q2002⟩
theorem ml_X1_230 : om_ML RX1 230 m_X16_is.1 := Or.inl q2009
theorem ml_X1_235 : om_ML RX1 235 m_J2_get.1 := Or.inl q1983
theorem ml_X1_244 : om_ML RX1 244 m_X16_is_2.1 := Or.inl q2018
theorem ml_X1_261 : om_ML RX1 261 m_X1_typeOf.1 := Or.inl q2050
theorem ml_X1_265 : om_ML RX1 265 m_X2_arrow.1 := Or.inl q2055
theorem ml_X1_272 : om_ML RX1 272 m_X1_isAmong.1 := Or.inl q2153
theorem ml_X1_277 : om_ML RX1 277 m_X1_rule.1 := Or.inl q2034
theorem ml_X1_280 : om_ML RX1 280 m_X2_name.1 := Or.inl q2156
theorem ml_X1_283 : om_ML RX1 283 m_X1_familyOf.1 := Or.inl q2160
theorem ml_X1_287 : om_ML RX1 287 m_X0_partsOf.1 := Or.inr ⟨_, q2164⟩
theorem ml_X1_291 : om_ML RX1 291 m_X2_con.1 := Or.inl q2167
theorem ml_X1_294 : om_ML RX1 294 m_X2_family.1 := Or.inl q2171
theorem ml_X1_297 : om_ML RX1 297 m_X1_isTold.1 := Or.inl q2015
theorem ml_X1_301 : om_ML RX1 301 m_X1_isCon.1 := Or.inl q1996
theorem ml_X1_304 : om_ML RX1 304 m_X0_builtOf.1 := Or.inr ⟨_, q2022⟩
theorem ml_X1_310 : om_ML RX1 310 m_X1_stands.1 := Or.inl q1979
theorem ml_X1_312 : om_ML RX1 312 m_X1_twice.1 := Or.inl q2039
theorem ml_X1_316 : om_ML RX1 316 m_X1_resolveClass.1 := Or.inl q2042
theorem ml_X1_320 : om_ML RX1 320 m_X1_resolveInstance.1 := Or.inl q2175
theorem ml_X1_324 : om_ML RX1 324 m_X1_resolveFunction.1 := Or.inl q2274
theorem ml_X1_329 : om_ML RX1 329 m_X1_tooMany.1 := Or.inl q2046
theorem ml_X1_344 : om_ML RX1 344 m_X21_isEqual.1 := Or.inl q2187
theorem ml_X1_348 : om_ML RX1 348 m_X1_classOf.1 := Or.inl q2179
theorem ml_X1_360 : om_ML RX1 360 m_X1_resolveGivens.1 := Or.inl q2183
theorem ml_X1_372 : om_ML RX1 372 m_X35_init.1 := Or.inl q2193
theorem ml_X1_376 : om_ML RX1 376 m_X35_ex.1 := Or.inl q2212
theorem ml_X1_380 : om_ML RX1 380 m_X1_families.1 := Or.inl q2297
theorem ml_X1_392 : om_ML RX1 392 m_X17_find.1 := Or.inl q2289
theorem ml_X1_396 : om_ML RX1 396 m_X1_judgeGivens.1 := Or.inl q2301
theorem ml_X1_407 : om_ML RX1 407 m_X15_init.1 := Or.inl q2283
theorem ml_X1_410 : om_ML RX1 410 m_X1_resolve.1 := Or.inl q1974
theorem ml_X1_413 : om_ML RX1 413 m_X1_fail.1 := Or.inl q2278
theorem ml_X1_416 : om_ML RX1 416 m_X1_judgeInstances.1 := Or.inl q2284
theorem ml_X1_421 : om_ML RX1 421 m_X8_init.1 := Or.inl q2306
theorem ml_X1_424 : om_ML RX1 424 m_X8_asked.1 := Or.inl q2307
theorem ml_X1_433 : om_ML RX1 433 m_X37_init.1 := Or.inl q2464
theorem ml_X1_436 : om_ML RX1 436 m_X37_wanted.1 := Or.inl q2480
theorem ml_X1_440 : om_ML RX1 440 m_X1_judgeLines.1 := Or.inl q2622
theorem ml_X1_447 : om_ML RX1 447 m_X37_line.1 := Or.inl q2626
theorem ml_X2_3 : om_ML RX2 3 m_J17_init.1 := Or.inl q335
theorem ml_X2_11 : om_ML RX2 11 m_J2_init.1 := Or.inl q338
theorem ml_X2_31 : om_ML RX2 31 m_J2_size.1 := Or.inl q2076
theorem ml_X2_37 : om_ML RX2 37 m_X36_init.1 := Or.inl q2444
theorem ml_X2_40 : om_ML RX2 40 m_J2_add.1 := Or.inl q2151
theorem ml_X2_44 : om_ML RX2 44 m_J2_get.1 := Or.inl q2152
theorem ml_X2_48 : om_ML RX2 48 m_X36_begin.1 := Or.inl q2445
theorem ml_X2_62 : om_ML RX2 62 m_X34_isAlike.1 := Or.inl q2071
theorem ml_X2_70 : om_ML RX2 70 m_X2_find.1 := Or.inl q2067
theorem ml_X2_74 : om_ML RX2 74 m_X16_sum.1 := Or.inl q2063
theorem ml_X2_87 : om_ML RX2 87 m_X34_init.1 := Or.inr ⟨_, q2078⟩
theorem ml_X2_114 : om_ML RX2 114 m_X2_get.1 := Or.inl q2059
theorem ml_X3_3 : om_ML RX3 3 m_J17_init.1 := Or.inl q438
theorem ml_X3_17 : om_ML RX3 17 m_X2_init.1 := Or.inr ⟨_, q440⟩
theorem ml_X3_24 : om_ML RX3 24 m_X4_init.1 := Or.inr ⟨_, q443⟩
theorem ml_X4_1 : om_ML RX4 1 m_J17_init.1 := Or.inl q446
theorem ml_X4_9 : om_ML RX4 9 m_J2_init.1 := Or.inl q448
theorem ml_X5_3 : om_ML RX5 3 m_J17_init.1 := Or.inl q489
theorem ml_X5_11 : om_ML RX5 11 m_J2_init.1 := Or.inl q491
theorem ml_X5_32 : om_ML RX5 32 m_J2_size.1 := Or.inl q2733
theorem ml_X5_38 : om_ML RX5 38 m_X39_init.1 := Or.inr ⟨_, q2736⟩
theorem ml_X5_39 : om_ML RX5 39 m_J2_add.1 := Or.inl q2771
theorem ml_X5_43 : om_ML RX5 43 m_J2_get.1 := Or.inl q2772
theorem ml_X5_71 : om_ML RX5 71 m_X5_proof.1 := Or.inl q2729
theorem ml_X5_75 : om_ML RX5 75 m_X5_nothing.1 := Or.inl q2777
theorem ml_X5_78 : om_ML RX5 78 m_X8_inner.1 := Or.inl q2780
theorem ml_X5_86 : om_ML RX5 86 m_X5_orAlike.1 := Or.inl q2781
theorem ml_X5_95 : om_ML RX5 95 m_X8_goes.1 := Or.inl q2787
theorem ml_X5_115 : om_ML RX5 115 m_X8_equalFor.1 := Or.inl q2792
theorem ml_X5_131 : om_ML RX5 131 m_X5_then.1 := Or.inl q2793
theorem ml_X5_135 : om_ML RX5 135 m_X5_worked.1 := Or.inl q2773
theorem ml_X6_3 : om_ML RX6 3 m_J17_init.1 := Or.inl q507
theorem ml_X6_11 : om_ML RX6 11 m_X7_init.1 := Or.inr ⟨_, q510⟩
theorem ml_X6_20 : om_ML RX6 20 m_X8_init.1 := Or.inl q533
theorem ml_X6_31 : om_ML RX6 31 m_J2_isEmpty.1 := Or.inl q2708
theorem ml_X6_37 : om_ML RX6 37 m_X7_put_2.1 := Or.inl q2676
theorem ml_X6_41 : om_ML RX6 41 m_J2_size.1 := Or.inl q2658
theorem ml_X6_45 : om_ML RX6 45 m_J2_get.1 := Or.inl q2670
theorem ml_X6_51 : om_ML RX6 51 m_X0_tell.1 := Or.inr ⟨_, q2683⟩
theorem ml_X6_62 : om_ML RX6 62 m_X7_isOver.1 := Or.inl q2699
theorem ml_X6_89 : om_ML RX6 89 m_X7_number.1 := Or.inl q2679
theorem ml_X6_91 : om_ML RX6 91 m_X6_parts.1 := Or.inl q2811
theorem ml_X6_101 : om_ML RX6 101 m_X6_proof.1 := Or.inl q2801
theorem ml_X6_110 : om_ML RX6 110 m_X0_head.1 := Or.inr ⟨_, q2815⟩
theorem ml_X6_117 : om_ML RX6 117 m_X7_put.1 := Or.inl q2660
theorem ml_X6_120 : om_ML RX6 120 m_X5_begin.1 := Or.inl q2719
theorem ml_X6_126 : om_ML RX6 126 m_X5_one.1 := Or.inl q2723
theorem ml_X6_150 : om_ML RX6 150 m_X7_put_3.1 := Or.inl q2672
theorem ml_X6_155 : om_ML RX6 155 m_X6_dictionary.1 := Or.inl q2695
theorem ml_X6_164 : om_ML RX6 164 m_X6_types.1 := Or.inl q2704
theorem ml_X6_175 : om_ML RX6 175 m_X6_one.1 := Or.inl q2715
theorem ml_X6_185 : om_ML RX6 185 m_X28_many.1 := Or.inl q2832
theorem ml_X6_189 : om_ML RX6 189 m_X28_reasons.1 := Or.inl q2833
theorem ml_X6_206 : om_ML RX6 206 m_X6_plain.1 := Or.inl q2823
theorem ml_X6_211 : om_ML RX6 211 m_X6_name.1 := Or.inl q2828
theorem ml_X6_228 : om_ML RX6 228 m_X6_ex.1 := Or.inl q2819
theorem ml_X6_283 : om_ML RX6 283 m_X6_use.1 := Or.inl q2852
theorem ml_X6_289 : om_ML RX6 289 m_X6_chain.1 := Or.inl q2863
theorem ml_X6_295 : om_ML RX6 295 m_X6_first.1 := Or.inl q2856
theorem ml_X6_324 : om_ML RX6 324 m_J15_intValue.1 := Or.inl q2868
theorem ml_X6_343 : om_ML RX6 343 m_X21_isEqual.1 := Or.inl q2678
theorem ml_X6_351 : om_ML RX6 351 m_X7_begin.1 := Or.inl q2649
theorem ml_X6_363 : om_ML RX6 363 m_X8_is.1 := Or.inl q2653
theorem ml_X6_366 : om_ML RX6 366 m_X6_scope.1 := Or.inl q2654
theorem ml_X7_3 : om_ML RX7 3 m_J17_init.1 := Or.inl q513
theorem ml_X7_27 : om_ML RX7 27 m_J4_length.1 := Or.inl q2664
theorem ml_X7_33 : om_ML RX7 33 m_J4_charAt.1 := Or.inl q2665
theorem ml_X7_37 : om_ML RX7 37 m_X7_put_2.1 := Or.inl q2666
theorem ml_X8_3 : om_ML RX8 3 m_J17_init.1 := Or.inl q536
theorem ml_X8_15 : om_ML RX8 15 m_X8_is.1 := Or.inl q537
theorem ml_X8_39 : om_ML RX8 39 m_X15_init.1 := Or.inl q2327
theorem ml_X8_50 : om_ML RX8 50 m_J2_size.1 := Or.inl q2344
theorem ml_X8_55 : om_ML RX8 55 m_J2_get.1 := Or.inl q2345
theorem ml_X8_65 : om_ML RX8 65 m_X16_is_2.1 := Or.inl q2348
theorem ml_X8_68 : om_ML RX8 68 m_X34_part.1 := Or.inl q2359
theorem ml_X8_76 : om_ML RX8 76 m_X8_put0.1 := Or.inl q2353
theorem ml_X8_83 : om_ML RX8 83 m_X2_like.1 := Or.inl q2332
theorem ml_X8_87 : om_ML RX8 87 m_X8_fit.1 := Or.inl q2323
theorem ml_X8_99 : om_ML RX8 99 m_X21_isEqual.1 := Or.inl q2347
theorem ml_X8_111 : om_ML RX8 111 m_X8_worked.1 := Or.inl q2319
theorem ml_X8_117 : om_ML RX8 117 m_X8_equalFor.1 := Or.inl q2340
theorem ml_X8_121 : om_ML RX8 121 m_X8_counted.1 := Or.inl q2349
theorem ml_X8_146 : om_ML RX8 146 m_X8_inner.1 := Or.inl q2328
theorem ml_X8_149 : om_ML RX8 149 m_X8_goes.1 := Or.inl q2336
theorem ml_X8_152 : om_ML RX8 152 m_X8_begin.1 := Or.inl q2311
theorem ml_X8_155 : om_ML RX8 155 m_X17_stepsTo.1 := Or.inl q2367
theorem ml_X8_159 : om_ML RX8 159 m_X21_dictionary.1 := Or.inl q2371
theorem ml_X8_163 : om_ML RX8 163 m_X8_byGiven.1 := Or.inl q2363
theorem ml_X8_167 : om_ML RX8 167 m_X8_byInstance.1 := Or.inl q2435
theorem ml_X8_178 : om_ML RX8 178 m_X2_dictionary.1 := Or.inl q2439
theorem ml_X8_181 : om_ML RX8 181 m_X36_cast.1 := Or.inl q2458
theorem ml_X8_191 : om_ML RX8 191 m_X8_had.1 := Or.inl q2315
theorem ml_X8_197 : om_ML RX8 197 m_J2_init_2.1 := Or.inl q2451
theorem ml_X8_202 : om_ML RX8 202 m_X34_many.1 := Or.inl q2452
theorem ml_X8_205 : om_ML RX8 205 m_J2_add.1 := Or.inl q2457
theorem ml_X9_3 : om_ML RX9 3 m_J17_init.1 := Or.inl q575
theorem ml_X9_11 : om_ML RX9 11 m_X8_init.1 := Or.inl q577
theorem ml_X9_22 : om_ML RX9 22 m_J2_init.1 := Or.inl q579
theorem ml_X9_41 : om_ML RX9 41 m_X8_is.1 := Or.inl q3148
theorem ml_X9_50 : om_ML RX9 50 m_J2_clear.1 := Or.inl q3149
theorem ml_X9_57 : om_ML RX9 57 m_X9_dictionary.1 := Or.inl q3150
theorem ml_X9_68 : om_ML RX9 68 m_X9_ex.1 := Or.inl q3179
theorem ml_X9_100 : om_ML RX9 100 m_X2_family.1 := Or.inl q3177
theorem ml_X9_126 : om_ML RX9 126 m_X8_put0.1 := Or.inr ⟨_, q3165⟩
theorem ml_X9_136 : om_ML RX9 136 m_J2_get.1 := Or.inl q3154
theorem ml_X9_147 : om_ML RX9 147 m_X2_name.1 := Or.inl q3157
theorem ml_X9_155 : om_ML RX9 155 m_X9_isProof.1 := Or.inl q3172
theorem ml_X9_162 : om_ML RX9 162 m_X2_like.1 := Or.inl q3178
theorem ml_X9_166 : om_ML RX9 166 m_X5_begin.1 := Or.inl q3170
theorem ml_X9_172 : om_ML RX9 172 m_X5_one.1 := Or.inl q3171
theorem ml_X9_179 : om_ML RX9 179 m_X21_isEqual.1 := Or.inl q3156
theorem ml_X9_192 : om_ML RX9 192 m_X9_byInstance.1 := Or.inl q3158
theorem ml_X9_197 : om_ML RX9 197 m_X9_isOne.1 := Or.inl q3166
theorem ml_X9_202 : om_ML RX9 202 m_J2_size.1 := Or.inl q3162
theorem ml_X9_211 : om_ML RX9 211 m_X0_typeFor.1 := Or.inr ⟨_, q3164⟩
theorem ml_X9_218 : om_ML RX9 218 m_X28_isBound.1 := Or.inl q3192
theorem ml_X9_249 : om_ML RX9 249 m_X37_built.1 := Or.inl q3195
theorem ml_X9_260 : om_ML RX9 260 m_X9_plain.1 := Or.inl q3183
theorem ml_X9_268 : om_ML RX9 268 m_J2_add.1 := Or.inl q3203
theorem ml_X9_272 : om_ML RX9 272 m_J2_remove.1 := Or.inl q3204
theorem ml_X9_275 : om_ML RX9 275 m_X9_name.1 := Or.inl q3188
theorem ml_X9_280 : om_ML RX9 280 m_X2_con.1 := Or.inl q3197
theorem ml_X9_290 : om_ML RX9 290 m_X9_inside.1 := Or.inl q3199
theorem ml_X9_294 : om_ML RX9 294 m_X2_arrow.1 := Or.inl q3205
theorem ml_X9_316 : om_ML RX9 316 m_X9_cases.1 := Or.inl q3209
theorem ml_X9_322 : om_ML RX9 322 m_X9_use.1 := Or.inl q3214
theorem ml_X9_328 : om_ML RX9 328 m_X9_chain.1 := Or.inl q3221
theorem ml_X9_345 : om_ML RX9 345 m_X6_first.1 := Or.inr ⟨_, q3218⟩
theorem ml_X9_372 : om_ML RX9 372 m_J15_intValue.1 := Or.inl q3227
theorem ml_X10_3 : om_ML RX10 3 m_J17_init.1 := Or.inl q610
theorem ml_X10_11 : om_ML RX10 11 m_J2_init.1 := Or.inl q612
theorem ml_X10_55 : om_ML RX10 55 m_X11_init.1 := Or.inr ⟨_, q619⟩
theorem ml_X10_85 : om_ML RX10 85 m_J2_size.1 := Or.inl q2918
theorem ml_X10_91 : om_ML RX10 91 m_X40_init.1 := Or.inr ⟨_, q3036⟩
theorem ml_X10_92 : om_ML RX10 92 m_J2_add.1 := Or.inl q3063
theorem ml_X10_96 : om_ML RX10 96 m_J2_get.1 := Or.inl q2937
theorem ml_X10_106 : om_ML RX10 106 m_X10_low.1 := Or.inl q2960
theorem ml_X10_118 : om_ML RX10 118 m_J12_max.1 := Or.inl q2928
theorem ml_X10_129 : om_ML RX10 129 m_X10_fresh.1 := Or.inl q3031
theorem ml_X10_143 : om_ML RX10 143 m_X6_first.1 := Or.inr ⟨_, q2919⟩
theorem ml_X10_154 : om_ML RX10 154 m_X10_levels.1 := Or.inl q2914
theorem ml_X10_161 : om_ML RX10 161 m_X10_step.1 := Or.inl q2921
theorem ml_X10_169 : om_ML RX10 169 m_X10_push.1 := Or.inl q2924
theorem ml_X10_180 : om_ML RX10 180 m_X10_name.1 := Or.inl q2932
theorem ml_X10_191 : om_ML RX10 191 m_X10_of.1 := Or.inl q2993
theorem ml_X10_195 : om_ML RX10 195 m_X10_comes.1 := Or.inl q2939
theorem ml_X10_201 : om_ML RX10 201 m_X10_lambda.1 := Or.inl q3108
theorem ml_X10_211 : om_ML RX10 211 m_X10_next.1 := Or.inl q3017
theorem ml_X10_239 : om_ML RX10 239 m_X28_isBound.1 := Or.inl q2936
theorem ml_X10_259 : om_ML RX10 259 m_X10_dictionary.1 := Or.inl q3087
theorem ml_X10_282 : om_ML RX10 282 m_X10_enter.1 := Or.inl q3101
theorem ml_X10_290 : om_ML RX10 290 m_X28_reasons.1 := Or.inl q3105
theorem ml_X10_309 : om_ML RX10 309 m_X10_due.1 := Or.inl q3091
theorem ml_X10_319 : om_ML RX10 319 m_X10_puts.1 := Or.inl q3095
theorem ml_X10_336 : om_ML RX10 336 m_X10_show.1 := Or.inl q2943
theorem ml_X10_339 : om_ML RX10 339 m_X10_back.1 := Or.inl q3007
theorem ml_X10_354 : om_ML RX10 354 m_X10_apply.1 := Or.inl q3021
theorem ml_X10_358 : om_ML RX10 358 m_X10_bind.1 := Or.inl q3065
theorem ml_X10_371 : om_ML RX10 371 m_X10_cases.1 := Or.inl q3074
theorem ml_X10_385 : om_ML RX10 385 m_J15_intValue.1 := Or.inl q3082
theorem ml_X10_388 : om_ML RX10 388 m_X10_signed.1 := Or.inl q3083
theorem ml_X10_392 : om_ML RX10 392 m_X10_is.1 := Or.inl q2957
theorem ml_X10_399 : om_ML RX10 399 m_X10_cell.1 := Or.inl q2980
theorem ml_X10_408 : om_ML RX10 408 m_X10_built.1 := Or.inl q3025
theorem ml_X10_424 : om_ML RX10 424 m_X10_later.1 := Or.inl q2947
theorem ml_X10_429 : om_ML RX10 429 m_X10_say.1 := Or.inl q2952
theorem ml_X10_433 : om_ML RX10 433 m_X10_number.1 := Or.inl q2963
theorem ml_X10_440 : om_ML RX10 440 m_X10_words.1 := Or.inl q2970
theorem ml_X10_450 : om_ML RX10 450 m_X10_rest.1 := Or.inl q2984
theorem ml_X10_454 : om_ML RX10 454 m_X10_part.1 := Or.inl q2997
theorem ml_X10_457 : om_ML RX10 457 m_X10_list.1 := Or.inl q2988
theorem ml_X10_460 : om_ML RX10 460 m_J4_length.1 := Or.inl q2974
theorem ml_X10_465 : om_ML RX10 465 m_J4_charAt.1 := Or.inl q2975
theorem ml_X11_1 : om_ML RX11 1 m_J17_init.1 := Or.inl q622
theorem ml_X12_1 : om_ML RX12 1 m_J17_init.1 := Or.inl q727
theorem ml_X13_1 : om_ML RX13 1 m_J17_init.1 := Or.inl q3238
theorem ml_X13_375 : om_ML RX13 375 m_X13_name.1 := Or.inl q4062
theorem ml_X13_379 : om_ML RX13 379 m_X13_b.1 := Or.inl q4026
theorem ml_X13_385 : om_ML RX13 385 m_X13_isThe.1 := Or.inl q4044
theorem ml_X13_409 : om_ML RX13 409 m_X13_isSmall.1 := Or.inl q4030
theorem ml_X13_413 : om_ML RX13 413 m_X13_isBig.1 := Or.inl q4033
theorem ml_X13_416 : om_ML RX13 416 m_X13_isDigit.1 := Or.inl q4036
theorem ml_X13_419 : om_ML RX13 419 m_X13_wordKind.1 := Or.inl q4039
theorem ml_X13_422 : om_ML RX13 422 m_X13_token.1 := Or.inl q4058
theorem ml_X13_442 : om_ML RX13 442 m_X13_takes.1 := Or.inl q4074
theorem ml_X13_445 : om_ML RX13 445 m_X13_wrong.1 := Or.inl q4090
theorem ml_X13_448 : om_ML RX13 448 m_X13_need.1 := Or.inl q4086
theorem ml_X13_455 : om_ML RX13 455 m_X13_enter.1 := Or.inl q4098
theorem ml_X13_458 : om_ML RX13 458 m_X13_ground.1 := Or.inl q4102
theorem ml_X13_462 : om_ML RX13 462 m_X13_readType.1 := Or.inl q4094
theorem ml_X13_465 : om_ML RX13 465 m_X13_node.1 := Or.inl q4110
theorem ml_X13_469 : om_ML RX13 469 m_X13_is.1 := Or.inl q4066
theorem ml_X13_472 : om_ML RX13 472 m_X13_piece.1 := Or.inl q4106
theorem ml_X13_475 : om_ML RX13 475 m_X13_isPiece.1 := Or.inl q4114
theorem ml_X13_479 : om_ML RX13 479 m_X13_needed.1 := Or.inl q4082
theorem ml_X13_482 : om_ML RX13 482 m_X13_readEx.1 := Or.inl q4126
theorem ml_X13_485 : om_ML RX13 485 m_X13_readCase.1 := Or.inl q4130
theorem ml_X13_488 : om_ML RX13 488 m_X13_compare.1 := Or.inl q4138
theorem ml_X13_491 : om_ML RX13 491 m_X13_isNamed.1 := Or.inl q4134
theorem ml_X13_495 : om_ML RX13 495 m_X13_sum.1 := Or.inl q4142
theorem ml_X13_498 : om_ML RX13 498 m_X13_product.1 := Or.inl q4146
theorem ml_X13_501 : om_ML RX13 501 m_X13_use.1 := Or.inl q4150
theorem ml_X13_504 : om_ML RX13 504 m_X13_atom.1 := Or.inl q4154
theorem ml_X13_507 : om_ML RX13 507 m_X13_isAtom.1 := Or.inl q4158
theorem ml_X13_513 : om_ML RX13 513 m_X13_aClass.1 := Or.inl q4078
theorem ml_X13_516 : om_ML RX13 516 m_X13_anInstance.1 := Or.inl q4118
theorem ml_X13_519 : om_ML RX13 519 m_X13_aFunction.1 := Or.inl q4162
theorem ml_X13_522 : om_ML RX13 522 m_X13_conditions.1 := Or.inl q4122
theorem ml_X13_526 : om_ML RX13 526 m_X13_nameAt.1 := Or.inl q3796
theorem ml_X13_529 : om_ML RX13 529 m_X13_breaks.1 := Or.inl q4170
theorem ml_X13_536 : om_ML RX13 536 m_X13_tells.1 := Or.inl q4174
theorem ml_X13_539 : om_ML RX13 539 m_X13_standsGreat.1 := Or.inl q4178
theorem ml_X13_543 : om_ML RX13 543 m_X13_standsTerm.1 := Or.inl q4182
theorem ml_X13_558 : om_ML RX13 558 m_X13_inScope.1 := Or.inl q4194
theorem ml_X13_561 : om_ML RX13 561 m_X13_aType.1 := Or.inl q3903
theorem ml_X13_565 : om_ML RX13 565 m_X13_known.1 := Or.inl q4190
theorem ml_X13_568 : om_ML RX13 568 m_X13_partsOf.1 := Or.inl q4198
theorem ml_X13_574 : om_ML RX13 574 m_X13_hasLeft.1 := Or.inl q4209
theorem ml_X13_577 : om_ML RX13 577 m_X13_oneKnown.1 := Or.inl q4213
theorem ml_X13_580 : om_ML RX13 580 m_X13_exKnown.1 := Or.inl q4205
theorem ml_X13_586 : om_ML RX13 586 m_X13_binds.1 := Or.inl q4217
theorem ml_X13_589 : om_ML RX13 589 m_X13_hasFamily.1 := Or.inl q4233
theorem ml_X13_592 : om_ML RX13 592 m_X13_namesAlone.1 := Or.inl q4229
theorem ml_X13_595 : om_ML RX13 595 m_X13_byInstance.1 := Or.inl q3883
theorem ml_X13_598 : om_ML RX13 598 m_X13_asks.1 := Or.inl q3916
theorem ml_X13_601 : om_ML RX13 601 m_X13_head.1 := Or.inl q3976
theorem ml_X13_604 : om_ML RX13 604 m_X13_had.1 := Or.inl q4237
theorem ml_X13_623 : om_ML RX13 623 m_X13_headScope.1 := Or.inl q3887
theorem ml_X13_632 : om_ML RX13 632 m_X13_put.1 := Or.inl q3899
theorem ml_X13_635 : om_ML RX13 635 m_X13_instanceOf.1 := Or.inl q3936
theorem ml_X13_638 : om_ML RX13 638 m_X13_givenFamily.1 := Or.inl q3940
theorem ml_X13_641 : om_ML RX13 641 m_X13_putHead.1 := Or.inl q3952
theorem ml_X13_644 : om_ML RX13 644 m_X13_out.1 := Or.inl q3920
theorem ml_X13_647 : om_ML RX13 647 m_X13_within.1 := Or.inl q3924
theorem ml_X13_650 : om_ML RX13 650 m_X13_partsOut.1 := Or.inl q3928
theorem ml_X13_653 : om_ML RX13 653 m_X13_goesBy.1 := Or.inl q3932
theorem ml_X13_656 : om_ML RX13 656 m_X13_counts.1 := Or.inl q3944
theorem ml_X13_659 : om_ML RX13 659 m_X13_goesTo.1 := Or.inl q3948
theorem ml_X13_662 : om_ML RX13 662 m_X13_reaches.1 := Or.inl q3968
theorem ml_X13_665 : om_ML RX13 665 m_X13_givenOf.1 := Or.inl q3964
theorem ml_X13_668 : om_ML RX13 668 m_X13_judgeOne.1 := Or.inl q4249
theorem ml_X13_674 : om_ML RX13 674 m_X13_judgeUp.1 := Or.inl q4289
theorem ml_X13_677 : om_ML RX13 677 m_X13_one.1 := Or.inl q4269
theorem ml_X13_680 : om_ML RX13 680 m_X13_placeOf.1 := Or.inl q4281
theorem ml_X13_683 : om_ML RX13 683 m_X13_fails.1 := Or.inl q4257
theorem ml_X13_686 : om_ML RX13 686 m_X13_wanted.1 := Or.inl q4277
theorem ml_X13_689 : om_ML RX13 689 m_X13_judge.1 := Or.inl q4245
theorem ml_X13_695 : om_ML RX13 695 m_X13_formed.1 := Or.inl q4285
theorem ml_X13_698 : om_ML RX13 698 m_X13_named.1 := Or.inl q4253
theorem ml_X13_701 : om_ML RX13 701 m_X13_bindsType.1 := Or.inl q4273
theorem ml_X13_710 : om_ML RX13 710 m_X13_allOf.1 := Or.inl q4261
theorem ml_X13_713 : om_ML RX13 713 m_X13_putAts.1 := Or.inl q3895
theorem ml_X13_716 : om_ML RX13 716 m_X13_givensOf.1 := Or.inl q3871
theorem ml_X13_719 : om_ML RX13 719 m_X13_given.1 := Or.inl q4265
theorem ml_X13_732 : om_ML RX13 732 m_X13_givenPut.1 := Or.inl q3891
theorem ml_X13_735 : om_ML RX13 735 m_X13_byFunction.1 := Or.inl q3879
theorem ml_X13_738 : om_ML RX13 738 m_X13_lineType.1 := Or.inl q4293
theorem ml_X13_757 : om_ML RX13 757 m_X13_say.1 := Or.inl q4310
theorem ml_X13_760 : om_ML RX13 760 m_X13_sayNumber.1 := Or.inl q4322
theorem ml_X13_763 : om_ML RX13 763 m_X13_sayName.1 := Or.inl q4314
theorem ml_X13_766 : om_ML RX13 766 m_X13_sayType.1 := Or.inl q4326
theorem ml_X13_769 : om_ML RX13 769 m_X13_sayGreat.1 := Or.inl q4330
theorem ml_X13_772 : om_ML RX13 772 m_X13_told1.1 := Or.inl q3912
theorem ml_X13_775 : om_ML RX13 775 m_X13_outNow.1 := Or.inl q3908
theorem ml_X13_778 : om_ML RX13 778 m_X13_sayAlike.1 := Or.inl q4366
theorem ml_X13_781 : om_ML RX13 781 m_X13_sayWhy.1 := Or.inl q4370
theorem ml_X13_784 : om_ML RX13 784 m_X13_sayParts.1 := Or.inl q4358
theorem ml_X13_787 : om_ML RX13 787 m_X13_sayClass.1 := Or.inl q4354
theorem ml_X13_790 : om_ML RX13 790 m_X13_sayAbove.1 := Or.inl q4350
theorem ml_X13_793 : om_ML RX13 793 m_X13_sayDictionary.1 := Or.inl q4346
theorem ml_X13_796 : om_ML RX13 796 m_X13_sayOne.1 := Or.inl q4362
theorem ml_X13_799 : om_ML RX13 799 m_X13_sayPlain.1 := Or.inl q4338
theorem ml_X13_802 : om_ML RX13 802 m_X13_sayCast.1 := Or.inl q4387
theorem ml_X13_805 : om_ML RX13 805 m_X13_sayEx.1 := Or.inl q4334
theorem ml_X13_808 : om_ML RX13 808 m_X13_sayNamed.1 := Or.inl q4342
theorem ml_X13_813 : om_ML RX13 813 m_X13_says.1 := Or.inl q4375
theorem ml_X13_833 : om_ML RX13 833 m_X13_sayAll.1 := Or.inl q4306
theorem ml_X13_836 : om_ML RX13 836 m_X13_sayGivens.1 := Or.inl q4318
theorem ml_X13_840 : om_ML RX13 840 m_X13_begins_2.1 := Or.inl q4302
theorem ml_X13_843 : om_ML RX13 843 m_X13_endsTerm.1 := Or.inl q4391
theorem ml_X13_846 : om_ML RX13 846 m_X13_sayHead.1 := Or.inl q4395
theorem ml_X13_895 : om_ML RX13 895 m_X13_cell.1 := Or.inl q3842
theorem ml_X13_903 : om_ML RX13 903 m_X13_inRow.1 := Or.inl q3972
theorem ml_X13_907 : om_ML RX13 907 m_X13_byOwner.1 := Or.inl q3875
theorem ml_X13_910 : om_ML RX13 910 m_X13_dictionaryOut.1 := Or.inl q3956
theorem ml_X13_914 : om_ML RX13 914 m_X13_begins.1 := Or.inl q3960
theorem ml_X13_917 : om_ML RX13 917 m_X13_dictionaryMade.1 := Or.inl q3980
theorem ml_X13_920 : om_ML RX13 920 m_X13_row.1 := Or.inl q3984
theorem ml_X13_927 : om_ML RX13 927 m_X13_step.1 := Or.inl q3792
theorem ml_X13_930 : om_ML RX13 930 m_X13_thing.1 := Or.inl q3800
theorem ml_X13_934 : om_ML RX13 934 m_X13_comes.1 := Or.inl q3803
theorem ml_X13_937 : om_ML RX13 937 m_X13_wantedName.1 := Or.inl q3867
theorem ml_X13_940 : om_ML RX13 940 m_X13_function.1 := Or.inl q3987
theorem ml_X13_944 : om_ML RX13 944 m_X13_frame.1 := Or.inl q3834
theorem ml_X13_947 : om_ML RX13 947 m_X13_go.1 := Or.inl q3830
theorem ml_X13_950 : om_ML RX13 950 m_X13_show.1 := Or.inl q3807
theorem ml_X13_953 : om_ML RX13 953 m_X13_bind.1 := Or.inl q3838
theorem ml_X13_957 : om_ML RX13 957 m_X13_chooses.1 := Or.inl q3846
theorem ml_X13_961 : om_ML RX13 961 m_X13_result.1 := Or.inl q3851
theorem ml_X13_969 : om_ML RX13 969 m_X13_calls.1 := Or.inl q3855
theorem ml_X13_972 : om_ML RX13 972 m_X13_applied.1 := Or.inl q3859
theorem ml_X13_978 : om_ML RX13 978 m_X13_two.1 := Or.inl q3863
theorem ml_X13_982 : om_ML RX13 982 m_X13_put1.1 := Or.inl q3816
theorem ml_X13_989 : om_ML RX13 989 m_X13_showNumber.1 := Or.inl q3812
theorem ml_X13_996 : om_ML RX13 996 m_X13_shows.1 := Or.inl q3824
theorem ml_X13_1003 : om_ML RX13 1003 m_X13_spell.1 := Or.inl q4008
theorem ml_X13_1026 : om_ML RX13 1026 m_X13_always.1 := Or.inl q4003
theorem ml_X13_1029 : om_ML RX13 1029 m_X13_scan.1 := Or.inl q4022
theorem ml_X13_1032 : om_ML RX13 1032 m_X13_decl.1 := Or.inl q4070
theorem ml_X13_1035 : om_ML RX13 1035 m_X13_stand.1 := Or.inl q4166
theorem ml_X13_1038 : om_ML RX13 1038 m_X13_fillClass.1 := Or.inl q4186
theorem ml_X13_1041 : om_ML RX13 1041 m_X13_fillInstance.1 := Or.inl q4201
theorem ml_X13_1044 : om_ML RX13 1044 m_X13_fillFunction.1 := Or.inl q4221
theorem ml_X13_1047 : om_ML RX13 1047 m_X13_third.1 := Or.inl q4225
theorem ml_X13_1050 : om_ML RX13 1050 m_X13_judgeAll.1 := Or.inl q4241
theorem ml_X13_1053 : om_ML RX13 1053 m_X13_sayProgram.1 := Or.inl q4297
theorem ml_X13_1068 : om_ML RX13 1068 m_X13_forgetTypes.1 := Or.inl q4407
theorem ml_X13_1088 : om_ML RX13 1088 m_X13_isProgram.1 := Or.inl q3999
theorem ml_X13_1095 : om_ML RX13 1095 m_X13_isAsk.1 := Or.inl q4403
theorem ml_X13_1104 : om_ML RX13 1104 m_X13_again.1 := Or.inl q4399
theorem ml_X13_1108 : om_ML RX13 1108 m_X13_beginRun.1 := Or.inl q4417
theorem ml_X13_1111 : om_ML RX13 1111 m_X13_which.1 := Or.inl q4437
theorem ml_X14_3 : om_ML RX14 3 m_J17_init.1 := Or.inl q829
theorem ml_X14_19 : om_ML RX14 19 m_X14_advance.1 := Or.inl q830
theorem ml_X14_25 : om_ML RX14 25 m_X14_at.1 := Or.inl q834
theorem ml_X14_44 : om_ML RX14 44 m_X14_isSmall.1 := Or.inl q840
theorem ml_X14_48 : om_ML RX14 48 m_X14_isGreat.1 := Or.inl q843
theorem ml_X14_51 : om_ML RX14 51 m_X14_name.1 := Or.inl q846
theorem ml_X14_54 : om_ML RX14 54 m_X14_isDigit.1 := Or.inl q850
theorem ml_X14_57 : om_ML RX14 57 m_X14_number.1 := Or.inl q928
theorem ml_X14_60 : om_ML RX14 60 m_X14_sign.1 := Or.inl q934
theorem ml_X14_70 : om_ML RX14 70 m_X14_isWord.1 := Or.inl q857
theorem ml_X14_82 : om_ML RX14 82 m_X14_is.1 := Or.inl q862
theorem ml_X14_106 : om_ML RX14 106 m_J4_length.1 := Or.inl q866
theorem ml_X14_111 : om_ML RX14 111 m_J4_charAt.1 := Or.inl q876
theorem ml_X14_126 : om_ML RX14 126 m_X16_init.1 := Or.inl q1076
theorem ml_X14_131 : om_ML RX14 131 m_X15_init.1 := Or.inl q1037
theorem ml_X14_134 : om_ML RX14 134 m_X14_isSign.1 := Or.inl q1257
theorem ml_X14_137 : om_ML RX14 137 m_X14_isWord_2.1 := Or.inl q981
theorem ml_X14_139 : om_ML RX14 139 m_X14_passes_2.1 := Or.inl q1265
theorem ml_X14_142 : om_ML RX14 142 m_X14_wrong.1 := Or.inl q994
theorem ml_X14_146 : om_ML RX14 146 m_X14_passes.1 := Or.inl q1588
theorem ml_X14_148 : om_ML RX14 148 m_X14_word.1 := Or.inl q1070
theorem ml_X15_1 : om_ML RX15 1 m_J10_init.1 := Or.inl q1040
theorem ml_X16_1 : om_ML RX16 1 m_J17_init.1 := Or.inl q1079
theorem ml_X16_20 : om_ML RX16 20 m_J4_length.1 := Or.inl q2013
theorem ml_X16_26 : om_ML RX16 26 m_J4_charAt.1 := Or.inl q2014
theorem ml_X17_3 : om_ML RX17 3 m_J17_init.1 := Or.inl q1101
theorem ml_X17_11 : om_ML RX17 11 m_J2_init.1 := Or.inl q1103
theorem ml_X17_35 : om_ML RX17 35 m_J2_add.1 := Or.inl q1106
theorem ml_X17_39 : om_ML RX17 39 m_J2_size.1 := Or.inl q2293
theorem ml_X17_43 : om_ML RX17 43 m_J2_get.1 := Or.inl q2294
theorem ml_X17_50 : om_ML RX17 50 m_X16_is_2.1 := Or.inl q2296
theorem ml_X18_1 : om_ML RX18 1 m_J17_init.1 := Or.inl q1316
theorem ml_X19_1 : om_ML RX19 1 m_J17_init.1 := Or.inl q1292
theorem ml_X19_9 : om_ML RX19 9 m_J2_init.1 := Or.inl q1294
theorem ml_X20_1 : om_ML RX20 1 m_J17_init.1 := Or.inl q1354
theorem ml_X20_9 : om_ML RX20 9 m_X4_init.1 := Or.inr ⟨_, q1356⟩
theorem ml_X20_18 : om_ML RX20 18 m_J2_init.1 := Or.inl q1358
theorem ml_X21_1 : om_ML RX21 1 m_J17_init.1 := Or.inl q1431
theorem ml_X21_30 : om_ML RX21 30 m_X36_init.1 := Or.inl q2377
theorem ml_X22_1 : om_ML RX22 1 m_J17_init.1 := Or.inl q1907
theorem ml_X23_1 : om_ML RX23 1 m_J17_init.1 := Or.inl q1491
theorem ml_X24_1 : om_ML RX24 1 m_X23_init.1 := Or.inr ⟨_, q1488⟩
theorem ml_X25_1 : om_ML RX25 1 m_X23_init.1 := Or.inr ⟨_, q1547⟩
theorem ml_X26_1 : om_ML RX26 1 m_X23_init.1 := Or.inr ⟨_, q1597⟩
theorem ml_X27_1 : om_ML RX27 1 m_X23_init.1 := Or.inr ⟨_, q1636⟩
theorem ml_X28_3 : om_ML RX28 3 m_X23_init.1 := Or.inr ⟨_, q1702⟩
theorem ml_X28_22 : om_ML RX28 22 m_J2_size.1 := Or.inl q2225
theorem ml_X28_31 : om_ML RX28 31 m_J2_init_2.1 := Or.inl q1809
theorem ml_X28_34 : om_ML RX28 34 m_J2_add.1 := Or.inl q1810
theorem ml_X29_1 : om_ML RX29 1 m_X23_init.1 := Or.inr ⟨_, q1760⟩
theorem ml_X30_1 : om_ML RX30 1 m_X23_init.1 := Or.inr ⟨_, q1776⟩
theorem ml_X30_9 : om_ML RX30 9 m_J2_init_2.1 := Or.inl q1778
theorem ml_X31_1 : om_ML RX31 1 m_J17_init.1 := Or.inl q1816
theorem ml_X32_1 : om_ML RX32 1 m_X23_init.1 := Or.inr ⟨_, q1849⟩
theorem ml_X32_9 : om_ML RX32 9 m_J2_init.1 := Or.inl q1851
theorem ml_X33_1 : om_ML RX33 1 m_J17_init.1 := Or.inl q1934
theorem ml_X33_9 : om_ML RX33 9 m_X4_init.1 := Or.inr ⟨_, q1936⟩
theorem ml_X34_3 : om_ML RX34 3 m_J17_init.1 := Or.inl q2081
theorem ml_X34_33 : om_ML RX34 33 m_X16_is_2.1 := Or.inl q2075
theorem ml_X34_39 : om_ML RX34 39 m_X0_partsOf.1 := Or.inr ⟨_, q2456⟩
theorem ml_X35_1 : om_ML RX35 1 m_J17_init.1 := Or.inl q2196
theorem ml_X35_9 : om_ML RX35 9 m_J2_init.1 := Or.inl q2198
theorem ml_X35_33 : om_ML RX35 33 m_X1_typeOf.1 := Or.inl q2233
theorem ml_X35_41 : om_ML RX35 41 m_X35_name.1 := Or.inl q2217
theorem ml_X35_51 : om_ML RX35 51 m_X35_type.1 := Or.inl q2229
theorem ml_X35_67 : om_ML RX35 67 m_X35_inside.1 := Or.inl q2249
theorem ml_X35_78 : om_ML RX35 78 m_X35_ex.1 := Or.inl q2253
theorem ml_X35_97 : om_ML RX35 97 m_X35_cases.1 := Or.inl q2266
theorem ml_X35_109 : om_ML RX35 109 m_J2_size.1 := Or.inl q2235
theorem ml_X35_113 : om_ML RX35 113 m_J2_get.1 := Or.inl q2227
theorem ml_X35_130 : om_ML RX35 130 m_J2_add.1 := Or.inl q2234
theorem ml_X35_134 : om_ML RX35 134 m_J2_remove.1 := Or.inl q2254
theorem ml_X35_149 : om_ML RX35 149 m_X16_is_2.1 := Or.inl q2237
theorem ml_X35_159 : om_ML RX35 159 m_X1_rule.1 := Or.inl q2247
theorem ml_X35_169 : om_ML RX35 169 m_X28_many.1 := Or.inl q2221
theorem ml_X35_172 : om_ML RX35 172 m_J2_init_2.1 := Or.inl q2226
theorem ml_X35_183 : om_ML RX35 183 m_X0_builtOf.1 := Or.inr ⟨_, q2238⟩
theorem ml_X35_192 : om_ML RX35 192 m_X1_functionOf.1 := Or.inl q2239
theorem ml_X35_200 : om_ML RX35 200 m_X1_methodOf.1 := Or.inl q2243
theorem ml_X36_3 : om_ML RX36 3 m_J17_init.1 := Or.inl q2380
theorem ml_X36_38 : om_ML RX36 38 m_J2_clear.1 := Or.inl q2449
theorem ml_X37_3 : om_ML RX37 3 m_J17_init.1 := Or.inl q2467
theorem ml_X37_11 : om_ML RX37 11 m_J2_init.1 := Or.inl q2469
theorem ml_X37_29 : om_ML RX37 29 m_X2_con.1 := Or.inl q2566
theorem ml_X37_35 : om_ML RX37 35 m_X37_typeOf.1 := Or.inl q2484
theorem ml_X37_39 : om_ML RX37 39 m_X37_isOf.1 := Or.inl q2618
theorem ml_X37_59 : om_ML RX37 59 m_X17_find.1 := Or.inl q2630
theorem ml_X37_83 : om_ML RX37 83 m_X8_put.1 := Or.inl q2511
theorem ml_X37_90 : om_ML RX37 90 m_X8_areOne.1 := Or.inl q2559
theorem ml_X37_96 : om_ML RX37 96 m_X15_init.1 := Or.inl q2503
theorem ml_X37_109 : om_ML RX37 109 m_X8_begin.1 := Or.inl q2600
theorem ml_X37_112 : om_ML RX37 112 m_X8_worked.1 := Or.inl q2601
theorem ml_X37_118 : om_ML RX37 118 m_X37_name.1 := Or.inl q2489
theorem ml_X37_124 : om_ML RX37 124 m_X37_con.1 := Or.inl q2569
theorem ml_X37_134 : om_ML RX37 134 m_X37_inside.1 := Or.inl q2574
theorem ml_X37_138 : om_ML RX37 138 m_X2_arrow.1 := Or.inl q2567
theorem ml_X37_144 : om_ML RX37 144 m_X37_let.1 := Or.inl q2581
theorem ml_X37_150 : om_ML RX37 150 m_X37_choice.1 := Or.inl q2587
theorem ml_X37_156 : om_ML RX37 156 m_X37_cases.1 := Or.inl q2592
theorem ml_X37_162 : om_ML RX37 162 m_X37_use.1 := Or.inl q2603
theorem ml_X37_168 : om_ML RX37 168 m_X37_chain.1 := Or.inl q2608
theorem ml_X37_172 : om_ML RX37 172 m_J2_add.1 := Or.inl q2578
theorem ml_X37_176 : om_ML RX37 176 m_J2_size.1 := Or.inl q2500
theorem ml_X37_180 : om_ML RX37 180 m_J2_remove.1 := Or.inl q2579
theorem ml_X37_188 : om_ML RX37 188 m_X37_wanted.1 := Or.inl q2585
theorem ml_X37_204 : om_ML RX37 204 m_X37_as.1 := Or.inl q2596
theorem ml_X37_220 : om_ML RX37 220 m_J2_get.1 := Or.inl q2504
theorem ml_X37_228 : om_ML RX37 228 m_J15_intValue.1 := Or.inl q2614
theorem ml_X37_234 : om_ML RX37 234 m_X28_many.1 := Or.inl q2501
theorem ml_X37_251 : om_ML RX37 251 m_X28_isBound.1 := Or.inl q2496
theorem ml_X37_275 : om_ML RX37 275 m_X37_forall.1 := Or.inl q2493
theorem ml_X37_286 : om_ML RX37 286 m_X37_function.1 := Or.inl q2507
theorem ml_X37_293 : om_ML RX37 293 m_X37_classFor.1 := Or.inl q2525
theorem ml_X37_297 : om_ML RX37 297 m_X28_because.1 := Or.inl q2553
theorem ml_X37_301 : om_ML RX37 301 m_X37_built.1 := Or.inl q2563
theorem ml_X37_304 : om_ML RX37 304 m_X8_fit.1 := Or.inr ⟨_, q2558⟩
theorem ml_X37_307 : om_ML RX37 307 m_X8_asked.1 := Or.inl q2529
theorem ml_X37_313 : om_ML RX37 313 m_X38_init.1 := Or.inl q2532
theorem ml_X37_323 : om_ML RX37 323 m_X0_typeFor.1 := Or.inr ⟨_, q2516⟩
theorem ml_X37_327 : om_ML RX37 327 m_X21_isEqual.1 := Or.inl q2524
theorem ml_X37_331 : om_ML RX37 331 m_X2_family.1 := Or.inl q2557
theorem ml_X38_1 : om_ML RX38 1 m_J17_init.1 := Or.inl q2535
theorem ml_X39_1 : om_ML RX39 1 m_J17_init.1 := Or.inl q2739
theorem ml_X40_1 : om_ML RX40 1 m_J17_init.1 := Or.inl q3039
theorem fl_J2_9 : om_FL RJ2 9 1726 [40] := om_FL1 ⟨_, 1, _, rfl, by decide, rfl, Or.inl q350, Or.inl rfl⟩
theorem fl_J2_48 : om_FL RJ2 48 1728 [40] := om_FL1 ⟨_, 2, _, rfl, by decide, rfl, Or.inl q351, Or.inl rfl⟩
theorem fl_J2_63 : om_FL RJ2 63 1720 [40] := om_FL1 ⟨_, 0, _, rfl, by decide, rfl, Or.inl q353, Or.inr q354⟩
-- getfield J3 7: ('fl', 'q4527', 'java/lang/Enum', 'ordinal', 'I')
-- getfield J4 9: ('fl', 'q4525', 'java/lang/String', 'value', '[B')
-- getfield J4 15: ('fl', 'q4526', 'java/lang/String', 'coder', 'B')
-- getfield J15 205: ('fl', 'q1900', 'java/lang/Integer', 'value', 'I')
theorem fl_X0_1 : om_FL RX0 1 8 [0] := om_FL1 ⟨_, 1, _, rfl, by decide, rfl, Or.inl q755, Or.inl rfl⟩
theorem fl_X0_11 : om_FL RX0 11 6 [0] := om_FL1 ⟨_, 0, _, rfl, by decide, rfl, Or.inl q754, Or.inl rfl⟩
theorem fl_X0_15 : om_FL RX0 15 1134 [14] := om_FL1 ⟨_, 3, _, rfl, by decide, rfl, Or.inr ⟨_, q944⟩, Or.inl rfl⟩
theorem fl_X0_54 : om_FL RX0 54 1274 [19] := om_FL1 ⟨_, 2, _, rfl, by decide, rfl, Or.inr ⟨_, q1300⟩, Or.inl rfl⟩
theorem fl_X0_67 : om_FL RX0 67 1148 [14] := om_FL1 ⟨_, 7, _, rfl, by decide, rfl, Or.inr ⟨_, q952⟩, Or.inl rfl⟩
theorem fl_X0_87 : om_FL RX0 87 1372 om_exk := by
  intro k hk
  simp only [om_exk, List.mem_cons, List.not_mem_nil, or_false] at hk
  rcases hk with rfl | rfl | rfl | rfl | rfl | rfl | rfl | rfl
  · exact ⟨_, 0, _, rfl, by decide, rfl, Or.inl q1508, Or.inl rfl⟩
  · exact ⟨_, 0, _, rfl, by decide, rfl, Or.inl q1508, Or.inl rfl⟩
  · exact ⟨_, 0, _, rfl, by decide, rfl, Or.inl q1508, Or.inl rfl⟩
  · exact ⟨_, 0, _, rfl, by decide, rfl, Or.inl q1508, Or.inl rfl⟩
  · exact ⟨_, 0, _, rfl, by decide, rfl, Or.inl q1508, Or.inl rfl⟩
  · exact ⟨_, 0, _, rfl, by decide, rfl, Or.inl q1508, Or.inl rfl⟩
  · exact ⟨_, 0, _, rfl, by decide, rfl, Or.inl q1508, Or.inl rfl⟩
  · exact ⟨_, 0, _, rfl, by decide, rfl, Or.inl q1508, Or.inl rfl⟩
theorem fl_X0_106 : om_FL RX0 106 1136 [14] := om_FL1 ⟨_, 4, _, rfl, by decide, rfl, Or.inr ⟨_, q948⟩, Or.inl rfl⟩
theorem fl_X0_206 : om_FL RX0 206 1522 [31] := om_FL1 ⟨_, 4, _, rfl, by decide, rfl, Or.inr ⟨_, q1864⟩, Or.inl rfl⟩
theorem fl_X0_211 : om_FL RX0 211 1526 [31] := om_FL1 ⟨_, 5, _, rfl, by decide, rfl, Or.inr ⟨_, q1869⟩, Or.inl rfl⟩
theorem fl_X0_226 : om_FL RX0 226 1144 [14] := om_FL1 ⟨_, 6, _, rfl, by decide, rfl, Or.inr ⟨_, q951⟩, Or.inl rfl⟩
theorem fl_X0_256 : om_FL RX0 256 1494 [29] := om_FL1 ⟨_, 4, _, rfl, by decide, rfl, Or.inr ⟨_, q1795⟩, Or.inl rfl⟩
theorem fl_X0_289 : om_FL RX0 289 162 [4] := om_FL1 ⟨_, 0, _, rfl, by decide, rfl, Or.inr ⟨_, q456⟩, Or.inl rfl⟩
theorem fl_X0_307 : om_FL RX0 307 1556 [33] := om_FL1 ⟨_, 0, _, rfl, by decide, rfl, Or.inr ⟨_, q2089⟩, Or.inl rfl⟩
theorem fl_X0_314 : om_FL RX0 314 1582 [33] := om_FL1 ⟨_, 6, _, rfl, by decide, rfl, Or.inr ⟨_, q2117⟩, Or.inl rfl⟩
theorem fl_X0_325 : om_FL RX0 325 1586 [33] := om_FL1 ⟨_, 7, _, rfl, by decide, rfl, Or.inr ⟨_, q2125⟩, Or.inl rfl⟩
theorem fl_X0_329 : om_FL RX0 329 1574 [33] := om_FL1 ⟨_, 4, _, rfl, by decide, rfl, Or.inr ⟨_, q2104⟩, Or.inl rfl⟩
theorem fl_X0_335 : om_FL RX0 335 1560 [33] := om_FL1 ⟨_, 1, _, rfl, by decide, rfl, Or.inr ⟨_, q2096⟩, Or.inl rfl⟩
theorem fl_X0_340 : om_FL RX0 340 1578 [33] := om_FL1 ⟨_, 5, _, rfl, by decide, rfl, Or.inr ⟨_, q2109⟩, Or.inl rfl⟩
theorem fl_X0_344 : om_FL RX0 344 1214 [17] := om_FL1 ⟨_, 4, _, rfl, by decide, rfl, Or.inr ⟨_, q1208⟩, Or.inl rfl⟩
theorem fl_X0_354 : om_FL RX0 354 14 [0] := om_FL1 ⟨_, 2, _, rfl, by decide, rfl, Or.inl q756, Or.inl rfl⟩
theorem fl_X0_361 : om_FL RX0 361 18 [0] := om_FL1 ⟨_, 3, _, rfl, by decide, rfl, Or.inl q757, Or.inl rfl⟩
theorem fl_X0_368 : om_FL RX0 368 50 [0] := om_FL1 ⟨_, 11, _, rfl, by decide, rfl, Or.inl q765, Or.inl rfl⟩
theorem fl_X0_377 : om_FL RX0 377 54 [0] := om_FL1 ⟨_, 12, _, rfl, by decide, rfl, Or.inl q766, Or.inl rfl⟩
theorem fl_X0_384 : om_FL RX0 384 58 [0] := om_FL1 ⟨_, 13, _, rfl, by decide, rfl, Or.inl q767, Or.inl rfl⟩
theorem fl_X0_391 : om_FL RX0 391 62 [0] := om_FL1 ⟨_, 14, _, rfl, by decide, rfl, Or.inl q768, Or.inl rfl⟩
theorem fl_X0_398 : om_FL RX0 398 66 [0] := om_FL1 ⟨_, 15, _, rfl, by decide, rfl, Or.inl q769, Or.inl rfl⟩
theorem fl_X0_402 : om_FL RX0 402 39 [0] := om_FL1 ⟨_, 8, _, rfl, by decide, rfl, Or.inl q762, Or.inl rfl⟩
theorem fl_X0_406 : om_FL RX0 406 1176 [15] := om_FL1 ⟨_, 6, _, rfl, by decide, rfl, Or.inr ⟨_, q1050⟩, Or.inl rfl⟩
theorem fl_X0_409 : om_FL RX0 409 40 [0] := om_FL1 ⟨_, 9, _, rfl, by decide, rfl, Or.inl q763, Or.inl rfl⟩
theorem fl_X0_412 : om_FL RX0 412 1180 [15] := om_FL1 ⟨_, 7, _, rfl, by decide, rfl, Or.inr ⟨_, q1052⟩, Or.inl rfl⟩
theorem fl_X0_413 : om_FL RX0 413 44 [0] := om_FL1 ⟨_, 10, _, rfl, by decide, rfl, Or.inl q764, Or.inl rfl⟩
theorem fl_X0_416 : om_FL RX0 416 182 [6] := om_FL1 ⟨_, 0, _, rfl, by decide, rfl, Or.inr ⟨_, q560⟩, Or.inl rfl⟩
theorem fl_X0_428 : om_FL RX0 428 192 [7] := om_FL1 ⟨_, 0, _, rfl, by decide, rfl, Or.inr ⟨_, q516⟩, Or.inl rfl⟩
theorem fl_X0_431 : om_FL RX0 431 1286 [20] := om_FL1 ⟨_, 2, _, rfl, by decide, rfl, Or.inr ⟨_, q1367⟩, Or.inl rfl⟩
theorem fl_X0_437 : om_FL RX0 437 78 [1] := om_FL1 ⟨_, 2, _, rfl, by decide, rfl, Or.inr ⟨_, q393⟩, Or.inl rfl⟩
theorem fl_X0_441 : om_FL RX0 441 1366 [22] := om_FL1 ⟨_, 1, _, rfl, by decide, rfl, Or.inr ⟨_, q1915⟩, Or.inl rfl⟩
theorem fl_X0_446 : om_FL RX0 446 1370 [22] := om_FL1 ⟨_, 2, _, rfl, by decide, rfl, Or.inr ⟨_, q1917⟩, Or.inl rfl⟩
theorem fl_X0_452 : om_FL RX0 452 90 [1] := om_FL1 ⟨_, 5, _, rfl, by decide, rfl, Or.inr ⟨_, q399⟩, Or.inl rfl⟩
theorem fl_X0_458 : om_FL RX0 458 1542 [32] := om_FL1 ⟨_, 3, _, rfl, by decide, rfl, Or.inr ⟨_, q1945⟩, Or.inl rfl⟩
theorem fl_X0_459 : om_FL RX0 459 1554 [32] := om_FL1 ⟨_, 6, _, rfl, by decide, rfl, Or.inr ⟨_, q1953⟩, Or.inl rfl⟩
theorem fl_X0_460 : om_FL RX0 460 1550 [32] := om_FL1 ⟨_, 5, _, rfl, by decide, rfl, Or.inr ⟨_, q1950⟩, Or.inl rfl⟩
theorem fl_X0_467 : om_FL RX0 467 86 [1] := om_FL1 ⟨_, 4, _, rfl, by decide, rfl, Or.inr ⟨_, q397⟩, Or.inl rfl⟩
theorem fl_X0_470 : om_FL RX0 470 1334 [20] := om_FL1 ⟨_, 14, _, rfl, by decide, rfl, Or.inr ⟨_, q1394⟩, Or.inl rfl⟩
theorem fl_X0_474 : om_FL RX0 474 1318 [20] := om_FL1 ⟨_, 10, _, rfl, by decide, rfl, Or.inr ⟨_, q1382⟩, Or.inl rfl⟩
theorem fl_X0_476 : om_FL RX0 476 1326 [20] := om_FL1 ⟨_, 12, _, rfl, by decide, rfl, Or.inr ⟨_, q1388⟩, Or.inl rfl⟩
theorem fl_X0_486 : om_FL RX0 486 20 [0] := om_FL1 ⟨_, 4, _, rfl, by decide, rfl, Or.inl q758, Or.inl rfl⟩
theorem fl_X0_489 : om_FL RX0 489 70 [1] := om_FL1 ⟨_, 0, _, rfl, by decide, rfl, Or.inr ⟨_, q391⟩, Or.inl rfl⟩
theorem fl_X0_516 : om_FL RX0 516 31 [0] := om_FL1 ⟨_, 6, _, rfl, by decide, rfl, Or.inl q760, Or.inl rfl⟩
theorem fl_X0_519 : om_FL RX0 519 35 [0] := om_FL1 ⟨_, 7, _, rfl, by decide, rfl, Or.inl q761, Or.inl rfl⟩
theorem fl_X0_522 : om_FL RX0 522 24 [0] := om_FL1 ⟨_, 5, _, rfl, by decide, rfl, Or.inl q759, Or.inl rfl⟩
theorem fl_X0_525 : om_FL RX0 525 146 [3] := om_FL1 ⟨_, 0, _, rfl, by decide, rfl, Or.inr ⟨_, q469⟩, Or.inl rfl⟩
theorem fl_X0_526 : om_FL RX0 526 150 [3] := om_FL1 ⟨_, 1, _, rfl, by decide, rfl, Or.inr ⟨_, q471⟩, Or.inl rfl⟩
theorem fl_X0_532 : om_FL RX0 532 158 [3] := om_FL1 ⟨_, 3, _, rfl, by decide, rfl, Or.inr ⟨_, q474⟩, Or.inl rfl⟩
theorem fl_X0_541 : om_FL RX0 541 154 [3] := om_FL1 ⟨_, 2, _, rfl, by decide, rfl, Or.inr ⟨_, q473⟩, Or.inl rfl⟩
theorem fl_X0_565 : om_FL RX0 565 1378 om_exk := by
  intro k hk
  simp only [om_exk, List.mem_cons, List.not_mem_nil, or_false] at hk
  rcases hk with rfl | rfl | rfl | rfl | rfl | rfl | rfl | rfl
  · exact ⟨_, 1, _, rfl, by decide, rfl, Or.inl q1515, Or.inl rfl⟩
  · exact ⟨_, 1, _, rfl, by decide, rfl, Or.inl q1515, Or.inl rfl⟩
  · exact ⟨_, 1, _, rfl, by decide, rfl, Or.inl q1515, Or.inl rfl⟩
  · exact ⟨_, 1, _, rfl, by decide, rfl, Or.inl q1515, Or.inl rfl⟩
  · exact ⟨_, 1, _, rfl, by decide, rfl, Or.inl q1515, Or.inl rfl⟩
  · exact ⟨_, 1, _, rfl, by decide, rfl, Or.inl q1515, Or.inl rfl⟩
  · exact ⟨_, 1, _, rfl, by decide, rfl, Or.inl q1515, Or.inl rfl⟩
  · exact ⟨_, 1, _, rfl, by decide, rfl, Or.inl q1515, Or.inl rfl⟩
theorem fl_X0_568 : om_FL RX0 568 280 [10] := om_FL1 ⟨_, 5, _, rfl, by decide, rfl, Or.inr ⟨_, q654⟩, Or.inl rfl⟩
theorem fl_X0_574 : om_FL RX0 574 284 [10] := om_FL1 ⟨_, 6, _, rfl, by decide, rfl, Or.inr ⟨_, q656⟩, Or.inl rfl⟩
theorem fl_X0_577 : om_FL RX0 577 272 [10] := om_FL1 ⟨_, 3, _, rfl, by decide, rfl, Or.inr ⟨_, q650⟩, Or.inl rfl⟩
theorem fl_X0_580 : om_FL RX0 580 276 [10] := om_FL1 ⟨_, 4, _, rfl, by decide, rfl, Or.inr ⟨_, q652⟩, Or.inl rfl⟩
theorem fl_X0_581 : om_FL RX0 581 316 [10] := om_FL1 ⟨_, 14, _, rfl, by decide, rfl, Or.inr ⟨_, q666⟩, Or.inl rfl⟩
theorem fl_X0_584 : om_FL RX0 584 264 [10] := om_FL1 ⟨_, 1, _, rfl, by decide, rfl, Or.inr ⟨_, q647⟩, Or.inl rfl⟩
theorem fl_X0_587 : om_FL RX0 587 82 [1] := om_FL1 ⟨_, 3, _, rfl, by decide, rfl, Or.inr ⟨_, q395⟩, Or.inl rfl⟩
theorem fl_X0_590 : om_FL RX0 590 314 [10] := om_FL1 ⟨_, 13, _, rfl, by decide, rfl, Or.inr ⟨_, q664⟩, Or.inl rfl⟩
theorem fl_X0_593 : om_FL RX0 593 1330 [20] := om_FL1 ⟨_, 13, _, rfl, by decide, rfl, Or.inr ⟨_, q1391⟩, Or.inl rfl⟩
theorem fl_X0_601 : om_FL RX0 601 200 [7] := om_FL1 ⟨_, 2, _, rfl, by decide, rfl, Or.inr ⟨_, q519⟩, Or.inl rfl⟩
theorem fl_X0_610 : om_FL RX0 610 394 [12] := om_FL1 ⟨_, 4, _, rfl, by decide, rfl, Or.inr ⟨_, q742⟩, Or.inl rfl⟩
theorem fl_X1_18 : om_FL RX1 18 78 [1] := om_FL1 ⟨_, 2, _, rfl, by decide, rfl, Or.inl q392, Or.inl rfl⟩
theorem fl_X1_25 : om_FL RX1 25 82 [1] := om_FL1 ⟨_, 3, _, rfl, by decide, rfl, Or.inl q394, Or.inl rfl⟩
theorem fl_X1_29 : om_FL RX1 29 86 [1] := om_FL1 ⟨_, 4, _, rfl, by decide, rfl, Or.inl q396, Or.inl rfl⟩
theorem fl_X1_32 : om_FL RX1 32 90 [1] := om_FL1 ⟨_, 5, _, rfl, by decide, rfl, Or.inl q398, Or.inl rfl⟩
theorem fl_X1_35 : om_FL RX1 35 94 [1] := om_FL1 ⟨_, 6, _, rfl, by decide, rfl, Or.inl q400, Or.inl rfl⟩
theorem fl_X1_38 : om_FL RX1 38 98 [1] := om_FL1 ⟨_, 7, _, rfl, by decide, rfl, Or.inl q401, Or.inl rfl⟩
theorem fl_X1_41 : om_FL RX1 41 102 [1] := om_FL1 ⟨_, 8, _, rfl, by decide, rfl, Or.inl q402, Or.inl rfl⟩
theorem fl_X1_44 : om_FL RX1 44 106 [1] := om_FL1 ⟨_, 9, _, rfl, by decide, rfl, Or.inl q403, Or.inl rfl⟩
theorem fl_X1_47 : om_FL RX1 47 110 [1] := om_FL1 ⟨_, 10, _, rfl, by decide, rfl, Or.inl q404, Or.inl rfl⟩
theorem fl_X1_56 : om_FL RX1 56 1134 [14] := om_FL1 ⟨_, 3, _, rfl, by decide, rfl, Or.inr ⟨_, q943⟩, Or.inl rfl⟩
theorem fl_X1_67 : om_FL RX1 67 1136 [14] := om_FL1 ⟨_, 4, _, rfl, by decide, rfl, Or.inr ⟨_, q946⟩, Or.inl rfl⟩
theorem fl_X1_112 : om_FL RX1 112 1200 [17] := om_FL1 ⟨_, 1, _, rfl, by decide, rfl, Or.inr ⟨_, q1201⟩, Or.inl rfl⟩
theorem fl_X1_122 : om_FL RX1 122 1210 [17] := om_FL1 ⟨_, 3, _, rfl, by decide, rfl, Or.inr ⟨_, q1206⟩, Or.inl rfl⟩
theorem fl_X1_128 : om_FL RX1 128 1214 [17] := om_FL1 ⟨_, 4, _, rfl, by decide, rfl, Or.inr ⟨_, q1207⟩, Or.inl rfl⟩
theorem fl_X1_140 : om_FL RX1 140 1250 [18] := om_FL1 ⟨_, 2, _, rfl, by decide, rfl, Or.inr ⟨_, q1322⟩, Or.inl rfl⟩
theorem fl_X1_144 : om_FL RX1 144 1230 [17] := om_FL1 ⟨_, 8, _, rfl, by decide, rfl, Or.inr ⟨_, q1216⟩, Or.inl rfl⟩
theorem fl_X1_147 : om_FL RX1 147 1252 [18] := om_FL1 ⟨_, 3, _, rfl, by decide, rfl, Or.inr ⟨_, q1325⟩, Or.inl rfl⟩
theorem fl_X1_155 : om_FL RX1 155 1286 [20] := om_FL1 ⟨_, 2, _, rfl, by decide, rfl, Or.inr ⟨_, q1365⟩, Or.inl rfl⟩
theorem fl_X1_159 : om_FL RX1 159 166 [4] := om_FL1 ⟨_, 1, _, rfl, by decide, rfl, Or.inr ⟨_, q459⟩, Or.inl rfl⟩
theorem fl_X1_169 : om_FL RX1 169 1290 [20] := om_FL1 ⟨_, 3, _, rfl, by decide, rfl, Or.inr ⟨_, q1368⟩, Or.inl rfl⟩
theorem fl_X1_172 : om_FL RX1 172 1294 [20] := om_FL1 ⟨_, 4, _, rfl, by decide, rfl, Or.inr ⟨_, q1369⟩, Or.inl rfl⟩
theorem fl_X1_175 : om_FL RX1 175 162 [4] := om_FL1 ⟨_, 0, _, rfl, by decide, rfl, Or.inr ⟨_, q452⟩, Or.inl rfl⟩
theorem fl_X1_176 : om_FL RX1 176 1298 [20] := om_FL1 ⟨_, 5, _, rfl, by decide, rfl, Or.inr ⟨_, q1370⟩, Or.inl rfl⟩
theorem fl_X1_179 : om_FL RX1 179 1310 [20] := om_FL1 ⟨_, 8, _, rfl, by decide, rfl, Or.inr ⟨_, q1376⟩, Or.inl rfl⟩
theorem fl_X1_183 : om_FL RX1 183 1326 [20] := om_FL1 ⟨_, 12, _, rfl, by decide, rfl, Or.inr ⟨_, q1387⟩, Or.inl rfl⟩
theorem fl_X1_200 : om_FL RX1 200 1532 [32] := om_FL1 ⟨_, 1, _, rfl, by decide, rfl, Or.inr ⟨_, q1939⟩, Or.inl rfl⟩
theorem fl_X1_201 : om_FL RX1 201 1530 [32] := om_FL1 ⟨_, 0, _, rfl, by decide, rfl, Or.inr ⟨_, q1938⟩, Or.inl rfl⟩
theorem fl_X1_206 : om_FL RX1 206 1542 [32] := om_FL1 ⟨_, 3, _, rfl, by decide, rfl, Or.inr ⟨_, q1942⟩, Or.inl rfl⟩
theorem fl_X1_207 : om_FL RX1 207 1546 [32] := om_FL1 ⟨_, 4, _, rfl, by decide, rfl, Or.inr ⟨_, q1946⟩, Or.inl rfl⟩
theorem fl_X1_210 : om_FL RX1 210 1554 [32] := om_FL1 ⟨_, 6, _, rfl, by decide, rfl, Or.inr ⟨_, q1951⟩, Or.inl rfl⟩
theorem fl_X1_214 : om_FL RX1 214 112 [1] := om_FL1 ⟨_, 11, _, rfl, by decide, rfl, Or.inl q405, Or.inl rfl⟩
theorem fl_X1_239 : om_FL RX1 239 1219 [17] := om_FL1 ⟨_, 5, _, rfl, by decide, rfl, Or.inr ⟨_, q1209⟩, Or.inl rfl⟩
theorem fl_X1_243 : om_FL RX1 243 1206 [17] := om_FL1 ⟨_, 2, _, rfl, by decide, rfl, Or.inr ⟨_, q1205⟩, Or.inl rfl⟩
theorem fl_X1_247 : om_FL RX1 247 1223 [17] := om_FL1 ⟨_, 6, _, rfl, by decide, rfl, Or.inr ⟨_, q1210⟩, Or.inl rfl⟩
theorem fl_X1_250 : om_FL RX1 250 1539 [32] := om_FL1 ⟨_, 2, _, rfl, by decide, rfl, Or.inr ⟨_, q1940⟩, Or.inl rfl⟩
theorem fl_X1_251 : om_FL RX1 251 1259 [18] := om_FL1 ⟨_, 4, _, rfl, by decide, rfl, Or.inr ⟨_, q1327⟩, Or.inl rfl⟩
theorem fl_X1_252 : om_FL RX1 252 1242 [18] := om_FL1 ⟨_, 0, _, rfl, by decide, rfl, Or.inr ⟨_, q1319⟩, Or.inl rfl⟩
theorem fl_X1_253 : om_FL RX1 253 1266 [19] := om_FL1 ⟨_, 0, _, rfl, by decide, rfl, Or.inr ⟨_, q1296⟩, Or.inl rfl⟩
theorem fl_X1_258 : om_FL RX1 258 1274 [19] := om_FL1 ⟨_, 2, _, rfl, by decide, rfl, Or.inr ⟨_, q1301⟩, Or.inl rfl⟩
theorem fl_X1_269 : om_FL RX1 269 1271 [19] := om_FL1 ⟨_, 1, _, rfl, by decide, rfl, Or.inr ⟨_, q1298⟩, Or.inl rfl⟩
theorem fl_X1_276 : om_FL RX1 276 1188 [16] := om_FL1 ⟨_, 1, _, rfl, by decide, rfl, Or.inr ⟨_, q1085⟩, Or.inl rfl⟩
theorem fl_X1_328 : om_FL RX1 328 1196 [17] := om_FL1 ⟨_, 0, _, rfl, by decide, rfl, Or.inr ⟨_, q1200⟩, Or.inl rfl⟩
theorem fl_X1_333 : om_FL RX1 333 1226 [17] := om_FL1 ⟨_, 7, _, rfl, by decide, rfl, Or.inr ⟨_, q1214⟩, Or.inl rfl⟩
theorem fl_X1_336 : om_FL RX1 336 1246 [18] := om_FL1 ⟨_, 1, _, rfl, by decide, rfl, Or.inr ⟨_, q1321⟩, Or.inl rfl⟩
theorem fl_X1_337 : om_FL RX1 337 1234 [17] := om_FL1 ⟨_, 9, _, rfl, by decide, rfl, Or.inr ⟨_, q1220⟩, Or.inl rfl⟩
theorem fl_X1_341 : om_FL RX1 341 1338 [21] := om_FL1 ⟨_, 0, _, rfl, by decide, rfl, Or.inr ⟨_, q1434⟩, Or.inl rfl⟩
theorem fl_X1_351 : om_FL RX1 351 1350 [21] := om_FL1 ⟨_, 3, _, rfl, by decide, rfl, Or.inr ⟨_, q1447⟩, Or.inl rfl⟩
theorem fl_X1_352 : om_FL RX1 352 1342 [21] := om_FL1 ⟨_, 1, _, rfl, by decide, rfl, Or.inr ⟨_, q1440⟩, Or.inl rfl⟩
theorem fl_X1_353 : om_FL RX1 353 1346 [21] := om_FL1 ⟨_, 2, _, rfl, by decide, rfl, Or.inr ⟨_, q1442⟩, Or.inl rfl⟩
theorem fl_X1_354 : om_FL RX1 354 1354 [21] := om_FL1 ⟨_, 4, _, rfl, by decide, rfl, Or.inr ⟨_, q1452⟩, Or.inl rfl⟩
theorem fl_X1_355 : om_FL RX1 355 1276 [20] := om_FL1 ⟨_, 0, _, rfl, by decide, rfl, Or.inr ⟨_, q1360⟩, Or.inl rfl⟩
theorem fl_X1_356 : om_FL RX1 356 1302 [20] := om_FL1 ⟨_, 6, _, rfl, by decide, rfl, Or.inr ⟨_, q1373⟩, Or.inl rfl⟩
theorem fl_X1_357 : om_FL RX1 357 1304 [20] := om_FL1 ⟨_, 7, _, rfl, by decide, rfl, Or.inr ⟨_, q1375⟩, Or.inl rfl⟩
theorem fl_X1_367 : om_FL RX1 367 1318 [20] := om_FL1 ⟨_, 10, _, rfl, by decide, rfl, Or.inr ⟨_, q1381⟩, Or.inl rfl⟩
theorem fl_X1_375 : om_FL RX1 375 1366 [22] := om_FL1 ⟨_, 1, _, rfl, by decide, rfl, Or.inr ⟨_, q1914⟩, Or.inl rfl⟩
theorem fl_X1_379 : om_FL RX1 379 1550 [32] := om_FL1 ⟨_, 5, _, rfl, by decide, rfl, Or.inr ⟨_, q1949⟩, Or.inl rfl⟩
theorem fl_X1_384 : om_FL RX1 384 1238 [17] := om_FL1 ⟨_, 10, _, rfl, by decide, rfl, Or.inr ⟨_, q1224⟩, Or.inl rfl⟩
theorem fl_X1_387 : om_FL RX1 387 1330 [20] := om_FL1 ⟨_, 13, _, rfl, by decide, rfl, Or.inr ⟨_, q1390⟩, Or.inl rfl⟩
theorem fl_X1_391 : om_FL RX1 391 1362 [22] := om_FL1 ⟨_, 0, _, rfl, by decide, rfl, Or.inr ⟨_, q1910⟩, Or.inl rfl⟩
theorem fl_X1_400 : om_FL RX1 400 1591 [33] := om_FL1 ⟨_, 8, _, rfl, by decide, rfl, Or.inr ⟨_, q2128⟩, Or.inl rfl⟩
theorem fl_X1_428 : om_FL RX1 428 1334 [20] := om_FL1 ⟨_, 14, _, rfl, by decide, rfl, Or.inr ⟨_, q1393⟩, Or.inl rfl⟩
theorem fl_X1_444 : om_FL RX1 444 1322 [20] := om_FL1 ⟨_, 11, _, rfl, by decide, rfl, Or.inr ⟨_, q1385⟩, Or.inl rfl⟩
theorem fl_X2_12 : om_FL RX2 12 122 [2] := om_FL1 ⟨_, 1, _, rfl, by decide, rfl, Or.inl q366, Or.inl rfl⟩
theorem fl_X2_20 : om_FL RX2 20 134 [2] := om_FL1 ⟨_, 4, _, rfl, by decide, rfl, Or.inl q370, Or.inl rfl⟩
theorem fl_X2_24 : om_FL RX2 24 138 [2] := om_FL1 ⟨_, 5, _, rfl, by decide, rfl, Or.inl q371, Or.inl rfl⟩
theorem fl_X2_27 : om_FL RX2 27 140 [2] := om_FL1 ⟨_, 6, _, rfl, by decide, rfl, Or.inl q372, Or.inl rfl⟩
theorem fl_X2_52 : om_FL RX2 52 118 [2] := om_FL1 ⟨_, 0, _, rfl, by decide, rfl, Or.inl q365, Or.inl rfl⟩
theorem fl_X2_56 : om_FL RX2 56 124 [2] := om_FL1 ⟨_, 2, _, rfl, by decide, rfl, Or.inl q367, Or.inl rfl⟩
theorem fl_X2_66 : om_FL RX2 66 1594 [33] := om_FL1 ⟨_, 9, _, rfl, by decide, rfl, Or.inr ⟨_, q2129⟩, Or.inl rfl⟩
theorem fl_X2_79 : om_FL RX2 79 1200 [17] := om_FL1 ⟨_, 1, _, rfl, by decide, rfl, Or.inr ⟨_, q1202⟩, Or.inl rfl⟩
theorem fl_X2_84 : om_FL RX2 84 1568 [33] := om_FL1 ⟨_, 3, _, rfl, by decide, rfl, Or.inr ⟨_, q2099⟩, Or.inl rfl⟩
theorem fl_X2_88 : om_FL RX2 88 1556 [33] := om_FL1 ⟨_, 0, _, rfl, by decide, rfl, Or.inr ⟨_, q2085⟩, Or.inl rfl⟩
theorem fl_X2_91 : om_FL RX2 91 1560 [33] := om_FL1 ⟨_, 1, _, rfl, by decide, rfl, Or.inr ⟨_, q2092⟩, Or.inl rfl⟩
theorem fl_X2_94 : om_FL RX2 94 1574 [33] := om_FL1 ⟨_, 4, _, rfl, by decide, rfl, Or.inr ⟨_, q2101⟩, Or.inl rfl⟩
theorem fl_X2_98 : om_FL RX2 98 1578 [33] := om_FL1 ⟨_, 5, _, rfl, by decide, rfl, Or.inr ⟨_, q2106⟩, Or.inl rfl⟩
theorem fl_X2_108 : om_FL RX2 108 1564 [33] := om_FL1 ⟨_, 2, _, rfl, by decide, rfl, Or.inr ⟨_, q2098⟩, Or.inl rfl⟩
theorem fl_X2_110 : om_FL RX2 110 1591 [33] := om_FL1 ⟨_, 8, _, rfl, by decide, rfl, Or.inr ⟨_, q2126⟩, Or.inl rfl⟩
theorem fl_X5_12 : om_FL RX5 12 170 [5] := om_FL1 ⟨_, 0, _, rfl, by decide, rfl, Or.inl q492, Or.inl rfl⟩
theorem fl_X5_18 : om_FL RX5 18 178 [5] := om_FL1 ⟨_, 2, _, rfl, by decide, rfl, Or.inl q494, Or.inl rfl⟩
theorem fl_X5_28 : om_FL RX5 28 172 [5] := om_FL1 ⟨_, 1, _, rfl, by decide, rfl, Or.inl q493, Or.inl rfl⟩
theorem fl_X5_82 : om_FL RX5 82 1582 [33] := om_FL1 ⟨_, 6, _, rfl, by decide, rfl, Or.inr ⟨_, q2113⟩, Or.inl rfl⟩
theorem fl_X5_93 : om_FL RX5 93 1586 [33] := om_FL1 ⟨_, 7, _, rfl, by decide, rfl, Or.inr ⟨_, q2121⟩, Or.inl rfl⟩
theorem fl_X5_98 : om_FL RX5 98 1556 [33] := om_FL1 ⟨_, 0, _, rfl, by decide, rfl, Or.inr ⟨_, q2088⟩, Or.inl rfl⟩
theorem fl_X5_107 : om_FL RX5 107 1578 [33] := om_FL1 ⟨_, 5, _, rfl, by decide, rfl, Or.inr ⟨_, q2107⟩, Or.inl rfl⟩
theorem fl_X5_111 : om_FL RX5 111 1574 [33] := om_FL1 ⟨_, 4, _, rfl, by decide, rfl, Or.inr ⟨_, q2103⟩, Or.inl rfl⟩
theorem fl_X5_122 : om_FL RX5 122 1238 [17] := om_FL1 ⟨_, 10, _, rfl, by decide, rfl, Or.inr ⟨_, q1222⟩, Or.inl rfl⟩
theorem fl_X5_128 : om_FL RX5 128 1560 [33] := om_FL1 ⟨_, 1, _, rfl, by decide, rfl, Or.inr ⟨_, q2094⟩, Or.inl rfl⟩
theorem fl_X6_12 : om_FL RX6 12 182 [6] := om_FL1 ⟨_, 0, _, rfl, by decide, rfl, Or.inl q559, Or.inl rfl⟩
theorem fl_X6_23 : om_FL RX6 23 190 [6] := om_FL1 ⟨_, 2, _, rfl, by decide, rfl, Or.inl q562, Or.inl rfl⟩
theorem fl_X6_27 : om_FL RX6 27 186 [6] := om_FL1 ⟨_, 1, _, rfl, by decide, rfl, Or.inl q561, Or.inl rfl⟩
theorem fl_X6_55 : om_FL RX6 55 1582 [33] := om_FL1 ⟨_, 6, _, rfl, by decide, rfl, Or.inr ⟨_, q2111⟩, Or.inl rfl⟩
theorem fl_X6_59 : om_FL RX6 59 1586 [33] := om_FL1 ⟨_, 7, _, rfl, by decide, rfl, Or.inr ⟨_, q2119⟩, Or.inl rfl⟩
theorem fl_X6_65 : om_FL RX6 65 1670 [38] := om_FL1 ⟨_, 0, _, rfl, by decide, rfl, Or.inr ⟨_, q2742⟩, Or.inl rfl⟩
theorem fl_X6_76 : om_FL RX6 76 1674 [38] := om_FL1 ⟨_, 1, _, rfl, by decide, rfl, Or.inr ⟨_, q2745⟩, Or.inl rfl⟩
theorem fl_X6_79 : om_FL RX6 79 1678 [38] := om_FL1 ⟨_, 2, _, rfl, by decide, rfl, Or.inr ⟨_, q2748⟩, Or.inl rfl⟩
theorem fl_X6_83 : om_FL RX6 83 1280 [20] := om_FL1 ⟨_, 1, _, rfl, by decide, rfl, Or.inr ⟨_, q1361⟩, Or.inl rfl⟩
theorem fl_X6_95 : om_FL RX6 95 1680 [38] := om_FL1 ⟨_, 3, _, rfl, by decide, rfl, Or.inr ⟨_, q2750⟩, Or.inl rfl⟩
theorem fl_X6_98 : om_FL RX6 98 1686 [38] := om_FL1 ⟨_, 4, _, rfl, by decide, rfl, Or.inr ⟨_, q2754⟩, Or.inl rfl⟩
theorem fl_X6_105 : om_FL RX6 105 1690 [38] := om_FL1 ⟨_, 5, _, rfl, by decide, rfl, Or.inr ⟨_, q2757⟩, Or.inl rfl⟩
theorem fl_X6_107 : om_FL RX6 107 1556 [33] := om_FL1 ⟨_, 0, _, rfl, by decide, rfl, Or.inr ⟨_, q2084⟩, Or.inl rfl⟩
theorem fl_X6_130 : om_FL RX6 130 1638 [35] := om_FL1 ⟨_, 6, _, rfl, by decide, rfl, Or.inr ⟨_, q2412⟩, Or.inl rfl⟩
theorem fl_X6_135 : om_FL RX6 135 1616 [35] := om_FL1 ⟨_, 1, _, rfl, by decide, rfl, Or.inr ⟨_, q2389⟩, Or.inl rfl⟩
theorem fl_X6_136 : om_FL RX6 136 1622 [35] := om_FL1 ⟨_, 2, _, rfl, by decide, rfl, Or.inr ⟨_, q2394⟩, Or.inl rfl⟩
theorem fl_X6_140 : om_FL RX6 140 1614 [35] := om_FL1 ⟨_, 0, _, rfl, by decide, rfl, Or.inr ⟨_, q2384⟩, Or.inl rfl⟩
theorem fl_X6_144 : om_FL RX6 144 1206 [17] := om_FL1 ⟨_, 2, _, rfl, by decide, rfl, Or.inr ⟨_, q1204⟩, Or.inl rfl⟩
theorem fl_X6_159 : om_FL RX6 159 1626 [35] := om_FL1 ⟨_, 3, _, rfl, by decide, rfl, Or.inr ⟨_, q2398⟩, Or.inl rfl⟩
theorem fl_X6_160 : om_FL RX6 160 1630 [35] := om_FL1 ⟨_, 4, _, rfl, by decide, rfl, Or.inr ⟨_, q2403⟩, Or.inl rfl⟩
theorem fl_X6_167 : om_FL RX6 167 1634 [35] := om_FL1 ⟨_, 5, _, rfl, by decide, rfl, Or.inr ⟨_, q2407⟩, Or.inl rfl⟩
theorem fl_X6_172 : om_FL RX6 172 1642 [35] := om_FL1 ⟨_, 7, _, rfl, by decide, rfl, Or.inr ⟨_, q2416⟩, Or.inl rfl⟩
theorem fl_X6_180 : om_FL RX6 180 1454 [27] := om_FL1 ⟨_, 3, _, rfl, by decide, rfl, Or.inr ⟨_, q1704⟩, Or.inl rfl⟩
theorem fl_X6_188 : om_FL RX6 188 1462 [27] := om_FL1 ⟨_, 5, _, rfl, by decide, rfl, Or.inr ⟨_, q1710⟩, Or.inl rfl⟩
theorem fl_X6_192 : om_FL RX6 192 1482 [27] := om_FL1 ⟨_, 10, _, rfl, by decide, rfl, Or.inr ⟨_, q1733⟩, Or.inl rfl⟩
theorem fl_X6_197 : om_FL RX6 197 1658 [37] := om_FL1 ⟨_, 0, _, rfl, by decide, rfl, Or.inr ⟨_, q2538⟩, Or.inl rfl⟩
theorem fl_X6_199 : om_FL RX6 199 1662 [37] := om_FL1 ⟨_, 1, _, rfl, by decide, rfl, Or.inr ⟨_, q2541⟩, Or.inl rfl⟩
theorem fl_X6_200 : om_FL RX6 200 1666 [37] := om_FL1 ⟨_, 2, _, rfl, by decide, rfl, Or.inr ⟨_, q2544⟩, Or.inl rfl⟩
theorem fl_X6_201 : om_FL RX6 201 1382 om_exk := by
  intro k hk
  simp only [om_exk, List.mem_cons, List.not_mem_nil, or_false] at hk
  rcases hk with rfl | rfl | rfl | rfl | rfl | rfl | rfl | rfl
  · exact ⟨_, 2, _, rfl, by decide, rfl, Or.inl q1518, Or.inl rfl⟩
  · exact ⟨_, 2, _, rfl, by decide, rfl, Or.inl q1518, Or.inl rfl⟩
  · exact ⟨_, 2, _, rfl, by decide, rfl, Or.inl q1518, Or.inl rfl⟩
  · exact ⟨_, 2, _, rfl, by decide, rfl, Or.inl q1518, Or.inl rfl⟩
  · exact ⟨_, 2, _, rfl, by decide, rfl, Or.inl q1518, Or.inl rfl⟩
  · exact ⟨_, 2, _, rfl, by decide, rfl, Or.inl q1518, Or.inl rfl⟩
  · exact ⟨_, 2, _, rfl, by decide, rfl, Or.inl q1518, Or.inl rfl⟩
  · exact ⟨_, 2, _, rfl, by decide, rfl, Or.inl q1518, Or.inl rfl⟩
theorem fl_X6_210 : om_FL RX6 210 1378 om_exk := by
  intro k hk
  simp only [om_exk, List.mem_cons, List.not_mem_nil, or_false] at hk
  rcases hk with rfl | rfl | rfl | rfl | rfl | rfl | rfl | rfl
  · exact ⟨_, 1, _, rfl, by decide, rfl, Or.inl q1514, Or.inl rfl⟩
  · exact ⟨_, 1, _, rfl, by decide, rfl, Or.inl q1514, Or.inl rfl⟩
  · exact ⟨_, 1, _, rfl, by decide, rfl, Or.inl q1514, Or.inl rfl⟩
  · exact ⟨_, 1, _, rfl, by decide, rfl, Or.inl q1514, Or.inl rfl⟩
  · exact ⟨_, 1, _, rfl, by decide, rfl, Or.inl q1514, Or.inl rfl⟩
  · exact ⟨_, 1, _, rfl, by decide, rfl, Or.inl q1514, Or.inl rfl⟩
  · exact ⟨_, 1, _, rfl, by decide, rfl, Or.inl q1514, Or.inl rfl⟩
  · exact ⟨_, 1, _, rfl, by decide, rfl, Or.inl q1514, Or.inl rfl⟩
theorem fl_X6_216 : om_FL RX6 216 1484 [28] := om_FL1 ⟨_, 3, _, rfl, by decide, rfl, Or.inr ⟨_, q1761⟩, Or.inl rfl⟩
theorem fl_X6_221 : om_FL RX6 221 1386 [23] := om_FL1 ⟨_, 3, _, rfl, by decide, rfl, Or.inr ⟨_, q1493⟩, Or.inl rfl⟩
theorem fl_X6_222 : om_FL RX6 222 1394 [23] := om_FL1 ⟨_, 5, _, rfl, by decide, rfl, Or.inr ⟨_, q1499⟩, Or.inl rfl⟩
theorem fl_X6_224 : om_FL RX6 224 1398 [23] := om_FL1 ⟨_, 6, _, rfl, by decide, rfl, Or.inr ⟨_, q1503⟩, Or.inl rfl⟩
theorem fl_X6_235 : om_FL RX6 235 1402 [24] := om_FL1 ⟨_, 3, _, rfl, by decide, rfl, Or.inr ⟨_, q1549⟩, Or.inl rfl⟩
theorem fl_X6_236 : om_FL RX6 236 1410 [24] := om_FL1 ⟨_, 5, _, rfl, by decide, rfl, Or.inr ⟨_, q1555⟩, Or.inl rfl⟩
theorem fl_X6_237 : om_FL RX6 237 1414 [24] := om_FL1 ⟨_, 6, _, rfl, by decide, rfl, Or.inr ⟨_, q1559⟩, Or.inl rfl⟩
theorem fl_X6_242 : om_FL RX6 242 1418 [24] := om_FL1 ⟨_, 7, _, rfl, by decide, rfl, Or.inr ⟨_, q1565⟩, Or.inl rfl⟩
theorem fl_X6_247 : om_FL RX6 247 1422 [25] := om_FL1 ⟨_, 3, _, rfl, by decide, rfl, Or.inr ⟨_, q1599⟩, Or.inl rfl⟩
theorem fl_X6_251 : om_FL RX6 251 1426 [25] := om_FL1 ⟨_, 4, _, rfl, by decide, rfl, Or.inr ⟨_, q1605⟩, Or.inl rfl⟩
theorem fl_X6_255 : om_FL RX6 255 1430 [25] := om_FL1 ⟨_, 5, _, rfl, by decide, rfl, Or.inr ⟨_, q1611⟩, Or.inl rfl⟩
theorem fl_X6_262 : om_FL RX6 262 1434 [26] := om_FL1 ⟨_, 3, _, rfl, by decide, rfl, Or.inr ⟨_, q1638⟩, Or.inl rfl⟩
theorem fl_X6_267 : om_FL RX6 267 1438 [26] := om_FL1 ⟨_, 4, _, rfl, by decide, rfl, Or.inr ⟨_, q1644⟩, Or.inl rfl⟩
theorem fl_X6_272 : om_FL RX6 272 1446 [26] := om_FL1 ⟨_, 6, _, rfl, by decide, rfl, Or.inr ⟨_, q1656⟩, Or.inl rfl⟩
theorem fl_X6_275 : om_FL RX6 275 1450 [26] := om_FL1 ⟨_, 7, _, rfl, by decide, rfl, Or.inr ⟨_, q1659⟩, Or.inl rfl⟩
theorem fl_X6_278 : om_FL RX6 278 1442 [26] := om_FL1 ⟨_, 5, _, rfl, by decide, rfl, Or.inr ⟨_, q1650⟩, Or.inl rfl⟩
theorem fl_X6_293 : om_FL RX6 293 1490 [29] := om_FL1 ⟨_, 3, _, rfl, by decide, rfl, Or.inr ⟨_, q1784⟩, Or.inl rfl⟩
theorem fl_X6_298 : om_FL RX6 298 1494 [29] := om_FL1 ⟨_, 4, _, rfl, by decide, rfl, Or.inr ⟨_, q1791⟩, Or.inl rfl⟩
theorem fl_X6_303 : om_FL RX6 303 1510 [30] := om_FL1 ⟨_, 3, _, rfl, by decide, rfl, Or.inr ⟨_, q1827⟩, Or.inl rfl⟩
theorem fl_X6_306 : om_FL RX6 306 1514 [30] := om_FL1 ⟨_, 4, _, rfl, by decide, rfl, Or.inr ⟨_, q1830⟩, Or.inl rfl⟩
theorem fl_X6_313 : om_FL RX6 313 1498 [30] := om_FL1 ⟨_, 0, _, rfl, by decide, rfl, Or.inr ⟨_, q1819⟩, Or.inl rfl⟩
theorem fl_X6_315 : om_FL RX6 315 1522 [31] := om_FL1 ⟨_, 4, _, rfl, by decide, rfl, Or.inr ⟨_, q1861⟩, Or.inl rfl⟩
theorem fl_X6_318 : om_FL RX6 318 1518 [31] := om_FL1 ⟨_, 3, _, rfl, by decide, rfl, Or.inr ⟨_, q1854⟩, Or.inl rfl⟩
theorem fl_X6_319 : om_FL RX6 319 1526 [31] := om_FL1 ⟨_, 5, _, rfl, by decide, rfl, Or.inr ⟨_, q1866⟩, Or.inl rfl⟩
theorem fl_X6_329 : om_FL RX6 329 162 [4] := om_FL1 ⟨_, 0, _, rfl, by decide, rfl, Or.inr ⟨_, q454⟩, Or.inl rfl⟩
theorem fl_X6_338 : om_FL RX6 338 166 [4] := om_FL1 ⟨_, 1, _, rfl, by decide, rfl, Or.inr ⟨_, q461⟩, Or.inl rfl⟩
theorem fl_X6_346 : om_FL RX6 346 1338 [21] := om_FL1 ⟨_, 0, _, rfl, by decide, rfl, Or.inr ⟨_, q1433⟩, Or.inl rfl⟩
theorem fl_X6_349 : om_FL RX6 349 1342 [21] := om_FL1 ⟨_, 1, _, rfl, by decide, rfl, Or.inr ⟨_, q1438⟩, Or.inl rfl⟩
theorem fl_X6_350 : om_FL RX6 350 1354 [21] := om_FL1 ⟨_, 4, _, rfl, by decide, rfl, Or.inr ⟨_, q1450⟩, Or.inl rfl⟩
theorem fl_X6_353 : om_FL RX6 353 378 [12] := om_FL1 ⟨_, 0, _, rfl, by decide, rfl, Or.inr ⟨_, q730⟩, Or.inl rfl⟩
theorem fl_X6_359 : om_FL RX6 359 382 [12] := om_FL1 ⟨_, 1, _, rfl, by decide, rfl, Or.inr ⟨_, q733⟩, Or.inl rfl⟩
theorem fl_X6_369 : om_FL RX6 369 390 [12] := om_FL1 ⟨_, 3, _, rfl, by decide, rfl, Or.inr ⟨_, q739⟩, Or.inl rfl⟩
theorem fl_X6_370 : om_FL RX6 370 386 [12] := om_FL1 ⟨_, 2, _, rfl, by decide, rfl, Or.inr ⟨_, q736⟩, Or.inl rfl⟩
theorem fl_X7_12 : om_FL RX7 12 204 [7] := om_FL1 ⟨_, 3, _, rfl, by decide, rfl, Or.inl q520, Or.inl rfl⟩
theorem fl_X7_18 : om_FL RX7 18 192 [7] := om_FL1 ⟨_, 0, _, rfl, by decide, rfl, Or.inl q515, Or.inl rfl⟩
theorem fl_X7_21 : om_FL RX7 21 196 [7] := om_FL1 ⟨_, 1, _, rfl, by decide, rfl, Or.inl q517, Or.inl rfl⟩
theorem fl_X7_41 : om_FL RX7 41 1192 [16] := om_FL1 ⟨_, 2, _, rfl, by decide, rfl, Or.inr ⟨_, q1087⟩, Or.inl rfl⟩
theorem fl_X7_46 : om_FL RX7 46 1186 [16] := om_FL1 ⟨_, 0, _, rfl, by decide, rfl, Or.inr ⟨_, q1081⟩, Or.inl rfl⟩
theorem fl_X7_50 : om_FL RX7 50 1188 [16] := om_FL1 ⟨_, 1, _, rfl, by decide, rfl, Or.inr ⟨_, q1084⟩, Or.inl rfl⟩
theorem fl_X8_9 : om_FL RX8 9 227 [8] := om_FL1 ⟨_, 4, _, rfl, by decide, rfl, Or.inl q546, Or.inl rfl⟩
theorem fl_X8_19 : om_FL RX8 19 210 [8] := om_FL1 ⟨_, 0, _, rfl, by decide, rfl, Or.inl q541, Or.inl rfl⟩
theorem fl_X8_23 : om_FL RX8 23 214 [8] := om_FL1 ⟨_, 1, _, rfl, by decide, rfl, Or.inl q543, Or.inl rfl⟩
theorem fl_X8_27 : om_FL RX8 27 216 [8] := om_FL1 ⟨_, 2, _, rfl, by decide, rfl, Or.inl q544, Or.inl rfl⟩
theorem fl_X8_31 : om_FL RX8 31 220 [8] := om_FL1 ⟨_, 3, _, rfl, by decide, rfl, Or.inl q545, Or.inl rfl⟩
theorem fl_X8_34 : om_FL RX8 34 128 [2] := om_FL1 ⟨_, 3, _, rfl, by decide, rfl, Or.inr ⟨_, q369⟩, Or.inl rfl⟩
theorem fl_X8_42 : om_FL RX8 42 1564 [33] := om_FL1 ⟨_, 2, _, rfl, by decide, rfl, Or.inr ⟨_, q2097⟩, Or.inl rfl⟩
theorem fl_X8_47 : om_FL RX8 47 1556 [33] := om_FL1 ⟨_, 0, _, rfl, by decide, rfl, Or.inr ⟨_, q2086⟩, Or.inl rfl⟩
theorem fl_X8_61 : om_FL RX8 61 1574 [33] := om_FL1 ⟨_, 4, _, rfl, by decide, rfl, Or.inr ⟨_, q2102⟩, Or.inl rfl⟩
theorem fl_X8_72 : om_FL RX8 72 1582 [33] := om_FL1 ⟨_, 6, _, rfl, by decide, rfl, Or.inr ⟨_, q2114⟩, Or.inl rfl⟩
theorem fl_X8_80 : om_FL RX8 80 1586 [33] := om_FL1 ⟨_, 7, _, rfl, by decide, rfl, Or.inr ⟨_, q2122⟩, Or.inl rfl⟩
theorem fl_X8_91 : om_FL RX8 91 166 [4] := om_FL1 ⟨_, 1, _, rfl, by decide, rfl, Or.inr ⟨_, q460⟩, Or.inl rfl⟩
theorem fl_X8_103 : om_FL RX8 103 1350 [21] := om_FL1 ⟨_, 3, _, rfl, by decide, rfl, Or.inr ⟨_, q1445⟩, Or.inl rfl⟩
theorem fl_X8_107 : om_FL RX8 107 1342 [21] := om_FL1 ⟨_, 1, _, rfl, by decide, rfl, Or.inr ⟨_, q1437⟩, Or.inl rfl⟩
theorem fl_X8_108 : om_FL RX8 108 1591 [33] := om_FL1 ⟨_, 8, _, rfl, by decide, rfl, Or.inr ⟨_, q2127⟩, Or.inl rfl⟩
theorem fl_X8_114 : om_FL RX8 114 1578 [33] := om_FL1 ⟨_, 5, _, rfl, by decide, rfl, Or.inr ⟨_, q2108⟩, Or.inl rfl⟩
theorem fl_X8_125 : om_FL RX8 125 1354 [21] := om_FL1 ⟨_, 4, _, rfl, by decide, rfl, Or.inr ⟨_, q1449⟩, Or.inl rfl⟩
theorem fl_X8_128 : om_FL RX8 128 1238 [17] := om_FL1 ⟨_, 10, _, rfl, by decide, rfl, Or.inr ⟨_, q1223⟩, Or.inl rfl⟩
theorem fl_X8_134 : om_FL RX8 134 1560 [33] := om_FL1 ⟨_, 1, _, rfl, by decide, rfl, Or.inr ⟨_, q2095⟩, Or.inl rfl⟩
theorem fl_X8_137 : om_FL RX8 137 1314 [20] := om_FL1 ⟨_, 9, _, rfl, by decide, rfl, Or.inr ⟨_, q1378⟩, Or.inl rfl⟩
theorem fl_X8_142 : om_FL RX8 142 1286 [20] := om_FL1 ⟨_, 2, _, rfl, by decide, rfl, Or.inr ⟨_, q1366⟩, Or.inl rfl⟩
theorem fl_X8_143 : om_FL RX8 143 162 [4] := om_FL1 ⟨_, 0, _, rfl, by decide, rfl, Or.inr ⟨_, q453⟩, Or.inl rfl⟩
theorem fl_X8_171 : om_FL RX8 171 1626 [35] := om_FL1 ⟨_, 3, _, rfl, by decide, rfl, Or.inr ⟨_, q2399⟩, Or.inl rfl⟩
theorem fl_X8_177 : om_FL RX8 177 1614 [35] := om_FL1 ⟨_, 0, _, rfl, by decide, rfl, Or.inr ⟨_, q2385⟩, Or.inl rfl⟩
theorem fl_X8_194 : om_FL RX8 194 1630 [35] := om_FL1 ⟨_, 4, _, rfl, by decide, rfl, Or.inr ⟨_, q2404⟩, Or.inl rfl⟩
theorem fl_X8_199 : om_FL RX8 199 1634 [35] := om_FL1 ⟨_, 5, _, rfl, by decide, rfl, Or.inr ⟨_, q2408⟩, Or.inl rfl⟩
theorem fl_X9_14 : om_FL RX9 14 234 [9] := om_FL1 ⟨_, 1, _, rfl, by decide, rfl, Or.inl q581, Or.inl rfl⟩
theorem fl_X9_23 : om_FL RX9 23 250 [9] := om_FL1 ⟨_, 5, _, rfl, by decide, rfl, Or.inl q585, Or.inl rfl⟩
theorem fl_X9_27 : om_FL RX9 27 230 [9] := om_FL1 ⟨_, 0, _, rfl, by decide, rfl, Or.inl q580, Or.inl rfl⟩
theorem fl_X9_31 : om_FL RX9 31 378 [12] := om_FL1 ⟨_, 0, _, rfl, by decide, rfl, Or.inr ⟨_, q729⟩, Or.inl rfl⟩
theorem fl_X9_37 : om_FL RX9 37 382 [12] := om_FL1 ⟨_, 1, _, rfl, by decide, rfl, Or.inr ⟨_, q732⟩, Or.inl rfl⟩
theorem fl_X9_44 : om_FL RX9 44 238 [9] := om_FL1 ⟨_, 2, _, rfl, by decide, rfl, Or.inl q582, Or.inl rfl⟩
theorem fl_X9_45 : om_FL RX9 45 242 [9] := om_FL1 ⟨_, 3, _, rfl, by decide, rfl, Or.inl q583, Or.inl rfl⟩
theorem fl_X9_46 : om_FL RX9 46 244 [9] := om_FL1 ⟨_, 4, _, rfl, by decide, rfl, Or.inl q584, Or.inl rfl⟩
theorem fl_X9_53 : om_FL RX9 53 390 [12] := om_FL1 ⟨_, 3, _, rfl, by decide, rfl, Or.inr ⟨_, q738⟩, Or.inl rfl⟩
theorem fl_X9_60 : om_FL RX9 60 394 [12] := om_FL1 ⟨_, 4, _, rfl, by decide, rfl, Or.inr ⟨_, q741⟩, Or.inl rfl⟩
theorem fl_X9_64 : om_FL RX9 64 386 [12] := om_FL1 ⟨_, 2, _, rfl, by decide, rfl, Or.inr ⟨_, q735⟩, Or.inl rfl⟩
theorem fl_X9_71 : om_FL RX9 71 1670 [38] := om_FL1 ⟨_, 0, _, rfl, by decide, rfl, Or.inr ⟨_, q2740⟩, Or.inl rfl⟩
theorem fl_X9_83 : om_FL RX9 83 1674 [38] := om_FL1 ⟨_, 1, _, rfl, by decide, rfl, Or.inr ⟨_, q2743⟩, Or.inl rfl⟩
theorem fl_X9_84 : om_FL RX9 84 254 [9] := om_FL1 ⟨_, 6, _, rfl, by decide, rfl, Or.inl q586, Or.inl rfl⟩
theorem fl_X9_87 : om_FL RX9 87 258 [9] := om_FL1 ⟨_, 7, _, rfl, by decide, rfl, Or.inl q587, Or.inl rfl⟩
theorem fl_X9_90 : om_FL RX9 90 1678 [38] := om_FL1 ⟨_, 2, _, rfl, by decide, rfl, Or.inr ⟨_, q2746⟩, Or.inl rfl⟩
theorem fl_X9_94 : om_FL RX9 94 1302 [20] := om_FL1 ⟨_, 6, _, rfl, by decide, rfl, Or.inr ⟨_, q1371⟩, Or.inl rfl⟩
theorem fl_X9_106 : om_FL RX9 106 1556 [33] := om_FL1 ⟨_, 0, _, rfl, by decide, rfl, Or.inr ⟨_, q2083⟩, Or.inl rfl⟩
theorem fl_X9_111 : om_FL RX9 111 1560 [33] := om_FL1 ⟨_, 1, _, rfl, by decide, rfl, Or.inr ⟨_, q2091⟩, Or.inl rfl⟩
theorem fl_X9_114 : om_FL RX9 114 1304 [20] := om_FL1 ⟨_, 7, _, rfl, by decide, rfl, Or.inr ⟨_, q1374⟩, Or.inl rfl⟩
theorem fl_X9_117 : om_FL RX9 117 1314 [20] := om_FL1 ⟨_, 9, _, rfl, by decide, rfl, Or.inr ⟨_, q1377⟩, Or.inl rfl⟩
theorem fl_X9_120 : om_FL RX9 120 1286 [20] := om_FL1 ⟨_, 2, _, rfl, by decide, rfl, Or.inr ⟨_, q1364⟩, Or.inl rfl⟩
theorem fl_X9_121 : om_FL RX9 121 162 [4] := om_FL1 ⟨_, 0, _, rfl, by decide, rfl, Or.inr ⟨_, q451⟩, Or.inl rfl⟩
theorem fl_X9_130 : om_FL RX9 130 166 [4] := om_FL1 ⟨_, 1, _, rfl, by decide, rfl, Or.inr ⟨_, q458⟩, Or.inl rfl⟩
theorem fl_X9_133 : om_FL RX9 133 1680 [38] := om_FL1 ⟨_, 3, _, rfl, by decide, rfl, Or.inr ⟨_, q2749⟩, Or.inl rfl⟩
theorem fl_X9_142 : om_FL RX9 142 1350 [21] := om_FL1 ⟨_, 3, _, rfl, by decide, rfl, Or.inr ⟨_, q1444⟩, Or.inl rfl⟩
theorem fl_X9_143 : om_FL RX9 143 1342 [21] := om_FL1 ⟨_, 1, _, rfl, by decide, rfl, Or.inr ⟨_, q1436⟩, Or.inl rfl⟩
theorem fl_X9_150 : om_FL RX9 150 1354 [21] := om_FL1 ⟨_, 4, _, rfl, by decide, rfl, Or.inr ⟨_, q1448⟩, Or.inl rfl⟩
theorem fl_X9_151 : om_FL RX9 151 1686 [38] := om_FL1 ⟨_, 4, _, rfl, by decide, rfl, Or.inr ⟨_, q2753⟩, Or.inl rfl⟩
theorem fl_X9_159 : om_FL RX9 159 1690 [38] := om_FL1 ⟨_, 5, _, rfl, by decide, rfl, Or.inr ⟨_, q2756⟩, Or.inl rfl⟩
theorem fl_X9_176 : om_FL RX9 176 1616 [35] := om_FL1 ⟨_, 1, _, rfl, by decide, rfl, Or.inr ⟨_, q2388⟩, Or.inl rfl⟩
theorem fl_X9_183 : om_FL RX9 183 1614 [35] := om_FL1 ⟨_, 0, _, rfl, by decide, rfl, Or.inr ⟨_, q2383⟩, Or.inl rfl⟩
theorem fl_X9_184 : om_FL RX9 184 1622 [35] := om_FL1 ⟨_, 2, _, rfl, by decide, rfl, Or.inr ⟨_, q2393⟩, Or.inl rfl⟩
theorem fl_X9_187 : om_FL RX9 187 1226 [17] := om_FL1 ⟨_, 7, _, rfl, by decide, rfl, Or.inr ⟨_, q1213⟩, Or.inl rfl⟩
theorem fl_X9_195 : om_FL RX9 195 1638 [35] := om_FL1 ⟨_, 6, _, rfl, by decide, rfl, Or.inr ⟨_, q2411⟩, Or.inl rfl⟩
theorem fl_X9_196 : om_FL RX9 196 1642 [35] := om_FL1 ⟨_, 7, _, rfl, by decide, rfl, Or.inr ⟨_, q2415⟩, Or.inl rfl⟩
theorem fl_X9_201 : om_FL RX9 201 1626 [35] := om_FL1 ⟨_, 3, _, rfl, by decide, rfl, Or.inr ⟨_, q2397⟩, Or.inl rfl⟩
theorem fl_X9_205 : om_FL RX9 205 1634 [35] := om_FL1 ⟨_, 5, _, rfl, by decide, rfl, Or.inr ⟨_, q2406⟩, Or.inl rfl⟩
theorem fl_X9_208 : om_FL RX9 208 1630 [35] := om_FL1 ⟨_, 4, _, rfl, by decide, rfl, Or.inr ⟨_, q2402⟩, Or.inl rfl⟩
theorem fl_X9_215 : om_FL RX9 215 1318 [20] := om_FL1 ⟨_, 10, _, rfl, by decide, rfl, Or.inr ⟨_, q1380⟩, Or.inl rfl⟩
theorem fl_X9_223 : om_FL RX9 223 1464 [27] := om_FL1 ⟨_, 6, _, rfl, by decide, rfl, Or.inr ⟨_, q1715⟩, Or.inl rfl⟩
theorem fl_X9_226 : om_FL RX9 226 1474 [27] := om_FL1 ⟨_, 8, _, rfl, by decide, rfl, Or.inr ⟨_, q1723⟩, Or.inl rfl⟩
theorem fl_X9_230 : om_FL RX9 230 1482 [27] := om_FL1 ⟨_, 10, _, rfl, by decide, rfl, Or.inr ⟨_, q1732⟩, Or.inl rfl⟩
theorem fl_X9_235 : om_FL RX9 235 1658 [37] := om_FL1 ⟨_, 0, _, rfl, by decide, rfl, Or.inr ⟨_, q2537⟩, Or.inl rfl⟩
theorem fl_X9_236 : om_FL RX9 236 1250 [18] := om_FL1 ⟨_, 2, _, rfl, by decide, rfl, Or.inr ⟨_, q1323⟩, Or.inl rfl⟩
theorem fl_X9_239 : om_FL RX9 239 1462 [27] := om_FL1 ⟨_, 5, _, rfl, by decide, rfl, Or.inr ⟨_, q1711⟩, Or.inl rfl⟩
theorem fl_X9_240 : om_FL RX9 240 1262 [18] := om_FL1 ⟨_, 5, _, rfl, by decide, rfl, Or.inr ⟨_, q1329⟩, Or.inl rfl⟩
theorem fl_X9_241 : om_FL RX9 241 1234 [17] := om_FL1 ⟨_, 9, _, rfl, by decide, rfl, Or.inr ⟨_, q1219⟩, Or.inl rfl⟩
theorem fl_X9_242 : om_FL RX9 242 1470 [27] := om_FL1 ⟨_, 7, _, rfl, by decide, rfl, Or.inr ⟨_, q1719⟩, Or.inl rfl⟩
theorem fl_X9_246 : om_FL RX9 246 1476 [27] := om_FL1 ⟨_, 9, _, rfl, by decide, rfl, Or.inr ⟨_, q1728⟩, Or.inl rfl⟩
theorem fl_X9_254 : om_FL RX9 254 1542 [32] := om_FL1 ⟨_, 3, _, rfl, by decide, rfl, Or.inr ⟨_, q1943⟩, Or.inl rfl⟩
theorem fl_X9_257 : om_FL RX9 257 1662 [37] := om_FL1 ⟨_, 1, _, rfl, by decide, rfl, Or.inr ⟨_, q2542⟩, Or.inl rfl⟩
theorem fl_X9_258 : om_FL RX9 258 1666 [37] := om_FL1 ⟨_, 2, _, rfl, by decide, rfl, Or.inr ⟨_, q2545⟩, Or.inl rfl⟩
theorem fl_X9_259 : om_FL RX9 259 1550 [32] := om_FL1 ⟨_, 5, _, rfl, by decide, rfl, Or.inr ⟨_, q1947⟩, Or.inl rfl⟩
theorem fl_X9_263 : om_FL RX9 263 1382 om_exk := by
  intro k hk
  simp only [om_exk, List.mem_cons, List.not_mem_nil, or_false] at hk
  rcases hk with rfl | rfl | rfl | rfl | rfl | rfl | rfl | rfl
  · exact ⟨_, 2, _, rfl, by decide, rfl, Or.inl q1517, Or.inl rfl⟩
  · exact ⟨_, 2, _, rfl, by decide, rfl, Or.inl q1517, Or.inl rfl⟩
  · exact ⟨_, 2, _, rfl, by decide, rfl, Or.inl q1517, Or.inl rfl⟩
  · exact ⟨_, 2, _, rfl, by decide, rfl, Or.inl q1517, Or.inl rfl⟩
  · exact ⟨_, 2, _, rfl, by decide, rfl, Or.inl q1517, Or.inl rfl⟩
  · exact ⟨_, 2, _, rfl, by decide, rfl, Or.inl q1517, Or.inl rfl⟩
  · exact ⟨_, 2, _, rfl, by decide, rfl, Or.inl q1517, Or.inl rfl⟩
  · exact ⟨_, 2, _, rfl, by decide, rfl, Or.inl q1517, Or.inl rfl⟩
theorem fl_X9_285 : om_FL RX9 285 1394 [23] := om_FL1 ⟨_, 5, _, rfl, by decide, rfl, Or.inr ⟨_, q1500⟩, Or.inl rfl⟩
theorem fl_X9_287 : om_FL RX9 287 1398 [23] := om_FL1 ⟨_, 6, _, rfl, by decide, rfl, Or.inr ⟨_, q1504⟩, Or.inl rfl⟩
theorem fl_X9_300 : om_FL RX9 300 1414 [24] := om_FL1 ⟨_, 6, _, rfl, by decide, rfl, Or.inr ⟨_, q1560⟩, Or.inl rfl⟩
theorem fl_X9_303 : om_FL RX9 303 1410 [24] := om_FL1 ⟨_, 5, _, rfl, by decide, rfl, Or.inr ⟨_, q1556⟩, Or.inl rfl⟩
theorem fl_X9_304 : om_FL RX9 304 1418 [24] := om_FL1 ⟨_, 7, _, rfl, by decide, rfl, Or.inr ⟨_, q1566⟩, Or.inl rfl⟩
theorem fl_X9_307 : om_FL RX9 307 1422 [25] := om_FL1 ⟨_, 3, _, rfl, by decide, rfl, Or.inr ⟨_, q1601⟩, Or.inl rfl⟩
theorem fl_X9_309 : om_FL RX9 309 1426 [25] := om_FL1 ⟨_, 4, _, rfl, by decide, rfl, Or.inr ⟨_, q1607⟩, Or.inl rfl⟩
theorem fl_X9_311 : om_FL RX9 311 1430 [25] := om_FL1 ⟨_, 5, _, rfl, by decide, rfl, Or.inr ⟨_, q1613⟩, Or.inl rfl⟩
theorem fl_X9_332 : om_FL RX9 332 1434 [26] := om_FL1 ⟨_, 3, _, rfl, by decide, rfl, Or.inr ⟨_, q1640⟩, Or.inl rfl⟩
theorem fl_X9_335 : om_FL RX9 335 1438 [26] := om_FL1 ⟨_, 4, _, rfl, by decide, rfl, Or.inr ⟨_, q1645⟩, Or.inl rfl⟩
theorem fl_X9_338 : om_FL RX9 338 1582 [33] := om_FL1 ⟨_, 6, _, rfl, by decide, rfl, Or.inr ⟨_, q2115⟩, Or.inl rfl⟩
theorem fl_X9_340 : om_FL RX9 340 1442 [26] := om_FL1 ⟨_, 5, _, rfl, by decide, rfl, Or.inr ⟨_, q1651⟩, Or.inl rfl⟩
theorem fl_X9_343 : om_FL RX9 343 1490 [29] := om_FL1 ⟨_, 3, _, rfl, by decide, rfl, Or.inr ⟨_, q1785⟩, Or.inl rfl⟩
theorem fl_X9_350 : om_FL RX9 350 1494 [29] := om_FL1 ⟨_, 4, _, rfl, by decide, rfl, Or.inr ⟨_, q1793⟩, Or.inl rfl⟩
theorem fl_X9_355 : om_FL RX9 355 1514 [30] := om_FL1 ⟨_, 4, _, rfl, by decide, rfl, Or.inr ⟨_, q1831⟩, Or.inl rfl⟩
theorem fl_X9_357 : om_FL RX9 357 1510 [30] := om_FL1 ⟨_, 3, _, rfl, by decide, rfl, Or.inr ⟨_, q1828⟩, Or.inl rfl⟩
theorem fl_X9_360 : om_FL RX9 360 1498 [30] := om_FL1 ⟨_, 0, _, rfl, by decide, rfl, Or.inr ⟨_, q1820⟩, Or.inl rfl⟩
theorem fl_X9_361 : om_FL RX9 361 1586 [33] := om_FL1 ⟨_, 7, _, rfl, by decide, rfl, Or.inr ⟨_, q2123⟩, Or.inl rfl⟩
theorem fl_X9_363 : om_FL RX9 363 1518 [31] := om_FL1 ⟨_, 3, _, rfl, by decide, rfl, Or.inr ⟨_, q1855⟩, Or.inl rfl⟩
theorem fl_X9_364 : om_FL RX9 364 1522 [31] := om_FL1 ⟨_, 4, _, rfl, by decide, rfl, Or.inr ⟨_, q1863⟩, Or.inl rfl⟩
theorem fl_X9_367 : om_FL RX9 367 1526 [31] := om_FL1 ⟨_, 5, _, rfl, by decide, rfl, Or.inr ⟨_, q1868⟩, Or.inl rfl⟩
theorem fl_X10_12 : om_FL RX10 12 262 [10] := om_FL1 ⟨_, 0, _, rfl, by decide, rfl, Or.inl q645, Or.inl rfl⟩
theorem fl_X10_20 : om_FL RX10 20 270 [10] := om_FL1 ⟨_, 2, _, rfl, by decide, rfl, Or.inl q648, Or.inl rfl⟩
theorem fl_X10_24 : om_FL RX10 24 302 [10] := om_FL1 ⟨_, 10, _, rfl, by decide, rfl, Or.inl q660, Or.inl rfl⟩
theorem fl_X10_28 : om_FL RX10 28 306 [10] := om_FL1 ⟨_, 11, _, rfl, by decide, rfl, Or.inl q661, Or.inl rfl⟩
theorem fl_X10_31 : om_FL RX10 31 314 [10] := om_FL1 ⟨_, 13, _, rfl, by decide, rfl, Or.inl q663, Or.inl rfl⟩
theorem fl_X10_38 : om_FL RX10 38 322 [10] := om_FL1 ⟨_, 15, _, rfl, by decide, rfl, Or.inl q667, Or.inl rfl⟩
theorem fl_X10_42 : om_FL RX10 42 326 [10] := om_FL1 ⟨_, 16, _, rfl, by decide, rfl, Or.inl q668, Or.inl rfl⟩
theorem fl_X10_45 : om_FL RX10 45 330 [10] := om_FL1 ⟨_, 17, _, rfl, by decide, rfl, Or.inl q669, Or.inl rfl⟩
theorem fl_X10_48 : om_FL RX10 48 334 [10] := om_FL1 ⟨_, 18, _, rfl, by decide, rfl, Or.inl q670, Or.inl rfl⟩
theorem fl_X10_51 : om_FL RX10 51 346 [10] := om_FL1 ⟨_, 21, _, rfl, by decide, rfl, Or.inl q673, Or.inl rfl⟩
theorem fl_X10_56 : om_FL RX10 56 264 [10] := om_FL1 ⟨_, 1, _, rfl, by decide, rfl, Or.inl q646, Or.inl rfl⟩
theorem fl_X10_60 : om_FL RX10 60 272 [10] := om_FL1 ⟨_, 3, _, rfl, by decide, rfl, Or.inl q649, Or.inl rfl⟩
theorem fl_X10_63 : om_FL RX10 63 276 [10] := om_FL1 ⟨_, 4, _, rfl, by decide, rfl, Or.inl q651, Or.inl rfl⟩
theorem fl_X10_66 : om_FL RX10 66 284 [10] := om_FL1 ⟨_, 6, _, rfl, by decide, rfl, Or.inl q655, Or.inl rfl⟩
theorem fl_X10_69 : om_FL RX10 69 316 [10] := om_FL1 ⟨_, 14, _, rfl, by decide, rfl, Or.inl q665, Or.inl rfl⟩
theorem fl_X10_72 : om_FL RX10 72 280 [10] := om_FL1 ⟨_, 5, _, rfl, by decide, rfl, Or.inl q653, Or.inl rfl⟩
theorem fl_X10_75 : om_FL RX10 75 290 [10] := om_FL1 ⟨_, 7, _, rfl, by decide, rfl, Or.inl q657, Or.inl rfl⟩
theorem fl_X10_79 : om_FL RX10 79 292 [10] := om_FL1 ⟨_, 8, _, rfl, by decide, rfl, Or.inl q658, Or.inl rfl⟩
theorem fl_X10_82 : om_FL RX10 82 296 [10] := om_FL1 ⟨_, 9, _, rfl, by decide, rfl, Or.inl q659, Or.inl rfl⟩
theorem fl_X10_100 : om_FL RX10 100 1694 [39] := om_FL1 ⟨_, 0, _, rfl, by decide, rfl, Or.inr ⟨_, q3040⟩, Or.inl rfl⟩
theorem fl_X10_110 : om_FL RX10 110 354 [11] := om_FL1 ⟨_, 0, _, rfl, by decide, rfl, Or.inr ⟨_, q623⟩, Or.inl rfl⟩
theorem fl_X10_114 : om_FL RX10 114 358 [11] := om_FL1 ⟨_, 1, _, rfl, by decide, rfl, Or.inr ⟨_, q624⟩, Or.inl rfl⟩
theorem fl_X10_115 : om_FL RX10 115 360 [11] := om_FL1 ⟨_, 2, _, rfl, by decide, rfl, Or.inr ⟨_, q625⟩, Or.inl rfl⟩
theorem fl_X10_116 : om_FL RX10 116 364 [11] := om_FL1 ⟨_, 3, _, rfl, by decide, rfl, Or.inr ⟨_, q626⟩, Or.inl rfl⟩
theorem fl_X10_117 : om_FL RX10 117 374 [11] := om_FL1 ⟨_, 5, _, rfl, by decide, rfl, Or.inr ⟨_, q629⟩, Or.inl rfl⟩
theorem fl_X10_133 : om_FL RX10 133 1697 [39] := om_FL1 ⟨_, 1, _, rfl, by decide, rfl, Or.inr ⟨_, q3041⟩, Or.inl rfl⟩
theorem fl_X10_137 : om_FL RX10 137 1708 [39] := om_FL1 ⟨_, 4, _, rfl, by decide, rfl, Or.inr ⟨_, q3044⟩, Or.inl rfl⟩
theorem fl_X10_140 : om_FL RX10 140 1494 [29] := om_FL1 ⟨_, 4, _, rfl, by decide, rfl, Or.inr ⟨_, q1792⟩, Or.inl rfl⟩
theorem fl_X10_151 : om_FL RX10 151 1522 [31] := om_FL1 ⟨_, 4, _, rfl, by decide, rfl, Or.inr ⟨_, q1862⟩, Or.inl rfl⟩
theorem fl_X10_158 : om_FL RX10 158 1490 [29] := om_FL1 ⟨_, 3, _, rfl, by decide, rfl, Or.inr ⟨_, q1787⟩, Or.inl rfl⟩
theorem fl_X10_173 : om_FL RX10 173 1518 [31] := om_FL1 ⟨_, 3, _, rfl, by decide, rfl, Or.inr ⟨_, q1856⟩, Or.inl rfl⟩
theorem fl_X10_188 : om_FL RX10 188 1484 [28] := om_FL1 ⟨_, 3, _, rfl, by decide, rfl, Or.inr ⟨_, q1762⟩, Or.inl rfl⟩
theorem fl_X10_210 : om_FL RX10 210 1414 [24] := om_FL1 ⟨_, 6, _, rfl, by decide, rfl, Or.inr ⟨_, q1562⟩, Or.inl rfl⟩
theorem fl_X10_220 : om_FL RX10 220 1422 [25] := om_FL1 ⟨_, 3, _, rfl, by decide, rfl, Or.inr ⟨_, q1603⟩, Or.inl rfl⟩
theorem fl_X10_227 : om_FL RX10 227 1434 [26] := om_FL1 ⟨_, 3, _, rfl, by decide, rfl, Or.inr ⟨_, q1641⟩, Or.inl rfl⟩
theorem fl_X10_233 : om_FL RX10 233 1706 [39] := om_FL1 ⟨_, 3, _, rfl, by decide, rfl, Or.inr ⟨_, q3043⟩, Or.inl rfl⟩
theorem fl_X10_236 : om_FL RX10 236 1718 [39] := om_FL1 ⟨_, 6, _, rfl, by decide, rfl, Or.inr ⟨_, q3047⟩, Or.inl rfl⟩
theorem fl_X10_243 : om_FL RX10 243 1464 [27] := om_FL1 ⟨_, 6, _, rfl, by decide, rfl, Or.inr ⟨_, q1716⟩, Or.inl rfl⟩
theorem fl_X10_246 : om_FL RX10 246 1474 [27] := om_FL1 ⟨_, 8, _, rfl, by decide, rfl, Or.inr ⟨_, q1725⟩, Or.inl rfl⟩
theorem fl_X10_250 : om_FL RX10 250 1482 [27] := om_FL1 ⟨_, 10, _, rfl, by decide, rfl, Or.inr ⟨_, q1734⟩, Or.inl rfl⟩
theorem fl_X10_255 : om_FL RX10 255 1658 [37] := om_FL1 ⟨_, 0, _, rfl, by decide, rfl, Or.inr ⟨_, q2539⟩, Or.inl rfl⟩
theorem fl_X10_262 : om_FL RX10 262 1714 [39] := om_FL1 ⟨_, 5, _, rfl, by decide, rfl, Or.inr ⟨_, q3045⟩, Or.inl rfl⟩
theorem fl_X10_266 : om_FL RX10 266 1330 [20] := om_FL1 ⟨_, 13, _, rfl, by decide, rfl, Or.inr ⟨_, q1389⟩, Or.inl rfl⟩
theorem fl_X10_272 : om_FL RX10 272 1252 [18] := om_FL1 ⟨_, 3, _, rfl, by decide, rfl, Or.inr ⟨_, q1326⟩, Or.inl rfl⟩
theorem fl_X10_277 : om_FL RX10 277 1366 [22] := om_FL1 ⟨_, 1, _, rfl, by decide, rfl, Or.inr ⟨_, q1913⟩, Or.inl rfl⟩
theorem fl_X10_286 : om_FL RX10 286 1470 [27] := om_FL1 ⟨_, 7, _, rfl, by decide, rfl, Or.inr ⟨_, q1721⟩, Or.inl rfl⟩
theorem fl_X10_293 : om_FL RX10 293 1554 [32] := om_FL1 ⟨_, 6, _, rfl, by decide, rfl, Or.inr ⟨_, q1952⟩, Or.inl rfl⟩
theorem fl_X10_296 : om_FL RX10 296 1476 [27] := om_FL1 ⟨_, 9, _, rfl, by decide, rfl, Or.inr ⟨_, q1730⟩, Or.inl rfl⟩
theorem fl_X10_303 : om_FL RX10 303 336 [10] := om_FL1 ⟨_, 19, _, rfl, by decide, rfl, Or.inl q671, Or.inl rfl⟩
theorem fl_X10_306 : om_FL RX10 306 340 [10] := om_FL1 ⟨_, 20, _, rfl, by decide, rfl, Or.inl q672, Or.inl rfl⟩
theorem fl_X10_313 : om_FL RX10 313 1334 [20] := om_FL1 ⟨_, 14, _, rfl, by decide, rfl, Or.inr ⟨_, q1392⟩, Or.inl rfl⟩
theorem fl_X10_316 : om_FL RX10 316 1616 [35] := om_FL1 ⟨_, 1, _, rfl, by decide, rfl, Or.inr ⟨_, q2390⟩, Or.inl rfl⟩
theorem fl_X10_323 : om_FL RX10 323 1622 [35] := om_FL1 ⟨_, 2, _, rfl, by decide, rfl, Or.inr ⟨_, q2395⟩, Or.inl rfl⟩
theorem fl_X10_329 : om_FL RX10 329 1626 [35] := om_FL1 ⟨_, 3, _, rfl, by decide, rfl, Or.inr ⟨_, q2400⟩, Or.inl rfl⟩
theorem fl_X10_330 : om_FL RX10 330 1634 [35] := om_FL1 ⟨_, 5, _, rfl, by decide, rfl, Or.inr ⟨_, q2409⟩, Or.inl rfl⟩
theorem fl_X10_333 : om_FL RX10 333 309 [10] := om_FL1 ⟨_, 12, _, rfl, by decide, rfl, Or.inl q662, Or.inl rfl⟩
theorem fl_X10_348 : om_FL RX10 348 369 [11] := om_FL1 ⟨_, 4, _, rfl, by decide, rfl, Or.inr ⟨_, q627⟩, Or.inl rfl⟩
theorem fl_X10_353 : om_FL RX10 353 1498 [30] := om_FL1 ⟨_, 0, _, rfl, by decide, rfl, Or.inr ⟨_, q1822⟩, Or.inl rfl⟩
theorem fl_X10_362 : om_FL RX10 362 1418 [24] := om_FL1 ⟨_, 7, _, rfl, by decide, rfl, Or.inr ⟨_, q1568⟩, Or.inl rfl⟩
theorem fl_X10_365 : om_FL RX10 365 1426 [25] := om_FL1 ⟨_, 4, _, rfl, by decide, rfl, Or.inr ⟨_, q1609⟩, Or.inl rfl⟩
theorem fl_X10_368 : om_FL RX10 368 1430 [25] := om_FL1 ⟨_, 5, _, rfl, by decide, rfl, Or.inr ⟨_, q1615⟩, Or.inl rfl⟩
theorem fl_X10_380 : om_FL RX10 380 1526 [31] := om_FL1 ⟨_, 5, _, rfl, by decide, rfl, Or.inr ⟨_, q1870⟩, Or.inl rfl⟩
theorem fl_X10_396 : om_FL RX10 396 1438 [26] := om_FL1 ⟨_, 4, _, rfl, by decide, rfl, Or.inr ⟨_, q1648⟩, Or.inl rfl⟩
theorem fl_X10_403 : om_FL RX10 403 1701 [39] := om_FL1 ⟨_, 2, _, rfl, by decide, rfl, Or.inr ⟨_, q3042⟩, Or.inl rfl⟩
theorem fl_X10_405 : om_FL RX10 405 1442 [26] := om_FL1 ⟨_, 5, _, rfl, by decide, rfl, Or.inr ⟨_, q1654⟩, Or.inl rfl⟩
theorem fl_X10_420 : om_FL RX10 420 1398 [23] := om_FL1 ⟨_, 6, _, rfl, by decide, rfl, Or.inr ⟨_, q1506⟩, Or.inl rfl⟩
theorem fl_X10_421 : om_FL RX10 421 348 [10] := om_FL1 ⟨_, 22, _, rfl, by decide, rfl, Or.inl q674, Or.inl rfl⟩
theorem fl_X13_7 : om_FL RX13 7 402 [13] := om_FL1 ⟨_, 1, _, rfl, by decide, rfl, Or.inl q3244, Or.inl rfl⟩
theorem fl_X13_13 : om_FL RX13 13 406 [13] := om_FL1 ⟨_, 2, _, rfl, by decide, rfl, Or.inl q3245, Or.inl rfl⟩
theorem fl_X13_16 : om_FL RX13 16 410 [13] := om_FL1 ⟨_, 3, _, rfl, by decide, rfl, Or.inl q3246, Or.inl rfl⟩
theorem fl_X13_19 : om_FL RX13 19 414 [13] := om_FL1 ⟨_, 4, _, rfl, by decide, rfl, Or.inl q3247, Or.inl rfl⟩
theorem fl_X13_22 : om_FL RX13 22 470 [13] := om_FL1 ⟨_, 18, _, rfl, by decide, rfl, Or.inl q3261, Or.inl rfl⟩
theorem fl_X13_26 : om_FL RX13 26 474 [13] := om_FL1 ⟨_, 19, _, rfl, by decide, rfl, Or.inl q3262, Or.inl rfl⟩
theorem fl_X13_29 : om_FL RX13 29 478 [13] := om_FL1 ⟨_, 20, _, rfl, by decide, rfl, Or.inl q3263, Or.inl rfl⟩
theorem fl_X13_32 : om_FL RX13 32 482 [13] := om_FL1 ⟨_, 21, _, rfl, by decide, rfl, Or.inl q3264, Or.inl rfl⟩
theorem fl_X13_35 : om_FL RX13 35 490 [13] := om_FL1 ⟨_, 23, _, rfl, by decide, rfl, Or.inl q3266, Or.inl rfl⟩
theorem fl_X13_38 : om_FL RX13 38 494 [13] := om_FL1 ⟨_, 24, _, rfl, by decide, rfl, Or.inl q3267, Or.inl rfl⟩
theorem fl_X13_42 : om_FL RX13 42 502 [13] := om_FL1 ⟨_, 26, _, rfl, by decide, rfl, Or.inl q3269, Or.inl rfl⟩
theorem fl_X13_45 : om_FL RX13 45 506 [13] := om_FL1 ⟨_, 27, _, rfl, by decide, rfl, Or.inl q3270, Or.inl rfl⟩
theorem fl_X13_48 : om_FL RX13 48 510 [13] := om_FL1 ⟨_, 28, _, rfl, by decide, rfl, Or.inl q3271, Or.inl rfl⟩
theorem fl_X13_51 : om_FL RX13 51 514 [13] := om_FL1 ⟨_, 29, _, rfl, by decide, rfl, Or.inl q3272, Or.inl rfl⟩
theorem fl_X13_54 : om_FL RX13 54 518 [13] := om_FL1 ⟨_, 30, _, rfl, by decide, rfl, Or.inl q3273, Or.inl rfl⟩
theorem fl_X13_57 : om_FL RX13 57 522 [13] := om_FL1 ⟨_, 31, _, rfl, by decide, rfl, Or.inl q3274, Or.inl rfl⟩
theorem fl_X13_60 : om_FL RX13 60 526 [13] := om_FL1 ⟨_, 32, _, rfl, by decide, rfl, Or.inl q3275, Or.inl rfl⟩
theorem fl_X13_63 : om_FL RX13 63 530 [13] := om_FL1 ⟨_, 33, _, rfl, by decide, rfl, Or.inl q3276, Or.inl rfl⟩
theorem fl_X13_67 : om_FL RX13 67 538 [13] := om_FL1 ⟨_, 35, _, rfl, by decide, rfl, Or.inl q3278, Or.inl rfl⟩
theorem fl_X13_70 : om_FL RX13 70 542 [13] := om_FL1 ⟨_, 36, _, rfl, by decide, rfl, Or.inl q3279, Or.inl rfl⟩
theorem fl_X13_73 : om_FL RX13 73 546 [13] := om_FL1 ⟨_, 37, _, rfl, by decide, rfl, Or.inl q3280, Or.inl rfl⟩
theorem fl_X13_76 : om_FL RX13 76 550 [13] := om_FL1 ⟨_, 38, _, rfl, by decide, rfl, Or.inl q3281, Or.inl rfl⟩
theorem fl_X13_79 : om_FL RX13 79 554 [13] := om_FL1 ⟨_, 39, _, rfl, by decide, rfl, Or.inl q3282, Or.inl rfl⟩
theorem fl_X13_82 : om_FL RX13 82 558 [13] := om_FL1 ⟨_, 40, _, rfl, by decide, rfl, Or.inl q3283, Or.inl rfl⟩
theorem fl_X13_85 : om_FL RX13 85 562 [13] := om_FL1 ⟨_, 41, _, rfl, by decide, rfl, Or.inl q3284, Or.inl rfl⟩
theorem fl_X13_88 : om_FL RX13 88 570 [13] := om_FL1 ⟨_, 43, _, rfl, by decide, rfl, Or.inl q3286, Or.inl rfl⟩
theorem fl_X13_91 : om_FL RX13 91 574 [13] := om_FL1 ⟨_, 44, _, rfl, by decide, rfl, Or.inl q3287, Or.inl rfl⟩
theorem fl_X13_94 : om_FL RX13 94 578 [13] := om_FL1 ⟨_, 45, _, rfl, by decide, rfl, Or.inl q3288, Or.inl rfl⟩
theorem fl_X13_97 : om_FL RX13 97 582 [13] := om_FL1 ⟨_, 46, _, rfl, by decide, rfl, Or.inl q3289, Or.inl rfl⟩
theorem fl_X13_100 : om_FL RX13 100 586 [13] := om_FL1 ⟨_, 47, _, rfl, by decide, rfl, Or.inl q3290, Or.inl rfl⟩
theorem fl_X13_103 : om_FL RX13 103 590 [13] := om_FL1 ⟨_, 48, _, rfl, by decide, rfl, Or.inl q3291, Or.inl rfl⟩
theorem fl_X13_106 : om_FL RX13 106 594 [13] := om_FL1 ⟨_, 49, _, rfl, by decide, rfl, Or.inl q3292, Or.inl rfl⟩
theorem fl_X13_109 : om_FL RX13 109 598 [13] := om_FL1 ⟨_, 50, _, rfl, by decide, rfl, Or.inl q3293, Or.inl rfl⟩
theorem fl_X13_112 : om_FL RX13 112 602 [13] := om_FL1 ⟨_, 51, _, rfl, by decide, rfl, Or.inl q3294, Or.inl rfl⟩
theorem fl_X13_115 : om_FL RX13 115 606 [13] := om_FL1 ⟨_, 52, _, rfl, by decide, rfl, Or.inl q3295, Or.inl rfl⟩
theorem fl_X13_118 : om_FL RX13 118 610 [13] := om_FL1 ⟨_, 53, _, rfl, by decide, rfl, Or.inl q3296, Or.inl rfl⟩
theorem fl_X13_121 : om_FL RX13 121 614 [13] := om_FL1 ⟨_, 54, _, rfl, by decide, rfl, Or.inl q3297, Or.inl rfl⟩
theorem fl_X13_124 : om_FL RX13 124 618 [13] := om_FL1 ⟨_, 55, _, rfl, by decide, rfl, Or.inl q3298, Or.inl rfl⟩
theorem fl_X13_127 : om_FL RX13 127 622 [13] := om_FL1 ⟨_, 56, _, rfl, by decide, rfl, Or.inl q3299, Or.inl rfl⟩
theorem fl_X13_130 : om_FL RX13 130 630 [13] := om_FL1 ⟨_, 58, _, rfl, by decide, rfl, Or.inl q3301, Or.inl rfl⟩
theorem fl_X13_133 : om_FL RX13 133 634 [13] := om_FL1 ⟨_, 59, _, rfl, by decide, rfl, Or.inl q3302, Or.inl rfl⟩
theorem fl_X13_136 : om_FL RX13 136 638 [13] := om_FL1 ⟨_, 60, _, rfl, by decide, rfl, Or.inl q3303, Or.inl rfl⟩
theorem fl_X13_139 : om_FL RX13 139 642 [13] := om_FL1 ⟨_, 61, _, rfl, by decide, rfl, Or.inl q3304, Or.inl rfl⟩
theorem fl_X13_142 : om_FL RX13 142 658 [13] := om_FL1 ⟨_, 65, _, rfl, by decide, rfl, Or.inl q3308, Or.inl rfl⟩
theorem fl_X13_145 : om_FL RX13 145 662 [13] := om_FL1 ⟨_, 66, _, rfl, by decide, rfl, Or.inl q3309, Or.inl rfl⟩
theorem fl_X13_148 : om_FL RX13 148 666 [13] := om_FL1 ⟨_, 67, _, rfl, by decide, rfl, Or.inl q3310, Or.inl rfl⟩
theorem fl_X13_151 : om_FL RX13 151 670 [13] := om_FL1 ⟨_, 68, _, rfl, by decide, rfl, Or.inl q3311, Or.inl rfl⟩
theorem fl_X13_154 : om_FL RX13 154 674 [13] := om_FL1 ⟨_, 69, _, rfl, by decide, rfl, Or.inl q3312, Or.inl rfl⟩
theorem fl_X13_157 : om_FL RX13 157 678 [13] := om_FL1 ⟨_, 70, _, rfl, by decide, rfl, Or.inl q3313, Or.inl rfl⟩
theorem fl_X13_160 : om_FL RX13 160 682 [13] := om_FL1 ⟨_, 71, _, rfl, by decide, rfl, Or.inl q3314, Or.inl rfl⟩
theorem fl_X13_163 : om_FL RX13 163 686 [13] := om_FL1 ⟨_, 72, _, rfl, by decide, rfl, Or.inl q3315, Or.inl rfl⟩
theorem fl_X13_166 : om_FL RX13 166 690 [13] := om_FL1 ⟨_, 73, _, rfl, by decide, rfl, Or.inl q3316, Or.inl rfl⟩
theorem fl_X13_169 : om_FL RX13 169 694 [13] := om_FL1 ⟨_, 74, _, rfl, by decide, rfl, Or.inl q3317, Or.inl rfl⟩
theorem fl_X13_172 : om_FL RX13 172 698 [13] := om_FL1 ⟨_, 75, _, rfl, by decide, rfl, Or.inl q3318, Or.inl rfl⟩
theorem fl_X13_175 : om_FL RX13 175 702 [13] := om_FL1 ⟨_, 76, _, rfl, by decide, rfl, Or.inl q3319, Or.inl rfl⟩
theorem fl_X13_178 : om_FL RX13 178 706 [13] := om_FL1 ⟨_, 77, _, rfl, by decide, rfl, Or.inl q3320, Or.inl rfl⟩
theorem fl_X13_181 : om_FL RX13 181 710 [13] := om_FL1 ⟨_, 78, _, rfl, by decide, rfl, Or.inl q3321, Or.inl rfl⟩
theorem fl_X13_184 : om_FL RX13 184 714 [13] := om_FL1 ⟨_, 79, _, rfl, by decide, rfl, Or.inl q3322, Or.inl rfl⟩
theorem fl_X13_187 : om_FL RX13 187 718 [13] := om_FL1 ⟨_, 80, _, rfl, by decide, rfl, Or.inl q3323, Or.inl rfl⟩
theorem fl_X13_190 : om_FL RX13 190 722 [13] := om_FL1 ⟨_, 81, _, rfl, by decide, rfl, Or.inl q3324, Or.inl rfl⟩
theorem fl_X13_193 : om_FL RX13 193 726 [13] := om_FL1 ⟨_, 82, _, rfl, by decide, rfl, Or.inl q3325, Or.inl rfl⟩
theorem fl_X13_196 : om_FL RX13 196 730 [13] := om_FL1 ⟨_, 83, _, rfl, by decide, rfl, Or.inl q3326, Or.inl rfl⟩
theorem fl_X13_199 : om_FL RX13 199 734 [13] := om_FL1 ⟨_, 84, _, rfl, by decide, rfl, Or.inl q3327, Or.inl rfl⟩
theorem fl_X13_202 : om_FL RX13 202 738 [13] := om_FL1 ⟨_, 85, _, rfl, by decide, rfl, Or.inl q3328, Or.inl rfl⟩
theorem fl_X13_205 : om_FL RX13 205 742 [13] := om_FL1 ⟨_, 86, _, rfl, by decide, rfl, Or.inl q3329, Or.inl rfl⟩
theorem fl_X13_208 : om_FL RX13 208 746 [13] := om_FL1 ⟨_, 87, _, rfl, by decide, rfl, Or.inl q3330, Or.inl rfl⟩
theorem fl_X13_211 : om_FL RX13 211 750 [13] := om_FL1 ⟨_, 88, _, rfl, by decide, rfl, Or.inl q3331, Or.inl rfl⟩
theorem fl_X13_214 : om_FL RX13 214 754 [13] := om_FL1 ⟨_, 89, _, rfl, by decide, rfl, Or.inl q3332, Or.inl rfl⟩
theorem fl_X13_217 : om_FL RX13 217 758 [13] := om_FL1 ⟨_, 90, _, rfl, by decide, rfl, Or.inl q3333, Or.inl rfl⟩
theorem fl_X13_220 : om_FL RX13 220 762 [13] := om_FL1 ⟨_, 91, _, rfl, by decide, rfl, Or.inl q3334, Or.inl rfl⟩
theorem fl_X13_223 : om_FL RX13 223 770 [13] := om_FL1 ⟨_, 93, _, rfl, by decide, rfl, Or.inl q3336, Or.inl rfl⟩
theorem fl_X13_226 : om_FL RX13 226 774 [13] := om_FL1 ⟨_, 94, _, rfl, by decide, rfl, Or.inl q3337, Or.inl rfl⟩
theorem fl_X13_229 : om_FL RX13 229 778 [13] := om_FL1 ⟨_, 95, _, rfl, by decide, rfl, Or.inl q3338, Or.inl rfl⟩
theorem fl_X13_232 : om_FL RX13 232 782 [13] := om_FL1 ⟨_, 96, _, rfl, by decide, rfl, Or.inl q3339, Or.inl rfl⟩
theorem fl_X13_235 : om_FL RX13 235 798 [13] := om_FL1 ⟨_, 100, _, rfl, by decide, rfl, Or.inl q3343, Or.inl rfl⟩
theorem fl_X13_238 : om_FL RX13 238 802 [13] := om_FL1 ⟨_, 101, _, rfl, by decide, rfl, Or.inl q3344, Or.inl rfl⟩
theorem fl_X13_241 : om_FL RX13 241 806 [13] := om_FL1 ⟨_, 102, _, rfl, by decide, rfl, Or.inl q3345, Or.inl rfl⟩
theorem fl_X13_244 : om_FL RX13 244 830 [13] := om_FL1 ⟨_, 108, _, rfl, by decide, rfl, Or.inl q3351, Or.inl rfl⟩
theorem fl_X13_247 : om_FL RX13 247 834 [13] := om_FL1 ⟨_, 109, _, rfl, by decide, rfl, Or.inl q3352, Or.inl rfl⟩
theorem fl_X13_250 : om_FL RX13 250 842 [13] := om_FL1 ⟨_, 111, _, rfl, by decide, rfl, Or.inl q3354, Or.inl rfl⟩
theorem fl_X13_253 : om_FL RX13 253 846 [13] := om_FL1 ⟨_, 112, _, rfl, by decide, rfl, Or.inl q3355, Or.inl rfl⟩
theorem fl_X13_256 : om_FL RX13 256 850 [13] := om_FL1 ⟨_, 113, _, rfl, by decide, rfl, Or.inl q3356, Or.inl rfl⟩
theorem fl_X13_259 : om_FL RX13 259 854 [13] := om_FL1 ⟨_, 114, _, rfl, by decide, rfl, Or.inl q3357, Or.inl rfl⟩
theorem fl_X13_262 : om_FL RX13 262 878 [13] := om_FL1 ⟨_, 120, _, rfl, by decide, rfl, Or.inl q3363, Or.inl rfl⟩
theorem fl_X13_266 : om_FL RX13 266 894 [13] := om_FL1 ⟨_, 124, _, rfl, by decide, rfl, Or.inl q3367, Or.inl rfl⟩
theorem fl_X13_269 : om_FL RX13 269 898 [13] := om_FL1 ⟨_, 125, _, rfl, by decide, rfl, Or.inl q3368, Or.inl rfl⟩
theorem fl_X13_272 : om_FL RX13 272 902 [13] := om_FL1 ⟨_, 126, _, rfl, by decide, rfl, Or.inl q3369, Or.inl rfl⟩
theorem fl_X13_275 : om_FL RX13 275 914 [13] := om_FL1 ⟨_, 129, _, rfl, by decide, rfl, Or.inl q3372, Or.inl rfl⟩
theorem fl_X13_278 : om_FL RX13 278 918 [13] := om_FL1 ⟨_, 130, _, rfl, by decide, rfl, Or.inl q3373, Or.inl rfl⟩
theorem fl_X13_281 : om_FL RX13 281 922 [13] := om_FL1 ⟨_, 131, _, rfl, by decide, rfl, Or.inl q3374, Or.inl rfl⟩
theorem fl_X13_285 : om_FL RX13 285 930 [13] := om_FL1 ⟨_, 133, _, rfl, by decide, rfl, Or.inl q3376, Or.inl rfl⟩
theorem fl_X13_288 : om_FL RX13 288 934 [13] := om_FL1 ⟨_, 134, _, rfl, by decide, rfl, Or.inl q3377, Or.inl rfl⟩
theorem fl_X13_291 : om_FL RX13 291 938 [13] := om_FL1 ⟨_, 135, _, rfl, by decide, rfl, Or.inl q3378, Or.inl rfl⟩
theorem fl_X13_294 : om_FL RX13 294 942 [13] := om_FL1 ⟨_, 136, _, rfl, by decide, rfl, Or.inl q3379, Or.inl rfl⟩
theorem fl_X13_297 : om_FL RX13 297 946 [13] := om_FL1 ⟨_, 137, _, rfl, by decide, rfl, Or.inl q3380, Or.inl rfl⟩
theorem fl_X13_300 : om_FL RX13 300 950 [13] := om_FL1 ⟨_, 138, _, rfl, by decide, rfl, Or.inl q3381, Or.inl rfl⟩
theorem fl_X13_303 : om_FL RX13 303 958 [13] := om_FL1 ⟨_, 140, _, rfl, by decide, rfl, Or.inl q3383, Or.inl rfl⟩
theorem fl_X13_306 : om_FL RX13 306 962 [13] := om_FL1 ⟨_, 141, _, rfl, by decide, rfl, Or.inl q3384, Or.inl rfl⟩
theorem fl_X13_309 : om_FL RX13 309 970 [13] := om_FL1 ⟨_, 143, _, rfl, by decide, rfl, Or.inl q3386, Or.inl rfl⟩
theorem fl_X13_312 : om_FL RX13 312 974 [13] := om_FL1 ⟨_, 144, _, rfl, by decide, rfl, Or.inl q3387, Or.inl rfl⟩
theorem fl_X13_315 : om_FL RX13 315 978 [13] := om_FL1 ⟨_, 145, _, rfl, by decide, rfl, Or.inl q3388, Or.inl rfl⟩
theorem fl_X13_318 : om_FL RX13 318 982 [13] := om_FL1 ⟨_, 146, _, rfl, by decide, rfl, Or.inl q3389, Or.inl rfl⟩
theorem fl_X13_321 : om_FL RX13 321 986 [13] := om_FL1 ⟨_, 147, _, rfl, by decide, rfl, Or.inl q3390, Or.inl rfl⟩
theorem fl_X13_324 : om_FL RX13 324 990 [13] := om_FL1 ⟨_, 148, _, rfl, by decide, rfl, Or.inl q3391, Or.inl rfl⟩
theorem fl_X13_327 : om_FL RX13 327 1018 [13] := om_FL1 ⟨_, 155, _, rfl, by decide, rfl, Or.inl q3398, Or.inl rfl⟩
theorem fl_X13_331 : om_FL RX13 331 1042 [13] := om_FL1 ⟨_, 161, _, rfl, by decide, rfl, Or.inl q3404, Or.inl rfl⟩
theorem fl_X13_334 : om_FL RX13 334 1046 [13] := om_FL1 ⟨_, 162, _, rfl, by decide, rfl, Or.inl q3405, Or.inl rfl⟩
theorem fl_X13_337 : om_FL RX13 337 1054 [13] := om_FL1 ⟨_, 164, _, rfl, by decide, rfl, Or.inl q3407, Or.inl rfl⟩
theorem fl_X13_340 : om_FL RX13 340 1058 [13] := om_FL1 ⟨_, 165, _, rfl, by decide, rfl, Or.inl q3408, Or.inl rfl⟩
theorem fl_X13_343 : om_FL RX13 343 1062 [13] := om_FL1 ⟨_, 166, _, rfl, by decide, rfl, Or.inl q3409, Or.inl rfl⟩
theorem fl_X13_346 : om_FL RX13 346 1066 [13] := om_FL1 ⟨_, 167, _, rfl, by decide, rfl, Or.inl q3410, Or.inl rfl⟩
theorem fl_X13_349 : om_FL RX13 349 1070 [13] := om_FL1 ⟨_, 168, _, rfl, by decide, rfl, Or.inl q3411, Or.inl rfl⟩
theorem fl_X13_352 : om_FL RX13 352 1074 [13] := om_FL1 ⟨_, 169, _, rfl, by decide, rfl, Or.inl q3412, Or.inl rfl⟩
theorem fl_X13_355 : om_FL RX13 355 1078 [13] := om_FL1 ⟨_, 170, _, rfl, by decide, rfl, Or.inl q3413, Or.inl rfl⟩
theorem fl_X13_359 : om_FL RX13 359 1082 [13] := om_FL1 ⟨_, 171, _, rfl, by decide, rfl, Or.inl q3414, Or.inl rfl⟩
theorem fl_X13_366 : om_FL RX13 366 496 [13] := om_FL1 ⟨_, 25, _, rfl, by decide, rfl, Or.inl q3268, Or.inl rfl⟩
theorem fl_X13_369 : om_FL RX13 369 420 [13] := om_FL1 ⟨_, 6, _, rfl, by decide, rfl, Or.inl q3249, Or.inl rfl⟩
theorem fl_X13_372 : om_FL RX13 372 484 [13] := om_FL1 ⟨_, 22, _, rfl, by decide, rfl, Or.inl q3265, Or.inl rfl⟩
theorem fl_X13_427 : om_FL RX13 427 532 [13] := om_FL1 ⟨_, 34, _, rfl, by decide, rfl, Or.inl q3277, Or.inl rfl⟩
theorem fl_X13_430 : om_FL RX13 430 564 [13] := om_FL1 ⟨_, 42, _, rfl, by decide, rfl, Or.inl q3285, Or.inl rfl⟩
theorem fl_X13_433 : om_FL RX13 433 432 [13] := om_FL1 ⟨_, 9, _, rfl, by decide, rfl, Or.inl q3252, Or.inl rfl⟩
theorem fl_X13_436 : om_FL RX13 436 452 [13] := om_FL1 ⟨_, 14, _, rfl, by decide, rfl, Or.inl q3257, Or.inl rfl⟩
theorem fl_X13_439 : om_FL RX13 439 456 [13] := om_FL1 ⟨_, 15, _, rfl, by decide, rfl, Or.inl q3258, Or.inl rfl⟩
theorem fl_X13_452 : om_FL RX13 452 436 [13] := om_FL1 ⟨_, 10, _, rfl, by decide, rfl, Or.inl q3253, Or.inl rfl⟩
theorem fl_X13_510 : om_FL RX13 510 624 [13] := om_FL1 ⟨_, 57, _, rfl, by decide, rfl, Or.inl q3300, Or.inl rfl⟩
theorem fl_X13_533 : om_FL RX13 533 644 [13] := om_FL1 ⟨_, 62, _, rfl, by decide, rfl, Or.inl q3305, Or.inl rfl⟩
theorem fl_X13_546 : om_FL RX13 546 648 [13] := om_FL1 ⟨_, 63, _, rfl, by decide, rfl, Or.inl q3306, Or.inl rfl⟩
theorem fl_X13_549 : om_FL RX13 549 764 [13] := om_FL1 ⟨_, 92, _, rfl, by decide, rfl, Or.inl q3335, Or.inl rfl⟩
theorem fl_X13_552 : om_FL RX13 552 652 [13] := om_FL1 ⟨_, 64, _, rfl, by decide, rfl, Or.inl q3307, Or.inl rfl⟩
theorem fl_X13_555 : om_FL RX13 555 784 [13] := om_FL1 ⟨_, 97, _, rfl, by decide, rfl, Or.inl q3340, Or.inl rfl⟩
theorem fl_X13_571 : om_FL RX13 571 856 [13] := om_FL1 ⟨_, 115, _, rfl, by decide, rfl, Or.inl q3358, Or.inl rfl⟩
theorem fl_X13_583 : om_FL RX13 583 788 [13] := om_FL1 ⟨_, 98, _, rfl, by decide, rfl, Or.inl q3341, Or.inl rfl⟩
theorem fl_X13_607 : om_FL RX13 607 823 [13] := om_FL1 ⟨_, 106, _, rfl, by decide, rfl, Or.inl q3349, Or.inl rfl⟩
theorem fl_X13_611 : om_FL RX13 611 808 [13] := om_FL1 ⟨_, 103, _, rfl, by decide, rfl, Or.inl q3346, Or.inl rfl⟩
theorem fl_X13_614 : om_FL RX13 614 816 [13] := om_FL1 ⟨_, 105, _, rfl, by decide, rfl, Or.inl q3348, Or.inl rfl⟩
theorem fl_X13_617 : om_FL RX13 617 827 [13] := om_FL1 ⟨_, 107, _, rfl, by decide, rfl, Or.inl q3350, Or.inl rfl⟩
theorem fl_X13_620 : om_FL RX13 620 812 [13] := om_FL1 ⟨_, 104, _, rfl, by decide, rfl, Or.inl q3347, Or.inl rfl⟩
theorem fl_X13_626 : om_FL RX13 626 792 [13] := om_FL1 ⟨_, 99, _, rfl, by decide, rfl, Or.inl q3342, Or.inl rfl⟩
theorem fl_X13_629 : om_FL RX13 629 836 [13] := om_FL1 ⟨_, 110, _, rfl, by decide, rfl, Or.inl q3353, Or.inl rfl⟩
theorem fl_X13_671 : om_FL RX13 671 860 [13] := om_FL1 ⟨_, 116, _, rfl, by decide, rfl, Or.inl q3359, Or.inl rfl⟩
theorem fl_X13_692 : om_FL RX13 692 864 [13] := om_FL1 ⟨_, 117, _, rfl, by decide, rfl, Or.inl q3360, Or.inl rfl⟩
theorem fl_X13_704 : om_FL RX13 704 868 [13] := om_FL1 ⟨_, 118, _, rfl, by decide, rfl, Or.inl q3361, Or.inl rfl⟩
theorem fl_X13_707 : om_FL RX13 707 872 [13] := om_FL1 ⟨_, 119, _, rfl, by decide, rfl, Or.inl q3362, Or.inl rfl⟩
theorem fl_X13_723 : om_FL RX13 723 880 [13] := om_FL1 ⟨_, 121, _, rfl, by decide, rfl, Or.inl q3364, Or.inl rfl⟩
theorem fl_X13_726 : om_FL RX13 726 884 [13] := om_FL1 ⟨_, 122, _, rfl, by decide, rfl, Or.inl q3365, Or.inl rfl⟩
theorem fl_X13_729 : om_FL RX13 729 888 [13] := om_FL1 ⟨_, 123, _, rfl, by decide, rfl, Or.inl q3366, Or.inl rfl⟩
theorem fl_X13_741 : om_FL RX13 741 1111 [13] := om_FL1 ⟨_, 178, _, rfl, by decide, rfl, Or.inl q3421, Or.inl rfl⟩
theorem fl_X13_743 : om_FL RX13 743 904 [13] := om_FL1 ⟨_, 127, _, rfl, by decide, rfl, Or.inl q3370, Or.inl rfl⟩
theorem fl_X13_746 : om_FL RX13 746 1112 [13] := om_FL1 ⟨_, 179, _, rfl, by decide, rfl, Or.inl q3422, Or.inl rfl⟩
theorem fl_X13_749 : om_FL RX13 749 1116 [13] := om_FL1 ⟨_, 180, _, rfl, by decide, rfl, Or.inl q3423, Or.inl rfl⟩
theorem fl_X13_752 : om_FL RX13 752 908 [13] := om_FL1 ⟨_, 128, _, rfl, by decide, rfl, Or.inl q3371, Or.inl rfl⟩
theorem fl_X13_849 : om_FL RX13 849 1048 [13] := om_FL1 ⟨_, 163, _, rfl, by decide, rfl, Or.inl q3406, Or.inl rfl⟩
theorem fl_X13_852 : om_FL RX13 852 924 [13] := om_FL1 ⟨_, 132, _, rfl, by decide, rfl, Or.inl q3375, Or.inl rfl⟩
theorem fl_X13_855 : om_FL RX13 855 952 [13] := om_FL1 ⟨_, 139, _, rfl, by decide, rfl, Or.inl q3382, Or.inl rfl⟩
theorem fl_X13_858 : om_FL RX13 858 964 [13] := om_FL1 ⟨_, 142, _, rfl, by decide, rfl, Or.inl q3385, Or.inl rfl⟩
theorem fl_X13_861 : om_FL RX13 861 992 [13] := om_FL1 ⟨_, 149, _, rfl, by decide, rfl, Or.inl q3392, Or.inl rfl⟩
theorem fl_X13_864 : om_FL RX13 864 996 [13] := om_FL1 ⟨_, 150, _, rfl, by decide, rfl, Or.inl q3393, Or.inl rfl⟩
theorem fl_X13_867 : om_FL RX13 867 1000 [13] := om_FL1 ⟨_, 151, _, rfl, by decide, rfl, Or.inl q3394, Or.inl rfl⟩
theorem fl_X13_870 : om_FL RX13 870 1004 [13] := om_FL1 ⟨_, 152, _, rfl, by decide, rfl, Or.inl q3395, Or.inl rfl⟩
theorem fl_X13_873 : om_FL RX13 873 1008 [13] := om_FL1 ⟨_, 153, _, rfl, by decide, rfl, Or.inl q3396, Or.inl rfl⟩
theorem fl_X13_876 : om_FL RX13 876 1012 [13] := om_FL1 ⟨_, 154, _, rfl, by decide, rfl, Or.inl q3397, Or.inl rfl⟩
theorem fl_X13_879 : om_FL RX13 879 1032 [13] := om_FL1 ⟨_, 159, _, rfl, by decide, rfl, Or.inl q3402, Or.inl rfl⟩
theorem fl_X13_882 : om_FL RX13 882 1020 [13] := om_FL1 ⟨_, 156, _, rfl, by decide, rfl, Or.inl q3399, Or.inl rfl⟩
theorem fl_X13_885 : om_FL RX13 885 1024 [13] := om_FL1 ⟨_, 157, _, rfl, by decide, rfl, Or.inl q3400, Or.inl rfl⟩
theorem fl_X13_888 : om_FL RX13 888 1028 [13] := om_FL1 ⟨_, 158, _, rfl, by decide, rfl, Or.inl q3401, Or.inl rfl⟩
theorem fl_X13_891 : om_FL RX13 891 1037 [13] := om_FL1 ⟨_, 160, _, rfl, by decide, rfl, Or.inl q3403, Or.inl rfl⟩
theorem fl_X13_900 : om_FL RX13 900 1084 [13] := om_FL1 ⟨_, 172, _, rfl, by decide, rfl, Or.inl q3415, Or.inl rfl⟩
theorem fl_X13_924 : om_FL RX13 924 447 [13] := om_FL1 ⟨_, 12, _, rfl, by decide, rfl, Or.inl q3255, Or.inl rfl⟩
theorem fl_X13_1056 : om_FL RX13 1056 1088 [13] := om_FL1 ⟨_, 173, _, rfl, by decide, rfl, Or.inl q3416, Or.inl rfl⟩
theorem fl_X13_1059 : om_FL RX13 1059 1092 [13] := om_FL1 ⟨_, 174, _, rfl, by decide, rfl, Or.inl q3417, Or.inl rfl⟩
theorem fl_X13_1062 : om_FL RX13 1062 1096 [13] := om_FL1 ⟨_, 175, _, rfl, by decide, rfl, Or.inl q3418, Or.inl rfl⟩
theorem fl_X13_1065 : om_FL RX13 1065 1100 [13] := om_FL1 ⟨_, 176, _, rfl, by decide, rfl, Or.inl q3419, Or.inl rfl⟩
theorem fl_X13_1071 : om_FL RX13 1071 1104 [13] := om_FL1 ⟨_, 177, _, rfl, by decide, rfl, Or.inl q3420, Or.inl rfl⟩
theorem fl_X13_1076 : om_FL RX13 1076 460 [13] := om_FL1 ⟨_, 16, _, rfl, by decide, rfl, Or.inl q3259, Or.inl rfl⟩
theorem fl_X13_1079 : om_FL RX13 1079 464 [13] := om_FL1 ⟨_, 17, _, rfl, by decide, rfl, Or.inl q3260, Or.inl rfl⟩
theorem fl_X13_1082 : om_FL RX13 1082 443 [13] := om_FL1 ⟨_, 11, _, rfl, by decide, rfl, Or.inl q3254, Or.inl rfl⟩
theorem fl_X13_1085 : om_FL RX13 1085 424 [13] := om_FL1 ⟨_, 7, _, rfl, by decide, rfl, Or.inl q3250, Or.inl rfl⟩
theorem fl_X13_1092 : om_FL RX13 1092 428 [13] := om_FL1 ⟨_, 8, _, rfl, by decide, rfl, Or.inl q3251, Or.inl rfl⟩
theorem fl_X13_1098 : om_FL RX13 1098 416 [13] := om_FL1 ⟨_, 5, _, rfl, by decide, rfl, Or.inl q3248, Or.inl rfl⟩
theorem fl_X13_1101 : om_FL RX13 1101 451 [13] := om_FL1 ⟨_, 13, _, rfl, by decide, rfl, Or.inl q3256, Or.inl rfl⟩
theorem fl_X14_9 : om_FL RX14 9 1122 [14] := om_FL1 ⟨_, 0, _, rfl, by decide, rfl, Or.inl q940, Or.inl rfl⟩
theorem fl_X14_15 : om_FL RX14 15 1124 [14] := om_FL1 ⟨_, 1, _, rfl, by decide, rfl, Or.inl q941, Or.inl rfl⟩
theorem fl_X14_22 : om_FL RX14 22 1128 [14] := om_FL1 ⟨_, 2, _, rfl, by decide, rfl, Or.inl q942, Or.inl rfl⟩
theorem fl_X14_29 : om_FL RX14 29 1136 [14] := om_FL1 ⟨_, 4, _, rfl, by decide, rfl, Or.inl q947, Or.inl rfl⟩
theorem fl_X14_32 : om_FL RX14 32 1140 [14] := om_FL1 ⟨_, 5, _, rfl, by decide, rfl, Or.inl q949, Or.inl rfl⟩
theorem fl_X14_41 : om_FL RX14 41 1134 [14] := om_FL1 ⟨_, 3, _, rfl, by decide, rfl, Or.inl q945, Or.inl rfl⟩
theorem fl_X14_115 : om_FL RX14 115 1144 [14] := om_FL1 ⟨_, 6, _, rfl, by decide, rfl, Or.inl q950, Or.inl rfl⟩
theorem fl_X14_152 : om_FL RX14 152 1148 [14] := om_FL1 ⟨_, 7, _, rfl, by decide, rfl, Or.inl q953, Or.inl rfl⟩
theorem fl_X16_7 : om_FL RX16 7 1186 [16] := om_FL1 ⟨_, 0, _, rfl, by decide, rfl, Or.inl q1080, Or.inl rfl⟩
theorem fl_X16_13 : om_FL RX16 13 1188 [16] := om_FL1 ⟨_, 1, _, rfl, by decide, rfl, Or.inl q1082, Or.inl rfl⟩
theorem fl_X16_17 : om_FL RX16 17 1192 [16] := om_FL1 ⟨_, 2, _, rfl, by decide, rfl, Or.inl q1086, Or.inl rfl⟩
theorem fl_X17_12 : om_FL RX17 12 1230 [17] := om_FL1 ⟨_, 8, _, rfl, by decide, rfl, Or.inl q1215, Or.inl rfl⟩
theorem fl_X17_18 : om_FL RX17 18 1234 [17] := om_FL1 ⟨_, 9, _, rfl, by decide, rfl, Or.inl q1217, Or.inl rfl⟩
theorem fl_X17_49 : om_FL RX17 49 1242 [18] := om_FL1 ⟨_, 0, _, rfl, by decide, rfl, Or.inr ⟨_, q1318⟩, Or.inl rfl⟩
theorem fl_X17_56 : om_FL RX17 56 1226 [17] := om_FL1 ⟨_, 7, _, rfl, by decide, rfl, Or.inl q1211, Or.inl rfl⟩
theorem fl_X21_16 : om_FL RX21 16 1346 [21] := om_FL1 ⟨_, 2, _, rfl, by decide, rfl, Or.inl q1441, Or.inl rfl⟩
theorem fl_X21_20 : om_FL RX21 20 1358 [21] := om_FL1 ⟨_, 5, _, rfl, by decide, rfl, Or.inl q1453, Or.inl rfl⟩
theorem fl_X21_26 : om_FL RX21 26 1350 [21] := om_FL1 ⟨_, 3, _, rfl, by decide, rfl, Or.inl q1443, Or.inl rfl⟩
theorem fl_X21_37 : om_FL RX21 37 1614 [35] := om_FL1 ⟨_, 0, _, rfl, by decide, rfl, Or.inr ⟨_, q2382⟩, Or.inl rfl⟩
theorem fl_X21_38 : om_FL RX21 38 1226 [17] := om_FL1 ⟨_, 7, _, rfl, by decide, rfl, Or.inr ⟨_, q1212⟩, Or.inl rfl⟩
theorem fl_X28_9 : om_FL RX28 9 1464 [27] := om_FL1 ⟨_, 6, _, rfl, by decide, rfl, Or.inl q1713, Or.inl rfl⟩
theorem fl_X28_18 : om_FL RX28 18 1458 [27] := om_FL1 ⟨_, 4, _, rfl, by decide, rfl, Or.inl q1706, Or.inl rfl⟩
theorem fl_X28_28 : om_FL RX28 28 1482 [27] := om_FL1 ⟨_, 10, _, rfl, by decide, rfl, Or.inl q1731, Or.inl rfl⟩
theorem fl_X34_9 : om_FL RX34 9 1556 [33] := om_FL1 ⟨_, 0, _, rfl, by decide, rfl, Or.inl q2082, Or.inl rfl⟩
theorem fl_X34_15 : om_FL RX34 15 1560 [33] := om_FL1 ⟨_, 1, _, rfl, by decide, rfl, Or.inl q2090, Or.inl rfl⟩
theorem fl_X34_18 : om_FL RX34 18 1582 [33] := om_FL1 ⟨_, 6, _, rfl, by decide, rfl, Or.inl q2110, Or.inl rfl⟩
theorem fl_X34_22 : om_FL RX34 22 1586 [33] := om_FL1 ⟨_, 7, _, rfl, by decide, rfl, Or.inl q2118, Or.inl rfl⟩
theorem fl_X34_25 : om_FL RX34 25 1578 [33] := om_FL1 ⟨_, 5, _, rfl, by decide, rfl, Or.inl q2105, Or.inl rfl⟩
theorem fl_X34_29 : om_FL RX34 29 1574 [33] := om_FL1 ⟨_, 4, _, rfl, by decide, rfl, Or.inl q2100, Or.inl rfl⟩
theorem fl_X35_10 : om_FL RX35 10 1610 [34] := om_FL1 ⟨_, 3, _, rfl, by decide, rfl, Or.inl q2202, Or.inl rfl⟩
theorem fl_X35_16 : om_FL RX35 16 1598 [34] := om_FL1 ⟨_, 0, _, rfl, by decide, rfl, Or.inl q2199, Or.inl rfl⟩
theorem fl_X35_20 : om_FL RX35 20 1602 [34] := om_FL1 ⟨_, 1, _, rfl, by decide, rfl, Or.inl q2200, Or.inl rfl⟩
theorem fl_X35_24 : om_FL RX35 24 1606 [34] := om_FL1 ⟨_, 2, _, rfl, by decide, rfl, Or.inl q2201, Or.inl rfl⟩
theorem fl_X35_28 : om_FL RX35 28 162 [4] := om_FL1 ⟨_, 0, _, rfl, by decide, rfl, Or.inr ⟨_, q450⟩, Or.inl rfl⟩
theorem fl_X35_47 : om_FL RX35 47 1390 [23] := om_FL1 ⟨_, 4, _, rfl, by decide, rfl, Or.inr ⟨_, q1495⟩, Or.inl rfl⟩
theorem fl_X35_59 : om_FL RX35 59 1386 [23] := om_FL1 ⟨_, 3, _, rfl, by decide, rfl, Or.inr ⟨_, q1492⟩, Or.inl rfl⟩
theorem fl_X35_63 : om_FL RX35 63 1398 [23] := om_FL1 ⟨_, 6, _, rfl, by decide, rfl, Or.inr ⟨_, q1501⟩, Or.inl rfl⟩
theorem fl_X35_73 : om_FL RX35 73 1406 [24] := om_FL1 ⟨_, 4, _, rfl, by decide, rfl, Or.inr ⟨_, q1551⟩, Or.inl rfl⟩
theorem fl_X35_75 : om_FL RX35 75 1414 [24] := om_FL1 ⟨_, 6, _, rfl, by decide, rfl, Or.inr ⟨_, q1557⟩, Or.inl rfl⟩
theorem fl_X35_82 : om_FL RX35 82 1402 [24] := om_FL1 ⟨_, 3, _, rfl, by decide, rfl, Or.inr ⟨_, q1548⟩, Or.inl rfl⟩
theorem fl_X35_83 : om_FL RX35 83 1418 [24] := om_FL1 ⟨_, 7, _, rfl, by decide, rfl, Or.inr ⟨_, q1563⟩, Or.inl rfl⟩
theorem fl_X35_86 : om_FL RX35 86 1422 [25] := om_FL1 ⟨_, 3, _, rfl, by decide, rfl, Or.inr ⟨_, q1598⟩, Or.inl rfl⟩
theorem fl_X35_89 : om_FL RX35 89 1426 [25] := om_FL1 ⟨_, 4, _, rfl, by decide, rfl, Or.inr ⟨_, q1604⟩, Or.inl rfl⟩
theorem fl_X35_92 : om_FL RX35 92 1430 [25] := om_FL1 ⟨_, 5, _, rfl, by decide, rfl, Or.inr ⟨_, q1610⟩, Or.inl rfl⟩
theorem fl_X35_103 : om_FL RX35 103 1490 [29] := om_FL1 ⟨_, 3, _, rfl, by decide, rfl, Or.inr ⟨_, q1783⟩, Or.inl rfl⟩
theorem fl_X35_106 : om_FL RX35 106 1494 [29] := om_FL1 ⟨_, 4, _, rfl, by decide, rfl, Or.inr ⟨_, q1790⟩, Or.inl rfl⟩
theorem fl_X35_119 : om_FL RX35 119 1498 [30] := om_FL1 ⟨_, 0, _, rfl, by decide, rfl, Or.inr ⟨_, q1818⟩, Or.inl rfl⟩
theorem fl_X35_121 : om_FL RX35 121 1502 [30] := om_FL1 ⟨_, 1, _, rfl, by decide, rfl, Or.inr ⟨_, q1824⟩, Or.inl rfl⟩
theorem fl_X35_124 : om_FL RX35 124 1518 [31] := om_FL1 ⟨_, 3, _, rfl, by decide, rfl, Or.inr ⟨_, q1852⟩, Or.inl rfl⟩
theorem fl_X35_125 : om_FL RX35 125 1522 [31] := om_FL1 ⟨_, 4, _, rfl, by decide, rfl, Or.inr ⟨_, q1859⟩, Or.inl rfl⟩
theorem fl_X35_137 : om_FL RX35 137 1434 [26] := om_FL1 ⟨_, 3, _, rfl, by decide, rfl, Or.inr ⟨_, q1637⟩, Or.inl rfl⟩
theorem fl_X35_140 : om_FL RX35 140 1438 [26] := om_FL1 ⟨_, 4, _, rfl, by decide, rfl, Or.inr ⟨_, q1643⟩, Or.inl rfl⟩
theorem fl_X35_143 : om_FL RX35 143 1446 [26] := om_FL1 ⟨_, 6, _, rfl, by decide, rfl, Or.inr ⟨_, q1655⟩, Or.inl rfl⟩
theorem fl_X35_146 : om_FL RX35 146 1450 [26] := om_FL1 ⟨_, 7, _, rfl, by decide, rfl, Or.inr ⟨_, q1658⟩, Or.inl rfl⟩
theorem fl_X35_155 : om_FL RX35 155 1188 [16] := om_FL1 ⟨_, 1, _, rfl, by decide, rfl, Or.inr ⟨_, q1083⟩, Or.inl rfl⟩
theorem fl_X35_163 : om_FL RX35 163 1442 [26] := om_FL1 ⟨_, 5, _, rfl, by decide, rfl, Or.inr ⟨_, q1649⟩, Or.inl rfl⟩
theorem fl_X35_166 : om_FL RX35 166 1458 [27] := om_FL1 ⟨_, 4, _, rfl, by decide, rfl, Or.inr ⟨_, q1707⟩, Or.inl rfl⟩
theorem fl_X35_174 : om_FL RX35 174 1462 [27] := om_FL1 ⟨_, 5, _, rfl, by decide, rfl, Or.inr ⟨_, q1709⟩, Or.inl rfl⟩
theorem fl_X35_179 : om_FL RX35 179 1464 [27] := om_FL1 ⟨_, 6, _, rfl, by decide, rfl, Or.inr ⟨_, q1714⟩, Or.inl rfl⟩
theorem fl_X35_182 : om_FL RX35 182 1454 [27] := om_FL1 ⟨_, 3, _, rfl, by decide, rfl, Or.inr ⟨_, q1703⟩, Or.inl rfl⟩
theorem fl_X35_189 : om_FL RX35 189 1476 [27] := om_FL1 ⟨_, 9, _, rfl, by decide, rfl, Or.inr ⟨_, q1727⟩, Or.inl rfl⟩
theorem fl_X35_196 : om_FL RX35 196 1470 [27] := om_FL1 ⟨_, 7, _, rfl, by decide, rfl, Or.inr ⟨_, q1718⟩, Or.inl rfl⟩
theorem fl_X35_204 : om_FL RX35 204 1474 [27] := om_FL1 ⟨_, 8, _, rfl, by decide, rfl, Or.inr ⟨_, q1722⟩, Or.inl rfl⟩
theorem fl_X36_9 : om_FL RX36 9 1616 [35] := om_FL1 ⟨_, 1, _, rfl, by decide, rfl, Or.inl q2386, Or.inl rfl⟩
theorem fl_X36_19 : om_FL RX36 19 1622 [35] := om_FL1 ⟨_, 2, _, rfl, by decide, rfl, Or.inl q2391, Or.inl rfl⟩
theorem fl_X36_34 : om_FL RX36 34 1630 [35] := om_FL1 ⟨_, 4, _, rfl, by decide, rfl, Or.inl q2401, Or.inl rfl⟩
theorem fl_X36_43 : om_FL RX36 43 1634 [35] := om_FL1 ⟨_, 5, _, rfl, by decide, rfl, Or.inl q2405, Or.inl rfl⟩
theorem fl_X37_12 : om_FL RX37 12 1654 [36] := om_FL1 ⟨_, 2, _, rfl, by decide, rfl, Or.inl q2472, Or.inl rfl⟩
theorem fl_X37_18 : om_FL RX37 18 1646 [36] := om_FL1 ⟨_, 0, _, rfl, by decide, rfl, Or.inl q2470, Or.inl rfl⟩
theorem fl_X37_22 : om_FL RX37 22 214 [8] := om_FL1 ⟨_, 1, _, rfl, by decide, rfl, Or.inr ⟨_, q542⟩, Or.inl rfl⟩
theorem fl_X37_28 : om_FL RX37 28 1650 [36] := om_FL1 ⟨_, 1, _, rfl, by decide, rfl, Or.inl q2471, Or.inl rfl⟩
theorem fl_X37_43 : om_FL RX37 43 1366 [22] := om_FL1 ⟨_, 1, _, rfl, by decide, rfl, Or.inr ⟨_, q1912⟩, Or.inl rfl⟩
theorem fl_X37_49 : om_FL RX37 49 1302 [20] := om_FL1 ⟨_, 6, _, rfl, by decide, rfl, Or.inr ⟨_, q1372⟩, Or.inl rfl⟩
theorem fl_X37_55 : om_FL RX37 55 1362 [22] := om_FL1 ⟨_, 0, _, rfl, by decide, rfl, Or.inr ⟨_, q1909⟩, Or.inl rfl⟩
theorem fl_X37_65 : om_FL RX37 65 1262 [18] := om_FL1 ⟨_, 5, _, rfl, by decide, rfl, Or.inr ⟨_, q1328⟩, Or.inl rfl⟩
theorem fl_X37_71 : om_FL RX37 71 1234 [17] := om_FL1 ⟨_, 9, _, rfl, by decide, rfl, Or.inr ⟨_, q1218⟩, Or.inl rfl⟩
theorem fl_X37_74 : om_FL RX37 74 1322 [20] := om_FL1 ⟨_, 11, _, rfl, by decide, rfl, Or.inr ⟨_, q1384⟩, Or.inl rfl⟩
theorem fl_X37_77 : om_FL RX37 77 1372 om_exk := by
  intro k hk
  simp only [om_exk, List.mem_cons, List.not_mem_nil, or_false] at hk
  rcases hk with rfl | rfl | rfl | rfl | rfl | rfl | rfl | rfl
  · exact ⟨_, 0, _, rfl, by decide, rfl, Or.inl q1507, Or.inl rfl⟩
  · exact ⟨_, 0, _, rfl, by decide, rfl, Or.inl q1507, Or.inl rfl⟩
  · exact ⟨_, 0, _, rfl, by decide, rfl, Or.inl q1507, Or.inl rfl⟩
  · exact ⟨_, 0, _, rfl, by decide, rfl, Or.inl q1507, Or.inl rfl⟩
  · exact ⟨_, 0, _, rfl, by decide, rfl, Or.inl q1507, Or.inl rfl⟩
  · exact ⟨_, 0, _, rfl, by decide, rfl, Or.inl q1507, Or.inl rfl⟩
  · exact ⟨_, 0, _, rfl, by decide, rfl, Or.inl q1507, Or.inl rfl⟩
  · exact ⟨_, 0, _, rfl, by decide, rfl, Or.inl q1507, Or.inl rfl⟩
theorem fl_X37_87 : om_FL RX37 87 1370 [22] := om_FL1 ⟨_, 2, _, rfl, by decide, rfl, Or.inr ⟨_, q1916⟩, Or.inl rfl⟩
theorem fl_X37_102 : om_FL RX37 102 1556 [33] := om_FL1 ⟨_, 0, _, rfl, by decide, rfl, Or.inr ⟨_, q2087⟩, Or.inl rfl⟩
theorem fl_X37_107 : om_FL RX37 107 1560 [33] := om_FL1 ⟨_, 1, _, rfl, by decide, rfl, Or.inr ⟨_, q2093⟩, Or.inl rfl⟩
theorem fl_X37_121 : om_FL RX37 121 1378 om_exk := by
  intro k hk
  simp only [om_exk, List.mem_cons, List.not_mem_nil, or_false] at hk
  rcases hk with rfl | rfl | rfl | rfl | rfl | rfl | rfl | rfl
  · exact ⟨_, 1, _, rfl, by decide, rfl, Or.inl q1513, Or.inl rfl⟩
  · exact ⟨_, 1, _, rfl, by decide, rfl, Or.inl q1513, Or.inl rfl⟩
  · exact ⟨_, 1, _, rfl, by decide, rfl, Or.inl q1513, Or.inl rfl⟩
  · exact ⟨_, 1, _, rfl, by decide, rfl, Or.inl q1513, Or.inl rfl⟩
  · exact ⟨_, 1, _, rfl, by decide, rfl, Or.inl q1513, Or.inl rfl⟩
  · exact ⟨_, 1, _, rfl, by decide, rfl, Or.inl q1513, Or.inl rfl⟩
  · exact ⟨_, 1, _, rfl, by decide, rfl, Or.inl q1513, Or.inl rfl⟩
  · exact ⟨_, 1, _, rfl, by decide, rfl, Or.inl q1513, Or.inl rfl⟩
theorem fl_X37_129 : om_FL RX37 129 1394 [23] := om_FL1 ⟨_, 5, _, rfl, by decide, rfl, Or.inr ⟨_, q1498⟩, Or.inl rfl⟩
theorem fl_X37_131 : om_FL RX37 131 1398 [23] := om_FL1 ⟨_, 6, _, rfl, by decide, rfl, Or.inr ⟨_, q1502⟩, Or.inl rfl⟩
theorem fl_X37_184 : om_FL RX37 184 1414 [24] := om_FL1 ⟨_, 6, _, rfl, by decide, rfl, Or.inr ⟨_, q1558⟩, Or.inl rfl⟩
theorem fl_X37_187 : om_FL RX37 187 1410 [24] := om_FL1 ⟨_, 5, _, rfl, by decide, rfl, Or.inr ⟨_, q1554⟩, Or.inl rfl⟩
theorem fl_X37_191 : om_FL RX37 191 1418 [24] := om_FL1 ⟨_, 7, _, rfl, by decide, rfl, Or.inr ⟨_, q1564⟩, Or.inl rfl⟩
theorem fl_X37_192 : om_FL RX37 192 1422 [25] := om_FL1 ⟨_, 3, _, rfl, by decide, rfl, Or.inr ⟨_, q1600⟩, Or.inl rfl⟩
theorem fl_X37_195 : om_FL RX37 195 1426 [25] := om_FL1 ⟨_, 4, _, rfl, by decide, rfl, Or.inr ⟨_, q1606⟩, Or.inl rfl⟩
theorem fl_X37_198 : om_FL RX37 198 1430 [25] := om_FL1 ⟨_, 5, _, rfl, by decide, rfl, Or.inr ⟨_, q1612⟩, Or.inl rfl⟩
theorem fl_X37_201 : om_FL RX37 201 1434 [26] := om_FL1 ⟨_, 3, _, rfl, by decide, rfl, Or.inr ⟨_, q1639⟩, Or.inl rfl⟩
theorem fl_X37_208 : om_FL RX37 208 1438 [26] := om_FL1 ⟨_, 4, _, rfl, by decide, rfl, Or.inr ⟨_, q1646⟩, Or.inl rfl⟩
theorem fl_X37_211 : om_FL RX37 211 1582 [33] := om_FL1 ⟨_, 6, _, rfl, by decide, rfl, Or.inr ⟨_, q2116⟩, Or.inl rfl⟩
theorem fl_X37_213 : om_FL RX37 213 1442 [26] := om_FL1 ⟨_, 5, _, rfl, by decide, rfl, Or.inr ⟨_, q1652⟩, Or.inl rfl⟩
theorem fl_X37_216 : om_FL RX37 216 1522 [31] := om_FL1 ⟨_, 4, _, rfl, by decide, rfl, Or.inr ⟨_, q1860⟩, Or.inl rfl⟩
theorem fl_X37_219 : om_FL RX37 219 1518 [31] := om_FL1 ⟨_, 3, _, rfl, by decide, rfl, Or.inr ⟨_, q1853⟩, Or.inl rfl⟩
theorem fl_X37_223 : om_FL RX37 223 1526 [31] := om_FL1 ⟨_, 5, _, rfl, by decide, rfl, Or.inr ⟨_, q1867⟩, Or.inl rfl⟩
theorem fl_X37_231 : om_FL RX37 231 1490 [29] := om_FL1 ⟨_, 3, _, rfl, by decide, rfl, Or.inr ⟨_, q1786⟩, Or.inl rfl⟩
theorem fl_X37_237 : om_FL RX37 237 1494 [29] := om_FL1 ⟨_, 4, _, rfl, by decide, rfl, Or.inr ⟨_, q1794⟩, Or.inl rfl⟩
theorem fl_X37_242 : om_FL RX37 242 1498 [30] := om_FL1 ⟨_, 0, _, rfl, by decide, rfl, Or.inr ⟨_, q1821⟩, Or.inl rfl⟩
theorem fl_X37_243 : om_FL RX37 243 1504 [30] := om_FL1 ⟨_, 2, _, rfl, by decide, rfl, Or.inr ⟨_, q1826⟩, Or.inl rfl⟩
theorem fl_X37_249 : om_FL RX37 249 1586 [33] := om_FL1 ⟨_, 7, _, rfl, by decide, rfl, Or.inr ⟨_, q2124⟩, Or.inl rfl⟩
theorem fl_X37_255 : om_FL RX37 255 1470 [27] := om_FL1 ⟨_, 7, _, rfl, by decide, rfl, Or.inr ⟨_, q1720⟩, Or.inl rfl⟩
theorem fl_X37_259 : om_FL RX37 259 1542 [32] := om_FL1 ⟨_, 3, _, rfl, by decide, rfl, Or.inr ⟨_, q1944⟩, Or.inl rfl⟩
theorem fl_X37_265 : om_FL RX37 265 162 [4] := om_FL1 ⟨_, 0, _, rfl, by decide, rfl, Or.inr ⟨_, q455⟩, Or.inl rfl⟩
theorem fl_X37_268 : om_FL RX37 268 1474 [27] := om_FL1 ⟨_, 8, _, rfl, by decide, rfl, Or.inr ⟨_, q1724⟩, Or.inl rfl⟩
theorem fl_X37_272 : om_FL RX37 272 1476 [27] := om_FL1 ⟨_, 9, _, rfl, by decide, rfl, Or.inr ⟨_, q1729⟩, Or.inl rfl⟩
theorem fl_X37_279 : om_FL RX37 279 1372 [27] := om_FL1 ⟨_, 0, _, rfl, by decide, rfl, Or.inl q1509, Or.inr q1510⟩
theorem fl_X37_280 : om_FL RX37 280 1458 [27] := om_FL1 ⟨_, 4, _, rfl, by decide, rfl, Or.inr ⟨_, q1708⟩, Or.inl rfl⟩
theorem fl_X37_283 : om_FL RX37 283 1464 [27] := om_FL1 ⟨_, 6, _, rfl, by decide, rfl, Or.inr ⟨_, q1717⟩, Or.inl rfl⟩
theorem fl_X37_289 : om_FL RX37 289 1250 [18] := om_FL1 ⟨_, 2, _, rfl, by decide, rfl, Or.inr ⟨_, q1324⟩, Or.inl rfl⟩
theorem fl_X37_290 : om_FL RX37 290 1462 [27] := om_FL1 ⟨_, 5, _, rfl, by decide, rfl, Or.inr ⟨_, q1712⟩, Or.inl rfl⟩
theorem fl_X37_316 : om_FL RX37 316 1550 [32] := om_FL1 ⟨_, 5, _, rfl, by decide, rfl, Or.inr ⟨_, q1948⟩, Or.inl rfl⟩
theorem fl_X37_317 : om_FL RX37 317 166 [4] := om_FL1 ⟨_, 1, _, rfl, by decide, rfl, Or.inr ⟨_, q462⟩, Or.inl rfl⟩
theorem fl_X37_322 : om_FL RX37 322 1342 [21] := om_FL1 ⟨_, 1, _, rfl, by decide, rfl, Or.inr ⟨_, q1439⟩, Or.inl rfl⟩
theorem fl_X37_330 : om_FL RX37 330 1350 [21] := om_FL1 ⟨_, 3, _, rfl, by decide, rfl, Or.inr ⟨_, q1446⟩, Or.inl rfl⟩
theorem fl_X37_335 : om_FL RX37 335 1354 [21] := om_FL1 ⟨_, 4, _, rfl, by decide, rfl, Or.inr ⟨_, q1451⟩, Or.inl rfl⟩
-- putfield J1 7: ('fl', 'q352', 'java/util/AbstractList', 'modCount', 'I')
theorem fp_J2_9 : om_FP RJ2 9 1726 false [40] := om_FP1 ⟨_, 1, _, rfl, by decide, rfl, Or.inl q350, Or.inl rfl, rfl, fun h => by cases h⟩
theorem fp_J2_48 : om_FP RJ2 48 1728 false [40] := om_FP1 ⟨_, 2, _, rfl, by decide, rfl, Or.inl q351, Or.inl rfl, rfl, fun h => by cases h⟩
theorem fp_J2_63 : om_FP RJ2 63 1720 false [40] := om_FP1 ⟨_, 0, _, rfl, by decide, rfl, Or.inl q353, Or.inr q354, rfl, fun h => by cases h⟩
theorem fp_J8_7 : om_FP RJ8 7 1154 false [15] := om_FP1 ⟨_, 0, _, rfl, by decide, rfl, Or.inl q1055, Or.inl rfl, rfl, fun h => by cases h⟩
theorem fp_J8_17 : om_FP RJ8 17 1158 false [15] := om_FP1 ⟨_, 1, _, rfl, by decide, rfl, Or.inl q1056, Or.inl rfl, rfl, fun h => by cases h⟩
theorem fp_J8_24 : om_FP RJ8 24 1162 false [15] := om_FP1 ⟨_, 2, _, rfl, by decide, rfl, Or.inl q1057, Or.inl rfl, rfl, fun h => by cases h⟩
theorem fp_J8_31 : om_FP RJ8 31 1166 false [15] := om_FP1 ⟨_, 3, _, rfl, by decide, rfl, Or.inl q1054, Or.inl rfl, rfl, fun h => by cases h⟩
-- putfield J15 205: ('fl', 'q1900', 'java/lang/Integer', 'value', 'I')
theorem fp_X0_1 : om_FP RX0 1 8 false [0] := om_FP1 ⟨_, 1, _, rfl, by decide, rfl, Or.inl q755, Or.inl rfl, rfl, fun h => by cases h⟩
theorem fp_X0_11 : om_FP RX0 11 6 true [0] := om_FP1 ⟨_, 0, _, rfl, by decide, rfl, Or.inl q754, Or.inl rfl, rfl, fun _ => rfl⟩
theorem fp_X0_67 : om_FP RX0 67 1148 false [14] := om_FP1 ⟨_, 7, _, rfl, by decide, rfl, Or.inr ⟨rfl, _, q952⟩, Or.inl rfl, rfl, fun h => by cases h⟩
theorem fp_X0_87 : om_FP RX0 87 1372 false om_exk := by
  intro k hk
  simp only [om_exk, List.mem_cons, List.not_mem_nil, or_false] at hk
  rcases hk with rfl | rfl | rfl | rfl | rfl | rfl | rfl | rfl
  · exact ⟨_, 0, _, rfl, by decide, rfl, Or.inl q1508, Or.inl rfl, rfl, fun h => by cases h⟩
  · exact ⟨_, 0, _, rfl, by decide, rfl, Or.inl q1508, Or.inl rfl, rfl, fun h => by cases h⟩
  · exact ⟨_, 0, _, rfl, by decide, rfl, Or.inl q1508, Or.inl rfl, rfl, fun h => by cases h⟩
  · exact ⟨_, 0, _, rfl, by decide, rfl, Or.inl q1508, Or.inl rfl, rfl, fun h => by cases h⟩
  · exact ⟨_, 0, _, rfl, by decide, rfl, Or.inl q1508, Or.inl rfl, rfl, fun h => by cases h⟩
  · exact ⟨_, 0, _, rfl, by decide, rfl, Or.inl q1508, Or.inl rfl, rfl, fun h => by cases h⟩
  · exact ⟨_, 0, _, rfl, by decide, rfl, Or.inl q1508, Or.inl rfl, rfl, fun h => by cases h⟩
  · exact ⟨_, 0, _, rfl, by decide, rfl, Or.inl q1508, Or.inl rfl, rfl, fun h => by cases h⟩
theorem fp_X0_137 : om_FP RX0 137 1386 false [23] := om_FP1 ⟨_, 3, _, rfl, by decide, rfl, Or.inr ⟨rfl, _, q1494⟩, Or.inl rfl, rfl, fun h => by cases h⟩
theorem fp_X0_140 : om_FP RX0 140 1390 false [23] := om_FP1 ⟨_, 4, _, rfl, by decide, rfl, Or.inr ⟨rfl, _, q1496⟩, Or.inl rfl, rfl, fun h => by cases h⟩
theorem fp_X0_147 : om_FP RX0 147 1398 false [23] := om_FP1 ⟨_, 6, _, rfl, by decide, rfl, Or.inr ⟨rfl, _, q1505⟩, Or.inl rfl, rfl, fun h => by cases h⟩
theorem fp_X0_154 : om_FP RX0 154 1402 false [24] := om_FP1 ⟨_, 3, _, rfl, by decide, rfl, Or.inr ⟨rfl, _, q1550⟩, Or.inl rfl, rfl, fun h => by cases h⟩
theorem fp_X0_155 : om_FP RX0 155 1406 false [24] := om_FP1 ⟨_, 4, _, rfl, by decide, rfl, Or.inr ⟨rfl, _, q1552⟩, Or.inl rfl, rfl, fun h => by cases h⟩
theorem fp_X0_156 : om_FP RX0 156 1414 false [24] := om_FP1 ⟨_, 6, _, rfl, by decide, rfl, Or.inr ⟨rfl, _, q1561⟩, Or.inl rfl, rfl, fun h => by cases h⟩
theorem fp_X0_164 : om_FP RX0 164 1418 false [24] := om_FP1 ⟨_, 7, _, rfl, by decide, rfl, Or.inr ⟨rfl, _, q1567⟩, Or.inl rfl, rfl, fun h => by cases h⟩
theorem fp_X0_168 : om_FP RX0 168 1422 false [25] := om_FP1 ⟨_, 3, _, rfl, by decide, rfl, Or.inr ⟨rfl, _, q1602⟩, Or.inl rfl, rfl, fun h => by cases h⟩
theorem fp_X0_173 : om_FP RX0 173 1426 false [25] := om_FP1 ⟨_, 4, _, rfl, by decide, rfl, Or.inr ⟨rfl, _, q1608⟩, Or.inl rfl, rfl, fun h => by cases h⟩
theorem fp_X0_178 : om_FP RX0 178 1430 false [25] := om_FP1 ⟨_, 5, _, rfl, by decide, rfl, Or.inr ⟨rfl, _, q1614⟩, Or.inl rfl, rfl, fun h => by cases h⟩
theorem fp_X0_184 : om_FP RX0 184 1434 false [26] := om_FP1 ⟨_, 3, _, rfl, by decide, rfl, Or.inr ⟨rfl, _, q1642⟩, Or.inl rfl, rfl, fun h => by cases h⟩
theorem fp_X0_194 : om_FP RX0 194 1438 false [26] := om_FP1 ⟨_, 4, _, rfl, by decide, rfl, Or.inr ⟨rfl, _, q1647⟩, Or.inl rfl, rfl, fun h => by cases h⟩
theorem fp_X0_198 : om_FP RX0 198 1446 false [26] := om_FP1 ⟨_, 6, _, rfl, by decide, rfl, Or.inr ⟨rfl, _, q1657⟩, Or.inl rfl, rfl, fun h => by cases h⟩
theorem fp_X0_201 : om_FP RX0 201 1450 false [26] := om_FP1 ⟨_, 7, _, rfl, by decide, rfl, Or.inr ⟨rfl, _, q1660⟩, Or.inl rfl, rfl, fun h => by cases h⟩
theorem fp_X0_204 : om_FP RX0 204 1442 false [26] := om_FP1 ⟨_, 5, _, rfl, by decide, rfl, Or.inr ⟨rfl, _, q1653⟩, Or.inl rfl, rfl, fun h => by cases h⟩
theorem fp_X0_220 : om_FP RX0 220 1372 false [31] := om_FP1 ⟨_, 0, _, rfl, by decide, rfl, Or.inl q1511, Or.inr q1512, rfl, fun h => by cases h⟩
theorem fp_X0_225 : om_FP RX0 225 1518 false [31] := om_FP1 ⟨_, 3, _, rfl, by decide, rfl, Or.inr ⟨rfl, _, q1857⟩, Or.inl rfl, rfl, fun h => by cases h⟩
theorem fp_X0_248 : om_FP RX0 248 1490 false [29] := om_FP1 ⟨_, 3, _, rfl, by decide, rfl, Or.inr ⟨rfl, _, q1788⟩, Or.inl rfl, rfl, fun h => by cases h⟩
theorem fp_X0_265 : om_FP RX0 265 1454 false [27] := om_FP1 ⟨_, 3, _, rfl, by decide, rfl, Or.inr ⟨rfl, _, q1705⟩, Or.inl rfl, rfl, fun h => by cases h⟩
theorem fp_X0_269 : om_FP RX0 269 1484 false [28] := om_FP1 ⟨_, 3, _, rfl, by decide, rfl, Or.inr ⟨rfl, _, q1763⟩, Or.inl rfl, rfl, fun h => by cases h⟩
theorem fp_X0_354 : om_FP RX0 354 14 true [0] := om_FP1 ⟨_, 2, _, rfl, by decide, rfl, Or.inl q756, Or.inl rfl, rfl, fun _ => rfl⟩
theorem fp_X0_361 : om_FP RX0 361 18 true [0] := om_FP1 ⟨_, 3, _, rfl, by decide, rfl, Or.inl q757, Or.inl rfl, rfl, fun _ => rfl⟩
theorem fp_X0_368 : om_FP RX0 368 50 true [0] := om_FP1 ⟨_, 11, _, rfl, by decide, rfl, Or.inl q765, Or.inl rfl, rfl, fun _ => rfl⟩
theorem fp_X0_377 : om_FP RX0 377 54 true [0] := om_FP1 ⟨_, 12, _, rfl, by decide, rfl, Or.inl q766, Or.inl rfl, rfl, fun _ => rfl⟩
theorem fp_X0_384 : om_FP RX0 384 58 true [0] := om_FP1 ⟨_, 13, _, rfl, by decide, rfl, Or.inl q767, Or.inl rfl, rfl, fun _ => rfl⟩
theorem fp_X0_391 : om_FP RX0 391 62 true [0] := om_FP1 ⟨_, 14, _, rfl, by decide, rfl, Or.inl q768, Or.inl rfl, rfl, fun _ => rfl⟩
theorem fp_X0_398 : om_FP RX0 398 66 true [0] := om_FP1 ⟨_, 15, _, rfl, by decide, rfl, Or.inl q769, Or.inl rfl, rfl, fun _ => rfl⟩
theorem fp_X0_402 : om_FP RX0 402 39 false [0] := om_FP1 ⟨_, 8, _, rfl, by decide, rfl, Or.inl q762, Or.inl rfl, rfl, fun h => by cases h⟩
theorem fp_X0_409 : om_FP RX0 409 40 false [0] := om_FP1 ⟨_, 9, _, rfl, by decide, rfl, Or.inl q763, Or.inl rfl, rfl, fun h => by cases h⟩
theorem fp_X0_413 : om_FP RX0 413 44 false [0] := om_FP1 ⟨_, 10, _, rfl, by decide, rfl, Or.inl q764, Or.inl rfl, rfl, fun h => by cases h⟩
theorem fp_X0_420 : om_FP RX0 420 204 false [7] := om_FP1 ⟨_, 3, _, rfl, by decide, rfl, Or.inr ⟨rfl, _, q521⟩, Or.inl rfl, rfl, fun h => by cases h⟩
theorem fp_X0_486 : om_FP RX0 486 20 false [0] := om_FP1 ⟨_, 4, _, rfl, by decide, rfl, Or.inl q758, Or.inl rfl, rfl, fun h => by cases h⟩
theorem fp_X0_516 : om_FP RX0 516 31 false [0] := om_FP1 ⟨_, 6, _, rfl, by decide, rfl, Or.inl q760, Or.inl rfl, rfl, fun h => by cases h⟩
theorem fp_X0_519 : om_FP RX0 519 35 false [0] := om_FP1 ⟨_, 7, _, rfl, by decide, rfl, Or.inl q761, Or.inl rfl, rfl, fun h => by cases h⟩
theorem fp_X0_522 : om_FP RX0 522 24 false [0] := om_FP1 ⟨_, 5, _, rfl, by decide, rfl, Or.inl q759, Or.inl rfl, rfl, fun h => by cases h⟩
theorem fp_X0_532 : om_FP RX0 532 158 false [3] := om_FP1 ⟨_, 3, _, rfl, by decide, rfl, Or.inr ⟨rfl, _, q474⟩, Or.inl rfl, rfl, fun h => by cases h⟩
theorem fp_X0_536 : om_FP RX0 536 112 false [1] := om_FP1 ⟨_, 11, _, rfl, by decide, rfl, Or.inr ⟨rfl, _, q406⟩, Or.inl rfl, rfl, fun h => by cases h⟩
theorem fp_X1_9 : om_FP RX1 9 70 true [1] := om_FP1 ⟨_, 0, _, rfl, by decide, rfl, Or.inl q390, Or.inl rfl, rfl, fun _ => rfl⟩
theorem fp_X1_18 : om_FP RX1 18 78 true [1] := om_FP1 ⟨_, 2, _, rfl, by decide, rfl, Or.inl q392, Or.inl rfl, rfl, fun _ => rfl⟩
theorem fp_X1_25 : om_FP RX1 25 82 true [1] := om_FP1 ⟨_, 3, _, rfl, by decide, rfl, Or.inl q394, Or.inl rfl, rfl, fun _ => rfl⟩
theorem fp_X1_29 : om_FP RX1 29 86 true [1] := om_FP1 ⟨_, 4, _, rfl, by decide, rfl, Or.inl q396, Or.inl rfl, rfl, fun _ => rfl⟩
theorem fp_X1_32 : om_FP RX1 32 90 true [1] := om_FP1 ⟨_, 5, _, rfl, by decide, rfl, Or.inl q398, Or.inl rfl, rfl, fun _ => rfl⟩
theorem fp_X1_35 : om_FP RX1 35 94 true [1] := om_FP1 ⟨_, 6, _, rfl, by decide, rfl, Or.inl q400, Or.inl rfl, rfl, fun _ => rfl⟩
theorem fp_X1_38 : om_FP RX1 38 98 true [1] := om_FP1 ⟨_, 7, _, rfl, by decide, rfl, Or.inl q401, Or.inl rfl, rfl, fun _ => rfl⟩
theorem fp_X1_41 : om_FP RX1 41 102 true [1] := om_FP1 ⟨_, 8, _, rfl, by decide, rfl, Or.inl q402, Or.inl rfl, rfl, fun _ => rfl⟩
theorem fp_X1_44 : om_FP RX1 44 106 true [1] := om_FP1 ⟨_, 9, _, rfl, by decide, rfl, Or.inl q403, Or.inl rfl, rfl, fun _ => rfl⟩
theorem fp_X1_47 : om_FP RX1 47 110 true [1] := om_FP1 ⟨_, 10, _, rfl, by decide, rfl, Or.inl q404, Or.inl rfl, rfl, fun _ => rfl⟩
theorem fp_X1_112 : om_FP RX1 112 1200 false [17] := om_FP1 ⟨_, 1, _, rfl, by decide, rfl, Or.inr ⟨rfl, _, q1201⟩, Or.inl rfl, rfl, fun h => by cases h⟩
theorem fp_X1_122 : om_FP RX1 122 1210 false [17] := om_FP1 ⟨_, 3, _, rfl, by decide, rfl, Or.inr ⟨rfl, _, q1206⟩, Or.inl rfl, rfl, fun h => by cases h⟩
theorem fp_X1_128 : om_FP RX1 128 1214 false [17] := om_FP1 ⟨_, 4, _, rfl, by decide, rfl, Or.inr ⟨rfl, _, q1207⟩, Or.inl rfl, rfl, fun h => by cases h⟩
theorem fp_X1_140 : om_FP RX1 140 1250 false [18] := om_FP1 ⟨_, 2, _, rfl, by decide, rfl, Or.inr ⟨rfl, _, q1322⟩, Or.inl rfl, rfl, fun h => by cases h⟩
theorem fp_X1_147 : om_FP RX1 147 1252 false [18] := om_FP1 ⟨_, 3, _, rfl, by decide, rfl, Or.inr ⟨rfl, _, q1325⟩, Or.inl rfl, rfl, fun h => by cases h⟩
theorem fp_X1_154 : om_FP RX1 154 1280 false [20] := om_FP1 ⟨_, 1, _, rfl, by decide, rfl, Or.inr ⟨rfl, _, q1362⟩, Or.inl rfl, rfl, fun h => by cases h⟩
theorem fp_X1_169 : om_FP RX1 169 1290 false [20] := om_FP1 ⟨_, 3, _, rfl, by decide, rfl, Or.inr ⟨rfl, _, q1368⟩, Or.inl rfl, rfl, fun h => by cases h⟩
theorem fp_X1_172 : om_FP RX1 172 1294 false [20] := om_FP1 ⟨_, 4, _, rfl, by decide, rfl, Or.inr ⟨rfl, _, q1369⟩, Or.inl rfl, rfl, fun h => by cases h⟩
theorem fp_X1_176 : om_FP RX1 176 1298 false [20] := om_FP1 ⟨_, 5, _, rfl, by decide, rfl, Or.inr ⟨rfl, _, q1370⟩, Or.inl rfl, rfl, fun h => by cases h⟩
theorem fp_X1_179 : om_FP RX1 179 1310 false [20] := om_FP1 ⟨_, 8, _, rfl, by decide, rfl, Or.inr ⟨rfl, _, q1376⟩, Or.inl rfl, rfl, fun h => by cases h⟩
theorem fp_X1_200 : om_FP RX1 200 1532 false [32] := om_FP1 ⟨_, 1, _, rfl, by decide, rfl, Or.inr ⟨rfl, _, q1939⟩, Or.inl rfl, rfl, fun h => by cases h⟩
theorem fp_X1_207 : om_FP RX1 207 1546 false [32] := om_FP1 ⟨_, 4, _, rfl, by decide, rfl, Or.inr ⟨rfl, _, q1946⟩, Or.inl rfl, rfl, fun h => by cases h⟩
theorem fp_X1_210 : om_FP RX1 210 1554 false [32] := om_FP1 ⟨_, 6, _, rfl, by decide, rfl, Or.inr ⟨rfl, _, q1951⟩, Or.inl rfl, rfl, fun h => by cases h⟩
theorem fp_X1_214 : om_FP RX1 214 112 false [1] := om_FP1 ⟨_, 11, _, rfl, by decide, rfl, Or.inl q405, Or.inl rfl, rfl, fun h => by cases h⟩
theorem fp_X1_239 : om_FP RX1 239 1219 false [17] := om_FP1 ⟨_, 5, _, rfl, by decide, rfl, Or.inr ⟨rfl, _, q1209⟩, Or.inl rfl, rfl, fun h => by cases h⟩
theorem fp_X1_247 : om_FP RX1 247 1223 false [17] := om_FP1 ⟨_, 6, _, rfl, by decide, rfl, Or.inr ⟨rfl, _, q1210⟩, Or.inl rfl, rfl, fun h => by cases h⟩
theorem fp_X1_250 : om_FP RX1 250 1539 false [32] := om_FP1 ⟨_, 2, _, rfl, by decide, rfl, Or.inr ⟨rfl, _, q1940⟩, Or.inl rfl, rfl, fun h => by cases h⟩
theorem fp_X1_251 : om_FP RX1 251 1259 false [18] := om_FP1 ⟨_, 4, _, rfl, by decide, rfl, Or.inr ⟨rfl, _, q1327⟩, Or.inl rfl, rfl, fun h => by cases h⟩
theorem fp_X1_333 : om_FP RX1 333 1226 false [17] := om_FP1 ⟨_, 7, _, rfl, by decide, rfl, Or.inr ⟨rfl, _, q1214⟩, Or.inl rfl, rfl, fun h => by cases h⟩
theorem fp_X1_338 : om_FP RX1 338 1262 false [18] := om_FP1 ⟨_, 5, _, rfl, by decide, rfl, Or.inr ⟨rfl, _, q1330⟩, Or.inl rfl, rfl, fun h => by cases h⟩
theorem fp_X1_351 : om_FP RX1 351 1350 false [21] := om_FP1 ⟨_, 3, _, rfl, by decide, rfl, Or.inr ⟨rfl, _, q1447⟩, Or.inl rfl, rfl, fun h => by cases h⟩
theorem fp_X1_354 : om_FP RX1 354 1354 false [21] := om_FP1 ⟨_, 4, _, rfl, by decide, rfl, Or.inr ⟨rfl, _, q1452⟩, Or.inl rfl, rfl, fun h => by cases h⟩
theorem fp_X1_356 : om_FP RX1 356 1302 false [20] := om_FP1 ⟨_, 6, _, rfl, by decide, rfl, Or.inr ⟨rfl, _, q1373⟩, Or.inl rfl, rfl, fun h => by cases h⟩
theorem fp_X1_357 : om_FP RX1 357 1304 false [20] := om_FP1 ⟨_, 7, _, rfl, by decide, rfl, Or.inr ⟨rfl, _, q1375⟩, Or.inl rfl, rfl, fun h => by cases h⟩
theorem fp_X1_364 : om_FP RX1 364 1314 false [20] := om_FP1 ⟨_, 9, _, rfl, by decide, rfl, Or.inr ⟨rfl, _, q1379⟩, Or.inl rfl, rfl, fun h => by cases h⟩
theorem fp_X1_367 : om_FP RX1 367 1318 false [20] := om_FP1 ⟨_, 10, _, rfl, by decide, rfl, Or.inr ⟨rfl, _, q1381⟩, Or.inl rfl, rfl, fun h => by cases h⟩
theorem fp_X1_379 : om_FP RX1 379 1550 false [32] := om_FP1 ⟨_, 5, _, rfl, by decide, rfl, Or.inr ⟨rfl, _, q1949⟩, Or.inl rfl, rfl, fun h => by cases h⟩
theorem fp_X1_387 : om_FP RX1 387 1330 false [20] := om_FP1 ⟨_, 13, _, rfl, by decide, rfl, Or.inr ⟨rfl, _, q1390⟩, Or.inl rfl, rfl, fun h => by cases h⟩
theorem fp_X1_428 : om_FP RX1 428 1334 false [20] := om_FP1 ⟨_, 14, _, rfl, by decide, rfl, Or.inr ⟨rfl, _, q1393⟩, Or.inl rfl, rfl, fun h => by cases h⟩
theorem fp_X2_12 : om_FP RX2 12 122 true [2] := om_FP1 ⟨_, 1, _, rfl, by decide, rfl, Or.inl q366, Or.inl rfl, rfl, fun _ => rfl⟩
theorem fp_X2_20 : om_FP RX2 20 134 true [2] := om_FP1 ⟨_, 4, _, rfl, by decide, rfl, Or.inl q370, Or.inl rfl, rfl, fun _ => rfl⟩
theorem fp_X2_24 : om_FP RX2 24 138 true [2] := om_FP1 ⟨_, 5, _, rfl, by decide, rfl, Or.inl q371, Or.inl rfl, rfl, fun _ => rfl⟩
theorem fp_X2_27 : om_FP RX2 27 140 false [2] := om_FP1 ⟨_, 6, _, rfl, by decide, rfl, Or.inl q372, Or.inl rfl, rfl, fun h => by cases h⟩
theorem fp_X2_52 : om_FP RX2 52 118 false [2] := om_FP1 ⟨_, 0, _, rfl, by decide, rfl, Or.inl q365, Or.inl rfl, rfl, fun h => by cases h⟩
theorem fp_X2_56 : om_FP RX2 56 124 false [2] := om_FP1 ⟨_, 2, _, rfl, by decide, rfl, Or.inl q367, Or.inl rfl, rfl, fun h => by cases h⟩
theorem fp_X2_59 : om_FP RX2 59 128 false [2] := om_FP1 ⟨_, 3, _, rfl, by decide, rfl, Or.inl q368, Or.inl rfl, rfl, fun h => by cases h⟩
theorem fp_X2_66 : om_FP RX2 66 1594 false [33] := om_FP1 ⟨_, 9, _, rfl, by decide, rfl, Or.inr ⟨rfl, _, q2129⟩, Or.inl rfl, rfl, fun h => by cases h⟩
theorem fp_X2_84 : om_FP RX2 84 1568 false [33] := om_FP1 ⟨_, 3, _, rfl, by decide, rfl, Or.inr ⟨rfl, _, q2099⟩, Or.inl rfl, rfl, fun h => by cases h⟩
theorem fp_X2_88 : om_FP RX2 88 1556 false [33] := om_FP1 ⟨_, 0, _, rfl, by decide, rfl, Or.inr ⟨rfl, _, q2085⟩, Or.inl rfl, rfl, fun h => by cases h⟩
theorem fp_X2_91 : om_FP RX2 91 1560 false [33] := om_FP1 ⟨_, 1, _, rfl, by decide, rfl, Or.inr ⟨rfl, _, q2092⟩, Or.inl rfl, rfl, fun h => by cases h⟩
theorem fp_X2_94 : om_FP RX2 94 1574 false [33] := om_FP1 ⟨_, 4, _, rfl, by decide, rfl, Or.inr ⟨rfl, _, q2101⟩, Or.inl rfl, rfl, fun h => by cases h⟩
theorem fp_X2_98 : om_FP RX2 98 1578 false [33] := om_FP1 ⟨_, 5, _, rfl, by decide, rfl, Or.inr ⟨rfl, _, q2106⟩, Or.inl rfl, rfl, fun h => by cases h⟩
theorem fp_X2_102 : om_FP RX2 102 1582 false [33] := om_FP1 ⟨_, 6, _, rfl, by decide, rfl, Or.inr ⟨rfl, _, q2112⟩, Or.inl rfl, rfl, fun h => by cases h⟩
theorem fp_X2_105 : om_FP RX2 105 1586 false [33] := om_FP1 ⟨_, 7, _, rfl, by decide, rfl, Or.inr ⟨rfl, _, q2120⟩, Or.inl rfl, rfl, fun h => by cases h⟩
theorem fp_X2_108 : om_FP RX2 108 1564 false [33] := om_FP1 ⟨_, 2, _, rfl, by decide, rfl, Or.inr ⟨rfl, _, q2098⟩, Or.inl rfl, rfl, fun h => by cases h⟩
theorem fp_X2_110 : om_FP RX2 110 1591 false [33] := om_FP1 ⟨_, 8, _, rfl, by decide, rfl, Or.inr ⟨rfl, _, q2126⟩, Or.inl rfl, rfl, fun h => by cases h⟩
theorem fp_X3_9 : om_FP RX3 9 146 true [3] := om_FP1 ⟨_, 0, _, rfl, by decide, rfl, Or.inl q468, Or.inl rfl, rfl, fun _ => rfl⟩
theorem fp_X3_18 : om_FP RX3 18 150 true [3] := om_FP1 ⟨_, 1, _, rfl, by decide, rfl, Or.inl q470, Or.inl rfl, rfl, fun _ => rfl⟩
theorem fp_X3_25 : om_FP RX3 25 154 true [3] := om_FP1 ⟨_, 2, _, rfl, by decide, rfl, Or.inl q472, Or.inl rfl, rfl, fun _ => rfl⟩
theorem fp_X4_10 : om_FP RX4 10 162 true [4] := om_FP1 ⟨_, 0, _, rfl, by decide, rfl, Or.inl q449, Or.inl rfl, rfl, fun _ => rfl⟩
theorem fp_X4_16 : om_FP RX4 16 166 true [4] := om_FP1 ⟨_, 1, _, rfl, by decide, rfl, Or.inl q457, Or.inl rfl, rfl, fun _ => rfl⟩
theorem fp_X5_12 : om_FP RX5 12 170 true [5] := om_FP1 ⟨_, 0, _, rfl, by decide, rfl, Or.inl q492, Or.inl rfl, rfl, fun _ => rfl⟩
theorem fp_X5_18 : om_FP RX5 18 178 false [5] := om_FP1 ⟨_, 2, _, rfl, by decide, rfl, Or.inl q494, Or.inl rfl, rfl, fun h => by cases h⟩
theorem fp_X5_22 : om_FP RX5 22 227 false [8] := om_FP1 ⟨_, 4, _, rfl, by decide, rfl, Or.inr ⟨rfl, _, q547⟩, Or.inl rfl, rfl, fun h => by cases h⟩
theorem fp_X5_28 : om_FP RX5 28 172 false [5] := om_FP1 ⟨_, 1, _, rfl, by decide, rfl, Or.inl q493, Or.inl rfl, rfl, fun h => by cases h⟩
theorem fp_X5_47 : om_FP RX5 47 1670 false [38] := om_FP1 ⟨_, 0, _, rfl, by decide, rfl, Or.inr ⟨rfl, _, q2741⟩, Or.inl rfl, rfl, fun h => by cases h⟩
theorem fp_X5_51 : om_FP RX5 51 1674 false [38] := om_FP1 ⟨_, 1, _, rfl, by decide, rfl, Or.inr ⟨rfl, _, q2744⟩, Or.inl rfl, rfl, fun h => by cases h⟩
theorem fp_X5_55 : om_FP RX5 55 1686 false [38] := om_FP1 ⟨_, 4, _, rfl, by decide, rfl, Or.inr ⟨rfl, _, q2752⟩, Or.inl rfl, rfl, fun h => by cases h⟩
theorem fp_X5_59 : om_FP RX5 59 1690 false [38] := om_FP1 ⟨_, 5, _, rfl, by decide, rfl, Or.inr ⟨rfl, _, q2755⟩, Or.inl rfl, rfl, fun h => by cases h⟩
theorem fp_X5_62 : om_FP RX5 62 1678 false [38] := om_FP1 ⟨_, 2, _, rfl, by decide, rfl, Or.inr ⟨rfl, _, q2747⟩, Or.inl rfl, rfl, fun h => by cases h⟩
theorem fp_X5_119 : om_FP RX5 119 1680 false [38] := om_FP1 ⟨_, 3, _, rfl, by decide, rfl, Or.inr ⟨rfl, _, q2751⟩, Or.inl rfl, rfl, fun h => by cases h⟩
theorem fp_X6_12 : om_FP RX6 12 182 true [6] := om_FP1 ⟨_, 0, _, rfl, by decide, rfl, Or.inl q559, Or.inl rfl, rfl, fun _ => rfl⟩
theorem fp_X6_23 : om_FP RX6 23 190 true [6] := om_FP1 ⟨_, 2, _, rfl, by decide, rfl, Or.inl q562, Or.inl rfl, rfl, fun _ => rfl⟩
theorem fp_X6_27 : om_FP RX6 27 186 true [6] := om_FP1 ⟨_, 1, _, rfl, by decide, rfl, Or.inl q561, Or.inl rfl, rfl, fun _ => rfl⟩
theorem fp_X7_12 : om_FP RX7 12 204 false [7] := om_FP1 ⟨_, 3, _, rfl, by decide, rfl, Or.inl q520, Or.inl rfl, rfl, fun h => by cases h⟩
theorem fp_X7_18 : om_FP RX7 18 192 false [7] := om_FP1 ⟨_, 0, _, rfl, by decide, rfl, Or.inl q515, Or.inl rfl, rfl, fun h => by cases h⟩
theorem fp_X7_21 : om_FP RX7 21 196 false [7] := om_FP1 ⟨_, 1, _, rfl, by decide, rfl, Or.inl q517, Or.inl rfl, rfl, fun h => by cases h⟩
theorem fp_X7_24 : om_FP RX7 24 200 false [7] := om_FP1 ⟨_, 2, _, rfl, by decide, rfl, Or.inl q518, Or.inl rfl, rfl, fun h => by cases h⟩
theorem fp_X8_9 : om_FP RX8 9 227 false [8] := om_FP1 ⟨_, 4, _, rfl, by decide, rfl, Or.inl q546, Or.inl rfl, rfl, fun h => by cases h⟩
theorem fp_X8_19 : om_FP RX8 19 210 false [8] := om_FP1 ⟨_, 0, _, rfl, by decide, rfl, Or.inl q541, Or.inl rfl, rfl, fun h => by cases h⟩
theorem fp_X8_23 : om_FP RX8 23 214 false [8] := om_FP1 ⟨_, 1, _, rfl, by decide, rfl, Or.inl q543, Or.inl rfl, rfl, fun h => by cases h⟩
theorem fp_X8_27 : om_FP RX8 27 216 false [8] := om_FP1 ⟨_, 2, _, rfl, by decide, rfl, Or.inl q544, Or.inl rfl, rfl, fun h => by cases h⟩
theorem fp_X8_31 : om_FP RX8 31 220 false [8] := om_FP1 ⟨_, 3, _, rfl, by decide, rfl, Or.inl q545, Or.inl rfl, rfl, fun h => by cases h⟩
theorem fp_X8_34 : om_FP RX8 34 128 false [2] := om_FP1 ⟨_, 3, _, rfl, by decide, rfl, Or.inr ⟨rfl, _, q369⟩, Or.inl rfl, rfl, fun h => by cases h⟩
theorem fp_X8_171 : om_FP RX8 171 1626 false [35] := om_FP1 ⟨_, 3, _, rfl, by decide, rfl, Or.inr ⟨rfl, _, q2399⟩, Or.inl rfl, rfl, fun h => by cases h⟩
theorem fp_X8_185 : om_FP RX8 185 1638 false [35] := om_FP1 ⟨_, 6, _, rfl, by decide, rfl, Or.inr ⟨rfl, _, q2413⟩, Or.inl rfl, rfl, fun h => by cases h⟩
theorem fp_X8_188 : om_FP RX8 188 1642 false [35] := om_FP1 ⟨_, 7, _, rfl, by decide, rfl, Or.inr ⟨rfl, _, q2417⟩, Or.inl rfl, rfl, fun h => by cases h⟩
theorem fp_X8_194 : om_FP RX8 194 1630 false [35] := om_FP1 ⟨_, 4, _, rfl, by decide, rfl, Or.inr ⟨rfl, _, q2404⟩, Or.inl rfl, rfl, fun h => by cases h⟩
theorem fp_X8_199 : om_FP RX8 199 1634 false [35] := om_FP1 ⟨_, 5, _, rfl, by decide, rfl, Or.inr ⟨rfl, _, q2408⟩, Or.inl rfl, rfl, fun h => by cases h⟩
theorem fp_X9_14 : om_FP RX9 14 234 true [9] := om_FP1 ⟨_, 1, _, rfl, by decide, rfl, Or.inl q581, Or.inl rfl, rfl, fun _ => rfl⟩
theorem fp_X9_23 : om_FP RX9 23 250 true [9] := om_FP1 ⟨_, 5, _, rfl, by decide, rfl, Or.inl q585, Or.inl rfl, rfl, fun _ => rfl⟩
theorem fp_X9_27 : om_FP RX9 27 230 true [9] := om_FP1 ⟨_, 0, _, rfl, by decide, rfl, Or.inl q580, Or.inl rfl, rfl, fun _ => rfl⟩
theorem fp_X9_44 : om_FP RX9 44 238 false [9] := om_FP1 ⟨_, 2, _, rfl, by decide, rfl, Or.inl q582, Or.inl rfl, rfl, fun h => by cases h⟩
theorem fp_X9_45 : om_FP RX9 45 242 false [9] := om_FP1 ⟨_, 3, _, rfl, by decide, rfl, Or.inl q583, Or.inl rfl, rfl, fun h => by cases h⟩
theorem fp_X9_46 : om_FP RX9 46 244 false [9] := om_FP1 ⟨_, 4, _, rfl, by decide, rfl, Or.inl q584, Or.inl rfl, rfl, fun h => by cases h⟩
theorem fp_X9_84 : om_FP RX9 84 254 false [9] := om_FP1 ⟨_, 6, _, rfl, by decide, rfl, Or.inl q586, Or.inl rfl, rfl, fun h => by cases h⟩
theorem fp_X9_87 : om_FP RX9 87 258 false [9] := om_FP1 ⟨_, 7, _, rfl, by decide, rfl, Or.inl q587, Or.inl rfl, rfl, fun h => by cases h⟩
theorem fp_X10_12 : om_FP RX10 12 262 true [10] := om_FP1 ⟨_, 0, _, rfl, by decide, rfl, Or.inl q645, Or.inl rfl, rfl, fun _ => rfl⟩
theorem fp_X10_20 : om_FP RX10 20 270 true [10] := om_FP1 ⟨_, 2, _, rfl, by decide, rfl, Or.inl q648, Or.inl rfl, rfl, fun _ => rfl⟩
theorem fp_X10_24 : om_FP RX10 24 302 true [10] := om_FP1 ⟨_, 10, _, rfl, by decide, rfl, Or.inl q660, Or.inl rfl, rfl, fun _ => rfl⟩
theorem fp_X10_28 : om_FP RX10 28 306 true [10] := om_FP1 ⟨_, 11, _, rfl, by decide, rfl, Or.inl q661, Or.inl rfl, rfl, fun _ => rfl⟩
theorem fp_X10_31 : om_FP RX10 31 314 true [10] := om_FP1 ⟨_, 13, _, rfl, by decide, rfl, Or.inl q663, Or.inl rfl, rfl, fun _ => rfl⟩
theorem fp_X10_38 : om_FP RX10 38 322 true [10] := om_FP1 ⟨_, 15, _, rfl, by decide, rfl, Or.inl q667, Or.inl rfl, rfl, fun _ => rfl⟩
theorem fp_X10_42 : om_FP RX10 42 326 true [10] := om_FP1 ⟨_, 16, _, rfl, by decide, rfl, Or.inl q668, Or.inl rfl, rfl, fun _ => rfl⟩
theorem fp_X10_45 : om_FP RX10 45 330 true [10] := om_FP1 ⟨_, 17, _, rfl, by decide, rfl, Or.inl q669, Or.inl rfl, rfl, fun _ => rfl⟩
theorem fp_X10_48 : om_FP RX10 48 334 true [10] := om_FP1 ⟨_, 18, _, rfl, by decide, rfl, Or.inl q670, Or.inl rfl, rfl, fun _ => rfl⟩
theorem fp_X10_51 : om_FP RX10 51 346 true [10] := om_FP1 ⟨_, 21, _, rfl, by decide, rfl, Or.inl q673, Or.inl rfl, rfl, fun _ => rfl⟩
theorem fp_X10_56 : om_FP RX10 56 264 false [10] := om_FP1 ⟨_, 1, _, rfl, by decide, rfl, Or.inl q646, Or.inl rfl, rfl, fun h => by cases h⟩
theorem fp_X10_60 : om_FP RX10 60 272 false [10] := om_FP1 ⟨_, 3, _, rfl, by decide, rfl, Or.inl q649, Or.inl rfl, rfl, fun h => by cases h⟩
theorem fp_X10_63 : om_FP RX10 63 276 false [10] := om_FP1 ⟨_, 4, _, rfl, by decide, rfl, Or.inl q651, Or.inl rfl, rfl, fun h => by cases h⟩
theorem fp_X10_66 : om_FP RX10 66 284 false [10] := om_FP1 ⟨_, 6, _, rfl, by decide, rfl, Or.inl q655, Or.inl rfl, rfl, fun h => by cases h⟩
theorem fp_X10_69 : om_FP RX10 69 316 false [10] := om_FP1 ⟨_, 14, _, rfl, by decide, rfl, Or.inl q665, Or.inl rfl, rfl, fun h => by cases h⟩
theorem fp_X10_72 : om_FP RX10 72 280 false [10] := om_FP1 ⟨_, 5, _, rfl, by decide, rfl, Or.inl q653, Or.inl rfl, rfl, fun h => by cases h⟩
theorem fp_X10_75 : om_FP RX10 75 290 false [10] := om_FP1 ⟨_, 7, _, rfl, by decide, rfl, Or.inl q657, Or.inl rfl, rfl, fun h => by cases h⟩
theorem fp_X10_79 : om_FP RX10 79 292 false [10] := om_FP1 ⟨_, 8, _, rfl, by decide, rfl, Or.inl q658, Or.inl rfl, rfl, fun h => by cases h⟩
theorem fp_X10_82 : om_FP RX10 82 296 false [10] := om_FP1 ⟨_, 9, _, rfl, by decide, rfl, Or.inl q659, Or.inl rfl, rfl, fun h => by cases h⟩
theorem fp_X10_100 : om_FP RX10 100 1694 false [39] := om_FP1 ⟨_, 0, _, rfl, by decide, rfl, Or.inr ⟨rfl, _, q3040⟩, Or.inl rfl, rfl, fun h => by cases h⟩
theorem fp_X10_110 : om_FP RX10 110 354 false [11] := om_FP1 ⟨_, 0, _, rfl, by decide, rfl, Or.inr ⟨rfl, _, q623⟩, Or.inl rfl, rfl, fun h => by cases h⟩
theorem fp_X10_114 : om_FP RX10 114 358 false [11] := om_FP1 ⟨_, 1, _, rfl, by decide, rfl, Or.inr ⟨rfl, _, q624⟩, Or.inl rfl, rfl, fun h => by cases h⟩
theorem fp_X10_115 : om_FP RX10 115 360 false [11] := om_FP1 ⟨_, 2, _, rfl, by decide, rfl, Or.inr ⟨rfl, _, q625⟩, Or.inl rfl, rfl, fun h => by cases h⟩
theorem fp_X10_116 : om_FP RX10 116 364 false [11] := om_FP1 ⟨_, 3, _, rfl, by decide, rfl, Or.inr ⟨rfl, _, q626⟩, Or.inl rfl, rfl, fun h => by cases h⟩
theorem fp_X10_133 : om_FP RX10 133 1697 false [39] := om_FP1 ⟨_, 1, _, rfl, by decide, rfl, Or.inr ⟨rfl, _, q3041⟩, Or.inl rfl, rfl, fun h => by cases h⟩
theorem fp_X10_137 : om_FP RX10 137 1708 false [39] := om_FP1 ⟨_, 4, _, rfl, by decide, rfl, Or.inr ⟨rfl, _, q3044⟩, Or.inl rfl, rfl, fun h => by cases h⟩
theorem fp_X10_233 : om_FP RX10 233 1706 false [39] := om_FP1 ⟨_, 3, _, rfl, by decide, rfl, Or.inr ⟨rfl, _, q3043⟩, Or.inl rfl, rfl, fun h => by cases h⟩
theorem fp_X10_262 : om_FP RX10 262 1714 false [39] := om_FP1 ⟨_, 5, _, rfl, by decide, rfl, Or.inr ⟨rfl, _, q3045⟩, Or.inl rfl, rfl, fun h => by cases h⟩
theorem fp_X10_303 : om_FP RX10 303 336 false [10] := om_FP1 ⟨_, 19, _, rfl, by decide, rfl, Or.inl q671, Or.inl rfl, rfl, fun h => by cases h⟩
theorem fp_X10_306 : om_FP RX10 306 340 false [10] := om_FP1 ⟨_, 20, _, rfl, by decide, rfl, Or.inl q672, Or.inl rfl, rfl, fun h => by cases h⟩
theorem fp_X10_333 : om_FP RX10 333 309 false [10] := om_FP1 ⟨_, 12, _, rfl, by decide, rfl, Or.inl q662, Or.inl rfl, rfl, fun h => by cases h⟩
theorem fp_X10_348 : om_FP RX10 348 369 false [11] := om_FP1 ⟨_, 4, _, rfl, by decide, rfl, Or.inr ⟨rfl, _, q627⟩, Or.inl rfl, rfl, fun h => by cases h⟩
theorem fp_X10_403 : om_FP RX10 403 1701 false [39] := om_FP1 ⟨_, 2, _, rfl, by decide, rfl, Or.inr ⟨rfl, _, q3042⟩, Or.inl rfl, rfl, fun h => by cases h⟩
theorem fp_X10_421 : om_FP RX10 421 348 false [10] := om_FP1 ⟨_, 22, _, rfl, by decide, rfl, Or.inl q674, Or.inl rfl, rfl, fun h => by cases h⟩
theorem fp_X11_7 : om_FP RX11 7 374 true [11] := om_FP1 ⟨_, 5, _, rfl, by decide, rfl, Or.inl q628, Or.inl rfl, rfl, fun _ => rfl⟩
theorem fp_X12_7 : om_FP RX12 7 378 false [12] := om_FP1 ⟨_, 0, _, rfl, by decide, rfl, Or.inl q728, Or.inl rfl, rfl, fun h => by cases h⟩
theorem fp_X12_13 : om_FP RX12 13 382 false [12] := om_FP1 ⟨_, 1, _, rfl, by decide, rfl, Or.inl q731, Or.inl rfl, rfl, fun h => by cases h⟩
theorem fp_X12_17 : om_FP RX12 17 386 false [12] := om_FP1 ⟨_, 2, _, rfl, by decide, rfl, Or.inl q734, Or.inl rfl, rfl, fun h => by cases h⟩
theorem fp_X12_21 : om_FP RX12 21 390 false [12] := om_FP1 ⟨_, 3, _, rfl, by decide, rfl, Or.inl q737, Or.inl rfl, rfl, fun h => by cases h⟩
theorem fp_X12_25 : om_FP RX12 25 394 false [12] := om_FP1 ⟨_, 4, _, rfl, by decide, rfl, Or.inl q740, Or.inl rfl, rfl, fun h => by cases h⟩
theorem fp_X13_7 : om_FP RX13 7 402 true [13] := om_FP1 ⟨_, 1, _, rfl, by decide, rfl, Or.inl q3244, Or.inl rfl, rfl, fun _ => rfl⟩
theorem fp_X13_13 : om_FP RX13 13 406 true [13] := om_FP1 ⟨_, 2, _, rfl, by decide, rfl, Or.inl q3245, Or.inl rfl, rfl, fun _ => rfl⟩
theorem fp_X13_16 : om_FP RX13 16 410 true [13] := om_FP1 ⟨_, 3, _, rfl, by decide, rfl, Or.inl q3246, Or.inl rfl, rfl, fun _ => rfl⟩
theorem fp_X13_19 : om_FP RX13 19 414 true [13] := om_FP1 ⟨_, 4, _, rfl, by decide, rfl, Or.inl q3247, Or.inl rfl, rfl, fun _ => rfl⟩
theorem fp_X13_22 : om_FP RX13 22 470 true [13] := om_FP1 ⟨_, 18, _, rfl, by decide, rfl, Or.inl q3261, Or.inl rfl, rfl, fun _ => rfl⟩
theorem fp_X13_26 : om_FP RX13 26 474 true [13] := om_FP1 ⟨_, 19, _, rfl, by decide, rfl, Or.inl q3262, Or.inl rfl, rfl, fun _ => rfl⟩
theorem fp_X13_29 : om_FP RX13 29 478 true [13] := om_FP1 ⟨_, 20, _, rfl, by decide, rfl, Or.inl q3263, Or.inl rfl, rfl, fun _ => rfl⟩
theorem fp_X13_32 : om_FP RX13 32 482 true [13] := om_FP1 ⟨_, 21, _, rfl, by decide, rfl, Or.inl q3264, Or.inl rfl, rfl, fun _ => rfl⟩
theorem fp_X13_35 : om_FP RX13 35 490 true [13] := om_FP1 ⟨_, 23, _, rfl, by decide, rfl, Or.inl q3266, Or.inl rfl, rfl, fun _ => rfl⟩
theorem fp_X13_38 : om_FP RX13 38 494 true [13] := om_FP1 ⟨_, 24, _, rfl, by decide, rfl, Or.inl q3267, Or.inl rfl, rfl, fun _ => rfl⟩
theorem fp_X13_42 : om_FP RX13 42 502 true [13] := om_FP1 ⟨_, 26, _, rfl, by decide, rfl, Or.inl q3269, Or.inl rfl, rfl, fun _ => rfl⟩
theorem fp_X13_45 : om_FP RX13 45 506 true [13] := om_FP1 ⟨_, 27, _, rfl, by decide, rfl, Or.inl q3270, Or.inl rfl, rfl, fun _ => rfl⟩
theorem fp_X13_48 : om_FP RX13 48 510 true [13] := om_FP1 ⟨_, 28, _, rfl, by decide, rfl, Or.inl q3271, Or.inl rfl, rfl, fun _ => rfl⟩
theorem fp_X13_51 : om_FP RX13 51 514 true [13] := om_FP1 ⟨_, 29, _, rfl, by decide, rfl, Or.inl q3272, Or.inl rfl, rfl, fun _ => rfl⟩
theorem fp_X13_54 : om_FP RX13 54 518 true [13] := om_FP1 ⟨_, 30, _, rfl, by decide, rfl, Or.inl q3273, Or.inl rfl, rfl, fun _ => rfl⟩
theorem fp_X13_57 : om_FP RX13 57 522 true [13] := om_FP1 ⟨_, 31, _, rfl, by decide, rfl, Or.inl q3274, Or.inl rfl, rfl, fun _ => rfl⟩
theorem fp_X13_60 : om_FP RX13 60 526 true [13] := om_FP1 ⟨_, 32, _, rfl, by decide, rfl, Or.inl q3275, Or.inl rfl, rfl, fun _ => rfl⟩
theorem fp_X13_63 : om_FP RX13 63 530 true [13] := om_FP1 ⟨_, 33, _, rfl, by decide, rfl, Or.inl q3276, Or.inl rfl, rfl, fun _ => rfl⟩
theorem fp_X13_67 : om_FP RX13 67 538 true [13] := om_FP1 ⟨_, 35, _, rfl, by decide, rfl, Or.inl q3278, Or.inl rfl, rfl, fun _ => rfl⟩
theorem fp_X13_70 : om_FP RX13 70 542 true [13] := om_FP1 ⟨_, 36, _, rfl, by decide, rfl, Or.inl q3279, Or.inl rfl, rfl, fun _ => rfl⟩
theorem fp_X13_73 : om_FP RX13 73 546 true [13] := om_FP1 ⟨_, 37, _, rfl, by decide, rfl, Or.inl q3280, Or.inl rfl, rfl, fun _ => rfl⟩
theorem fp_X13_76 : om_FP RX13 76 550 true [13] := om_FP1 ⟨_, 38, _, rfl, by decide, rfl, Or.inl q3281, Or.inl rfl, rfl, fun _ => rfl⟩
theorem fp_X13_79 : om_FP RX13 79 554 true [13] := om_FP1 ⟨_, 39, _, rfl, by decide, rfl, Or.inl q3282, Or.inl rfl, rfl, fun _ => rfl⟩
theorem fp_X13_82 : om_FP RX13 82 558 true [13] := om_FP1 ⟨_, 40, _, rfl, by decide, rfl, Or.inl q3283, Or.inl rfl, rfl, fun _ => rfl⟩
theorem fp_X13_85 : om_FP RX13 85 562 true [13] := om_FP1 ⟨_, 41, _, rfl, by decide, rfl, Or.inl q3284, Or.inl rfl, rfl, fun _ => rfl⟩
theorem fp_X13_88 : om_FP RX13 88 570 true [13] := om_FP1 ⟨_, 43, _, rfl, by decide, rfl, Or.inl q3286, Or.inl rfl, rfl, fun _ => rfl⟩
theorem fp_X13_91 : om_FP RX13 91 574 true [13] := om_FP1 ⟨_, 44, _, rfl, by decide, rfl, Or.inl q3287, Or.inl rfl, rfl, fun _ => rfl⟩
theorem fp_X13_94 : om_FP RX13 94 578 true [13] := om_FP1 ⟨_, 45, _, rfl, by decide, rfl, Or.inl q3288, Or.inl rfl, rfl, fun _ => rfl⟩
theorem fp_X13_97 : om_FP RX13 97 582 true [13] := om_FP1 ⟨_, 46, _, rfl, by decide, rfl, Or.inl q3289, Or.inl rfl, rfl, fun _ => rfl⟩
theorem fp_X13_100 : om_FP RX13 100 586 true [13] := om_FP1 ⟨_, 47, _, rfl, by decide, rfl, Or.inl q3290, Or.inl rfl, rfl, fun _ => rfl⟩
theorem fp_X13_103 : om_FP RX13 103 590 true [13] := om_FP1 ⟨_, 48, _, rfl, by decide, rfl, Or.inl q3291, Or.inl rfl, rfl, fun _ => rfl⟩
theorem fp_X13_106 : om_FP RX13 106 594 true [13] := om_FP1 ⟨_, 49, _, rfl, by decide, rfl, Or.inl q3292, Or.inl rfl, rfl, fun _ => rfl⟩
theorem fp_X13_109 : om_FP RX13 109 598 true [13] := om_FP1 ⟨_, 50, _, rfl, by decide, rfl, Or.inl q3293, Or.inl rfl, rfl, fun _ => rfl⟩
theorem fp_X13_112 : om_FP RX13 112 602 true [13] := om_FP1 ⟨_, 51, _, rfl, by decide, rfl, Or.inl q3294, Or.inl rfl, rfl, fun _ => rfl⟩
theorem fp_X13_115 : om_FP RX13 115 606 true [13] := om_FP1 ⟨_, 52, _, rfl, by decide, rfl, Or.inl q3295, Or.inl rfl, rfl, fun _ => rfl⟩
theorem fp_X13_118 : om_FP RX13 118 610 true [13] := om_FP1 ⟨_, 53, _, rfl, by decide, rfl, Or.inl q3296, Or.inl rfl, rfl, fun _ => rfl⟩
theorem fp_X13_121 : om_FP RX13 121 614 true [13] := om_FP1 ⟨_, 54, _, rfl, by decide, rfl, Or.inl q3297, Or.inl rfl, rfl, fun _ => rfl⟩
theorem fp_X13_124 : om_FP RX13 124 618 true [13] := om_FP1 ⟨_, 55, _, rfl, by decide, rfl, Or.inl q3298, Or.inl rfl, rfl, fun _ => rfl⟩
theorem fp_X13_127 : om_FP RX13 127 622 true [13] := om_FP1 ⟨_, 56, _, rfl, by decide, rfl, Or.inl q3299, Or.inl rfl, rfl, fun _ => rfl⟩
theorem fp_X13_130 : om_FP RX13 130 630 true [13] := om_FP1 ⟨_, 58, _, rfl, by decide, rfl, Or.inl q3301, Or.inl rfl, rfl, fun _ => rfl⟩
theorem fp_X13_133 : om_FP RX13 133 634 true [13] := om_FP1 ⟨_, 59, _, rfl, by decide, rfl, Or.inl q3302, Or.inl rfl, rfl, fun _ => rfl⟩
theorem fp_X13_136 : om_FP RX13 136 638 true [13] := om_FP1 ⟨_, 60, _, rfl, by decide, rfl, Or.inl q3303, Or.inl rfl, rfl, fun _ => rfl⟩
theorem fp_X13_139 : om_FP RX13 139 642 true [13] := om_FP1 ⟨_, 61, _, rfl, by decide, rfl, Or.inl q3304, Or.inl rfl, rfl, fun _ => rfl⟩
theorem fp_X13_142 : om_FP RX13 142 658 true [13] := om_FP1 ⟨_, 65, _, rfl, by decide, rfl, Or.inl q3308, Or.inl rfl, rfl, fun _ => rfl⟩
theorem fp_X13_145 : om_FP RX13 145 662 true [13] := om_FP1 ⟨_, 66, _, rfl, by decide, rfl, Or.inl q3309, Or.inl rfl, rfl, fun _ => rfl⟩
theorem fp_X13_148 : om_FP RX13 148 666 true [13] := om_FP1 ⟨_, 67, _, rfl, by decide, rfl, Or.inl q3310, Or.inl rfl, rfl, fun _ => rfl⟩
theorem fp_X13_151 : om_FP RX13 151 670 true [13] := om_FP1 ⟨_, 68, _, rfl, by decide, rfl, Or.inl q3311, Or.inl rfl, rfl, fun _ => rfl⟩
theorem fp_X13_154 : om_FP RX13 154 674 true [13] := om_FP1 ⟨_, 69, _, rfl, by decide, rfl, Or.inl q3312, Or.inl rfl, rfl, fun _ => rfl⟩
theorem fp_X13_157 : om_FP RX13 157 678 true [13] := om_FP1 ⟨_, 70, _, rfl, by decide, rfl, Or.inl q3313, Or.inl rfl, rfl, fun _ => rfl⟩
theorem fp_X13_160 : om_FP RX13 160 682 true [13] := om_FP1 ⟨_, 71, _, rfl, by decide, rfl, Or.inl q3314, Or.inl rfl, rfl, fun _ => rfl⟩
theorem fp_X13_163 : om_FP RX13 163 686 true [13] := om_FP1 ⟨_, 72, _, rfl, by decide, rfl, Or.inl q3315, Or.inl rfl, rfl, fun _ => rfl⟩
theorem fp_X13_166 : om_FP RX13 166 690 true [13] := om_FP1 ⟨_, 73, _, rfl, by decide, rfl, Or.inl q3316, Or.inl rfl, rfl, fun _ => rfl⟩
theorem fp_X13_169 : om_FP RX13 169 694 true [13] := om_FP1 ⟨_, 74, _, rfl, by decide, rfl, Or.inl q3317, Or.inl rfl, rfl, fun _ => rfl⟩
theorem fp_X13_172 : om_FP RX13 172 698 true [13] := om_FP1 ⟨_, 75, _, rfl, by decide, rfl, Or.inl q3318, Or.inl rfl, rfl, fun _ => rfl⟩
theorem fp_X13_175 : om_FP RX13 175 702 true [13] := om_FP1 ⟨_, 76, _, rfl, by decide, rfl, Or.inl q3319, Or.inl rfl, rfl, fun _ => rfl⟩
theorem fp_X13_178 : om_FP RX13 178 706 true [13] := om_FP1 ⟨_, 77, _, rfl, by decide, rfl, Or.inl q3320, Or.inl rfl, rfl, fun _ => rfl⟩
theorem fp_X13_181 : om_FP RX13 181 710 true [13] := om_FP1 ⟨_, 78, _, rfl, by decide, rfl, Or.inl q3321, Or.inl rfl, rfl, fun _ => rfl⟩
theorem fp_X13_184 : om_FP RX13 184 714 true [13] := om_FP1 ⟨_, 79, _, rfl, by decide, rfl, Or.inl q3322, Or.inl rfl, rfl, fun _ => rfl⟩
theorem fp_X13_187 : om_FP RX13 187 718 true [13] := om_FP1 ⟨_, 80, _, rfl, by decide, rfl, Or.inl q3323, Or.inl rfl, rfl, fun _ => rfl⟩
theorem fp_X13_190 : om_FP RX13 190 722 true [13] := om_FP1 ⟨_, 81, _, rfl, by decide, rfl, Or.inl q3324, Or.inl rfl, rfl, fun _ => rfl⟩
theorem fp_X13_193 : om_FP RX13 193 726 true [13] := om_FP1 ⟨_, 82, _, rfl, by decide, rfl, Or.inl q3325, Or.inl rfl, rfl, fun _ => rfl⟩
theorem fp_X13_196 : om_FP RX13 196 730 true [13] := om_FP1 ⟨_, 83, _, rfl, by decide, rfl, Or.inl q3326, Or.inl rfl, rfl, fun _ => rfl⟩
theorem fp_X13_199 : om_FP RX13 199 734 true [13] := om_FP1 ⟨_, 84, _, rfl, by decide, rfl, Or.inl q3327, Or.inl rfl, rfl, fun _ => rfl⟩
theorem fp_X13_202 : om_FP RX13 202 738 true [13] := om_FP1 ⟨_, 85, _, rfl, by decide, rfl, Or.inl q3328, Or.inl rfl, rfl, fun _ => rfl⟩
theorem fp_X13_205 : om_FP RX13 205 742 true [13] := om_FP1 ⟨_, 86, _, rfl, by decide, rfl, Or.inl q3329, Or.inl rfl, rfl, fun _ => rfl⟩
theorem fp_X13_208 : om_FP RX13 208 746 true [13] := om_FP1 ⟨_, 87, _, rfl, by decide, rfl, Or.inl q3330, Or.inl rfl, rfl, fun _ => rfl⟩
theorem fp_X13_211 : om_FP RX13 211 750 true [13] := om_FP1 ⟨_, 88, _, rfl, by decide, rfl, Or.inl q3331, Or.inl rfl, rfl, fun _ => rfl⟩
theorem fp_X13_214 : om_FP RX13 214 754 true [13] := om_FP1 ⟨_, 89, _, rfl, by decide, rfl, Or.inl q3332, Or.inl rfl, rfl, fun _ => rfl⟩
theorem fp_X13_217 : om_FP RX13 217 758 true [13] := om_FP1 ⟨_, 90, _, rfl, by decide, rfl, Or.inl q3333, Or.inl rfl, rfl, fun _ => rfl⟩
theorem fp_X13_220 : om_FP RX13 220 762 true [13] := om_FP1 ⟨_, 91, _, rfl, by decide, rfl, Or.inl q3334, Or.inl rfl, rfl, fun _ => rfl⟩
theorem fp_X13_223 : om_FP RX13 223 770 true [13] := om_FP1 ⟨_, 93, _, rfl, by decide, rfl, Or.inl q3336, Or.inl rfl, rfl, fun _ => rfl⟩
theorem fp_X13_226 : om_FP RX13 226 774 true [13] := om_FP1 ⟨_, 94, _, rfl, by decide, rfl, Or.inl q3337, Or.inl rfl, rfl, fun _ => rfl⟩
theorem fp_X13_229 : om_FP RX13 229 778 true [13] := om_FP1 ⟨_, 95, _, rfl, by decide, rfl, Or.inl q3338, Or.inl rfl, rfl, fun _ => rfl⟩
theorem fp_X13_232 : om_FP RX13 232 782 true [13] := om_FP1 ⟨_, 96, _, rfl, by decide, rfl, Or.inl q3339, Or.inl rfl, rfl, fun _ => rfl⟩
theorem fp_X13_235 : om_FP RX13 235 798 true [13] := om_FP1 ⟨_, 100, _, rfl, by decide, rfl, Or.inl q3343, Or.inl rfl, rfl, fun _ => rfl⟩
theorem fp_X13_238 : om_FP RX13 238 802 true [13] := om_FP1 ⟨_, 101, _, rfl, by decide, rfl, Or.inl q3344, Or.inl rfl, rfl, fun _ => rfl⟩
theorem fp_X13_241 : om_FP RX13 241 806 true [13] := om_FP1 ⟨_, 102, _, rfl, by decide, rfl, Or.inl q3345, Or.inl rfl, rfl, fun _ => rfl⟩
theorem fp_X13_244 : om_FP RX13 244 830 true [13] := om_FP1 ⟨_, 108, _, rfl, by decide, rfl, Or.inl q3351, Or.inl rfl, rfl, fun _ => rfl⟩
theorem fp_X13_247 : om_FP RX13 247 834 true [13] := om_FP1 ⟨_, 109, _, rfl, by decide, rfl, Or.inl q3352, Or.inl rfl, rfl, fun _ => rfl⟩
theorem fp_X13_250 : om_FP RX13 250 842 true [13] := om_FP1 ⟨_, 111, _, rfl, by decide, rfl, Or.inl q3354, Or.inl rfl, rfl, fun _ => rfl⟩
theorem fp_X13_253 : om_FP RX13 253 846 true [13] := om_FP1 ⟨_, 112, _, rfl, by decide, rfl, Or.inl q3355, Or.inl rfl, rfl, fun _ => rfl⟩
theorem fp_X13_256 : om_FP RX13 256 850 true [13] := om_FP1 ⟨_, 113, _, rfl, by decide, rfl, Or.inl q3356, Or.inl rfl, rfl, fun _ => rfl⟩
theorem fp_X13_259 : om_FP RX13 259 854 true [13] := om_FP1 ⟨_, 114, _, rfl, by decide, rfl, Or.inl q3357, Or.inl rfl, rfl, fun _ => rfl⟩
theorem fp_X13_262 : om_FP RX13 262 878 true [13] := om_FP1 ⟨_, 120, _, rfl, by decide, rfl, Or.inl q3363, Or.inl rfl, rfl, fun _ => rfl⟩
theorem fp_X13_266 : om_FP RX13 266 894 true [13] := om_FP1 ⟨_, 124, _, rfl, by decide, rfl, Or.inl q3367, Or.inl rfl, rfl, fun _ => rfl⟩
theorem fp_X13_269 : om_FP RX13 269 898 true [13] := om_FP1 ⟨_, 125, _, rfl, by decide, rfl, Or.inl q3368, Or.inl rfl, rfl, fun _ => rfl⟩
theorem fp_X13_272 : om_FP RX13 272 902 true [13] := om_FP1 ⟨_, 126, _, rfl, by decide, rfl, Or.inl q3369, Or.inl rfl, rfl, fun _ => rfl⟩
theorem fp_X13_275 : om_FP RX13 275 914 true [13] := om_FP1 ⟨_, 129, _, rfl, by decide, rfl, Or.inl q3372, Or.inl rfl, rfl, fun _ => rfl⟩
theorem fp_X13_278 : om_FP RX13 278 918 true [13] := om_FP1 ⟨_, 130, _, rfl, by decide, rfl, Or.inl q3373, Or.inl rfl, rfl, fun _ => rfl⟩
theorem fp_X13_281 : om_FP RX13 281 922 true [13] := om_FP1 ⟨_, 131, _, rfl, by decide, rfl, Or.inl q3374, Or.inl rfl, rfl, fun _ => rfl⟩
theorem fp_X13_285 : om_FP RX13 285 930 true [13] := om_FP1 ⟨_, 133, _, rfl, by decide, rfl, Or.inl q3376, Or.inl rfl, rfl, fun _ => rfl⟩
theorem fp_X13_288 : om_FP RX13 288 934 true [13] := om_FP1 ⟨_, 134, _, rfl, by decide, rfl, Or.inl q3377, Or.inl rfl, rfl, fun _ => rfl⟩
theorem fp_X13_291 : om_FP RX13 291 938 true [13] := om_FP1 ⟨_, 135, _, rfl, by decide, rfl, Or.inl q3378, Or.inl rfl, rfl, fun _ => rfl⟩
theorem fp_X13_294 : om_FP RX13 294 942 true [13] := om_FP1 ⟨_, 136, _, rfl, by decide, rfl, Or.inl q3379, Or.inl rfl, rfl, fun _ => rfl⟩
theorem fp_X13_297 : om_FP RX13 297 946 true [13] := om_FP1 ⟨_, 137, _, rfl, by decide, rfl, Or.inl q3380, Or.inl rfl, rfl, fun _ => rfl⟩
theorem fp_X13_300 : om_FP RX13 300 950 true [13] := om_FP1 ⟨_, 138, _, rfl, by decide, rfl, Or.inl q3381, Or.inl rfl, rfl, fun _ => rfl⟩
theorem fp_X13_303 : om_FP RX13 303 958 true [13] := om_FP1 ⟨_, 140, _, rfl, by decide, rfl, Or.inl q3383, Or.inl rfl, rfl, fun _ => rfl⟩
theorem fp_X13_306 : om_FP RX13 306 962 true [13] := om_FP1 ⟨_, 141, _, rfl, by decide, rfl, Or.inl q3384, Or.inl rfl, rfl, fun _ => rfl⟩
theorem fp_X13_309 : om_FP RX13 309 970 true [13] := om_FP1 ⟨_, 143, _, rfl, by decide, rfl, Or.inl q3386, Or.inl rfl, rfl, fun _ => rfl⟩
theorem fp_X13_312 : om_FP RX13 312 974 true [13] := om_FP1 ⟨_, 144, _, rfl, by decide, rfl, Or.inl q3387, Or.inl rfl, rfl, fun _ => rfl⟩
theorem fp_X13_315 : om_FP RX13 315 978 true [13] := om_FP1 ⟨_, 145, _, rfl, by decide, rfl, Or.inl q3388, Or.inl rfl, rfl, fun _ => rfl⟩
theorem fp_X13_318 : om_FP RX13 318 982 true [13] := om_FP1 ⟨_, 146, _, rfl, by decide, rfl, Or.inl q3389, Or.inl rfl, rfl, fun _ => rfl⟩
theorem fp_X13_321 : om_FP RX13 321 986 true [13] := om_FP1 ⟨_, 147, _, rfl, by decide, rfl, Or.inl q3390, Or.inl rfl, rfl, fun _ => rfl⟩
theorem fp_X13_324 : om_FP RX13 324 990 true [13] := om_FP1 ⟨_, 148, _, rfl, by decide, rfl, Or.inl q3391, Or.inl rfl, rfl, fun _ => rfl⟩
theorem fp_X13_327 : om_FP RX13 327 1018 true [13] := om_FP1 ⟨_, 155, _, rfl, by decide, rfl, Or.inl q3398, Or.inl rfl, rfl, fun _ => rfl⟩
theorem fp_X13_331 : om_FP RX13 331 1042 true [13] := om_FP1 ⟨_, 161, _, rfl, by decide, rfl, Or.inl q3404, Or.inl rfl, rfl, fun _ => rfl⟩
theorem fp_X13_334 : om_FP RX13 334 1046 true [13] := om_FP1 ⟨_, 162, _, rfl, by decide, rfl, Or.inl q3405, Or.inl rfl, rfl, fun _ => rfl⟩
theorem fp_X13_337 : om_FP RX13 337 1054 true [13] := om_FP1 ⟨_, 164, _, rfl, by decide, rfl, Or.inl q3407, Or.inl rfl, rfl, fun _ => rfl⟩
theorem fp_X13_340 : om_FP RX13 340 1058 true [13] := om_FP1 ⟨_, 165, _, rfl, by decide, rfl, Or.inl q3408, Or.inl rfl, rfl, fun _ => rfl⟩
theorem fp_X13_343 : om_FP RX13 343 1062 true [13] := om_FP1 ⟨_, 166, _, rfl, by decide, rfl, Or.inl q3409, Or.inl rfl, rfl, fun _ => rfl⟩
theorem fp_X13_346 : om_FP RX13 346 1066 true [13] := om_FP1 ⟨_, 167, _, rfl, by decide, rfl, Or.inl q3410, Or.inl rfl, rfl, fun _ => rfl⟩
theorem fp_X13_349 : om_FP RX13 349 1070 true [13] := om_FP1 ⟨_, 168, _, rfl, by decide, rfl, Or.inl q3411, Or.inl rfl, rfl, fun _ => rfl⟩
theorem fp_X13_352 : om_FP RX13 352 1074 true [13] := om_FP1 ⟨_, 169, _, rfl, by decide, rfl, Or.inl q3412, Or.inl rfl, rfl, fun _ => rfl⟩
theorem fp_X13_355 : om_FP RX13 355 1078 true [13] := om_FP1 ⟨_, 170, _, rfl, by decide, rfl, Or.inl q3413, Or.inl rfl, rfl, fun _ => rfl⟩
theorem fp_X13_359 : om_FP RX13 359 1082 true [13] := om_FP1 ⟨_, 171, _, rfl, by decide, rfl, Or.inl q3414, Or.inl rfl, rfl, fun _ => rfl⟩
theorem fp_X13_362 : om_FP RX13 362 396 false [13] := om_FP1 ⟨_, 0, _, rfl, by decide, rfl, Or.inl q3243, Or.inl rfl, rfl, fun h => by cases h⟩
theorem fp_X13_366 : om_FP RX13 366 496 false [13] := om_FP1 ⟨_, 25, _, rfl, by decide, rfl, Or.inl q3268, Or.inl rfl, rfl, fun h => by cases h⟩
theorem fp_X13_369 : om_FP RX13 369 420 false [13] := om_FP1 ⟨_, 6, _, rfl, by decide, rfl, Or.inl q3249, Or.inl rfl, rfl, fun h => by cases h⟩
theorem fp_X13_372 : om_FP RX13 372 484 false [13] := om_FP1 ⟨_, 22, _, rfl, by decide, rfl, Or.inl q3265, Or.inl rfl, rfl, fun h => by cases h⟩
theorem fp_X13_427 : om_FP RX13 427 532 false [13] := om_FP1 ⟨_, 34, _, rfl, by decide, rfl, Or.inl q3277, Or.inl rfl, rfl, fun h => by cases h⟩
theorem fp_X13_430 : om_FP RX13 430 564 false [13] := om_FP1 ⟨_, 42, _, rfl, by decide, rfl, Or.inl q3285, Or.inl rfl, rfl, fun h => by cases h⟩
theorem fp_X13_433 : om_FP RX13 433 432 false [13] := om_FP1 ⟨_, 9, _, rfl, by decide, rfl, Or.inl q3252, Or.inl rfl, rfl, fun h => by cases h⟩
theorem fp_X13_436 : om_FP RX13 436 452 false [13] := om_FP1 ⟨_, 14, _, rfl, by decide, rfl, Or.inl q3257, Or.inl rfl, rfl, fun h => by cases h⟩
theorem fp_X13_439 : om_FP RX13 439 456 false [13] := om_FP1 ⟨_, 15, _, rfl, by decide, rfl, Or.inl q3258, Or.inl rfl, rfl, fun h => by cases h⟩
theorem fp_X13_452 : om_FP RX13 452 436 false [13] := om_FP1 ⟨_, 10, _, rfl, by decide, rfl, Or.inl q3253, Or.inl rfl, rfl, fun h => by cases h⟩
theorem fp_X13_510 : om_FP RX13 510 624 false [13] := om_FP1 ⟨_, 57, _, rfl, by decide, rfl, Or.inl q3300, Or.inl rfl, rfl, fun h => by cases h⟩
theorem fp_X13_533 : om_FP RX13 533 644 false [13] := om_FP1 ⟨_, 62, _, rfl, by decide, rfl, Or.inl q3305, Or.inl rfl, rfl, fun h => by cases h⟩
theorem fp_X13_546 : om_FP RX13 546 648 false [13] := om_FP1 ⟨_, 63, _, rfl, by decide, rfl, Or.inl q3306, Or.inl rfl, rfl, fun h => by cases h⟩
theorem fp_X13_549 : om_FP RX13 549 764 false [13] := om_FP1 ⟨_, 92, _, rfl, by decide, rfl, Or.inl q3335, Or.inl rfl, rfl, fun h => by cases h⟩
theorem fp_X13_552 : om_FP RX13 552 652 false [13] := om_FP1 ⟨_, 64, _, rfl, by decide, rfl, Or.inl q3307, Or.inl rfl, rfl, fun h => by cases h⟩
theorem fp_X13_555 : om_FP RX13 555 784 false [13] := om_FP1 ⟨_, 97, _, rfl, by decide, rfl, Or.inl q3340, Or.inl rfl, rfl, fun h => by cases h⟩
theorem fp_X13_571 : om_FP RX13 571 856 false [13] := om_FP1 ⟨_, 115, _, rfl, by decide, rfl, Or.inl q3358, Or.inl rfl, rfl, fun h => by cases h⟩
theorem fp_X13_583 : om_FP RX13 583 788 false [13] := om_FP1 ⟨_, 98, _, rfl, by decide, rfl, Or.inl q3341, Or.inl rfl, rfl, fun h => by cases h⟩
theorem fp_X13_607 : om_FP RX13 607 823 false [13] := om_FP1 ⟨_, 106, _, rfl, by decide, rfl, Or.inl q3349, Or.inl rfl, rfl, fun h => by cases h⟩
theorem fp_X13_611 : om_FP RX13 611 808 false [13] := om_FP1 ⟨_, 103, _, rfl, by decide, rfl, Or.inl q3346, Or.inl rfl, rfl, fun h => by cases h⟩
theorem fp_X13_614 : om_FP RX13 614 816 false [13] := om_FP1 ⟨_, 105, _, rfl, by decide, rfl, Or.inl q3348, Or.inl rfl, rfl, fun h => by cases h⟩
theorem fp_X13_617 : om_FP RX13 617 827 false [13] := om_FP1 ⟨_, 107, _, rfl, by decide, rfl, Or.inl q3350, Or.inl rfl, rfl, fun h => by cases h⟩
theorem fp_X13_620 : om_FP RX13 620 812 false [13] := om_FP1 ⟨_, 104, _, rfl, by decide, rfl, Or.inl q3347, Or.inl rfl, rfl, fun h => by cases h⟩
theorem fp_X13_626 : om_FP RX13 626 792 false [13] := om_FP1 ⟨_, 99, _, rfl, by decide, rfl, Or.inl q3342, Or.inl rfl, rfl, fun h => by cases h⟩
theorem fp_X13_629 : om_FP RX13 629 836 false [13] := om_FP1 ⟨_, 110, _, rfl, by decide, rfl, Or.inl q3353, Or.inl rfl, rfl, fun h => by cases h⟩
theorem fp_X13_671 : om_FP RX13 671 860 false [13] := om_FP1 ⟨_, 116, _, rfl, by decide, rfl, Or.inl q3359, Or.inl rfl, rfl, fun h => by cases h⟩
theorem fp_X13_692 : om_FP RX13 692 864 false [13] := om_FP1 ⟨_, 117, _, rfl, by decide, rfl, Or.inl q3360, Or.inl rfl, rfl, fun h => by cases h⟩
theorem fp_X13_704 : om_FP RX13 704 868 false [13] := om_FP1 ⟨_, 118, _, rfl, by decide, rfl, Or.inl q3361, Or.inl rfl, rfl, fun h => by cases h⟩
theorem fp_X13_707 : om_FP RX13 707 872 false [13] := om_FP1 ⟨_, 119, _, rfl, by decide, rfl, Or.inl q3362, Or.inl rfl, rfl, fun h => by cases h⟩
theorem fp_X13_723 : om_FP RX13 723 880 false [13] := om_FP1 ⟨_, 121, _, rfl, by decide, rfl, Or.inl q3364, Or.inl rfl, rfl, fun h => by cases h⟩
theorem fp_X13_726 : om_FP RX13 726 884 false [13] := om_FP1 ⟨_, 122, _, rfl, by decide, rfl, Or.inl q3365, Or.inl rfl, rfl, fun h => by cases h⟩
theorem fp_X13_729 : om_FP RX13 729 888 false [13] := om_FP1 ⟨_, 123, _, rfl, by decide, rfl, Or.inl q3366, Or.inl rfl, rfl, fun h => by cases h⟩
theorem fp_X13_741 : om_FP RX13 741 1111 false [13] := om_FP1 ⟨_, 178, _, rfl, by decide, rfl, Or.inl q3421, Or.inl rfl, rfl, fun h => by cases h⟩
theorem fp_X13_743 : om_FP RX13 743 904 false [13] := om_FP1 ⟨_, 127, _, rfl, by decide, rfl, Or.inl q3370, Or.inl rfl, rfl, fun h => by cases h⟩
theorem fp_X13_746 : om_FP RX13 746 1112 false [13] := om_FP1 ⟨_, 179, _, rfl, by decide, rfl, Or.inl q3422, Or.inl rfl, rfl, fun h => by cases h⟩
theorem fp_X13_749 : om_FP RX13 749 1116 false [13] := om_FP1 ⟨_, 180, _, rfl, by decide, rfl, Or.inl q3423, Or.inl rfl, rfl, fun h => by cases h⟩
theorem fp_X13_752 : om_FP RX13 752 908 false [13] := om_FP1 ⟨_, 128, _, rfl, by decide, rfl, Or.inl q3371, Or.inl rfl, rfl, fun h => by cases h⟩
theorem fp_X13_849 : om_FP RX13 849 1048 false [13] := om_FP1 ⟨_, 163, _, rfl, by decide, rfl, Or.inl q3406, Or.inl rfl, rfl, fun h => by cases h⟩
theorem fp_X13_852 : om_FP RX13 852 924 false [13] := om_FP1 ⟨_, 132, _, rfl, by decide, rfl, Or.inl q3375, Or.inl rfl, rfl, fun h => by cases h⟩
theorem fp_X13_855 : om_FP RX13 855 952 false [13] := om_FP1 ⟨_, 139, _, rfl, by decide, rfl, Or.inl q3382, Or.inl rfl, rfl, fun h => by cases h⟩
theorem fp_X13_858 : om_FP RX13 858 964 false [13] := om_FP1 ⟨_, 142, _, rfl, by decide, rfl, Or.inl q3385, Or.inl rfl, rfl, fun h => by cases h⟩
theorem fp_X13_861 : om_FP RX13 861 992 false [13] := om_FP1 ⟨_, 149, _, rfl, by decide, rfl, Or.inl q3392, Or.inl rfl, rfl, fun h => by cases h⟩
theorem fp_X13_864 : om_FP RX13 864 996 false [13] := om_FP1 ⟨_, 150, _, rfl, by decide, rfl, Or.inl q3393, Or.inl rfl, rfl, fun h => by cases h⟩
theorem fp_X13_867 : om_FP RX13 867 1000 false [13] := om_FP1 ⟨_, 151, _, rfl, by decide, rfl, Or.inl q3394, Or.inl rfl, rfl, fun h => by cases h⟩
theorem fp_X13_870 : om_FP RX13 870 1004 false [13] := om_FP1 ⟨_, 152, _, rfl, by decide, rfl, Or.inl q3395, Or.inl rfl, rfl, fun h => by cases h⟩
theorem fp_X13_873 : om_FP RX13 873 1008 false [13] := om_FP1 ⟨_, 153, _, rfl, by decide, rfl, Or.inl q3396, Or.inl rfl, rfl, fun h => by cases h⟩
theorem fp_X13_876 : om_FP RX13 876 1012 false [13] := om_FP1 ⟨_, 154, _, rfl, by decide, rfl, Or.inl q3397, Or.inl rfl, rfl, fun h => by cases h⟩
theorem fp_X13_879 : om_FP RX13 879 1032 false [13] := om_FP1 ⟨_, 159, _, rfl, by decide, rfl, Or.inl q3402, Or.inl rfl, rfl, fun h => by cases h⟩
theorem fp_X13_882 : om_FP RX13 882 1020 false [13] := om_FP1 ⟨_, 156, _, rfl, by decide, rfl, Or.inl q3399, Or.inl rfl, rfl, fun h => by cases h⟩
theorem fp_X13_885 : om_FP RX13 885 1024 false [13] := om_FP1 ⟨_, 157, _, rfl, by decide, rfl, Or.inl q3400, Or.inl rfl, rfl, fun h => by cases h⟩
theorem fp_X13_888 : om_FP RX13 888 1028 false [13] := om_FP1 ⟨_, 158, _, rfl, by decide, rfl, Or.inl q3401, Or.inl rfl, rfl, fun h => by cases h⟩
theorem fp_X13_891 : om_FP RX13 891 1037 false [13] := om_FP1 ⟨_, 160, _, rfl, by decide, rfl, Or.inl q3403, Or.inl rfl, rfl, fun h => by cases h⟩
theorem fp_X13_900 : om_FP RX13 900 1084 false [13] := om_FP1 ⟨_, 172, _, rfl, by decide, rfl, Or.inl q3415, Or.inl rfl, rfl, fun h => by cases h⟩
theorem fp_X13_924 : om_FP RX13 924 447 false [13] := om_FP1 ⟨_, 12, _, rfl, by decide, rfl, Or.inl q3255, Or.inl rfl, rfl, fun h => by cases h⟩
theorem fp_X13_1056 : om_FP RX13 1056 1088 false [13] := om_FP1 ⟨_, 173, _, rfl, by decide, rfl, Or.inl q3416, Or.inl rfl, rfl, fun h => by cases h⟩
theorem fp_X13_1059 : om_FP RX13 1059 1092 false [13] := om_FP1 ⟨_, 174, _, rfl, by decide, rfl, Or.inl q3417, Or.inl rfl, rfl, fun h => by cases h⟩
theorem fp_X13_1062 : om_FP RX13 1062 1096 false [13] := om_FP1 ⟨_, 175, _, rfl, by decide, rfl, Or.inl q3418, Or.inl rfl, rfl, fun h => by cases h⟩
theorem fp_X13_1065 : om_FP RX13 1065 1100 false [13] := om_FP1 ⟨_, 176, _, rfl, by decide, rfl, Or.inl q3419, Or.inl rfl, rfl, fun h => by cases h⟩
theorem fp_X13_1071 : om_FP RX13 1071 1104 false [13] := om_FP1 ⟨_, 177, _, rfl, by decide, rfl, Or.inl q3420, Or.inl rfl, rfl, fun h => by cases h⟩
theorem fp_X13_1076 : om_FP RX13 1076 460 false [13] := om_FP1 ⟨_, 16, _, rfl, by decide, rfl, Or.inl q3259, Or.inl rfl, rfl, fun h => by cases h⟩
theorem fp_X13_1079 : om_FP RX13 1079 464 false [13] := om_FP1 ⟨_, 17, _, rfl, by decide, rfl, Or.inl q3260, Or.inl rfl, rfl, fun h => by cases h⟩
theorem fp_X13_1082 : om_FP RX13 1082 443 false [13] := om_FP1 ⟨_, 11, _, rfl, by decide, rfl, Or.inl q3254, Or.inl rfl, rfl, fun h => by cases h⟩
theorem fp_X13_1085 : om_FP RX13 1085 424 false [13] := om_FP1 ⟨_, 7, _, rfl, by decide, rfl, Or.inl q3250, Or.inl rfl, rfl, fun h => by cases h⟩
theorem fp_X13_1092 : om_FP RX13 1092 428 false [13] := om_FP1 ⟨_, 8, _, rfl, by decide, rfl, Or.inl q3251, Or.inl rfl, rfl, fun h => by cases h⟩
theorem fp_X13_1098 : om_FP RX13 1098 416 false [13] := om_FP1 ⟨_, 5, _, rfl, by decide, rfl, Or.inl q3248, Or.inl rfl, rfl, fun h => by cases h⟩
theorem fp_X13_1101 : om_FP RX13 1101 451 false [13] := om_FP1 ⟨_, 13, _, rfl, by decide, rfl, Or.inl q3256, Or.inl rfl, rfl, fun h => by cases h⟩
theorem fp_X14_9 : om_FP RX14 9 1122 true [14] := om_FP1 ⟨_, 0, _, rfl, by decide, rfl, Or.inl q940, Or.inl rfl, rfl, fun _ => rfl⟩
theorem fp_X14_15 : om_FP RX14 15 1124 true [14] := om_FP1 ⟨_, 1, _, rfl, by decide, rfl, Or.inl q941, Or.inl rfl, rfl, fun _ => rfl⟩
theorem fp_X14_22 : om_FP RX14 22 1128 false [14] := om_FP1 ⟨_, 2, _, rfl, by decide, rfl, Or.inl q942, Or.inl rfl, rfl, fun h => by cases h⟩
theorem fp_X14_29 : om_FP RX14 29 1136 false [14] := om_FP1 ⟨_, 4, _, rfl, by decide, rfl, Or.inl q947, Or.inl rfl, rfl, fun h => by cases h⟩
theorem fp_X14_32 : om_FP RX14 32 1140 false [14] := om_FP1 ⟨_, 5, _, rfl, by decide, rfl, Or.inl q949, Or.inl rfl, rfl, fun h => by cases h⟩
theorem fp_X14_41 : om_FP RX14 41 1134 false [14] := om_FP1 ⟨_, 3, _, rfl, by decide, rfl, Or.inl q945, Or.inl rfl, rfl, fun h => by cases h⟩
theorem fp_X14_115 : om_FP RX14 115 1144 false [14] := om_FP1 ⟨_, 6, _, rfl, by decide, rfl, Or.inl q950, Or.inl rfl, rfl, fun h => by cases h⟩
theorem fp_X14_152 : om_FP RX14 152 1148 false [14] := om_FP1 ⟨_, 7, _, rfl, by decide, rfl, Or.inl q953, Or.inl rfl, rfl, fun h => by cases h⟩
theorem fp_X15_7 : om_FP RX15 7 1176 true [15] := om_FP1 ⟨_, 6, _, rfl, by decide, rfl, Or.inl q1049, Or.inl rfl, rfl, fun _ => rfl⟩
theorem fp_X15_13 : om_FP RX15 13 1180 true [15] := om_FP1 ⟨_, 7, _, rfl, by decide, rfl, Or.inl q1051, Or.inl rfl, rfl, fun _ => rfl⟩
theorem fp_X16_7 : om_FP RX16 7 1186 true [16] := om_FP1 ⟨_, 0, _, rfl, by decide, rfl, Or.inl q1080, Or.inl rfl, rfl, fun _ => rfl⟩
theorem fp_X16_13 : om_FP RX16 13 1188 true [16] := om_FP1 ⟨_, 1, _, rfl, by decide, rfl, Or.inl q1082, Or.inl rfl, rfl, fun _ => rfl⟩
theorem fp_X16_17 : om_FP RX16 17 1192 true [16] := om_FP1 ⟨_, 2, _, rfl, by decide, rfl, Or.inl q1086, Or.inl rfl, rfl, fun _ => rfl⟩
theorem fp_X17_12 : om_FP RX17 12 1230 true [17] := om_FP1 ⟨_, 8, _, rfl, by decide, rfl, Or.inl q1215, Or.inl rfl, rfl, fun _ => rfl⟩
theorem fp_X17_18 : om_FP RX17 18 1234 true [17] := om_FP1 ⟨_, 9, _, rfl, by decide, rfl, Or.inl q1217, Or.inl rfl, rfl, fun _ => rfl⟩
theorem fp_X17_23 : om_FP RX17 23 1238 true [17] := om_FP1 ⟨_, 10, _, rfl, by decide, rfl, Or.inl q1221, Or.inl rfl, rfl, fun _ => rfl⟩
theorem fp_X17_27 : om_FP RX17 27 1196 true [17] := om_FP1 ⟨_, 0, _, rfl, by decide, rfl, Or.inl q1199, Or.inl rfl, rfl, fun _ => rfl⟩
theorem fp_X17_31 : om_FP RX17 31 1206 true [17] := om_FP1 ⟨_, 2, _, rfl, by decide, rfl, Or.inl q1203, Or.inl rfl, rfl, fun _ => rfl⟩
theorem fp_X18_7 : om_FP RX18 7 1242 true [18] := om_FP1 ⟨_, 0, _, rfl, by decide, rfl, Or.inl q1317, Or.inl rfl, rfl, fun _ => rfl⟩
theorem fp_X18_13 : om_FP RX18 13 1246 true [18] := om_FP1 ⟨_, 1, _, rfl, by decide, rfl, Or.inl q1320, Or.inl rfl, rfl, fun _ => rfl⟩
theorem fp_X19_10 : om_FP RX19 10 1274 true [19] := om_FP1 ⟨_, 2, _, rfl, by decide, rfl, Or.inl q1299, Or.inl rfl, rfl, fun _ => rfl⟩
theorem fp_X19_16 : om_FP RX19 16 1266 true [19] := om_FP1 ⟨_, 0, _, rfl, by decide, rfl, Or.inl q1295, Or.inl rfl, rfl, fun _ => rfl⟩
theorem fp_X19_20 : om_FP RX19 20 1271 true [19] := om_FP1 ⟨_, 1, _, rfl, by decide, rfl, Or.inl q1297, Or.inl rfl, rfl, fun _ => rfl⟩
theorem fp_X20_10 : om_FP RX20 10 1286 true [20] := om_FP1 ⟨_, 2, _, rfl, by decide, rfl, Or.inl q1363, Or.inl rfl, rfl, fun _ => rfl⟩
theorem fp_X20_19 : om_FP RX20 19 1322 true [20] := om_FP1 ⟨_, 11, _, rfl, by decide, rfl, Or.inl q1383, Or.inl rfl, rfl, fun _ => rfl⟩
theorem fp_X20_23 : om_FP RX20 23 1326 true [20] := om_FP1 ⟨_, 12, _, rfl, by decide, rfl, Or.inl q1386, Or.inl rfl, rfl, fun _ => rfl⟩
theorem fp_X20_26 : om_FP RX20 26 1276 true [20] := om_FP1 ⟨_, 0, _, rfl, by decide, rfl, Or.inl q1359, Or.inl rfl, rfl, fun _ => rfl⟩
theorem fp_X21_7 : om_FP RX21 7 1338 true [21] := om_FP1 ⟨_, 0, _, rfl, by decide, rfl, Or.inl q1432, Or.inl rfl, rfl, fun _ => rfl⟩
theorem fp_X21_13 : om_FP RX21 13 1342 true [21] := om_FP1 ⟨_, 1, _, rfl, by decide, rfl, Or.inl q1435, Or.inl rfl, rfl, fun _ => rfl⟩
theorem fp_X21_16 : om_FP RX21 16 1346 true [21] := om_FP1 ⟨_, 2, _, rfl, by decide, rfl, Or.inl q1441, Or.inl rfl, rfl, fun _ => rfl⟩
theorem fp_X21_20 : om_FP RX21 20 1358 false [21] := om_FP1 ⟨_, 5, _, rfl, by decide, rfl, Or.inl q1453, Or.inl rfl, rfl, fun h => by cases h⟩
theorem fp_X21_33 : om_FP RX21 33 1616 false [35] := om_FP1 ⟨_, 1, _, rfl, by decide, rfl, Or.inr ⟨rfl, _, q2387⟩, Or.inl rfl, rfl, fun h => by cases h⟩
theorem fp_X21_43 : om_FP RX21 43 1622 false [35] := om_FP1 ⟨_, 2, _, rfl, by decide, rfl, Or.inr ⟨rfl, _, q2392⟩, Or.inl rfl, rfl, fun h => by cases h⟩
theorem fp_X22_7 : om_FP RX22 7 1362 true [22] := om_FP1 ⟨_, 0, _, rfl, by decide, rfl, Or.inl q1908, Or.inl rfl, rfl, fun _ => rfl⟩
theorem fp_X22_13 : om_FP RX22 13 1366 true [22] := om_FP1 ⟨_, 1, _, rfl, by decide, rfl, Or.inl q1911, Or.inl rfl, rfl, fun _ => rfl⟩
theorem fp_X28_9 : om_FP RX28 9 1464 false [27] := om_FP1 ⟨_, 6, _, rfl, by decide, rfl, Or.inl q1713, Or.inl rfl, rfl, fun h => by cases h⟩
theorem fp_X28_15 : om_FP RX28 15 1476 false [27] := om_FP1 ⟨_, 9, _, rfl, by decide, rfl, Or.inl q1726, Or.inl rfl, rfl, fun h => by cases h⟩
theorem fp_X28_18 : om_FP RX28 18 1458 false [27] := om_FP1 ⟨_, 4, _, rfl, by decide, rfl, Or.inl q1706, Or.inl rfl, rfl, fun h => by cases h⟩
theorem fp_X28_28 : om_FP RX28 28 1482 false [27] := om_FP1 ⟨_, 10, _, rfl, by decide, rfl, Or.inl q1731, Or.inl rfl, rfl, fun h => by cases h⟩
theorem fp_X30_12 : om_FP RX30 12 1494 true [29] := om_FP1 ⟨_, 4, _, rfl, by decide, rfl, Or.inl q1789, Or.inl rfl, rfl, fun _ => rfl⟩
theorem fp_X31_7 : om_FP RX31 7 1498 true [30] := om_FP1 ⟨_, 0, _, rfl, by decide, rfl, Or.inl q1817, Or.inl rfl, rfl, fun _ => rfl⟩
theorem fp_X31_13 : om_FP RX31 13 1502 true [30] := om_FP1 ⟨_, 1, _, rfl, by decide, rfl, Or.inl q1823, Or.inl rfl, rfl, fun _ => rfl⟩
theorem fp_X31_17 : om_FP RX31 17 1504 true [30] := om_FP1 ⟨_, 2, _, rfl, by decide, rfl, Or.inl q1825, Or.inl rfl, rfl, fun _ => rfl⟩
theorem fp_X32_10 : om_FP RX32 10 1522 true [31] := om_FP1 ⟨_, 4, _, rfl, by decide, rfl, Or.inl q1858, Or.inl rfl, rfl, fun _ => rfl⟩
theorem fp_X32_16 : om_FP RX32 16 1526 true [31] := om_FP1 ⟨_, 5, _, rfl, by decide, rfl, Or.inl q1865, Or.inl rfl, rfl, fun _ => rfl⟩
theorem fp_X33_10 : om_FP RX33 10 1542 true [32] := om_FP1 ⟨_, 3, _, rfl, by decide, rfl, Or.inl q1941, Or.inl rfl, rfl, fun _ => rfl⟩
theorem fp_X33_16 : om_FP RX33 16 1530 true [32] := om_FP1 ⟨_, 0, _, rfl, by decide, rfl, Or.inl q1937, Or.inl rfl, rfl, fun _ => rfl⟩
theorem fp_X35_10 : om_FP RX35 10 1610 true [34] := om_FP1 ⟨_, 3, _, rfl, by decide, rfl, Or.inl q2202, Or.inl rfl, rfl, fun _ => rfl⟩
theorem fp_X35_16 : om_FP RX35 16 1598 true [34] := om_FP1 ⟨_, 0, _, rfl, by decide, rfl, Or.inl q2199, Or.inl rfl, rfl, fun _ => rfl⟩
theorem fp_X35_20 : om_FP RX35 20 1602 true [34] := om_FP1 ⟨_, 1, _, rfl, by decide, rfl, Or.inl q2200, Or.inl rfl, rfl, fun _ => rfl⟩
theorem fp_X35_24 : om_FP RX35 24 1606 true [34] := om_FP1 ⟨_, 2, _, rfl, by decide, rfl, Or.inl q2201, Or.inl rfl, rfl, fun _ => rfl⟩
theorem fp_X35_55 : om_FP RX35 55 1394 false [23] := om_FP1 ⟨_, 5, _, rfl, by decide, rfl, Or.inr ⟨rfl, _, q1497⟩, Or.inl rfl, rfl, fun h => by cases h⟩
theorem fp_X35_74 : om_FP RX35 74 1410 false [24] := om_FP1 ⟨_, 5, _, rfl, by decide, rfl, Or.inr ⟨rfl, _, q1553⟩, Or.inl rfl, rfl, fun h => by cases h⟩
theorem fp_X35_174 : om_FP RX35 174 1462 false [27] := om_FP1 ⟨_, 5, _, rfl, by decide, rfl, Or.inr ⟨rfl, _, q1709⟩, Or.inl rfl, rfl, fun h => by cases h⟩
theorem fp_X35_179 : om_FP RX35 179 1464 false [27] := om_FP1 ⟨_, 6, _, rfl, by decide, rfl, Or.inr ⟨rfl, _, q1714⟩, Or.inl rfl, rfl, fun h => by cases h⟩
theorem fp_X35_189 : om_FP RX35 189 1476 false [27] := om_FP1 ⟨_, 9, _, rfl, by decide, rfl, Or.inr ⟨rfl, _, q1727⟩, Or.inl rfl, rfl, fun h => by cases h⟩
theorem fp_X35_196 : om_FP RX35 196 1470 false [27] := om_FP1 ⟨_, 7, _, rfl, by decide, rfl, Or.inr ⟨rfl, _, q1718⟩, Or.inl rfl, rfl, fun h => by cases h⟩
theorem fp_X35_204 : om_FP RX35 204 1474 false [27] := om_FP1 ⟨_, 8, _, rfl, by decide, rfl, Or.inr ⟨rfl, _, q1722⟩, Or.inl rfl, rfl, fun h => by cases h⟩
theorem fp_X36_9 : om_FP RX36 9 1616 false [35] := om_FP1 ⟨_, 1, _, rfl, by decide, rfl, Or.inl q2386, Or.inl rfl, rfl, fun h => by cases h⟩
theorem fp_X36_15 : om_FP RX36 15 1614 false [35] := om_FP1 ⟨_, 0, _, rfl, by decide, rfl, Or.inl q2381, Or.inl rfl, rfl, fun h => by cases h⟩
theorem fp_X36_19 : om_FP RX36 19 1622 false [35] := om_FP1 ⟨_, 2, _, rfl, by decide, rfl, Or.inl q2391, Or.inl rfl, rfl, fun h => by cases h⟩
theorem fp_X36_23 : om_FP RX36 23 1626 false [35] := om_FP1 ⟨_, 3, _, rfl, by decide, rfl, Or.inl q2396, Or.inl rfl, rfl, fun h => by cases h⟩
theorem fp_X36_27 : om_FP RX36 27 1638 false [35] := om_FP1 ⟨_, 6, _, rfl, by decide, rfl, Or.inl q2410, Or.inl rfl, rfl, fun h => by cases h⟩
theorem fp_X36_31 : om_FP RX36 31 1642 false [35] := om_FP1 ⟨_, 7, _, rfl, by decide, rfl, Or.inl q2414, Or.inl rfl, rfl, fun h => by cases h⟩
theorem fp_X37_12 : om_FP RX37 12 1654 true [36] := om_FP1 ⟨_, 2, _, rfl, by decide, rfl, Or.inl q2472, Or.inl rfl, rfl, fun _ => rfl⟩
theorem fp_X37_18 : om_FP RX37 18 1646 true [36] := om_FP1 ⟨_, 0, _, rfl, by decide, rfl, Or.inl q2470, Or.inl rfl, rfl, fun _ => rfl⟩
theorem fp_X37_28 : om_FP RX37 28 1650 true [36] := om_FP1 ⟨_, 1, _, rfl, by decide, rfl, Or.inl q2471, Or.inl rfl, rfl, fun _ => rfl⟩
theorem fp_X37_87 : om_FP RX37 87 1370 false [22] := om_FP1 ⟨_, 2, _, rfl, by decide, rfl, Or.inr ⟨rfl, _, q1916⟩, Or.inl rfl, rfl, fun h => by cases h⟩
theorem fp_X37_99 : om_FP RX37 99 1382 false om_exk := by
  intro k hk
  simp only [om_exk, List.mem_cons, List.not_mem_nil, or_false] at hk
  rcases hk with rfl | rfl | rfl | rfl | rfl | rfl | rfl | rfl
  · exact ⟨_, 2, _, rfl, by decide, rfl, Or.inl q1516, Or.inl rfl, rfl, fun h => by cases h⟩
  · exact ⟨_, 2, _, rfl, by decide, rfl, Or.inl q1516, Or.inl rfl, rfl, fun h => by cases h⟩
  · exact ⟨_, 2, _, rfl, by decide, rfl, Or.inl q1516, Or.inl rfl, rfl, fun h => by cases h⟩
  · exact ⟨_, 2, _, rfl, by decide, rfl, Or.inl q1516, Or.inl rfl, rfl, fun h => by cases h⟩
  · exact ⟨_, 2, _, rfl, by decide, rfl, Or.inl q1516, Or.inl rfl, rfl, fun h => by cases h⟩
  · exact ⟨_, 2, _, rfl, by decide, rfl, Or.inl q1516, Or.inl rfl, rfl, fun h => by cases h⟩
  · exact ⟨_, 2, _, rfl, by decide, rfl, Or.inl q1516, Or.inl rfl, rfl, fun h => by cases h⟩
  · exact ⟨_, 2, _, rfl, by decide, rfl, Or.inl q1516, Or.inl rfl, rfl, fun h => by cases h⟩
theorem fp_X37_121 : om_FP RX37 121 1378 false om_exk := by
  intro k hk
  simp only [om_exk, List.mem_cons, List.not_mem_nil, or_false] at hk
  rcases hk with rfl | rfl | rfl | rfl | rfl | rfl | rfl | rfl
  · exact ⟨_, 1, _, rfl, by decide, rfl, Or.inl q1513, Or.inl rfl, rfl, fun h => by cases h⟩
  · exact ⟨_, 1, _, rfl, by decide, rfl, Or.inl q1513, Or.inl rfl, rfl, fun h => by cases h⟩
  · exact ⟨_, 1, _, rfl, by decide, rfl, Or.inl q1513, Or.inl rfl, rfl, fun h => by cases h⟩
  · exact ⟨_, 1, _, rfl, by decide, rfl, Or.inl q1513, Or.inl rfl, rfl, fun h => by cases h⟩
  · exact ⟨_, 1, _, rfl, by decide, rfl, Or.inl q1513, Or.inl rfl, rfl, fun h => by cases h⟩
  · exact ⟨_, 1, _, rfl, by decide, rfl, Or.inl q1513, Or.inl rfl, rfl, fun h => by cases h⟩
  · exact ⟨_, 1, _, rfl, by decide, rfl, Or.inl q1513, Or.inl rfl, rfl, fun h => by cases h⟩
  · exact ⟨_, 1, _, rfl, by decide, rfl, Or.inl q1513, Or.inl rfl, rfl, fun h => by cases h⟩
theorem fp_X37_244 : om_FP RX37 244 1510 false [30] := om_FP1 ⟨_, 3, _, rfl, by decide, rfl, Or.inr ⟨rfl, _, q1829⟩, Or.inl rfl, rfl, fun h => by cases h⟩
theorem fp_X37_247 : om_FP RX37 247 1514 false [30] := om_FP1 ⟨_, 4, _, rfl, by decide, rfl, Or.inr ⟨rfl, _, q1832⟩, Or.inl rfl, rfl, fun h => by cases h⟩
theorem fp_X38_7 : om_FP RX38 7 1658 true [37] := om_FP1 ⟨_, 0, _, rfl, by decide, rfl, Or.inl q2536, Or.inl rfl, rfl, fun _ => rfl⟩
theorem fp_X38_13 : om_FP RX38 13 1662 true [37] := om_FP1 ⟨_, 1, _, rfl, by decide, rfl, Or.inl q2540, Or.inl rfl, rfl, fun _ => rfl⟩
theorem fp_X38_17 : om_FP RX38 17 1666 true [37] := om_FP1 ⟨_, 2, _, rfl, by decide, rfl, Or.inl q2543, Or.inl rfl, rfl, fun _ => rfl⟩
theorem fp_X40_7 : om_FP RX40 7 1718 true [39] := om_FP1 ⟨_, 6, _, rfl, by decide, rfl, Or.inl q3046, Or.inl rfl, rfl, fun _ => rfl⟩
