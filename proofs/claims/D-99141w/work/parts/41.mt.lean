/-! ===== methods and their blocks ===== -/
set_option maxRecDepth 100000
/-- GardenChessLaw.law([I)Z -/
def mt_0 : MT := (x, code, 4, some .boolean, [])
/-- java/util/AbstractCollection.<init>()V -/
def mt_1 : MT := (yJ0_init, cJ0_init, 1, (Option.none : Option Jvm.ClassFile.FieldType), [])
/-- java/util/AbstractList.<init>()V -/
def mt_2 : MT := (yJ1_init, cJ1_init, 1, (Option.none : Option Jvm.ClassFile.FieldType), [])
/-- java/lang/StringLatin1.equals([B[B)Z -/
def mt_3 : MT := (yJ10_equals, cJ10_equals, 3, (Option.some Jvm.ClassFile.FieldType.boolean), [])
/-- java/lang/StringLatin1.hashCode([B)I -/
def mt_4 : MT := (yJ10_hashCode, cJ10_hashCode, 1, (Option.some Jvm.ClassFile.FieldType.int), [])
/-- java/lang/StringLatin1.canEncode(C)Z -/
def mt_5 : MT := (yJ10_canEncode, cJ10_canEncode, 1, (Option.some Jvm.ClassFile.FieldType.boolean), [])
/-- java/lang/StringLatin1.inflate([BI[BII)V -/
def mt_6 : MT := (yJ10_inflate, cJ10_inflate, 5, (Option.none : Option Jvm.ClassFile.FieldType), [])
/-- java/lang/StringLatin1.charAt([BI)C -/
def mt_7 : MT := (yJ10_charAt, cJ10_charAt, 2, (Option.some Jvm.ClassFile.FieldType.char), [])
/-- jdk/internal/util/ArraysSupport.vectorizedHashCode(Ljava/lang/Object;IIII)I -/
def mt_8 : MT := (yJ11_vectorizedHashCode, cJ11_vectorizedHashCode, 5, (Option.some Jvm.ClassFile.FieldType.int), [])
/-- jdk/internal/util/ArraysSupport.signedHashCode(I[BII)I -/
def mt_9 : MT := (yJ11_signedHashCode, cJ11_signedHashCode, 6, (Option.some Jvm.ClassFile.FieldType.int), [])
/-- jdk/internal/util/ArraysSupport.utf16hashCode(I[BII)I -/
def mt_10 : MT := (yJ11_utf16hashCode, cJ11_utf16hashCode, 6, (Option.some Jvm.ClassFile.FieldType.int), [])
/-- jdk/internal/util/ArraysSupport.hashCode(I[CII)I -/
def mt_11 : MT := (yJ11_hashCode, cJ11_hashCode, 6, (Option.some Jvm.ClassFile.FieldType.int), [])
/-- jdk/internal/util/ArraysSupport.hashCode(I[BII)I -/
def mt_12 : MT := (yJ11_hashCode_2, cJ11_hashCode_2, 6, (Option.some Jvm.ClassFile.FieldType.int), [])
/-- jdk/internal/util/ArraysSupport.hashCode(I[SII)I -/
def mt_13 : MT := (yJ11_hashCode_3, cJ11_hashCode_3, 6, (Option.some Jvm.ClassFile.FieldType.int), [])
/-- jdk/internal/util/ArraysSupport.hashCode(I[III)I -/
def mt_14 : MT := (yJ11_hashCode_4, cJ11_hashCode_4, 6, (Option.some Jvm.ClassFile.FieldType.int), [])
/-- jdk/internal/util/ArraysSupport.newLength(III)I -/
def mt_15 : MT := (yJ11_newLength, cJ11_newLength, 4, (Option.some Jvm.ClassFile.FieldType.int), [])
/-- jdk/internal/util/ArraysSupport.hugeLength(II)I -/
def mt_16 : MT := (yJ11_hugeLength, cJ11_hugeLength, 3, (Option.some Jvm.ClassFile.FieldType.int), [])
/-- java/lang/Math.max(II)I -/
def mt_17 : MT := (yJ12_max, cJ12_max, 2, (Option.some Jvm.ClassFile.FieldType.int), [])
/-- java/lang/Math.min(II)I -/
def mt_18 : MT := (yJ12_min, cJ12_min, 2, (Option.some Jvm.ClassFile.FieldType.int), [])
/-- java/lang/Math.abs(I)I -/
def mt_19 : MT := (yJ12_abs, cJ12_abs, 1, (Option.some Jvm.ClassFile.FieldType.int), [])
/-- java/lang/Math.min(JJ)J -/
def mt_20 : MT := (yJ12_min_2, cJ12_min_2, 4, (Option.some Jvm.ClassFile.FieldType.long), [])
/-- java/lang/Math.max(JJ)J -/
def mt_21 : MT := (yJ12_max_2, cJ12_max_2, 4, (Option.some Jvm.ClassFile.FieldType.long), [])
/-- java/lang/Math.floorDiv(JJ)J -/
def mt_22 : MT := (yJ12_floorDiv, cJ12_floorDiv, 6, (Option.some Jvm.ClassFile.FieldType.long), [])
/-- java/util/Arrays.copyOf([Ljava/lang/Object;I)[Ljava/lang/Object; -/
def mt_23 : MT := (yJ13_copyOf, cJ13_copyOf, 2, (Option.some (Jvm.ClassFile.FieldType.array (Jvm.ClassFile.FieldType.object "java/lang/Object"))), [])
/-- java/util/Arrays.copyOf([Ljava/lang/Object;ILjava/lang/Class;)[Ljava/lang/Object; -/
def mt_24 : MT := (yJ13_copyOf_2, cJ13_copyOf_2, 4, (Option.some (Jvm.ClassFile.FieldType.array (Jvm.ClassFile.FieldType.object "java/lang/Object"))), [])
/-- java/util/Arrays.copyOf([BI)[B -/
def mt_25 : MT := (yJ13_copyOf_3, cJ13_copyOf_3, 3, (Option.some (Jvm.ClassFile.FieldType.array Jvm.ClassFile.FieldType.byte)), [])
/-- java/lang/AbstractStringBuilder.<init>(I)V -/
def mt_26 : MT := (yJ14_init, cJ14_init, 2, (Option.none : Option Jvm.ClassFile.FieldType), [])
/-- java/lang/AbstractStringBuilder.append(C)Ljava/lang/AbstractStringBuilder; -/
def mt_27 : MT := (yJ14_append, cJ14_append, 2, (Option.some (Jvm.ClassFile.FieldType.object "java/lang/AbstractStringBuilder")), [])
/-- java/lang/AbstractStringBuilder.ensureCapacityInternal(I)V -/
def mt_28 : MT := (yJ14_ensureCapacityInternal, cJ14_ensureCapacityInternal, 3, (Option.none : Option Jvm.ClassFile.FieldType), [])
/-- java/lang/AbstractStringBuilder.newCapacity(I)I -/
def mt_29 : MT := (yJ14_newCapacity, cJ14_newCapacity, 6, (Option.some Jvm.ClassFile.FieldType.int), [])
/-- java/lang/AbstractStringBuilder.isLatin1()Z -/
def mt_30 : MT := (yJ14_isLatin1, cJ14_isLatin1, 1, (Option.some Jvm.ClassFile.FieldType.boolean), [])
/-- java/lang/AbstractStringBuilder.inflate()V -/
def mt_31 : MT := (yJ14_inflate, cJ14_inflate, 2, (Option.none : Option Jvm.ClassFile.FieldType), [])
/-- java/lang/AbstractStringBuilder.charAt(I)C -/
def mt_32 : MT := (yJ14_charAt, cJ14_charAt, 5, (Option.some Jvm.ClassFile.FieldType.char), [])
/-- java/lang/StringBuilder.<init>()V -/
def mt_33 : MT := (yJ15_init, cJ15_init, 1, (Option.none : Option Jvm.ClassFile.FieldType), [])
/-- java/lang/StringBuilder.append(C)Ljava/lang/StringBuilder; -/
def mt_34 : MT := (yJ15_append, cJ15_append, 2, (Option.some (Jvm.ClassFile.FieldType.object "java/lang/StringBuilder")), [])
/-- java/lang/StringBuilder.charAt(I)C -/
def mt_35 : MT := (yJ15_charAt, cJ15_charAt, 2, (Option.some Jvm.ClassFile.FieldType.char), [])
/-- java/lang/Integer.signum(I)I -/
def mt_36 : MT := (yJ16_signum, cJ16_signum, 1, (Option.some Jvm.ClassFile.FieldType.int), [])
/-- java/lang/System$2.getUTF16Char([BI)C -/
def mt_37 : MT := (yJ18_getUTF16Char, cJ18_getUTF16Char, 3, (Option.some Jvm.ClassFile.FieldType.char), [])
/-- java/util/ArrayList.<init>(I)V -/
def mt_38 : MT := (yJ2_init, cJ2_init, 2, (Option.none : Option Jvm.ClassFile.FieldType), [])
/-- java/util/ArrayList.size()I -/
def mt_39 : MT := (yJ2_size, cJ2_size, 1, (Option.some Jvm.ClassFile.FieldType.int), [])
/-- java/util/ArrayList.get(I)Ljava/lang/Object; -/
def mt_40 : MT := (yJ2_get, cJ2_get, 2, (Option.some (Jvm.ClassFile.FieldType.object "java/lang/Object")), [])
/-- java/util/ArrayList.elementData(I)Ljava/lang/Object; -/
def mt_41 : MT := (yJ2_elementData, cJ2_elementData, 2, (Option.some (Jvm.ClassFile.FieldType.object "java/lang/Object")), [])
/-- java/util/ArrayList.add(Ljava/lang/Object;)Z -/
def mt_42 : MT := (yJ2_add, cJ2_add, 2, (Option.some Jvm.ClassFile.FieldType.boolean), [])
/-- java/util/ArrayList.add(Ljava/lang/Object;[Ljava/lang/Object;I)V -/
def mt_43 : MT := (yJ2_add_2, cJ2_add_2, 4, (Option.none : Option Jvm.ClassFile.FieldType), [])
/-- java/util/ArrayList.grow()[Ljava/lang/Object; -/
def mt_44 : MT := (yJ2_grow, cJ2_grow, 1, (Option.some (Jvm.ClassFile.FieldType.array (Jvm.ClassFile.FieldType.object "java/lang/Object"))), [])
/-- java/util/ArrayList.grow(I)[Ljava/lang/Object; -/
def mt_45 : MT := (yJ2_grow_2, cJ2_grow_2, 4, (Option.some (Jvm.ClassFile.FieldType.array (Jvm.ClassFile.FieldType.object "java/lang/Object"))), [])
/-- java/lang/Throwable.<init>()V -/
def mt_46 : MT := (yJ3_init, cJ3_init, 1, (Option.none : Option Jvm.ClassFile.FieldType), [])
/-- java/lang/Throwable.<init>(Ljava/lang/String;Ljava/lang/Throwable;ZZ)V -/
def mt_47 : MT := (yJ3_init_2, cJ3_init_2, 5, (Option.none : Option Jvm.ClassFile.FieldType), [])
/-- java/lang/Exception.<init>(Ljava/lang/String;Ljava/lang/Throwable;ZZ)V -/
def mt_48 : MT := (yJ4_init, cJ4_init, 5, (Option.none : Option Jvm.ClassFile.FieldType), [])
/-- java/lang/RuntimeException.<init>(Ljava/lang/String;Ljava/lang/Throwable;ZZ)V -/
def mt_49 : MT := (yJ5_init, cJ5_init, 5, (Option.none : Option Jvm.ClassFile.FieldType), [])
/-- java/util/Objects.checkIndex(II)I -/
def mt_50 : MT := (yJ6_checkIndex, cJ6_checkIndex, 2, (Option.some Jvm.ClassFile.FieldType.int), [])
/-- jdk/internal/util/Preconditions.checkIndex(IILjava/util/function/BiFunction;)I -/
def mt_51 : MT := (yJ7_checkIndex, cJ7_checkIndex, 3, (Option.some Jvm.ClassFile.FieldType.int), [])
/-- jdk/internal/util/Preconditions.checkFromIndexSize(IIILjava/util/function/BiFunction;)I -/
def mt_52 : MT := (yJ7_checkFromIndexSize, cJ7_checkFromIndexSize, 4, (Option.some Jvm.ClassFile.FieldType.int), [])
/-- java/lang/String.valueOf([C)Ljava/lang/String; -/
def mt_53 : MT := (yJ8_valueOf, cJ8_valueOf, 1, (Option.some (Jvm.ClassFile.FieldType.object "java/lang/String")), [])
/-- java/lang/String.<init>([C)V -/
def mt_54 : MT := (yJ8_init, cJ8_init, 2, (Option.none : Option Jvm.ClassFile.FieldType), [])
/-- java/lang/String.<init>([CIILjava/lang/Void;)V -/
def mt_55 : MT := (yJ8_init_2, cJ8_init_2, 6, (Option.none : Option Jvm.ClassFile.FieldType), [])
/-- java/lang/String.checkBoundsOffCount(III)I -/
def mt_56 : MT := (yJ8_checkBoundsOffCount, cJ8_checkBoundsOffCount, 3, (Option.some Jvm.ClassFile.FieldType.int), [])
/-- java/lang/String.equals(Ljava/lang/Object;)Z -/
def mt_57 : MT := (yJ8_equals, cJ8_equals, 3, (Option.some Jvm.ClassFile.FieldType.boolean), [])
/-- java/lang/String.hashCode()I -/
def mt_58 : MT := (yJ8_hashCode, cJ8_hashCode, 2, (Option.some Jvm.ClassFile.FieldType.int), [])
/-- java/lang/String.isLatin1()Z -/
def mt_59 : MT := (yJ8_isLatin1, cJ8_isLatin1, 1, (Option.some Jvm.ClassFile.FieldType.boolean), [])
/-- java/lang/String.length()I -/
def mt_60 : MT := (yJ8_length, cJ8_length, 1, (Option.some Jvm.ClassFile.FieldType.int), [])
/-- java/lang/String.coder()B -/
def mt_61 : MT := (yJ8_coder, cJ8_coder, 1, (Option.some Jvm.ClassFile.FieldType.byte), [])
/-- java/lang/String.checkIndex(II)V -/
def mt_62 : MT := (yJ8_checkIndex, cJ8_checkIndex, 2, (Option.none : Option Jvm.ClassFile.FieldType), [])
/-- java/lang/String.charAt(I)C -/
def mt_63 : MT := (yJ8_charAt, cJ8_charAt, 2, (Option.some Jvm.ClassFile.FieldType.char), [])
/-- java/lang/StringUTF16.compress([CII)[B -/
def mt_64 : MT := (yJ9_compress, cJ9_compress, 6, (Option.some (Jvm.ClassFile.FieldType.array Jvm.ClassFile.FieldType.byte)), [])
/-- java/lang/StringUTF16.compress([CI[BII)I -/
def mt_65 : MT := (yJ9_compress_2, cJ9_compress_2, 7, (Option.some Jvm.ClassFile.FieldType.int), [])
/-- java/lang/StringUTF16.toBytes([CII)[B -/
def mt_66 : MT := (yJ9_toBytes, cJ9_toBytes, 5, (Option.some (Jvm.ClassFile.FieldType.array Jvm.ClassFile.FieldType.byte)), [])
/-- java/lang/StringUTF16.newBytesFor(I)[B -/
def mt_67 : MT := (yJ9_newBytesFor, cJ9_newBytesFor, 1, (Option.some (Jvm.ClassFile.FieldType.array Jvm.ClassFile.FieldType.byte)), [])
/-- java/lang/StringUTF16.newBytesLength(I)I -/
def mt_68 : MT := (yJ9_newBytesLength, cJ9_newBytesLength, 1, (Option.some Jvm.ClassFile.FieldType.int), [])
/-- java/lang/StringUTF16.putChar([BII)V -/
def mt_69 : MT := (yJ9_putChar, cJ9_putChar, 3, (Option.none : Option Jvm.ClassFile.FieldType), [])
/-- java/lang/StringUTF16.length([B)I -/
def mt_70 : MT := (yJ9_length, cJ9_length, 1, (Option.some Jvm.ClassFile.FieldType.int), [])
/-- java/lang/StringUTF16.getChar([BI)C -/
def mt_71 : MT := (yJ9_getChar, cJ9_getChar, 2, (Option.some Jvm.ClassFile.FieldType.char), [])
/-- java/lang/StringUTF16.compress([BI[BII)I -/
def mt_72 : MT := (yJ9_compress_3, cJ9_compress_3, 7, (Option.some Jvm.ClassFile.FieldType.int), [])
/-- java/lang/StringUTF16.checkBoundsOffCount(II[B)V -/
def mt_73 : MT := (yJ9_checkBoundsOffCount, cJ9_checkBoundsOffCount, 3, (Option.none : Option Jvm.ClassFile.FieldType), [])
/-- java/lang/StringUTF16.coderFromArrayLen([BI)B -/
def mt_74 : MT := (yJ9_coderFromArrayLen, cJ9_coderFromArrayLen, 2, (Option.some Jvm.ClassFile.FieldType.byte), [])
/-- java/lang/StringUTF16.hashCode([B)I -/
def mt_75 : MT := (yJ9_hashCode, cJ9_hashCode, 1, (Option.some Jvm.ClassFile.FieldType.int), [])
/-- java/lang/StringUTF16.inflate([BI[BII)V -/
def mt_76 : MT := (yJ9_inflate, cJ9_inflate, 6, (Option.none : Option Jvm.ClassFile.FieldType), [])
/-- java/lang/StringUTF16.putCharSB([BII)V -/
def mt_77 : MT := (yJ9_putCharSB, cJ9_putCharSB, 3, (Option.none : Option Jvm.ClassFile.FieldType), [])
/-- java/lang/StringUTF16.checkIndex(I[B)V -/
def mt_78 : MT := (yJ9_checkIndex, cJ9_checkIndex, 2, (Option.none : Option Jvm.ClassFile.FieldType), [])
/-- java/lang/StringUTF16.charAt([BI)C -/
def mt_79 : MT := (yJ9_charAt, cJ9_charAt, 2, (Option.some Jvm.ClassFile.FieldType.char), [])
/-- GardenChess.<init>()V -/
def mt_80 : MT := (yX0_init, cX0_init, 2, (Option.none : Option Jvm.ClassFile.FieldType), [])
/-- GardenChess.men()I -/
def mt_81 : MT := (yX0_men, cX0_men, 1, (Option.some Jvm.ClassFile.FieldType.int), [])
/-- GardenChess.kindOf(I)LGardenChess$Kind; -/
def mt_82 : MT := (yX0_kindOf, cX0_kindOf, 2, (Option.some (Jvm.ClassFile.FieldType.object "GardenChess$Kind")), [])
/-- GardenChess.manOf(I)LGardenChess$Man; -/
def mt_83 : MT := (yX0_manOf, cX0_manOf, 2, (Option.some (Jvm.ClassFile.FieldType.object "GardenChess$Man")), [])
/-- GardenChess.feed(IIIII)I -/
def mt_84 : MT := (yX0_feed, cX0_feed, 6, (Option.some Jvm.ClassFile.FieldType.int), [])
/-- GardenChess.refuses(I)I -/
def mt_85 : MT := (yX0_refuses, cX0_refuses, 2, (Option.some Jvm.ClassFile.FieldType.int), [])
/-- GardenChess.put(I)V -/
def mt_86 : MT := (yX0_put, cX0_put, 3, (Option.none : Option Jvm.ClassFile.FieldType), [])
/-- GardenChess.end(I)Z -/
def mt_87 : MT := (yX0_end, cX0_end, 2, (Option.some Jvm.ClassFile.FieldType.boolean), [])
/-- GardenChess.board()I -/
def mt_88 : MT := (yX0_board, cX0_board, 2, (Option.some Jvm.ClassFile.FieldType.int), [(10, 25, 28, 139)])
/-- GardenChess.taken()I -/
def mt_89 : MT := (yX0_taken, cX0_taken, 2, (Option.some Jvm.ClassFile.FieldType.int), [])
/-- GardenChess.isLetter(I)Z -/
def mt_90 : MT := (yX0_isLetter, cX0_isLetter, 1, (Option.some Jvm.ClassFile.FieldType.boolean), [])
/-- GardenChess.isDigit(I)Z -/
def mt_91 : MT := (yX0_isDigit, cX0_isDigit, 1, (Option.some Jvm.ClassFile.FieldType.boolean), [])
/-- GardenChess.is(III)Z -/
def mt_92 : MT := (yX0_is, cX0_is, 3, (Option.some Jvm.ClassFile.FieldType.boolean), [])
/-- GardenChess.find(Ljava/lang/String;[Ljava/lang/String;)I -/
def mt_93 : MT := (yX0_find, cX0_find, 3, (Option.some Jvm.ClassFile.FieldType.int), [])
/-- GardenChess.has(II)Z -/
def mt_94 : MT := (yX0_has, cX0_has, 2, (Option.some Jvm.ClassFile.FieldType.boolean), [])
/-- GardenChess.fields()I -/
def mt_95 : MT := (yX0_fields, cX0_fields, 1, (Option.some Jvm.ClassFile.FieldType.int), [])
/-- GardenChess.fault(I)I -/
def mt_96 : MT := (yX0_fault, cX0_fault, 2, (Option.some Jvm.ClassFile.FieldType.int), [])
/-- GardenChess.has(I)I -/
def mt_97 : MT := (yX0_has_2, cX0_has_2, 2, (Option.some Jvm.ClassFile.FieldType.int), [])
/-- GardenChess.isBoard()Z -/
def mt_98 : MT := (yX0_isBoard, cX0_isBoard, 1, (Option.some Jvm.ClassFile.FieldType.boolean), [])
/-- GardenChess.letter(III)I -/
def mt_99 : MT := (yX0_letter, cX0_letter, 5, (Option.some Jvm.ClassFile.FieldType.int), [])
/-- GardenChess.kind(II)I -/
def mt_100 : MT := (yX0_kind, cX0_kind, 4, (Option.some Jvm.ClassFile.FieldType.int), [])
/-- GardenChess.man(II)I -/
def mt_101 : MT := (yX0_man, cX0_man, 4, (Option.some Jvm.ClassFile.FieldType.int), [])
/-- GardenChess.isMan(I)Z -/
def mt_102 : MT := (yX0_isMan, cX0_isMan, 2, (Option.some Jvm.ClassFile.FieldType.boolean), [])
/-- GardenChess.field(II)I -/
def mt_103 : MT := (yX0_field, cX0_field, 4, (Option.some Jvm.ClassFile.FieldType.int), [])
/-- GardenChess.isField(I)Z -/
def mt_104 : MT := (yX0_isField, cX0_isField, 2, (Option.some Jvm.ClassFile.FieldType.boolean), [])
/-- GardenChess.at(II)I -/
def mt_105 : MT := (yX0_at, cX0_at, 3, (Option.some Jvm.ClassFile.FieldType.int), [])
/-- GardenChess.isIn(II)Z -/
def mt_106 : MT := (yX0_isIn, cX0_isIn, 3, (Option.some Jvm.ClassFile.FieldType.boolean), [])
/-- GardenChess.option(II)I -/
def mt_107 : MT := (yX0_option, cX0_option, 4, (Option.some Jvm.ClassFile.FieldType.int), [])
/-- GardenChess.finds()I -/
def mt_108 : MT := (yX0_finds, cX0_finds, 1, (Option.some Jvm.ClassFile.FieldType.int), [])
/-- GardenChess.kept(II)I -/
def mt_109 : MT := (yX0_kept, cX0_kept, 3, (Option.some Jvm.ClassFile.FieldType.int), [])
/-- GardenChess.balance(I)J -/
def mt_110 : MT := (yX0_balance, cX0_balance, 2, (Option.some Jvm.ClassFile.FieldType.long), [])
/-- GardenChess.value(I)J -/
def mt_111 : MT := (yX0_value, cX0_value, 2, (Option.some Jvm.ClassFile.FieldType.long), [])
/-- GardenChess.best(I)I -/
def mt_112 : MT := (yX0_best, cX0_best, 2, (Option.some Jvm.ClassFile.FieldType.int), [])
/-- GardenChess.forced()I -/
def mt_113 : MT := (yX0_forced, cX0_forced, 2, (Option.some Jvm.ClassFile.FieldType.int), [])
/-- GardenChess.takes(LGardenChess$State;LGardenChess$Moves;)Z -/
def mt_114 : MT := (yX0_takes, cX0_takes, 5, (Option.some Jvm.ClassFile.FieldType.boolean), [])
/-- GardenChess.isForcedBy(I)Z -/
def mt_115 : MT := (yX0_isForcedBy, cX0_isForcedBy, 8, (Option.some Jvm.ClassFile.FieldType.boolean), [])
/-- GardenChess.later(II)I -/
def mt_116 : MT := (yX0_later, cX0_later, 3, (Option.some Jvm.ClassFile.FieldType.int), [])
/-- GardenChess.isAhead(III)Z -/
def mt_117 : MT := (yX0_isAhead, cX0_isAhead, 4, (Option.some Jvm.ClassFile.FieldType.boolean), [])
/-- GardenChess.off(IIII)I -/
def mt_118 : MT := (yX0_off, cX0_off, 4, (Option.some Jvm.ClassFile.FieldType.int), [])
/-- GardenChess.held(J)J -/
def mt_119 : MT := (yX0_held, cX0_held, 2, (Option.some Jvm.ClassFile.FieldType.long), [])
/-- GardenChess.looked(IJ)J -/
def mt_120 : MT := (yX0_looked, cX0_looked, 5, (Option.some Jvm.ClassFile.FieldType.long), [])
/-- GardenChess.crop(II)I -/
def mt_121 : MT := (yX0_crop, cX0_crop, 3, (Option.some Jvm.ClassFile.FieldType.int), [])
/-- GardenChess.spare(III)I -/
def mt_122 : MT := (yX0_spare, cX0_spare, 7, (Option.some Jvm.ClassFile.FieldType.int), [])
/-- GardenChess.sow(II)I -/
def mt_123 : MT := (yX0_sow, cX0_sow, 5, (Option.some Jvm.ClassFile.FieldType.int), [])
/-- GardenChess.deeper(III)J -/
def mt_124 : MT := (yX0_deeper, cX0_deeper, 5, (Option.some Jvm.ClassFile.FieldType.long), [])
/-- GardenChess.see()I -/
def mt_125 : MT := (yX0_see, cX0_see, 4, (Option.some Jvm.ClassFile.FieldType.int), [])
/-- GardenChess.byteAt(I)I -/
def mt_126 : MT := (yX0_byteAt, cX0_byteAt, 2, (Option.some Jvm.ClassFile.FieldType.int), [])
/-- GardenChess.twoAt(I)I -/
def mt_127 : MT := (yX0_twoAt, cX0_twoAt, 2, (Option.some Jvm.ClassFile.FieldType.int), [])
/-- GardenChess.played(I)I -/
def mt_128 : MT := (yX0_played, cX0_played, 7, (Option.some Jvm.ClassFile.FieldType.int), [])
/-- GardenChess.isAsSeen(I)Z -/
def mt_129 : MT := (yX0_isAsSeen, cX0_isAsSeen, 3, (Option.some Jvm.ClassFile.FieldType.boolean), [])
/-- GardenChess.reached(I)I -/
def mt_130 : MT := (yX0_reached, cX0_reached, 3, (Option.some Jvm.ClassFile.FieldType.int), [])
/-- GardenChess.readsMen(I[I)Z -/
def mt_131 : MT := (yX0_readsMen, cX0_readsMen, 7, (Option.some Jvm.ClassFile.FieldType.boolean), [])
/-- GardenChess.ways(I)I -/
def mt_132 : MT := (yX0_ways, cX0_ways, 8, (Option.some Jvm.ClassFile.FieldType.int), [])
/-- GardenChess.undo()Z -/
def mt_133 : MT := (yX0_undo, cX0_undo, 1, (Option.some Jvm.ClassFile.FieldType.boolean), [])
/-- GardenChess.play(I)I -/
def mt_134 : MT := (yX0_play, cX0_play, 3, (Option.some Jvm.ClassFile.FieldType.int), [])
/-- GardenChess.keeps()V -/
def mt_135 : MT := (yX0_keeps, cX0_keeps, 3, (Option.none : Option Jvm.ClassFile.FieldType), [])
/-- GardenChess.tend(II)I -/
def mt_136 : MT := (yX0_tend, cX0_tend, 3, (Option.some Jvm.ClassFile.FieldType.int), [])
/-- GardenChess.days(I)I -/
def mt_137 : MT := (yX0_days, cX0_days, 2, (Option.some Jvm.ClassFile.FieldType.int), [])
/-- GardenChess.chance(I)I -/
def mt_138 : MT := (yX0_chance, cX0_chance, 5, (Option.some Jvm.ClassFile.FieldType.int), [])
/-- GardenChess.draw(I)I -/
def mt_139 : MT := (yX0_draw, cX0_draw, 2, (Option.some Jvm.ClassFile.FieldType.int), [])
/-- GardenChess.seed(I)Z -/
def mt_140 : MT := (yX0_seed, cX0_seed, 2, (Option.some Jvm.ClassFile.FieldType.boolean), [])
/-- GardenChess.ask()J -/
def mt_141 : MT := (yX0_ask, cX0_ask, 4, (Option.some Jvm.ClassFile.FieldType.long), [(26, 35, 38, 139)])
/-- GardenChess.image()I -/
def mt_142 : MT := (yX0_image, cX0_image, 2, (Option.some Jvm.ClassFile.FieldType.int), [])
/-- GardenChess.writes(I)V -/
def mt_143 : MT := (yX0_writes, cX0_writes, 2, (Option.none : Option Jvm.ClassFile.FieldType), [])
/-- GardenChess.check([BI)I -/
def mt_144 : MT := (yX0_check, cX0_check, 4, (Option.some Jvm.ClassFile.FieldType.int), [])
/-- GardenChess.octet(I)I -/
def mt_145 : MT := (yX0_octet, cX0_octet, 2, (Option.some Jvm.ClassFile.FieldType.int), [])
/-- GardenChess.on()Z -/
def mt_146 : MT := (yX0_on, cX0_on, 5, (Option.some Jvm.ClassFile.FieldType.boolean), [])
/-- GardenChess.status(I)I -/
def mt_147 : MT := (yX0_status, cX0_status, 2, (Option.some Jvm.ClassFile.FieldType.int), [])
/-- GardenChess$Board.<init>()V -/
def mt_148 : MT := (yX1_init, cX1_init, 1, (Option.none : Option Jvm.ClassFile.FieldType), [])
/-- GardenChess$Board.isNamed(Ljava/lang/String;)Z -/
def mt_149 : MT := (yX1_isNamed, cX1_isNamed, 2, (Option.some Jvm.ClassFile.FieldType.boolean), [])
/-- GardenChess$Board.isFull(II)Z -/
def mt_150 : MT := (yX1_isFull, cX1_isFull, 4, (Option.some Jvm.ClassFile.FieldType.boolean), [])
/-- GardenChess$Man.<init>(Ljava/lang/String;IIII)V -/
def mt_151 : MT := (yX10_init, cX10_init, 6, (Option.none : Option Jvm.ClassFile.FieldType), [])
/-- GardenChess$Field.<init>(Ljava/lang/String;III)V -/
def mt_152 : MT := (yX11_init, cX11_init, 5, (Option.none : Option Jvm.ClassFile.FieldType), [])
/-- GardenChess$Value.<init>()V -/
def mt_153 : MT := (yX12_init, cX12_init, 1, (Option.none : Option Jvm.ClassFile.FieldType), [])
/-- GardenChess$Chain.<init>()V -/
def mt_154 : MT := (yX13_init, cX13_init, 1, (Option.none : Option Jvm.ClassFile.FieldType), [])
/-- GardenChess$Chain.add(CLGardenChess$Value;)V -/
def mt_155 : MT := (yX13_add, cX13_add, 3, (Option.none : Option Jvm.ClassFile.FieldType), [])
/-- GardenChess$Chain.at(LGardenChess$Moment;)J -/
def mt_156 : MT := (yX13_at, cX13_at, 5, (Option.some Jvm.ClassFile.FieldType.long), [])
/-- GardenChess$Chain.two(CJJ)J -/
def mt_157 : MT := (yX13_two, cX13_two, 5, (Option.some Jvm.ClassFile.FieldType.long), [])
/-- GardenChess$Pair.<init>(ZLGardenChess$Value;LGardenChess$Value;)V -/
def mt_158 : MT := (yX14_init, cX14_init, 4, (Option.none : Option Jvm.ClassFile.FieldType), [])
/-- GardenChess$Pair.at(LGardenChess$Moment;)J -/
def mt_159 : MT := (yX14_at, cX14_at, 6, (Option.some Jvm.ClassFile.FieldType.long), [])
/-- GardenChess$Fixed.<init>(J)V -/
def mt_160 : MT := (yX15_init, cX15_init, 3, (Option.none : Option Jvm.ClassFile.FieldType), [])
/-- GardenChess$Fixed.at(LGardenChess$Moment;)J -/
def mt_161 : MT := (yX15_at, cX15_at, 2, (Option.some Jvm.ClassFile.FieldType.long), [])
/-- GardenChess$Asked.<init>(I)V -/
def mt_162 : MT := (yX16_init, cX16_init, 2, (Option.none : Option Jvm.ClassFile.FieldType), [])
/-- GardenChess$Asked.at(LGardenChess$Moment;)J -/
def mt_163 : MT := (yX16_at, cX16_at, 2, (Option.some Jvm.ClassFile.FieldType.long), [])
/-- GardenChess$Looked.<init>(LGardenChess;ILGardenChess$Value;)V -/
def mt_164 : MT := (yX17_init, cX17_init, 4, (Option.none : Option Jvm.ClassFile.FieldType), [])
/-- GardenChess$Looked.at(LGardenChess$Moment;)J -/
def mt_165 : MT := (yX17_at, cX17_at, 2, (Option.some Jvm.ClassFile.FieldType.long), [])
/-- GardenChess$Question.<init>(ILGardenChess$Test;LGardenChess$Value;)V -/
def mt_166 : MT := (yX18_init, cX18_init, 4, (Option.none : Option Jvm.ClassFile.FieldType), [])
/-- GardenChess$Question.meets(ILGardenChess$Moment;)V -/
def mt_167 : MT := (yX18_meets, cX18_meets, 5, (Option.none : Option Jvm.ClassFile.FieldType), [])
/-- GardenChess$Question.answer()J -/
def mt_168 : MT := (yX18_answer, cX18_answer, 1, (Option.some Jvm.ClassFile.FieldType.long), [])
/-- GardenChess$Test.<init>()V -/
def mt_169 : MT := (yX19_init, cX19_init, 1, (Option.none : Option Jvm.ClassFile.FieldType), [])
/-- GardenChess$Reader.<init>(LGardenChess;)V -/
def mt_170 : MT := (yX2_init, cX2_init, 2, (Option.none : Option Jvm.ClassFile.FieldType), [])
/-- GardenChess$Reader.all(I)LGardenChess$Board; -/
def mt_171 : MT := (yX2_all, cX2_all, 3, (Option.some (Jvm.ClassFile.FieldType.object "GardenChess$Board")), [])
/-- GardenChess$Reader.word(Ljava/lang/String;)V -/
def mt_172 : MT := (yX2_word, cX2_word, 2, (Option.none : Option Jvm.ClassFile.FieldType), [])
/-- GardenChess$Reader.word()Ljava/lang/String; -/
def mt_173 : MT := (yX2_word_2, cX2_word_2, 3, (Option.some (Jvm.ClassFile.FieldType.object "java/lang/String")), [])
/-- GardenChess$Reader.here()I -/
def mt_174 : MT := (yX2_here, cX2_here, 1, (Option.some Jvm.ClassFile.FieldType.int), [])
/-- GardenChess$Reader.byteAt(I)I -/
def mt_175 : MT := (yX2_byteAt, cX2_byteAt, 2, (Option.some Jvm.ClassFile.FieldType.int), [])
/-- GardenChess$Reader.wrong(II)LGardenChess$Fault; -/
def mt_176 : MT := (yX2_wrong, cX2_wrong, 3, (Option.some (Jvm.ClassFile.FieldType.object "GardenChess$Fault")), [])
/-- GardenChess$Reader.parted()V -/
def mt_177 : MT := (yX2_parted, cX2_parted, 1, (Option.none : Option Jvm.ClassFile.FieldType), [])
/-- GardenChess$Reader.number(II)I -/
def mt_178 : MT := (yX2_number, cX2_number, 4, (Option.some Jvm.ClassFile.FieldType.int), [])
/-- GardenChess$Reader.number(Ljava/lang/String;II)I -/
def mt_179 : MT := (yX2_number_2, cX2_number_2, 4, (Option.some Jvm.ClassFile.FieldType.int), [])
/-- GardenChess$Reader.must(I)V -/
def mt_180 : MT := (yX2_must, cX2_must, 2, (Option.none : Option Jvm.ClassFile.FieldType), [])
/-- GardenChess$Reader.most(ZI)V -/
def mt_181 : MT := (yX2_most, cX2_most, 3, (Option.none : Option Jvm.ClassFile.FieldType), [])
/-- GardenChess$Reader.told(Ljava/lang/String;I)V -/
def mt_182 : MT := (yX2_told, cX2_told, 12, (Option.none : Option Jvm.ClassFile.FieldType), [])
/-- GardenChess$Reader.fresh()Ljava/lang/String; -/
def mt_183 : MT := (yX2_fresh, cX2_fresh, 2, (Option.some (Jvm.ClassFile.FieldType.object "java/lang/String")), [])
/-- GardenChess$Reader.name()Ljava/lang/String; -/
def mt_184 : MT := (yX2_name, cX2_name, 2, (Option.some (Jvm.ClassFile.FieldType.object "java/lang/String")), [])
/-- GardenChess$Reader.passes(Ljava/lang/String;)Z -/
def mt_185 : MT := (yX2_passes, cX2_passes, 3, (Option.some Jvm.ClassFile.FieldType.boolean), [])
/-- GardenChess$Reader.man()V -/
def mt_186 : MT := (yX2_man, cX2_man, 6, (Option.none : Option Jvm.ClassFile.FieldType), [])
/-- GardenChess$Reader.known(Ljava/util/List;)I -/
def mt_187 : MT := (yX2_known, cX2_known, 3, (Option.some Jvm.ClassFile.FieldType.int), [])
/-- GardenChess$Reader.sum()LGardenChess$Value; -/
def mt_188 : MT := (yX2_sum, cX2_sum, 3, (Option.some (Jvm.ClassFile.FieldType.object "GardenChess$Value")), [])
/-- GardenChess$Reader.product()LGardenChess$Value; -/
def mt_189 : MT := (yX2_product, cX2_product, 3, (Option.some (Jvm.ClassFile.FieldType.object "GardenChess$Value")), [])
/-- GardenChess$Reader.atom()LGardenChess$Value; -/
def mt_190 : MT := (yX2_atom, cX2_atom, 3, (Option.some (Jvm.ClassFile.FieldType.object "GardenChess$Value")), [])
/-- GardenChess$Reader.within(I)LGardenChess$Value; -/
def mt_191 : MT := (yX2_within, cX2_within, 4, (Option.some (Jvm.ClassFile.FieldType.object "GardenChess$Value")), [])
/-- GardenChess$Reader.opens(I)V -/
def mt_192 : MT := (yX2_opens, cX2_opens, 2, (Option.none : Option Jvm.ClassFile.FieldType), [])
/-- GardenChess$Reader.looked(I)LGardenChess$Value; -/
def mt_193 : MT := (yX2_looked, cX2_looked, 3, (Option.some (Jvm.ClassFile.FieldType.object "GardenChess$Value")), [])
/-- GardenChess$Reader.takes(I)Z -/
def mt_194 : MT := (yX2_takes, cX2_takes, 3, (Option.some Jvm.ClassFile.FieldType.boolean), [])
/-- GardenChess$Reader.question(I)LGardenChess$Question; -/
def mt_195 : MT := (yX2_question, cX2_question, 4, (Option.some (Jvm.ClassFile.FieldType.object "GardenChess$Question")), [])
/-- GardenChess$Reader.test()LGardenChess$Test; -/
def mt_196 : MT := (yX2_test, cX2_test, 2, (Option.some (Jvm.ClassFile.FieldType.object "GardenChess$Test")), [])
/-- GardenChess$Reader.both()LGardenChess$Test; -/
def mt_197 : MT := (yX2_both, cX2_both, 2, (Option.some (Jvm.ClassFile.FieldType.object "GardenChess$Test")), [])
/-- GardenChess$Reader.fact()LGardenChess$Test; -/
def mt_198 : MT := (yX2_fact, cX2_fact, 3, (Option.some (Jvm.ClassFile.FieldType.object "GardenChess$Test")), [])
/-- GardenChess$Facts.<init>(Z)V -/
def mt_199 : MT := (yX20_init, cX20_init, 2, (Option.none : Option Jvm.ClassFile.FieldType), [])
/-- GardenChess$Facts.holds(LGardenChess$Moment;)Z -/
def mt_200 : MT := (yX20_holds, cX20_holds, 3, (Option.some Jvm.ClassFile.FieldType.boolean), [])
/-- GardenChess$Not.<init>(LGardenChess$Test;)V -/
def mt_201 : MT := (yX21_init, cX21_init, 2, (Option.none : Option Jvm.ClassFile.FieldType), [])
/-- GardenChess$Not.holds(LGardenChess$Moment;)Z -/
def mt_202 : MT := (yX21_holds, cX21_holds, 2, (Option.some Jvm.ClassFile.FieldType.boolean), [])
/-- GardenChess$All.<init>()V -/
def mt_203 : MT := (yX22_init, cX22_init, 1, (Option.none : Option Jvm.ClassFile.FieldType), [])
/-- GardenChess$All.holds(LGardenChess$Moment;)Z -/
def mt_204 : MT := (yX22_holds, cX22_holds, 2, (Option.some Jvm.ClassFile.FieldType.boolean), [])
/-- GardenChess$Than.<init>(LGardenChess$Value;ILGardenChess$Value;)V -/
def mt_205 : MT := (yX23_init, cX23_init, 4, (Option.none : Option Jvm.ClassFile.FieldType), [])
/-- GardenChess$Than.holds(LGardenChess$Moment;)Z -/
def mt_206 : MT := (yX23_holds, cX23_holds, 6, (Option.some Jvm.ClassFile.FieldType.boolean), [])
/-- GardenChess$Fault.<init>()V -/
def mt_207 : MT := (yX3_init, cX3_init, 1, (Option.none : Option Jvm.ClassFile.FieldType), [])
/-- GardenChess$Moment.<init>()V -/
def mt_208 : MT := (yX4_init, cX4_init, 1, (Option.none : Option Jvm.ClassFile.FieldType), [])
/-- GardenChess$Moves.<init>()V -/
def mt_209 : MT := (yX5_init, cX5_init, 1, (Option.none : Option Jvm.ClassFile.FieldType), [])
/-- GardenChess$Moves.add(II)V -/
def mt_210 : MT := (yX5_add, cX5_add, 3, (Option.none : Option Jvm.ClassFile.FieldType), [])
/-- GardenChess$State.<init>(LGardenChess;)V -/
def mt_211 : MT := (yX6_init, cX6_init, 2, (Option.none : Option Jvm.ClassFile.FieldType), [])
/-- GardenChess$State.stands()V -/
def mt_212 : MT := (yX6_stands, cX6_stands, 2, (Option.none : Option Jvm.ClassFile.FieldType), [])
/-- GardenChess$State.begins()V -/
def mt_213 : MT := (yX6_begins, cX6_begins, 2, (Option.none : Option Jvm.ClassFile.FieldType), [])
/-- GardenChess$State.isOver()Z -/
def mt_214 : MT := (yX6_isOver, cX6_isOver, 1, (Option.some Jvm.ClassFile.FieldType.boolean), [])
/-- GardenChess$State.finds(ILGardenChess$Moves;)V -/
def mt_215 : MT := (yX6_finds, cX6_finds, 5, (Option.none : Option Jvm.ClassFile.FieldType), [])
/-- GardenChess$State.goes(II)Z -/
def mt_216 : MT := (yX6_goes, cX6_goes, 12, (Option.some Jvm.ClassFile.FieldType.boolean), [])
/-- GardenChess$State.left(I)I -/
def mt_217 : MT := (yX6_left, cX6_left, 4, (Option.some Jvm.ClassFile.FieldType.int), [])
/-- GardenChess$State.allBears()I -/
def mt_218 : MT := (yX6_allBears, cX6_allBears, 3, (Option.some Jvm.ClassFile.FieldType.int), [])
/-- GardenChess$State.many(I)I -/
def mt_219 : MT := (yX6_many, cX6_many, 4, (Option.some Jvm.ClassFile.FieldType.int), [])
/-- GardenChess$State.copy(LGardenChess$State;)LGardenChess$State; -/
def mt_220 : MT := (yX6_copy, cX6_copy, 4, (Option.some (Jvm.ClassFile.FieldType.object "GardenChess$State")), [])
/-- GardenChess$State.moves(II)I -/
def mt_221 : MT := (yX6_moves, cX6_moves, 4, (Option.some Jvm.ClassFile.FieldType.int), [])
/-- GardenChess$State.isCheck()Z -/
def mt_222 : MT := (yX6_isCheck, cX6_isCheck, 3, (Option.some Jvm.ClassFile.FieldType.boolean), [])
/-- GardenChess$State.balance(I)I -/
def mt_223 : MT := (yX6_balance, cX6_balance, 4, (Option.some Jvm.ClassFile.FieldType.int), [])
/-- GardenChess$State.value(I)I -/
def mt_224 : MT := (yX6_value, cX6_value, 5, (Option.some Jvm.ClassFile.FieldType.int), [])
/-- GardenChess$State.behind(LGardenChess$Moves;II)I -/
def mt_225 : MT := (yX6_behind, cX6_behind, 8, (Option.some Jvm.ClassFile.FieldType.int), [])
/-- GardenChess$State.movesBack(III)V -/
def mt_226 : MT := (yX6_movesBack, cX6_movesBack, 5, (Option.none : Option Jvm.ClassFile.FieldType), [])
/-- GardenChess$State.best(I)I -/
def mt_227 : MT := (yX6_best, cX6_best, 7, (Option.some Jvm.ClassFile.FieldType.int), [])
/-- GardenChess$State.days(I)LGardenChess$State; -/
def mt_228 : MT := (yX6_days, cX6_days, 2, (Option.some (Jvm.ClassFile.FieldType.object "GardenChess$State")), [])
/-- GardenChess$State.days(III)I -/
def mt_229 : MT := (yX6_days_2, cX6_days_2, 7, (Option.some Jvm.ClassFile.FieldType.int), [])
/-- GardenChess$State.passes(I)I -/
def mt_230 : MT := (yX6_passes, cX6_passes, 5, (Option.some Jvm.ClassFile.FieldType.int), [])
/-- GardenChess$State.tells(II)V -/
def mt_231 : MT := (yX6_tells, cX6_tells, 5, (Option.none : Option Jvm.ClassFile.FieldType), [])
/-- GardenChess$State.harmAt(II)I -/
def mt_232 : MT := (yX6_harmAt, cX6_harmAt, 3, (Option.some Jvm.ClassFile.FieldType.int), [])
/-- GardenChessModel.<init>()V -/
def mt_233 : MT := (yX7_init, cX7_init, 1, (Option.none : Option Jvm.ClassFile.FieldType), [])
/-- GardenChessModel.feed(IIIII)I -/
def mt_234 : MT := (yX7_feed, cX7_feed, 8, (Option.some Jvm.ClassFile.FieldType.int), [])
/-- GardenChessModel.end(I)Z -/
def mt_235 : MT := (yX7_end, cX7_end, 2, (Option.some Jvm.ClassFile.FieldType.boolean), [])
/-- GardenChessModel.board()I -/
def mt_236 : MT := (yX7_board, cX7_board, 2, (Option.some Jvm.ClassFile.FieldType.int), [])
/-- GardenChessModel.boardTold()V -/
def mt_237 : MT := (yX7_boardTold, cX7_boardTold, 1, (Option.none : Option Jvm.ClassFile.FieldType), [])
/-- GardenChessModel.asks([C)V -/
def mt_238 : MT := (yX7_asks, cX7_asks, 2, (Option.none : Option Jvm.ClassFile.FieldType), [])
/-- GardenChessModel.takes([C)Z -/
def mt_239 : MT := (yX7_takes, cX7_takes, 2, (Option.some Jvm.ClassFile.FieldType.boolean), [])
/-- GardenChessModel.isHere([C)Z -/
def mt_240 : MT := (yX7_isHere, cX7_isHere, 4, (Option.some Jvm.ClassFile.FieldType.boolean), [])
/-- GardenChessModel.look()I -/
def mt_241 : MT := (yX7_look, cX7_look, 1, (Option.some Jvm.ClassFile.FieldType.int), [])
/-- GardenChessModel.isLetter(I)Z -/
def mt_242 : MT := (yX7_isLetter, cX7_isLetter, 1, (Option.some Jvm.ClassFile.FieldType.boolean), [])
/-- GardenChessModel.fail(II)V -/
def mt_243 : MT := (yX7_fail, cX7_fail, 3, (Option.none : Option Jvm.ClassFile.FieldType), [])
/-- GardenChessModel.number(II)I -/
def mt_244 : MT := (yX7_number, cX7_number, 5, (Option.some Jvm.ClassFile.FieldType.int), [])
/-- GardenChessModel.isDigit(I)Z -/
def mt_245 : MT := (yX7_isDigit, cX7_isDigit, 1, (Option.some Jvm.ClassFile.FieldType.boolean), [])
/-- GardenChessModel.isIn(JJJ)Z -/
def mt_246 : MT := (yX7_isIn, cX7_isIn, 6, (Option.some Jvm.ClassFile.FieldType.boolean), [])
/-- GardenChessModel.asksSign(I)V -/
def mt_247 : MT := (yX7_asksSign, cX7_asksSign, 2, (Option.none : Option Jvm.ClassFile.FieldType), [])
/-- GardenChessModel.takesSign(I)Z -/
def mt_248 : MT := (yX7_takesSign, cX7_takesSign, 2, (Option.some Jvm.ClassFile.FieldType.boolean), [])
/-- GardenChessModel.statementTold()V -/
def mt_249 : MT := (yX7_statementTold, cX7_statementTold, 2, (Option.none : Option Jvm.ClassFile.FieldType), [])
/-- GardenChessModel.kindTold(I)V -/
def mt_250 : MT := (yX7_kindTold, cX7_kindTold, 9, (Option.none : Option Jvm.ClassFile.FieldType), [])
/-- GardenChessModel.isFull(III)Z -/
def mt_251 : MT := (yX7_isFull, cX7_isFull, 4, (Option.some Jvm.ClassFile.FieldType.boolean), [])
/-- GardenChessModel.newName()J -/
def mt_252 : MT := (yX7_newName, cX7_newName, 4, (Option.some Jvm.ClassFile.FieldType.long), [])
/-- GardenChessModel.name()J -/
def mt_253 : MT := (yX7_name, cX7_name, 3, (Option.some Jvm.ClassFile.FieldType.long), [])
/-- GardenChessModel.isOwnHere()Z -/
def mt_254 : MT := (yX7_isOwnHere, cX7_isOwnHere, 2, (Option.some Jvm.ClassFile.FieldType.boolean), [])
/-- GardenChessModel.nameOf(IJ)I -/
def mt_255 : MT := (yX7_nameOf, cX7_nameOf, 5, (Option.some Jvm.ClassFile.FieldType.int), [])
/-- GardenChessModel.adds(IJ)I -/
def mt_256 : MT := (yX7_adds, cX7_adds, 4, (Option.some Jvm.ClassFile.FieldType.int), [])
/-- GardenChessModel.manTold(I)V -/
def mt_257 : MT := (yX7_manTold, cX7_manTold, 9, (Option.none : Option Jvm.ClassFile.FieldType), [])
/-- GardenChessModel.placeTold()V -/
def mt_258 : MT := (yX7_placeTold, cX7_placeTold, 1, (Option.none : Option Jvm.ClassFile.FieldType), [])
/-- GardenChessModel.fieldTold(I)V -/
def mt_259 : MT := (yX7_fieldTold, cX7_fieldTold, 6, (Option.none : Option Jvm.ClassFile.FieldType), [])
/-- GardenChessModel.harmTold(I)V -/
def mt_260 : MT := (yX7_harmTold, cX7_harmTold, 3, (Option.none : Option Jvm.ClassFile.FieldType), [])
/-- GardenChessModel.qSums()V -/
def mt_261 : MT := (yX7_qSums, cX7_qSums, 3, (Option.none : Option Jvm.ClassFile.FieldType), [])
/-- GardenChessModel.qPartTold()V -/
def mt_262 : MT := (yX7_qPartTold, cX7_qPartTold, 6, (Option.none : Option Jvm.ClassFile.FieldType), [])
/-- GardenChessModel.qWordOf(II)I -/
def mt_263 : MT := (yX7_qWordOf, cX7_qWordOf, 4, (Option.some Jvm.ClassFile.FieldType.int), [])
/-- GardenChessModel.qWordHere()I -/
def mt_264 : MT := (yX7_qWordHere, cX7_qWordHere, 1, (Option.some Jvm.ClassFile.FieldType.int), [])
/-- GardenChessModel.isAllowed(I)Z -/
def mt_265 : MT := (yX7_isAllowed, cX7_isAllowed, 2, (Option.some Jvm.ClassFile.FieldType.boolean), [])
/-- GardenChessModel.qOpens(II)V -/
def mt_266 : MT := (yX7_qOpens, cX7_qOpens, 3, (Option.none : Option Jvm.ClassFile.FieldType), [])
/-- GardenChessModel.qAsksWord(I)V -/
def mt_267 : MT := (yX7_qAsksWord, cX7_qAsksWord, 2, (Option.none : Option Jvm.ClassFile.FieldType), [])
/-- GardenChessModel.qCode(I)V -/
def mt_268 : MT := (yX7_qCode, cX7_qCode, 2, (Option.none : Option Jvm.ClassFile.FieldType), [])
/-- GardenChessModel.qEndsPart()V -/
def mt_269 : MT := (yX7_qEndsPart, cX7_qEndsPart, 1, (Option.none : Option Jvm.ClassFile.FieldType), [])
/-- GardenChessModel.qDrops()V -/
def mt_270 : MT := (yX7_qDrops, cX7_qDrops, 1, (Option.none : Option Jvm.ClassFile.FieldType), [])
/-- GardenChessModel.qGoesOn()Z -/
def mt_271 : MT := (yX7_qGoesOn, cX7_qGoesOn, 2, (Option.some Jvm.ClassFile.FieldType.boolean), [])
/-- GardenChessModel.qBracket()I -/
def mt_272 : MT := (yX7_qBracket, cX7_qBracket, 2, (Option.some Jvm.ClassFile.FieldType.int), [])
/-- GardenChessModel.qIsBracket(I)Z -/
def mt_273 : MT := (yX7_qIsBracket, cX7_qIsBracket, 1, (Option.some Jvm.ClassFile.FieldType.boolean), [])
/-- GardenChessModel.qDropsToBracket()V -/
def mt_274 : MT := (yX7_qDropsToBracket, cX7_qDropsToBracket, 1, (Option.none : Option Jvm.ClassFile.FieldType), [])
/-- GardenChessModel.qIsOn(I)Z -/
def mt_275 : MT := (yX7_qIsOn, cX7_qIsOn, 2, (Option.some Jvm.ClassFile.FieldType.boolean), [])
/-- GardenChessModel.stands()V -/
def mt_276 : MT := (yX7_stands, cX7_stands, 2, (Option.none : Option Jvm.ClassFile.FieldType), [])
/-- GardenChessModel.fault(I)I -/
def mt_277 : MT := (yX7_fault, cX7_fault, 2, (Option.some Jvm.ClassFile.FieldType.int), [])
/-- GardenChessModel.has(I)I -/
def mt_278 : MT := (yX7_has, cX7_has, 2, (Option.some Jvm.ClassFile.FieldType.int), [])
/-- GardenChessModel.isOver()Z -/
def mt_279 : MT := (yX7_isOver, cX7_isOver, 1, (Option.some Jvm.ClassFile.FieldType.boolean), [])
/-- GardenChessModel.isCrownTaken()Z -/
def mt_280 : MT := (yX7_isCrownTaken, cX7_isCrownTaken, 2, (Option.some Jvm.ClassFile.FieldType.boolean), [])
/-- GardenChessModel.manMany()I -/
def mt_281 : MT := (yX7_manMany, cX7_manMany, 1, (Option.some Jvm.ClassFile.FieldType.int), [])
/-- GardenChessModel.isCrown(I)Z -/
def mt_282 : MT := (yX7_isCrown, cX7_isCrown, 2, (Option.some Jvm.ClassFile.FieldType.boolean), [])
/-- GardenChessModel.kindOf(I)I -/
def mt_283 : MT := (yX7_kindOf, cX7_kindOf, 2, (Option.some Jvm.ClassFile.FieldType.int), [])
/-- GardenChessModel.isTaken(I)Z -/
def mt_284 : MT := (yX7_isTaken, cX7_isTaken, 2, (Option.some Jvm.ClassFile.FieldType.boolean), [])
/-- GardenChessModel.columnOf(I)I -/
def mt_285 : MT := (yX7_columnOf, cX7_columnOf, 2, (Option.some Jvm.ClassFile.FieldType.int), [])
/-- GardenChessModel.hasMove()Z -/
def mt_286 : MT := (yX7_hasMove, cX7_hasMove, 2, (Option.some Jvm.ClassFile.FieldType.boolean), [])
/-- GardenChessModel.sideOf(I)I -/
def mt_287 : MT := (yX7_sideOf, cX7_sideOf, 2, (Option.some Jvm.ClassFile.FieldType.int), [])
/-- GardenChessModel.movesOf(I)I -/
def mt_288 : MT := (yX7_movesOf, cX7_movesOf, 4, (Option.some Jvm.ClassFile.FieldType.int), [])
/-- GardenChessModel.places()I -/
def mt_289 : MT := (yX7_places, cX7_places, 1, (Option.some Jvm.ClassFile.FieldType.int), [])
/-- GardenChessModel.canGo(II)Z -/
def mt_290 : MT := (yX7_canGo, cX7_canGo, 9, (Option.some Jvm.ClassFile.FieldType.boolean), [])
/-- GardenChessModel.abs(I)I -/
def mt_291 : MT := (yX7_abs, cX7_abs, 1, (Option.some Jvm.ClassFile.FieldType.int), [])
/-- GardenChessModel.rowOf(I)I -/
def mt_292 : MT := (yX7_rowOf, cX7_rowOf, 2, (Option.some Jvm.ClassFile.FieldType.int), [])
/-- GardenChessModel.farOff(IIII)I -/
def mt_293 : MT := (yX7_farOff, cX7_farOff, 6, (Option.some Jvm.ClassFile.FieldType.int), [])
/-- GardenChessModel.isWayFree(III)Z -/
def mt_294 : MT := (yX7_isWayFree, cX7_isWayFree, 8, (Option.some Jvm.ClassFile.FieldType.boolean), [])
/-- GardenChessModel.sign(I)I -/
def mt_295 : MT := (yX7_sign, cX7_sign, 1, (Option.some Jvm.ClassFile.FieldType.int), [])
/-- GardenChessModel.manAt(II)I -/
def mt_296 : MT := (yX7_manAt, cX7_manAt, 4, (Option.some Jvm.ClassFile.FieldType.int), [])
/-- GardenChessModel.menOf(I)I -/
def mt_297 : MT := (yX7_menOf, cX7_menOf, 4, (Option.some Jvm.ClassFile.FieldType.int), [])
/-- GardenChessModel.bearAll()I -/
def mt_298 : MT := (yX7_bearAll, cX7_bearAll, 3, (Option.some Jvm.ClassFile.FieldType.int), [])
/-- GardenChessModel.fieldMany()I -/
def mt_299 : MT := (yX7_fieldMany, cX7_fieldMany, 1, (Option.some Jvm.ClassFile.FieldType.int), [])
/-- GardenChessModel.letter(III)I -/
def mt_300 : MT := (yX7_letter, cX7_letter, 9, (Option.some Jvm.ClassFile.FieldType.int), [])
/-- GardenChessModel.kind(II)I -/
def mt_301 : MT := (yX7_kind, cX7_kind, 3, (Option.some Jvm.ClassFile.FieldType.int), [])
/-- GardenChessModel.man(II)I -/
def mt_302 : MT := (yX7_man, cX7_man, 3, (Option.some Jvm.ClassFile.FieldType.int), [])
/-- GardenChessModel.isMan(I)Z -/
def mt_303 : MT := (yX7_isMan, cX7_isMan, 2, (Option.some Jvm.ClassFile.FieldType.boolean), [])
/-- GardenChessModel.field(II)I -/
def mt_304 : MT := (yX7_field, cX7_field, 3, (Option.some Jvm.ClassFile.FieldType.int), [])
/-- GardenChessModel.isField(I)Z -/
def mt_305 : MT := (yX7_isField, cX7_isField, 2, (Option.some Jvm.ClassFile.FieldType.boolean), [])
/-- GardenChessModel.at(II)I -/
def mt_306 : MT := (yX7_at, cX7_at, 3, (Option.some Jvm.ClassFile.FieldType.int), [])
/-- GardenChessModel.option(II)I -/
def mt_307 : MT := (yX7_option, cX7_option, 7, (Option.some Jvm.ClassFile.FieldType.int), [])
/-- GardenChessModel.chooses(I)V -/
def mt_308 : MT := (yX7_chooses, cX7_chooses, 5, (Option.none : Option Jvm.ClassFile.FieldType), [])
/-- GardenChessModel.does(III)V -/
def mt_309 : MT := (yX7_does, cX7_does, 7, (Option.none : Option Jvm.ClassFile.FieldType), [])
/-- GardenChessModel.isCheck(I)Z -/
def mt_310 : MT := (yX7_isCheck, cX7_isCheck, 4, (Option.some Jvm.ClassFile.FieldType.boolean), [])
/-- GardenChessModel.undoes(I)V -/
def mt_311 : MT := (yX7_undoes, cX7_undoes, 4, (Option.none : Option Jvm.ClassFile.FieldType), [])
/-- GardenChessModel.kept(II)I -/
def mt_312 : MT := (yX7_kept, cX7_kept, 3, (Option.some Jvm.ClassFile.FieldType.int), [])
/-- GardenChessModel.balance(I)J -/
def mt_313 : MT := (yX7_balance, cX7_balance, 2, (Option.some Jvm.ClassFile.FieldType.long), [])
/-- GardenChessModel.balanceOf(I)I -/
def mt_314 : MT := (yX7_balanceOf, cX7_balanceOf, 4, (Option.some Jvm.ClassFile.FieldType.int), [])
/-- GardenChessModel.worthOf(I)I -/
def mt_315 : MT := (yX7_worthOf, cX7_worthOf, 2, (Option.some Jvm.ClassFile.FieldType.int), [])
/-- GardenChessModel.value(I)J -/
def mt_316 : MT := (yX7_value, cX7_value, 2, (Option.some Jvm.ClassFile.FieldType.long), [])
/-- GardenChessModel.valueBy(I)I -/
def mt_317 : MT := (yX7_valueBy, cX7_valueBy, 2, (Option.some Jvm.ClassFile.FieldType.int), [])
/-- GardenChessModel.value0()I -/
def mt_318 : MT := (yX7_value0, cX7_value0, 1, (Option.some Jvm.ClassFile.FieldType.int), [])
/-- GardenChessModel.value1()I -/
def mt_319 : MT := (yX7_value1, cX7_value1, 6, (Option.some Jvm.ClassFile.FieldType.int), [])
/-- GardenChessModel.value2()I -/
def mt_320 : MT := (yX7_value2, cX7_value2, 6, (Option.some Jvm.ClassFile.FieldType.int), [])
/-- GardenChessModel.value3()I -/
def mt_321 : MT := (yX7_value3, cX7_value3, 6, (Option.some Jvm.ClassFile.FieldType.int), [])
/-- GardenChessModel.best(I)I -/
def mt_322 : MT := (yX7_best, cX7_best, 2, (Option.some Jvm.ClassFile.FieldType.int), [])
/-- GardenChessModel.choosesBest(I)V -/
def mt_323 : MT := (yX7_choosesBest, cX7_choosesBest, 7, (Option.none : Option Jvm.ClassFile.FieldType), [])
/-- GardenChessModel.forced()I -/
def mt_324 : MT := (yX7_forced, cX7_forced, 4, (Option.some Jvm.ClassFile.FieldType.int), [])
/-- GardenChessModel.takesCrown()Z -/
def mt_325 : MT := (yX7_takesCrown, cX7_takesCrown, 1, (Option.some Jvm.ClassFile.FieldType.boolean), [])
/-- GardenChessModel.isForcedNow()Z -/
def mt_326 : MT := (yX7_isForcedNow, cX7_isForcedNow, 5, (Option.some Jvm.ClassFile.FieldType.boolean), [])
/-- GardenChessModel.later(II)I -/
def mt_327 : MT := (yX7_later, cX7_later, 4, (Option.some Jvm.ClassFile.FieldType.int), [])
/-- GardenChessModel.isAhead(III)Z -/
def mt_328 : MT := (yX7_isAhead, cX7_isAhead, 4, (Option.some Jvm.ClassFile.FieldType.boolean), [])
/-- GardenChessModel.putsAside()V -/
def mt_329 : MT := (yX7_putsAside, cX7_putsAside, 2, (Option.none : Option Jvm.ClassFile.FieldType), [])
/-- GardenChessModel.daysGo(I)V -/
def mt_330 : MT := (yX7_daysGo, cX7_daysGo, 3, (Option.none : Option Jvm.ClassFile.FieldType), [])
/-- GardenChessModel.choosesToday()V -/
def mt_331 : MT := (yX7_choosesToday, cX7_choosesToday, 1, (Option.none : Option Jvm.ClassFile.FieldType), [])
/-- GardenChessModel.dayGoes()V -/
def mt_332 : MT := (yX7_dayGoes, cX7_dayGoes, 2, (Option.none : Option Jvm.ClassFile.FieldType), [])
/-- GardenChessModel.playsChosen()V -/
def mt_333 : MT := (yX7_playsChosen, cX7_playsChosen, 7, (Option.none : Option Jvm.ClassFile.FieldType), [])
/-- GardenChessModel.harmAt(IIII)J -/
def mt_334 : MT := (yX7_harmAt, cX7_harmAt, 7, (Option.some Jvm.ClassFile.FieldType.long), [])
/-- GardenChessModel.qPuts(J)V -/
def mt_335 : MT := (yX7_qPuts, cX7_qPuts, 3, (Option.none : Option Jvm.ClassFile.FieldType), [])
/-- GardenChessModel.qPartOf(II)J -/
def mt_336 : MT := (yX7_qPartOf, cX7_qPartOf, 3, (Option.some Jvm.ClassFile.FieldType.long), [])
/-- GardenChessModel.qJoins(I)V -/
def mt_337 : MT := (yX7_qJoins, cX7_qJoins, 6, (Option.none : Option Jvm.ClassFile.FieldType), [])
/-- GardenChessModel.qClip(J)J -/
def mt_338 : MT := (yX7_qClip, cX7_qClip, 2, (Option.some Jvm.ClassFile.FieldType.long), [])
/-- GardenChessModel.qFloor(JJ)J -/
def mt_339 : MT := (yX7_qFloor, cX7_qFloor, 6, (Option.some Jvm.ClassFile.FieldType.long), [])
/-- GardenChessModel.isKept()V -/
def mt_340 : MT := (yX7_isKept, cX7_isKept, 2, (Option.none : Option Jvm.ClassFile.FieldType), [])
/-- GardenChessModel.takesBack()V -/
def mt_341 : MT := (yX7_takesBack, cX7_takesBack, 1, (Option.none : Option Jvm.ClassFile.FieldType), [])
/-- GardenChessModel.triesAnew()V -/
def mt_342 : MT := (yX7_triesAnew, cX7_triesAnew, 2, (Option.none : Option Jvm.ClassFile.FieldType), [])
/-- GardenChessModel.crop(II)I -/
def mt_343 : MT := (yX7_crop, cX7_crop, 4, (Option.some Jvm.ClassFile.FieldType.int), [])
/-- GardenChessModel.spare(III)I -/
def mt_344 : MT := (yX7_spare, cX7_spare, 9, (Option.some Jvm.ClassFile.FieldType.int), [])
/-- GardenChessModel.movesNow()I -/
def mt_345 : MT := (yX7_movesNow, cX7_movesNow, 3, (Option.some Jvm.ClassFile.FieldType.int), [])
/-- GardenChessModel.sow(II)I -/
def mt_346 : MT := (yX7_sow, cX7_sow, 5, (Option.some Jvm.ClassFile.FieldType.int), [])
/-- GardenChessModel.laysHarms()V -/
def mt_347 : MT := (yX7_laysHarms, cX7_laysHarms, 5, (Option.none : Option Jvm.ClassFile.FieldType), [])
/-- GardenChessModel.deeper(III)J -/
def mt_348 : MT := (yX7_deeper, cX7_deeper, 6, (Option.some Jvm.ClassFile.FieldType.long), [])
/-- GardenChessModel.see()I -/
def mt_349 : MT := (yX7_see, cX7_see, 4, (Option.some Jvm.ClassFile.FieldType.int), [])
/-- GardenChessModel.refuses(I)I -/
def mt_350 : MT := (yX7_refuses, cX7_refuses, 2, (Option.some Jvm.ClassFile.FieldType.int), [])
/-- GardenChessModel.played(I)I -/
def mt_351 : MT := (yX7_played, cX7_played, 8, (Option.some Jvm.ClassFile.FieldType.int), [])
/-- GardenChessModel.isAsSeen()Z -/
def mt_352 : MT := (yX7_isAsSeen, cX7_isAsSeen, 2, (Option.some Jvm.ClassFile.FieldType.boolean), [])
/-- GardenChessModel.reached(I)I -/
def mt_353 : MT := (yX7_reached, cX7_reached, 4, (Option.some Jvm.ClassFile.FieldType.int), [])
/-- GardenChessModel.areMen(I)Z -/
def mt_354 : MT := (yX7_areMen, cX7_areMen, 6, (Option.some Jvm.ClassFile.FieldType.boolean), [])
/-- GardenChessModel.ways0()I -/
def mt_355 : MT := (yX7_ways0, cX7_ways0, 2, (Option.some Jvm.ClassFile.FieldType.int), [])
/-- GardenChessModel.ways1()I -/
def mt_356 : MT := (yX7_ways1, cX7_ways1, 4, (Option.some Jvm.ClassFile.FieldType.int), [])
/-- GardenChessModel.ways2()I -/
def mt_357 : MT := (yX7_ways2, cX7_ways2, 4, (Option.some Jvm.ClassFile.FieldType.int), [])
/-- GardenChessModel.ways3()I -/
def mt_358 : MT := (yX7_ways3, cX7_ways3, 4, (Option.some Jvm.ClassFile.FieldType.int), [])
/-- GardenChessModel.undo()Z -/
def mt_359 : MT := (yX7_undo, cX7_undo, 2, (Option.some Jvm.ClassFile.FieldType.boolean), [])
/-- GardenChessModel.play(I)I -/
def mt_360 : MT := (yX7_play, cX7_play, 2, (Option.some Jvm.ClassFile.FieldType.int), [])
/-- GardenChessModel.keeps()V -/
def mt_361 : MT := (yX7_keeps, cX7_keeps, 2, (Option.none : Option Jvm.ClassFile.FieldType), [])
/-- GardenChessModel.tend(II)I -/
def mt_362 : MT := (yX7_tend, cX7_tend, 4, (Option.some Jvm.ClassFile.FieldType.int), [])
/-- GardenChessModel.days(I)I -/
def mt_363 : MT := (yX7_days, cX7_days, 4, (Option.some Jvm.ClassFile.FieldType.int), [])
/-- GardenChessModel.seed(I)Z -/
def mt_364 : MT := (yX7_seed, cX7_seed, 2, (Option.some Jvm.ClassFile.FieldType.boolean), [])
/-- GardenChessModel.chance(I)I -/
def mt_365 : MT := (yX7_chance, cX7_chance, 5, (Option.some Jvm.ClassFile.FieldType.int), [])
/-- GardenChessModel.drawOf(I)I -/
def mt_366 : MT := (yX7_drawOf, cX7_drawOf, 2, (Option.some Jvm.ClassFile.FieldType.int), [])
/-- GardenChessModel.ask()J -/
def mt_367 : MT := (yX7_ask, cX7_ask, 3, (Option.some Jvm.ClassFile.FieldType.long), [])
/-- GardenChessModel.qKind()I -/
def mt_368 : MT := (yX7_qKind, cX7_qKind, 2, (Option.some Jvm.ClassFile.FieldType.int), [])
/-- GardenChessModel.qTest()V -/
def mt_369 : MT := (yX7_qTest, cX7_qTest, 3, (Option.none : Option Jvm.ClassFile.FieldType), [])
/-- GardenChessModel.qFact()V -/
def mt_370 : MT := (yX7_qFact, cX7_qFact, 2, (Option.none : Option Jvm.ClassFile.FieldType), [])
/-- GardenChessModel.qDropsNots()V -/
def mt_371 : MT := (yX7_qDropsNots, cX7_qDropsNots, 1, (Option.none : Option Jvm.ClassFile.FieldType), [])
/-- GardenChessModel.qGoesOnTest()Z -/
def mt_372 : MT := (yX7_qGoesOnTest, cX7_qGoesOnTest, 1, (Option.some Jvm.ClassFile.FieldType.boolean), [])
/-- GardenChessModel.qHasSquare()Z -/
def mt_373 : MT := (yX7_qHasSquare, cX7_qHasSquare, 2, (Option.some Jvm.ClassFile.FieldType.boolean), [])
/-- GardenChessModel.qTold(I)J -/
def mt_374 : MT := (yX7_qTold, cX7_qTold, 4, (Option.some Jvm.ClassFile.FieldType.long), [])
/-- GardenChessModel.qOf(IJI)J -/
def mt_375 : MT := (yX7_qOf, cX7_qOf, 5, (Option.some Jvm.ClassFile.FieldType.long), [])
/-- GardenChessModel.qTakes(IJI)V -/
def mt_376 : MT := (yX7_qTakes, cX7_qTakes, 6, (Option.none : Option Jvm.ClassFile.FieldType), [])
/-- GardenChessModel.image()I -/
def mt_377 : MT := (yX7_image, cX7_image, 2, (Option.some Jvm.ClassFile.FieldType.int), [])
/-- GardenChessModel.writes(I)V -/
def mt_378 : MT := (yX7_writes, cX7_writes, 2, (Option.none : Option Jvm.ClassFile.FieldType), [])
/-- GardenChessModel.checked([II)I -/
def mt_379 : MT := (yX7_checked, cX7_checked, 4, (Option.some Jvm.ClassFile.FieldType.int), [])
/-- GardenChessModel.octet(I)I -/
def mt_380 : MT := (yX7_octet, cX7_octet, 2, (Option.some Jvm.ClassFile.FieldType.int), [])
/-- GardenChessModel.on()Z -/
def mt_381 : MT := (yX7_on, cX7_on, 4, (Option.some Jvm.ClassFile.FieldType.boolean), [])
/-- GardenChessModel.isImage(I)Z -/
def mt_382 : MT := (yX7_isImage, cX7_isImage, 4, (Option.some Jvm.ClassFile.FieldType.boolean), [])
/-- GardenChessModel.status(I)I -/
def mt_383 : MT := (yX7_status, cX7_status, 2, (Option.some Jvm.ClassFile.FieldType.int), [])
/-- GardenChess$Named.find(Ljava/util/List;Ljava/lang/String;)I -/
def mt_384 : MT := (yX8_find, cX8_find, 3, (Option.some Jvm.ClassFile.FieldType.int), [])
/-- GardenChess$Named.<init>(Ljava/lang/String;)V -/
def mt_385 : MT := (yX8_init, cX8_init, 2, (Option.none : Option Jvm.ClassFile.FieldType), [])
/-- GardenChess$Named.letter(I)I -/
def mt_386 : MT := (yX8_letter, cX8_letter, 2, (Option.some Jvm.ClassFile.FieldType.int), [])
/-- GardenChess$Kind.<init>(Ljava/lang/String;III)V -/
def mt_387 : MT := (yX9_init, cX9_init, 5, (Option.none : Option Jvm.ClassFile.FieldType), [])
def gmtL : List MT := [mt_0, mt_1, mt_2, mt_3, mt_4, mt_5, mt_6, mt_7, mt_8, mt_9, mt_10, mt_11, mt_12, mt_13, mt_14, mt_15, mt_16, mt_17, mt_18, mt_19, mt_20, mt_21, mt_22, mt_23, mt_24, mt_25, mt_26, mt_27, mt_28, mt_29, mt_30, mt_31, mt_32, mt_33, mt_34, mt_35, mt_36, mt_37, mt_38, mt_39, mt_40, mt_41, mt_42, mt_43, mt_44, mt_45, mt_46, mt_47, mt_48, mt_49, mt_50, mt_51, mt_52, mt_53, mt_54, mt_55, mt_56, mt_57, mt_58, mt_59, mt_60, mt_61, mt_62, mt_63, mt_64, mt_65, mt_66, mt_67, mt_68, mt_69, mt_70, mt_71, mt_72, mt_73, mt_74, mt_75, mt_76, mt_77, mt_78, mt_79, mt_80, mt_81, mt_82, mt_83, mt_84, mt_85, mt_86, mt_87, mt_88, mt_89, mt_90, mt_91, mt_92, mt_93, mt_94, mt_95, mt_96, mt_97, mt_98, mt_99, mt_100, mt_101, mt_102, mt_103, mt_104, mt_105, mt_106, mt_107, mt_108, mt_109, mt_110, mt_111, mt_112, mt_113, mt_114, mt_115, mt_116, mt_117, mt_118, mt_119, mt_120, mt_121, mt_122, mt_123, mt_124, mt_125, mt_126, mt_127, mt_128, mt_129, mt_130, mt_131, mt_132, mt_133, mt_134, mt_135, mt_136, mt_137, mt_138, mt_139, mt_140, mt_141, mt_142, mt_143, mt_144, mt_145, mt_146, mt_147, mt_148, mt_149, mt_150, mt_151, mt_152, mt_153, mt_154, mt_155, mt_156, mt_157, mt_158, mt_159, mt_160, mt_161, mt_162, mt_163, mt_164, mt_165, mt_166, mt_167, mt_168, mt_169, mt_170, mt_171, mt_172, mt_173, mt_174, mt_175, mt_176, mt_177, mt_178, mt_179, mt_180, mt_181, mt_182, mt_183, mt_184, mt_185, mt_186, mt_187, mt_188, mt_189, mt_190, mt_191, mt_192, mt_193, mt_194, mt_195, mt_196, mt_197, mt_198, mt_199, mt_200, mt_201, mt_202, mt_203, mt_204, mt_205, mt_206, mt_207, mt_208, mt_209, mt_210, mt_211, mt_212, mt_213, mt_214, mt_215, mt_216, mt_217, mt_218, mt_219, mt_220, mt_221, mt_222, mt_223, mt_224, mt_225, mt_226, mt_227, mt_228, mt_229, mt_230, mt_231, mt_232, mt_233, mt_234, mt_235, mt_236, mt_237, mt_238, mt_239, mt_240, mt_241, mt_242, mt_243, mt_244, mt_245, mt_246, mt_247, mt_248, mt_249, mt_250, mt_251, mt_252, mt_253, mt_254, mt_255, mt_256, mt_257, mt_258, mt_259, mt_260, mt_261, mt_262, mt_263, mt_264, mt_265, mt_266, mt_267, mt_268, mt_269, mt_270, mt_271, mt_272, mt_273, mt_274, mt_275, mt_276, mt_277, mt_278, mt_279, mt_280, mt_281, mt_282, mt_283, mt_284, mt_285, mt_286, mt_287, mt_288, mt_289, mt_290, mt_291, mt_292, mt_293, mt_294, mt_295, mt_296, mt_297, mt_298, mt_299, mt_300, mt_301, mt_302, mt_303, mt_304, mt_305, mt_306, mt_307, mt_308, mt_309, mt_310, mt_311, mt_312, mt_313, mt_314, mt_315, mt_316, mt_317, mt_318, mt_319, mt_320, mt_321, mt_322, mt_323, mt_324, mt_325, mt_326, mt_327, mt_328, mt_329, mt_330, mt_331, mt_332, mt_333, mt_334, mt_335, mt_336, mt_337, mt_338, mt_339, mt_340, mt_341, mt_342, mt_343, mt_344, mt_345, mt_346, mt_347, mt_348, mt_349, mt_350, mt_351, mt_352, mt_353, mt_354, mt_355, mt_356, mt_357, mt_358, mt_359, mt_360, mt_361, mt_362, mt_363, mt_364, mt_365, mt_366, mt_367, mt_368, mt_369, mt_370, mt_371, mt_372, mt_373, mt_374, mt_375, mt_376, mt_377, mt_378, mt_379, mt_380, mt_381, mt_382, mt_383, mt_384, mt_385, mt_386, mt_387]
def gdef : MT := (⟨"", "", ""⟩, ⟨#[]⟩, 0, none, [])
def gmt (k : Nat) : MT := gmtL.getD k gdef
def gML (k : Nat) : Nat := (gmt k).2.2.1
